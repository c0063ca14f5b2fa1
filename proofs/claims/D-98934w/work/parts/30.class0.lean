/-! methods of the class, 0 (printed by wip/D-98934w/gen) -/
set_option maxRecDepth 100000
/-! java/util/ArrayList.elementData(I)Ljava/lang/Object; -/
def dkwJ2_elementData_0 : List UInt8 := [42, 180, 0, 9, 27, 50, 176]
abbrev dktJ2_elementData_0 : List UInt8 := dkwJ2_elementData_0 ++ []
theorem dksJ2_elementData_0 : cJ2_elementData.data.toList.drop 0 = dktJ2_elementData_0 := by decide +kernel
theorem dJ2_elementData_0 : decode cJ2_elementData 0 = .ok (.aload_n 0, 1) := dk_42 (dk_at dksJ2_elementData_0 0 rfl rfl)
theorem dJ2_elementData_1 : decode cJ2_elementData 1 = .ok (.getfield 9, 3) := dk_180 0 9 (dk_at dksJ2_elementData_0 1 rfl rfl)
theorem dJ2_elementData_4 : decode cJ2_elementData 4 = .ok (.iload_n 1, 1) := dk_27 (dk_at dksJ2_elementData_0 4 rfl rfl)
theorem dJ2_elementData_5 : decode cJ2_elementData 5 = .ok (.aaload, 1) := dk_50 (dk_at dksJ2_elementData_0 5 rfl rfl)
theorem dJ2_elementData_6 : decode cJ2_elementData 6 = .ok (.areturn, 1) := dk_176 (dk_at dksJ2_elementData_0 6 rfl rfl)
theorem fw_J2_9 : cz_FW "java/util/ArrayList" 9 [(2, 1)] "[Ljava/lang/Object;" := ⟨"java/util/ArrayList", "elementData", Or.inl q187, List.forall_mem_cons.mpr ⟨⟨RJ2, TJ2, 3, rfl, by decide, rfl, rfl, Or.inl rfl⟩, fun _ h => absurd h List.not_mem_nil⟩, by decide⟩
set_option maxHeartbeats 4000000 in
set_option maxRecDepth 100000 in
noncomputable def fn_J2_elementData (l0 : Option Nat) (l1 : Int32) (h : cz_H) : cz_Z := cz_getR h l0 [(2, 1)] (fun r1 => cz_aald h r1 l1 (fun r2 => some (.inl (some (cz_r r2)), h)))
set_option maxHeartbeats 4000000 in
set_option maxRecDepth 100000 in
theorem wk_J2_elementData {K : cz_K} {D : cz_D} {h0 : cz_H} {oh : cz_O × cz_H} {l0 : Option Nat} {l1 : Int32} {h : cz_H} (S : cz_S K D h0 cJ2_elementData 2 "java/util/ArrayList" ((Option.some (Jvm.ClassFile.FieldType.object "java/lang/Object"))) "elementData" ([])) : cz_T K D 2 h0 oh 2 (fn_J2_elementData l0 l1 h) h 0 [(0, cz_r l0), (1, cz_i l1)] [] := by
  unfold fn_J2_elementData
  refine ct_aload_n (k := 0) S dJ2_elementData_0 rfl rfl ?_
  refine ct_getR S fw_J2_9 dJ2_elementData_1 (fun r1 => ?_)
  refine ct_iload_n (k := 1) S dJ2_elementData_4 rfl rfl ?_
  refine ct_aald S dJ2_elementData_5 (fun r2 => ?_)
  exact ct_aret S rfl (Or.inl ⟨_, rfl⟩) dJ2_elementData_6
theorem mt_J2_elementData {l : Launch} {D : cz_D} {l0 : Option Nat} {l1 : Int32} {h : cz_H} {oh : cz_O × cz_H} (hz : fn_J2_elementData l0 l1 h = some oh) : cz_M l D yJ2_elementData (ws_ yJ2_elementData cJ2_elementData 2 ((Option.some (Jvm.ClassFile.FieldType.object "java/lang/Object")))) 2 [cz_r l0, cz_i l1] h oh := cz_met (plainFor_of_name (by decide)) (Nat.le_of_ble_eq_true rfl) hz (fun K hl S => wk_J2_elementData S)
/-! jdk/internal/util/Preconditions.checkIndex(IILjava/util/function/BiFunction;)I -/
def dkwJ5_checkIndex_0 : List UInt8 := [26, 155, 0, 8, 26, 27, 161, 0, 10, 44, 26, 27, 184, 0, 95, 191, 26, 172]
abbrev dktJ5_checkIndex_0 : List UInt8 := dkwJ5_checkIndex_0 ++ []
theorem dksJ5_checkIndex_0 : cJ5_checkIndex.data.toList.drop 0 = dktJ5_checkIndex_0 := by decide +kernel
theorem dJ5_checkIndex_0 : decode cJ5_checkIndex 0 = .ok (.iload_n 0, 1) := dk_26 (dk_at dksJ5_checkIndex_0 0 rfl rfl)
theorem dJ5_checkIndex_1 : decode cJ5_checkIndex 1 = .ok (.ifCond .lt 8, 3) := dk_155 0 8 (dk_at dksJ5_checkIndex_0 1 rfl rfl)
theorem dJ5_checkIndex_4 : decode cJ5_checkIndex 4 = .ok (.iload_n 0, 1) := dk_26 (dk_at dksJ5_checkIndex_0 4 rfl rfl)
theorem dJ5_checkIndex_5 : decode cJ5_checkIndex 5 = .ok (.iload_n 1, 1) := dk_27 (dk_at dksJ5_checkIndex_0 5 rfl rfl)
theorem dJ5_checkIndex_6 : decode cJ5_checkIndex 6 = .ok (.if_icmp .lt 10, 3) := dk_161 0 10 (dk_at dksJ5_checkIndex_0 6 rfl rfl)
theorem dJ5_checkIndex_9 : decode cJ5_checkIndex 9 = .ok (.aload_n 2, 1) := dk_44 (dk_at dksJ5_checkIndex_0 9 rfl rfl)
theorem dJ5_checkIndex_10 : decode cJ5_checkIndex 10 = .ok (.iload_n 0, 1) := dk_26 (dk_at dksJ5_checkIndex_0 10 rfl rfl)
theorem dJ5_checkIndex_11 : decode cJ5_checkIndex 11 = .ok (.iload_n 1, 1) := dk_27 (dk_at dksJ5_checkIndex_0 11 rfl rfl)
theorem dJ5_checkIndex_12 : decode cJ5_checkIndex 12 = .ok (.invokestatic 95, 3) := dk_184 0 95 (dk_at dksJ5_checkIndex_0 12 rfl rfl)
theorem dJ5_checkIndex_15 : decode cJ5_checkIndex 15 = .ok (.athrow, 1) := dk_191 (dk_at dksJ5_checkIndex_0 15 rfl rfl)
theorem dJ5_checkIndex_16 : decode cJ5_checkIndex 16 = .ok (.iload_n 0, 1) := dk_26 (dk_at dksJ5_checkIndex_0 16 rfl rfl)
theorem dJ5_checkIndex_17 : decode cJ5_checkIndex 17 = .ok (.ireturn, 1) := dk_172 (dk_at dksJ5_checkIndex_0 17 rfl rfl)
set_option maxHeartbeats 4000000 in
set_option maxRecDepth 100000 in
noncomputable def fn_J5_checkIndex (l0 : Int32) (l1 : Int32) (l2 : Option Nat) (h : cz_H) : cz_Z := (if l0 < 0 then none else (if l0 < l1 then some (.inl (some (cz_i l0)), h) else none))
set_option maxHeartbeats 4000000 in
set_option maxRecDepth 100000 in
theorem wk_J5_checkIndex {K : cz_K} {D : cz_D} {h0 : cz_H} {oh : cz_O × cz_H} {l0 : Int32} {l1 : Int32} {l2 : Option Nat} {h : cz_H} (S : cz_S K D h0 cJ5_checkIndex 3 "jdk/internal/util/Preconditions" ((Option.some Jvm.ClassFile.FieldType.int)) "checkIndex" ([])) : cz_T K D 2 h0 oh 3 (fn_J5_checkIndex l0 l1 l2 h) h 0 [(0, cz_i l0), (1, cz_i l1), (2, cz_r l2)] [] := by
  unfold fn_J5_checkIndex
  refine ct_iload_n (k := 0) S dJ5_checkIndex_0 rfl rfl ?_
  refine ct_if_lt (tgt := 9) S dJ5_checkIndex_1 (by decide) ?_ ?_
  · refine ct_aload_n (k := 2) S dJ5_checkIndex_9 rfl rfl ?_
    refine ct_iload_n (k := 0) S dJ5_checkIndex_10 rfl rfl ?_
    refine ct_iload_n (k := 1) S dJ5_checkIndex_11 rfl rfl ?_
    exact ct_none
  · refine ct_iload_n (k := 0) S dJ5_checkIndex_4 rfl rfl ?_
    refine ct_iload_n (k := 1) S dJ5_checkIndex_5 rfl rfl ?_
    refine ct_icmp_lt (tgt := 16) S dJ5_checkIndex_6 (by decide) ?_ ?_
    · refine ct_iload_n (k := 0) S dJ5_checkIndex_16 rfl rfl ?_
      exact ct_iret S rfl dJ5_checkIndex_17
    · refine ct_aload_n (k := 2) S dJ5_checkIndex_9 rfl rfl ?_
      refine ct_iload_n (k := 0) S dJ5_checkIndex_10 rfl rfl ?_
      refine ct_iload_n (k := 1) S dJ5_checkIndex_11 rfl rfl ?_
      exact ct_none
theorem mt_J5_checkIndex {l : Launch} {D : cz_D} {l0 : Int32} {l1 : Int32} {l2 : Option Nat} {h : cz_H} {oh : cz_O × cz_H} (hz : fn_J5_checkIndex l0 l1 l2 h = some oh) : cz_M l D yJ5_checkIndex (ws_ yJ5_checkIndex cJ5_checkIndex 3 ((Option.some Jvm.ClassFile.FieldType.int))) 2 [cz_i l0, cz_i l1, cz_r l2] h oh := cz_met (plainFor_of_name (by decide)) (Nat.le_of_ble_eq_true rfl) hz (fun K hl S => wk_J5_checkIndex S)
/-! java/util/Objects.checkIndex(II)I -/
def dkwJ4_checkIndex_0 : List UInt8 := [26, 27, 1, 184, 0, 105, 172]
abbrev dktJ4_checkIndex_0 : List UInt8 := dkwJ4_checkIndex_0 ++ []
theorem dksJ4_checkIndex_0 : cJ4_checkIndex.data.toList.drop 0 = dktJ4_checkIndex_0 := by decide +kernel
theorem dJ4_checkIndex_0 : decode cJ4_checkIndex 0 = .ok (.iload_n 0, 1) := dk_26 (dk_at dksJ4_checkIndex_0 0 rfl rfl)
theorem dJ4_checkIndex_1 : decode cJ4_checkIndex 1 = .ok (.iload_n 1, 1) := dk_27 (dk_at dksJ4_checkIndex_0 1 rfl rfl)
theorem dJ4_checkIndex_2 : decode cJ4_checkIndex 2 = .ok (.aconst_null, 1) := dk_1 (dk_at dksJ4_checkIndex_0 2 rfl rfl)
theorem dJ4_checkIndex_3 : decode cJ4_checkIndex 3 = .ok (.invokestatic 105, 3) := dk_184 0 105 (dk_at dksJ4_checkIndex_0 3 rfl rfl)
theorem dJ4_checkIndex_6 : decode cJ4_checkIndex 6 = .ok (.ireturn, 1) := dk_172 (dk_at dksJ4_checkIndex_0 6 rfl rfl)
theorem md_J5_checkIndex : cz_md yJ5_checkIndex 3 (ws_ yJ5_checkIndex cJ5_checkIndex 3 ((Option.some Jvm.ClassFile.FieldType.int))) 3 := ⟨cz_ws_code q353, q121, ⟨by decide, by decide, by decide +kernel⟩, by decide⟩
set_option maxHeartbeats 4000000 in
set_option maxRecDepth 100000 in
noncomputable def fn_J4_checkIndex (l0 : Int32) (l1 : Int32) (h : cz_H) : cz_Z := cz_cI (fn_J5_checkIndex l0 l1 none h) (fun x2 h1 => some (.inl (some (cz_i x2)), h1))
set_option maxHeartbeats 4000000 in
set_option maxRecDepth 100000 in
theorem wk_J4_checkIndex {K : cz_K} {D : cz_D} {h0 : cz_H} {oh : cz_O × cz_H} {l0 : Int32} {l1 : Int32} {h : cz_H} (S : cz_S K D h0 cJ4_checkIndex 2 "java/util/Objects" ((Option.some Jvm.ClassFile.FieldType.int)) "checkIndex" ([])) : cz_T K D 3 h0 oh 2 (fn_J4_checkIndex l0 l1 h) h 0 [(0, cz_i l0), (1, cz_i l1)] [] := by
  unfold fn_J4_checkIndex
  refine ct_iload_n (k := 0) S dJ4_checkIndex_0 rfl rfl ?_
  refine ct_iload_n (k := 1) S dJ4_checkIndex_1 rfl rfl ?_
  refine ct_null S dJ4_checkIndex_2 ?_
  refine ct_cI (st := []) (cg_static (av := [cz_i l0, cz_i l1, cz_r none]) S (fun _ e => mt_J5_checkIndex e) md_J5_checkIndex (Or.inl q351) q352 (by decide) (Nat.le_of_ble_eq_true rfl) rfl dJ4_checkIndex_3) (fun x2 h1 => ?_)
  exact ct_iret S rfl dJ4_checkIndex_6
theorem mt_J4_checkIndex {l : Launch} {D : cz_D} {l0 : Int32} {l1 : Int32} {h : cz_H} {oh : cz_O × cz_H} (hz : fn_J4_checkIndex l0 l1 h = some oh) : cz_M l D yJ4_checkIndex (ws_ yJ4_checkIndex cJ4_checkIndex 2 ((Option.some Jvm.ClassFile.FieldType.int))) 3 [cz_i l0, cz_i l1] h oh := cz_met (plainFor_of_name (by decide)) (Nat.le_of_ble_eq_true rfl) hz (fun K hl S => wk_J4_checkIndex S)
/-! java/util/ArrayList.get(I)Ljava/lang/Object; -/
def dkwJ2_get_0 : List UInt8 := [27, 42, 180, 0, 48, 184, 0, 118, 87, 42, 27, 182, 0, 123, 176]
abbrev dktJ2_get_0 : List UInt8 := dkwJ2_get_0 ++ []
theorem dksJ2_get_0 : cJ2_get.data.toList.drop 0 = dktJ2_get_0 := by decide +kernel
theorem dJ2_get_0 : decode cJ2_get 0 = .ok (.iload_n 1, 1) := dk_27 (dk_at dksJ2_get_0 0 rfl rfl)
theorem dJ2_get_1 : decode cJ2_get 1 = .ok (.aload_n 0, 1) := dk_42 (dk_at dksJ2_get_0 1 rfl rfl)
theorem dJ2_get_2 : decode cJ2_get 2 = .ok (.getfield 48, 3) := dk_180 0 48 (dk_at dksJ2_get_0 2 rfl rfl)
theorem dJ2_get_5 : decode cJ2_get 5 = .ok (.invokestatic 118, 3) := dk_184 0 118 (dk_at dksJ2_get_0 5 rfl rfl)
theorem dJ2_get_8 : decode cJ2_get 8 = .ok (.pop, 1) := dk_87 (dk_at dksJ2_get_0 8 rfl rfl)
theorem dJ2_get_9 : decode cJ2_get 9 = .ok (.aload_n 0, 1) := dk_42 (dk_at dksJ2_get_0 9 rfl rfl)
theorem dJ2_get_10 : decode cJ2_get 10 = .ok (.iload_n 1, 1) := dk_27 (dk_at dksJ2_get_0 10 rfl rfl)
theorem dJ2_get_11 : decode cJ2_get 11 = .ok (.invokevirtual 123, 3) := dk_182 0 123 (dk_at dksJ2_get_0 11 rfl rfl)
theorem dJ2_get_14 : decode cJ2_get 14 = .ok (.areturn, 1) := dk_176 (dk_at dksJ2_get_0 14 rfl rfl)
theorem fw_J2_48 : cz_FW "java/util/ArrayList" 48 [(2, 2)] "I" := ⟨"java/util/ArrayList", "size", Or.inl q188, List.forall_mem_cons.mpr ⟨⟨RJ2, TJ2, 3, rfl, by decide, rfl, rfl, Or.inl rfl⟩, fun _ h => absurd h List.not_mem_nil⟩, by decide⟩
theorem md_J4_checkIndex : cz_md yJ4_checkIndex 2 (ws_ yJ4_checkIndex cJ4_checkIndex 2 ((Option.some Jvm.ClassFile.FieldType.int))) 2 := ⟨cz_ws_code q350, q120, ⟨by decide, by decide, by decide +kernel⟩, by decide⟩
theorem se_java_util_ArrayList_elementData__I_Ljava_lang_Object__java_util_ArrayList : ∀ c ∈ ([2] : List Nat), ∃ q : vw_C, cz_cl[c]? = some q ∧ Cond.selects q.1 (⟨"java/util/ArrayList", "elementData", "(I)Ljava/lang/Object;"⟩ : MethodName) (⟨"java/util/ArrayList", "elementData", "(I)Ljava/lang/Object;"⟩ : MethodName) ∈ lw_all := List.forall_mem_cons.mpr ⟨⟨_, cz_cl2, q356⟩, fun _ h => absurd h List.not_mem_nil⟩
theorem md_J2_elementData : cz_md yJ2_elementData 2 (ws_ yJ2_elementData cJ2_elementData 2 ((Option.some (Jvm.ClassFile.FieldType.object "java/lang/Object")))) 1 := ⟨cz_ws_code q357, q117, ⟨by decide, by decide, by decide +kernel⟩, by decide⟩
set_option maxHeartbeats 4000000 in
set_option maxRecDepth 100000 in
noncomputable def fn_J2_get (l0 : Option Nat) (l1 : Int32) (h : cz_H) : cz_Z := cz_getI h l0 [(2, 2)] (fun x1 => cz_cI (fn_J4_checkIndex l1 x1 h) (fun x3 h2 => cz_rc h2 l0 [2] (cz_cR (fn_J2_elementData l0 l1 h2) (fun r11 h10 => some (.inl (some (cz_r r11)), h10)))))
set_option maxHeartbeats 4000000 in
set_option maxRecDepth 100000 in
theorem wk_J2_get {K : cz_K} {D : cz_D} {h0 : cz_H} {oh : cz_O × cz_H} {l0 : Option Nat} {l1 : Int32} {h : cz_H} (S : cz_S K D h0 cJ2_get 2 "java/util/ArrayList" ((Option.some (Jvm.ClassFile.FieldType.object "java/lang/Object"))) "get" ([])) : cz_T K D 4 h0 oh 2 (fn_J2_get l0 l1 h) h 0 [(0, cz_r l0), (1, cz_i l1)] [] := by
  unfold fn_J2_get
  refine ct_iload_n (k := 1) S dJ2_get_0 rfl rfl ?_
  refine ct_aload_n (k := 0) S dJ2_get_1 rfl rfl ?_
  refine ct_getI S fw_J2_48 dJ2_get_2 (fun x1 => ?_)
  refine ct_cI (st := []) (cg_static (av := [cz_i l1, cz_i x1]) S (fun _ e => mt_J4_checkIndex e) md_J4_checkIndex (Or.inl q348) q349 (by decide) (Nat.le_of_ble_eq_true rfl) rfl dJ2_get_5) (fun x3 h2 => ?_)
  refine ct_pop S dJ2_get_8 rfl ?_
  refine ct_aload_n (k := 0) S dJ2_get_9 rfl rfl ?_
  refine ct_iload_n (k := 1) S dJ2_get_10 rfl rfl ?_
  refine ct_rc (fun b4 ci5 V6 hb7 hc8 hi9 => ?_)
  refine ct_cR (st := []) (cg_virtual (av := [cz_i l1]) S hb7 hc8 hi9 (fun _ e => mt_J2_elementData e) md_J2_elementData q354 q355 se_java_util_ArrayList_elementData__I_Ljava_lang_Object__java_util_ArrayList (by decide) (Nat.le_of_ble_eq_true rfl) rfl dJ2_get_11) (fun r11 h10 => ?_)
  exact ct_aret S rfl (Or.inl ⟨_, rfl⟩) dJ2_get_14
theorem mt_J2_get {l : Launch} {D : cz_D} {l0 : Option Nat} {l1 : Int32} {h : cz_H} {oh : cz_O × cz_H} (hz : fn_J2_get l0 l1 h = some oh) : cz_M l D yJ2_get (ws_ yJ2_get cJ2_get 2 ((Option.some (Jvm.ClassFile.FieldType.object "java/lang/Object")))) 4 [cz_r l0, cz_i l1] h oh := cz_met (plainFor_of_name (by decide)) (Nat.le_of_ble_eq_true rfl) hz (fun K hl S => wk_J2_get S)
/-! java/util/ArrayList.size()I -/
theorem dJ2_size_0 : decode cJ2_size 0 = .ok (.aload_n 0, 1) := by decide +kernel
theorem dJ2_size_1 : decode cJ2_size 1 = .ok (.getfield 48, 3) := by decide +kernel
theorem dJ2_size_4 : decode cJ2_size 4 = .ok (.ireturn, 1) := by decide +kernel
set_option maxHeartbeats 4000000 in
set_option maxRecDepth 100000 in
noncomputable def fn_J2_size (l0 : Option Nat) (h : cz_H) : cz_Z := cz_getI h l0 [(2, 2)] (fun x1 => some (.inl (some (cz_i x1)), h))
set_option maxHeartbeats 4000000 in
set_option maxRecDepth 100000 in
theorem wk_J2_size {K : cz_K} {D : cz_D} {h0 : cz_H} {oh : cz_O × cz_H} {l0 : Option Nat} {h : cz_H} (S : cz_S K D h0 cJ2_size 1 "java/util/ArrayList" ((Option.some Jvm.ClassFile.FieldType.int)) "size" ([])) : cz_T K D 2 h0 oh 1 (fn_J2_size l0 h) h 0 [(0, cz_r l0)] [] := by
  unfold fn_J2_size
  refine ct_aload_n (k := 0) S dJ2_size_0 rfl rfl ?_
  refine ct_getI S fw_J2_48 dJ2_size_1 (fun x1 => ?_)
  exact ct_iret S rfl dJ2_size_4
theorem mt_J2_size {l : Launch} {D : cz_D} {l0 : Option Nat} {h : cz_H} {oh : cz_O × cz_H} (hz : fn_J2_size l0 h = some oh) : cz_M l D yJ2_size (ws_ yJ2_size cJ2_size 1 ((Option.some Jvm.ClassFile.FieldType.int))) 2 [cz_r l0] h oh := cz_met (plainFor_of_name (by decide)) (Nat.le_of_ble_eq_true rfl) hz (fun K hl S => wk_J2_size S)
/-! HeldCoats.isIn(III)Z -/
def dkwX1_isIn_0 : List UInt8 := [26, 27, 161, 0, 12, 26, 28, 163, 0, 7, 4, 167, 0, 4, 3, 172]
abbrev dktX1_isIn_0 : List UInt8 := dkwX1_isIn_0 ++ []
theorem dksX1_isIn_0 : cX1_isIn.data.toList.drop 0 = dktX1_isIn_0 := by decide +kernel
theorem dX1_isIn_0 : decode cX1_isIn 0 = .ok (.iload_n 0, 1) := dk_26 (dk_at dksX1_isIn_0 0 rfl rfl)
theorem dX1_isIn_1 : decode cX1_isIn 1 = .ok (.iload_n 1, 1) := dk_27 (dk_at dksX1_isIn_0 1 rfl rfl)
theorem dX1_isIn_2 : decode cX1_isIn 2 = .ok (.if_icmp .lt 12, 3) := dk_161 0 12 (dk_at dksX1_isIn_0 2 rfl rfl)
theorem dX1_isIn_5 : decode cX1_isIn 5 = .ok (.iload_n 0, 1) := dk_26 (dk_at dksX1_isIn_0 5 rfl rfl)
theorem dX1_isIn_6 : decode cX1_isIn 6 = .ok (.iload_n 2, 1) := dk_28 (dk_at dksX1_isIn_0 6 rfl rfl)
theorem dX1_isIn_7 : decode cX1_isIn 7 = .ok (.if_icmp .gt 7, 3) := dk_163 0 7 (dk_at dksX1_isIn_0 7 rfl rfl)
theorem dX1_isIn_10 : decode cX1_isIn 10 = .ok (.iconst 1, 1) := dk_4 (dk_at dksX1_isIn_0 10 rfl rfl)
theorem dX1_isIn_11 : decode cX1_isIn 11 = .ok (.goto 4, 3) := dk_167 0 4 (dk_at dksX1_isIn_0 11 rfl rfl)
theorem dX1_isIn_14 : decode cX1_isIn 14 = .ok (.iconst 0, 1) := dk_3 (dk_at dksX1_isIn_0 14 rfl rfl)
theorem dX1_isIn_15 : decode cX1_isIn 15 = .ok (.ireturn, 1) := dk_172 (dk_at dksX1_isIn_0 15 rfl rfl)
set_option maxHeartbeats 4000000 in
set_option maxRecDepth 100000 in
noncomputable def fn_X1_isIn (l0 : Int32) (l1 : Int32) (l2 : Int32) (h : cz_H) : cz_Z := (if l0 < l1 then some (.inl (some (cz_i 0)), h) else (if l2 < l0 then some (.inl (some (cz_i 0)), h) else some (.inl (some (cz_i 1)), h)))
set_option maxHeartbeats 4000000 in
set_option maxRecDepth 100000 in
theorem wk_X1_isIn {K : cz_K} {D : cz_D} {h0 : cz_H} {oh : cz_O × cz_H} {l0 : Int32} {l1 : Int32} {l2 : Int32} {h : cz_H} (S : cz_S K D h0 cX1_isIn 3 "HeldCoats" ((Option.some Jvm.ClassFile.FieldType.boolean)) "isIn" ([])) : cz_T K D 2 h0 oh 3 (fn_X1_isIn l0 l1 l2 h) h 0 [(0, cz_i l0), (1, cz_i l1), (2, cz_i l2)] [] := by
  unfold fn_X1_isIn
  refine ct_iload_n (k := 0) S dX1_isIn_0 rfl rfl ?_
  refine ct_iload_n (k := 1) S dX1_isIn_1 rfl rfl ?_
  refine ct_icmp_lt (tgt := 14) S dX1_isIn_2 (by decide) ?_ ?_
  · refine ct_iconst (v := 0) S dX1_isIn_14 kI_0 ?_
    exact ct_zr (ty := .boolean) S rfl rfl dX1_isIn_15
  · refine ct_iload_n (k := 0) S dX1_isIn_5 rfl rfl ?_
    refine ct_iload_n (k := 2) S dX1_isIn_6 rfl rfl ?_
    refine ct_icmp_gt (tgt := 14) S dX1_isIn_7 (by decide) ?_ ?_
    · refine ct_iconst (v := 0) S dX1_isIn_14 kI_0 ?_
      exact ct_zr (ty := .boolean) S rfl rfl dX1_isIn_15
    · refine ct_iconst (v := 1) S dX1_isIn_10 kI_1 ?_
      refine ct_goto (tgt := 15) S dX1_isIn_11 (by decide) ?_
      exact ct_zr (ty := .boolean) S rfl rfl dX1_isIn_15
theorem mt_X1_isIn {l : Launch} {D : cz_D} {l0 : Int32} {l1 : Int32} {l2 : Int32} {h : cz_H} {oh : cz_O × cz_H} (hz : fn_X1_isIn l0 l1 l2 h = some oh) : cz_M l D yX1_isIn (ws_ yX1_isIn cX1_isIn 3 ((Option.some Jvm.ClassFile.FieldType.boolean))) 2 [cz_i l0, cz_i l1, cz_i l2] h oh := cz_met (plainFor_of_name (by decide)) (Nat.le_of_ble_eq_true rfl) hz (fun K hl S => wk_X1_isIn S)
/-! HeldCoats$Capital.isCoat(I)Z -/
def dkwX2_isCoat_0 : List UInt8 := [27, 3, 42, 180, 0, 31, 182, 0, 41, 4, 100, 184, 0, 45, 172]
abbrev dktX2_isCoat_0 : List UInt8 := dkwX2_isCoat_0 ++ []
theorem dksX2_isCoat_0 : cX2_isCoat.data.toList.drop 0 = dktX2_isCoat_0 := by decide +kernel
theorem dX2_isCoat_0 : decode cX2_isCoat 0 = .ok (.iload_n 1, 1) := dk_27 (dk_at dksX2_isCoat_0 0 rfl rfl)
theorem dX2_isCoat_1 : decode cX2_isCoat 1 = .ok (.iconst 0, 1) := dk_3 (dk_at dksX2_isCoat_0 1 rfl rfl)
theorem dX2_isCoat_2 : decode cX2_isCoat 2 = .ok (.aload_n 0, 1) := dk_42 (dk_at dksX2_isCoat_0 2 rfl rfl)
theorem dX2_isCoat_3 : decode cX2_isCoat 3 = .ok (.getfield 31, 3) := dk_180 0 31 (dk_at dksX2_isCoat_0 3 rfl rfl)
theorem dX2_isCoat_6 : decode cX2_isCoat 6 = .ok (.invokevirtual 41, 3) := dk_182 0 41 (dk_at dksX2_isCoat_0 6 rfl rfl)
theorem dX2_isCoat_9 : decode cX2_isCoat 9 = .ok (.iconst 1, 1) := dk_4 (dk_at dksX2_isCoat_0 9 rfl rfl)
theorem dX2_isCoat_10 : decode cX2_isCoat 10 = .ok (.isub, 1) := dk_100 (dk_at dksX2_isCoat_0 10 rfl rfl)
theorem dX2_isCoat_11 : decode cX2_isCoat 11 = .ok (.invokestatic 45, 3) := dk_184 0 45 (dk_at dksX2_isCoat_0 11 rfl rfl)
theorem dX2_isCoat_14 : decode cX2_isCoat 14 = .ok (.ireturn, 1) := dk_172 (dk_at dksX2_isCoat_0 14 rfl rfl)
theorem fw_X2_31 : cz_FW "HeldCoats$Capital" 31 [(1, 8)] "Ljava/util/ArrayList;" := ⟨"HeldCoats$Capital", "coats", Or.inl q230, List.forall_mem_cons.mpr ⟨⟨RX2, TX2, 11, rfl, by decide, rfl, rfl, Or.inl rfl⟩, fun _ h => absurd h List.not_mem_nil⟩, by decide⟩
theorem se_java_util_ArrayList_size___I_java_util_ArrayList : ∀ c ∈ ([2] : List Nat), ∃ q : vw_C, cz_cl[c]? = some q ∧ Cond.selects q.1 (⟨"java/util/ArrayList", "size", "()I"⟩ : MethodName) (⟨"java/util/ArrayList", "size", "()I"⟩ : MethodName) ∈ lw_all := List.forall_mem_cons.mpr ⟨⟨_, cz_cl2, q342⟩, fun _ h => absurd h List.not_mem_nil⟩
theorem md_J2_size : cz_md yJ2_size 1 (ws_ yJ2_size cJ2_size 1 ((Option.some Jvm.ClassFile.FieldType.int))) 0 := ⟨cz_ws_code q343, q117, ⟨by decide, by decide, by decide +kernel⟩, by decide⟩
theorem md_X1_isIn : cz_md yX1_isIn 3 (ws_ yX1_isIn cX1_isIn 3 ((Option.some Jvm.ClassFile.FieldType.boolean))) 3 := ⟨cz_ws_code q930, q113, ⟨by decide, by decide, by decide +kernel⟩, by decide⟩
set_option maxHeartbeats 4000000 in
set_option maxRecDepth 100000 in
noncomputable def fn_X2_isCoat (l0 : Option Nat) (l1 : Int32) (h : cz_H) : cz_Z := cz_getR h l0 [(1, 8)] (fun r1 => cz_rc h r1 [2] (cz_cI (fn_J2_size r1 h) (fun x9 h8 => cz_cI (fn_X1_isIn l1 0 (x9 - 1) h8) (fun x11 h10 => cz_ckz x11 (some (.inl (some (cz_i x11)), h10))))))
set_option maxHeartbeats 4000000 in
set_option maxRecDepth 100000 in
theorem wk_X2_isCoat {K : cz_K} {D : cz_D} {h0 : cz_H} {oh : cz_O × cz_H} {l0 : Option Nat} {l1 : Int32} {h : cz_H} (S : cz_S K D h0 cX2_isCoat 2 "HeldCoats$Capital" ((Option.some Jvm.ClassFile.FieldType.boolean)) "isCoat" ([])) : cz_T K D 3 h0 oh 2 (fn_X2_isCoat l0 l1 h) h 0 [(0, cz_r l0), (1, cz_i l1)] [] := by
  unfold fn_X2_isCoat
  refine ct_iload_n (k := 1) S dX2_isCoat_0 rfl rfl ?_
  refine ct_iconst (v := 0) S dX2_isCoat_1 kI_0 ?_
  refine ct_aload_n (k := 0) S dX2_isCoat_2 rfl rfl ?_
  refine ct_getR S fw_X2_31 dX2_isCoat_3 (fun r1 => ?_)
  refine ct_rc (fun b2 ci3 V4 hb5 hc6 hi7 => ?_)
  refine ct_cI (st := [cz_i 0, cz_i l1]) (cg_virtual (av := []) S hb5 hc6 hi7 (fun _ e => mt_J2_size e) md_J2_size q1090 q341 se_java_util_ArrayList_size___I_java_util_ArrayList (by decide) (Nat.le_of_ble_eq_true rfl) rfl dX2_isCoat_6) (fun x9 h8 => ?_)
  refine ct_iconst (v := 1) S dX2_isCoat_9 kI_1 ?_
  refine ct_isub S dX2_isCoat_10 ?_
  refine ct_cI (st := []) (cg_static (av := [cz_i l1, cz_i 0, cz_i (x9 - 1)]) S (fun _ e => mt_X1_isIn e) md_X1_isIn (Or.inr ⟨_, q1091⟩) q929 (by decide) (Nat.le_of_ble_eq_true rfl) rfl dX2_isCoat_11) (fun x11 h10 => ?_)
  refine ct_ckz (fun hx => ?_)
  exact ct_zr (ty := .boolean) S rfl (cz_nz hx) dX2_isCoat_14
theorem mt_X2_isCoat {l : Launch} {D : cz_D} {l0 : Option Nat} {l1 : Int32} {h : cz_H} {oh : cz_O × cz_H} (hz : fn_X2_isCoat l0 l1 h = some oh) : cz_M l D yX2_isCoat (ws_ yX2_isCoat cX2_isCoat 2 ((Option.some Jvm.ClassFile.FieldType.boolean))) 3 [cz_r l0, cz_i l1] h oh := cz_met (plainFor_of_name (by decide)) (Nat.le_of_ble_eq_true rfl) hz (fun K hl S => wk_X2_isCoat S)
/-! HeldCoats.isCoat(I)Z -/
def dkwX1_isCoat_0 : List UInt8 := [42, 180, 0, 33, 27, 182, 0, 126, 172]
abbrev dktX1_isCoat_0 : List UInt8 := dkwX1_isCoat_0 ++ []
theorem dksX1_isCoat_0 : cX1_isCoat.data.toList.drop 0 = dktX1_isCoat_0 := by decide +kernel
theorem dX1_isCoat_0 : decode cX1_isCoat 0 = .ok (.aload_n 0, 1) := dk_42 (dk_at dksX1_isCoat_0 0 rfl rfl)
theorem dX1_isCoat_1 : decode cX1_isCoat 1 = .ok (.getfield 33, 3) := dk_180 0 33 (dk_at dksX1_isCoat_0 1 rfl rfl)
theorem dX1_isCoat_4 : decode cX1_isCoat 4 = .ok (.iload_n 1, 1) := dk_27 (dk_at dksX1_isCoat_0 4 rfl rfl)
theorem dX1_isCoat_5 : decode cX1_isCoat 5 = .ok (.invokevirtual 126, 3) := dk_182 0 126 (dk_at dksX1_isCoat_0 5 rfl rfl)
theorem dX1_isCoat_8 : decode cX1_isCoat 8 = .ok (.ireturn, 1) := dk_172 (dk_at dksX1_isCoat_0 8 rfl rfl)
theorem fw_X1_33 : cz_FW "HeldCoats" 33 [(0, 3)] "LHeldCoats$Capital;" := ⟨"HeldCoats", "capital", Or.inl q383, List.forall_mem_cons.mpr ⟨⟨RX1, TX1, 18, rfl, by decide, rfl, rfl, Or.inl rfl⟩, fun _ h => absurd h List.not_mem_nil⟩, by decide⟩
theorem se_HeldCoats_Capital_isCoat__I_Z_HeldCoats_Capital : ∀ c ∈ ([1] : List Nat), ∃ q : vw_C, cz_cl[c]? = some q ∧ Cond.selects q.1 (⟨"HeldCoats$Capital", "isCoat", "(I)Z"⟩ : MethodName) (⟨"HeldCoats$Capital", "isCoat", "(I)Z"⟩ : MethodName) ∈ lw_all := List.forall_mem_cons.mpr ⟨⟨_, cz_cl1, q1148⟩, fun _ h => absurd h List.not_mem_nil⟩
theorem md_X2_isCoat : cz_md yX2_isCoat 2 (ws_ yX2_isCoat cX2_isCoat 2 ((Option.some Jvm.ClassFile.FieldType.boolean))) 1 := ⟨cz_ws_code q1149, q114, ⟨by decide, by decide, by decide +kernel⟩, by decide⟩
set_option maxHeartbeats 4000000 in
set_option maxRecDepth 100000 in
noncomputable def fn_X1_isCoat (l0 : Option Nat) (l1 : Int32) (h : cz_H) : cz_Z := cz_getR h l0 [(0, 3)] (fun r1 => cz_rc h r1 [1] (cz_cI (fn_X2_isCoat r1 l1 h) (fun x9 h8 => cz_ckz x9 (some (.inl (some (cz_i x9)), h8)))))
set_option maxHeartbeats 4000000 in
set_option maxRecDepth 100000 in
theorem wk_X1_isCoat {K : cz_K} {D : cz_D} {h0 : cz_H} {oh : cz_O × cz_H} {l0 : Option Nat} {l1 : Int32} {h : cz_H} (S : cz_S K D h0 cX1_isCoat 2 "HeldCoats" ((Option.some Jvm.ClassFile.FieldType.boolean)) "isCoat" ([])) : cz_T K D 4 h0 oh 2 (fn_X1_isCoat l0 l1 h) h 0 [(0, cz_r l0), (1, cz_i l1)] [] := by
  unfold fn_X1_isCoat
  refine ct_aload_n (k := 0) S dX1_isCoat_0 rfl rfl ?_
  refine ct_getR S fw_X1_33 dX1_isCoat_1 (fun r1 => ?_)
  refine ct_iload_n (k := 1) S dX1_isCoat_4 rfl rfl ?_
  refine ct_rc (fun b2 ci3 V4 hb5 hc6 hi7 => ?_)
  refine ct_cI (st := []) (cg_virtual (av := [cz_i l1]) S hb5 hc6 hi7 (fun _ e => mt_X2_isCoat e) md_X2_isCoat q1146 q1147 se_HeldCoats_Capital_isCoat__I_Z_HeldCoats_Capital (by decide) (Nat.le_of_ble_eq_true rfl) rfl dX1_isCoat_5) (fun x9 h8 => ?_)
  refine ct_ckz (fun hx => ?_)
  exact ct_zr (ty := .boolean) S rfl (cz_nz hx) dX1_isCoat_8
theorem mt_X1_isCoat {l : Launch} {D : cz_D} {l0 : Option Nat} {l1 : Int32} {h : cz_H} {oh : cz_O × cz_H} (hz : fn_X1_isCoat l0 l1 h = some oh) : cz_M l D yX1_isCoat (ws_ yX1_isCoat cX1_isCoat 2 ((Option.some Jvm.ClassFile.FieldType.boolean))) 4 [cz_r l0, cz_i l1] h oh := cz_met (plainFor_of_name (by decide)) (Nat.le_of_ble_eq_true rfl) hz (fun K hl S => wk_X1_isCoat S)
/-! HeldCoats.need(Z)V -/
def dkwX1_need_0 : List UInt8 := [26, 154, 0, 11, 187, 0, 1, 89, 183, 0, 3, 191, 177]
abbrev dktX1_need_0 : List UInt8 := dkwX1_need_0 ++ []
theorem dksX1_need_0 : cX1_need.data.toList.drop 0 = dktX1_need_0 := by decide +kernel
theorem dX1_need_0 : decode cX1_need 0 = .ok (.iload_n 0, 1) := dk_26 (dk_at dksX1_need_0 0 rfl rfl)
theorem dX1_need_1 : decode cX1_need 1 = .ok (.ifCond .ne 11, 3) := dk_154 0 11 (dk_at dksX1_need_0 1 rfl rfl)
theorem dX1_need_4 : decode cX1_need 4 = .ok (.new 1, 3) := dk_187 0 1 (dk_at dksX1_need_0 4 rfl rfl)
theorem dX1_need_7 : decode cX1_need 7 = .ok (.dup, 1) := dk_89 (dk_at dksX1_need_0 7 rfl rfl)
theorem dX1_need_8 : decode cX1_need 8 = .ok (.invokespecial 3, 3) := dk_183 0 3 (dk_at dksX1_need_0 8 rfl rfl)
theorem dX1_need_11 : decode cX1_need 11 = .ok (.athrow, 1) := dk_191 (dk_at dksX1_need_0 11 rfl rfl)
theorem dX1_need_12 : decode cX1_need 12 = .ok (.return_, 1) := dk_177 (dk_at dksX1_need_0 12 rfl rfl)
set_option maxHeartbeats 4000000 in
set_option maxRecDepth 100000 in
noncomputable def fn_X1_need (l0 : Int32) (h : cz_H) : cz_Z := (if l0 = 0 then cz_newx h (fun r1 h2 => cz_ath r1 (fun q3 => cz_thr q3 h2)) else some (.inl none, h))
set_option maxHeartbeats 4000000 in
set_option maxRecDepth 100000 in
theorem wk_X1_need {K : cz_K} {D : cz_D} {h0 : cz_H} {oh : cz_O × cz_H} {l0 : Int32} {h : cz_H} (hfl : K.2.1.stackTraces = false) (S : cz_S K D h0 cX1_need 1 "HeldCoats" ((Option.none : Option Jvm.ClassFile.FieldType)) "need" ([])) : cz_T K D 14 h0 oh 1 (fn_X1_need l0 h) h 0 [(0, cz_i l0)] [] := by
  unfold fn_X1_need
  refine ct_iload_n (k := 0) S dX1_need_0 rfl rfl ?_
  refine ct_if_ne (tgt := 12) S dX1_need_1 (by decide) ?_ ?_
  · exact ct_vret S rfl dX1_need_12
  · refine ct_newx S hfl dX1_need_4 dX1_need_7 dX1_need_8 (by decide) (Nat.le_of_ble_eq_true rfl) (fun r1 h2 => ?_)
    refine ct_athrow S dX1_need_11 (fun q3 => ?_)
    exact ct_out S (fun x hx => by cases hx)
theorem mt_X1_need {l : Launch} {D : cz_D} {l0 : Int32} {h : cz_H} {oh : cz_O × cz_H} (hfl : l.stackTraces = false) (hz : fn_X1_need l0 h = some oh) : cz_M l D yX1_need (ws_ yX1_need cX1_need 1 ((Option.none : Option Jvm.ClassFile.FieldType))) 14 [cz_i l0] h oh := cz_met (plainFor_of_name (by decide)) (Nat.le_of_ble_eq_true rfl) hz (fun K hl S => wk_X1_need (by rw [hl]; exact hfl) S)
/-! HeldCoats.coat(II)I -/
def dkwX1_coat_5 : List UInt8 := [42, 180, 0, 42, 180, 0, 207, 27, 46, 172, 42, 180, 0, 42, 180, 0, 210, 27, 46, 172]
abbrev dktX1_coat_5 : List UInt8 := dkwX1_coat_5 ++ []
def dkwX1_coat_4 : List UInt8 := [180, 0, 142, 27, 182, 0, 146, 192, 0, 196, 180, 0, 201, 172, 42, 180, 0, 42, 180, 0, 204, 27, 46, 172]
abbrev dktX1_coat_4 : List UInt8 := dkwX1_coat_4 ++ dktX1_coat_5
def dkwX1_coat_3 : List UInt8 := [42, 180, 0, 33, 180, 0, 142, 27, 182, 0, 146, 192, 0, 196, 180, 0, 198, 172, 42, 180, 0, 33]
abbrev dktX1_coat_3 : List UInt8 := dkwX1_coat_3 ++ dktX1_coat_4
def dkwX1_coat_2 : List UInt8 := [170, 0, 0, 0, 0, 86, 0, 0, 0, 0, 0, 0, 0, 3, 0, 0, 0, 30, 0, 0, 0, 48, 0, 0, 0, 66, 0, 0, 0, 76]
abbrev dktX1_coat_2 : List UInt8 := dkwX1_coat_2 ++ dktX1_coat_3
def dkwX1_coat_1 : List UInt8 := [184, 0, 166, 28]
abbrev dktX1_coat_1 : List UInt8 := dkwX1_coat_1 ++ dktX1_coat_2
def dkwX1_coat_0 : List UInt8 := [42, 27, 182, 0, 195, 153, 0, 16, 28, 3, 7, 184, 0, 162, 153, 0, 7, 4, 167, 0, 4, 3]
abbrev dktX1_coat_0 : List UInt8 := dkwX1_coat_0 ++ dktX1_coat_1
theorem dksX1_coat_0 : cX1_coat.data.toList.drop 0 = dktX1_coat_0 := by decide +kernel
theorem dksX1_coat_1 : cX1_coat.data.toList.drop 22 = dktX1_coat_1 := dk_seg dksX1_coat_0 22 rfl rfl
theorem dksX1_coat_2 : cX1_coat.data.toList.drop 26 = dktX1_coat_2 := dk_seg dksX1_coat_1 4 rfl rfl
theorem dksX1_coat_3 : cX1_coat.data.toList.drop 56 = dktX1_coat_3 := dk_seg dksX1_coat_2 30 rfl rfl
theorem dksX1_coat_4 : cX1_coat.data.toList.drop 78 = dktX1_coat_4 := dk_seg dksX1_coat_3 22 rfl rfl
theorem dksX1_coat_5 : cX1_coat.data.toList.drop 102 = dktX1_coat_5 := dk_seg dksX1_coat_4 24 rfl rfl
theorem dX1_coat_0 : decode cX1_coat 0 = .ok (.aload_n 0, 1) := dk_42 (dk_at dksX1_coat_0 0 rfl rfl)
theorem dX1_coat_1 : decode cX1_coat 1 = .ok (.iload_n 1, 1) := dk_27 (dk_at dksX1_coat_0 1 rfl rfl)
theorem dX1_coat_2 : decode cX1_coat 2 = .ok (.invokevirtual 195, 3) := dk_182 0 195 (dk_at dksX1_coat_0 2 rfl rfl)
theorem dX1_coat_5 : decode cX1_coat 5 = .ok (.ifCond .eq 16, 3) := dk_153 0 16 (dk_at dksX1_coat_0 5 rfl rfl)
theorem dX1_coat_8 : decode cX1_coat 8 = .ok (.iload_n 2, 1) := dk_28 (dk_at dksX1_coat_0 8 rfl rfl)
theorem dX1_coat_9 : decode cX1_coat 9 = .ok (.iconst 0, 1) := dk_3 (dk_at dksX1_coat_0 9 rfl rfl)
theorem dX1_coat_10 : decode cX1_coat 10 = .ok (.iconst 4, 1) := dk_7 (dk_at dksX1_coat_0 10 rfl rfl)
theorem dX1_coat_11 : decode cX1_coat 11 = .ok (.invokestatic 162, 3) := dk_184 0 162 (dk_at dksX1_coat_0 11 rfl rfl)
theorem dX1_coat_14 : decode cX1_coat 14 = .ok (.ifCond .eq 7, 3) := dk_153 0 7 (dk_at dksX1_coat_0 14 rfl rfl)
theorem dX1_coat_17 : decode cX1_coat 17 = .ok (.iconst 1, 1) := dk_4 (dk_at dksX1_coat_0 17 rfl rfl)
theorem dX1_coat_18 : decode cX1_coat 18 = .ok (.goto 4, 3) := dk_167 0 4 (dk_at dksX1_coat_0 18 rfl rfl)
theorem dX1_coat_21 : decode cX1_coat 21 = .ok (.iconst 0, 1) := dk_3 (dk_at dksX1_coat_0 21 rfl rfl)
theorem dX1_coat_22 : decode cX1_coat 22 = .ok (.invokestatic 166, 3) := dk_184 0 166 (dk_at dksX1_coat_1 0 rfl rfl)
theorem dX1_coat_25 : decode cX1_coat 25 = .ok (.iload_n 2, 1) := dk_28 (dk_at dksX1_coat_1 3 rfl rfl)
theorem dX1_coat_26 : decode cX1_coat 26 = .ok (.tableswitch 86 0 3 #[30, 48, 66, 76], 30) := by decide +kernel
theorem dX1_coat_56 : decode cX1_coat 56 = .ok (.aload_n 0, 1) := dk_42 (dk_at dksX1_coat_3 0 rfl rfl)
theorem dX1_coat_57 : decode cX1_coat 57 = .ok (.getfield 33, 3) := dk_180 0 33 (dk_at dksX1_coat_3 1 rfl rfl)
theorem dX1_coat_60 : decode cX1_coat 60 = .ok (.getfield 142, 3) := dk_180 0 142 (dk_at dksX1_coat_3 4 rfl rfl)
theorem dX1_coat_63 : decode cX1_coat 63 = .ok (.iload_n 1, 1) := dk_27 (dk_at dksX1_coat_3 7 rfl rfl)
theorem dX1_coat_64 : decode cX1_coat 64 = .ok (.invokevirtual 146, 3) := dk_182 0 146 (dk_at dksX1_coat_3 8 rfl rfl)
theorem dX1_coat_67 : decode cX1_coat 67 = .ok (.checkcast 196, 3) := dk_192 0 196 (dk_at dksX1_coat_3 11 rfl rfl)
theorem dX1_coat_70 : decode cX1_coat 70 = .ok (.getfield 198, 3) := dk_180 0 198 (dk_at dksX1_coat_3 14 rfl rfl)
theorem dX1_coat_73 : decode cX1_coat 73 = .ok (.ireturn, 1) := dk_172 (dk_at dksX1_coat_3 17 rfl rfl)
theorem dX1_coat_74 : decode cX1_coat 74 = .ok (.aload_n 0, 1) := dk_42 (dk_at dksX1_coat_3 18 rfl rfl)
theorem dX1_coat_75 : decode cX1_coat 75 = .ok (.getfield 33, 3) := dk_180 0 33 (dk_at dksX1_coat_3 19 rfl rfl)
theorem dX1_coat_78 : decode cX1_coat 78 = .ok (.getfield 142, 3) := dk_180 0 142 (dk_at dksX1_coat_4 0 rfl rfl)
theorem dX1_coat_81 : decode cX1_coat 81 = .ok (.iload_n 1, 1) := dk_27 (dk_at dksX1_coat_4 3 rfl rfl)
theorem dX1_coat_82 : decode cX1_coat 82 = .ok (.invokevirtual 146, 3) := dk_182 0 146 (dk_at dksX1_coat_4 4 rfl rfl)
theorem dX1_coat_85 : decode cX1_coat 85 = .ok (.checkcast 196, 3) := dk_192 0 196 (dk_at dksX1_coat_4 7 rfl rfl)
theorem dX1_coat_88 : decode cX1_coat 88 = .ok (.getfield 201, 3) := dk_180 0 201 (dk_at dksX1_coat_4 10 rfl rfl)
theorem dX1_coat_91 : decode cX1_coat 91 = .ok (.ireturn, 1) := dk_172 (dk_at dksX1_coat_4 13 rfl rfl)
theorem dX1_coat_92 : decode cX1_coat 92 = .ok (.aload_n 0, 1) := dk_42 (dk_at dksX1_coat_4 14 rfl rfl)
theorem dX1_coat_93 : decode cX1_coat 93 = .ok (.getfield 42, 3) := dk_180 0 42 (dk_at dksX1_coat_4 15 rfl rfl)
theorem dX1_coat_96 : decode cX1_coat 96 = .ok (.getfield 204, 3) := dk_180 0 204 (dk_at dksX1_coat_4 18 rfl rfl)
theorem dX1_coat_99 : decode cX1_coat 99 = .ok (.iload_n 1, 1) := dk_27 (dk_at dksX1_coat_4 21 rfl rfl)
theorem dX1_coat_100 : decode cX1_coat 100 = .ok (.iaload, 1) := dk_46 (dk_at dksX1_coat_4 22 rfl rfl)
theorem dX1_coat_101 : decode cX1_coat 101 = .ok (.ireturn, 1) := dk_172 (dk_at dksX1_coat_4 23 rfl rfl)
theorem dX1_coat_102 : decode cX1_coat 102 = .ok (.aload_n 0, 1) := dk_42 (dk_at dksX1_coat_5 0 rfl rfl)
theorem dX1_coat_103 : decode cX1_coat 103 = .ok (.getfield 42, 3) := dk_180 0 42 (dk_at dksX1_coat_5 1 rfl rfl)
theorem dX1_coat_106 : decode cX1_coat 106 = .ok (.getfield 207, 3) := dk_180 0 207 (dk_at dksX1_coat_5 4 rfl rfl)
theorem dX1_coat_109 : decode cX1_coat 109 = .ok (.iload_n 1, 1) := dk_27 (dk_at dksX1_coat_5 7 rfl rfl)
theorem dX1_coat_110 : decode cX1_coat 110 = .ok (.iaload, 1) := dk_46 (dk_at dksX1_coat_5 8 rfl rfl)
theorem dX1_coat_111 : decode cX1_coat 111 = .ok (.ireturn, 1) := dk_172 (dk_at dksX1_coat_5 9 rfl rfl)
theorem dX1_coat_112 : decode cX1_coat 112 = .ok (.aload_n 0, 1) := dk_42 (dk_at dksX1_coat_5 10 rfl rfl)
theorem dX1_coat_113 : decode cX1_coat 113 = .ok (.getfield 42, 3) := dk_180 0 42 (dk_at dksX1_coat_5 11 rfl rfl)
theorem dX1_coat_116 : decode cX1_coat 116 = .ok (.getfield 210, 3) := dk_180 0 210 (dk_at dksX1_coat_5 14 rfl rfl)
theorem dX1_coat_119 : decode cX1_coat 119 = .ok (.iload_n 1, 1) := dk_27 (dk_at dksX1_coat_5 17 rfl rfl)
theorem dX1_coat_120 : decode cX1_coat 120 = .ok (.iaload, 1) := dk_46 (dk_at dksX1_coat_5 18 rfl rfl)
theorem dX1_coat_121 : decode cX1_coat 121 = .ok (.ireturn, 1) := dk_172 (dk_at dksX1_coat_5 19 rfl rfl)
theorem se_HeldCoats_isCoat__I_Z_HeldCoats : ∀ c ∈ ([0] : List Nat), ∃ q : vw_C, cz_cl[c]? = some q ∧ Cond.selects q.1 (⟨"HeldCoats", "isCoat", "(I)Z"⟩ : MethodName) (⟨"HeldCoats", "isCoat", "(I)Z"⟩ : MethodName) ∈ lw_all := List.forall_mem_cons.mpr ⟨⟨_, cz_cl0, qs15⟩, fun _ h => absurd h List.not_mem_nil⟩
theorem md_X1_isCoat : cz_md yX1_isCoat 2 (ws_ yX1_isCoat cX1_isCoat 2 ((Option.some Jvm.ClassFile.FieldType.boolean))) 1 := ⟨cz_ws_code q1145, q113, ⟨by decide, by decide, by decide +kernel⟩, by decide⟩
theorem fw_X1_42 : cz_FW "HeldCoats" 42 [(0, 4)] "LHeldCoats$Reign;" := ⟨"HeldCoats", "now", Or.inl q384, List.forall_mem_cons.mpr ⟨⟨RX1, TX1, 18, rfl, by decide, rfl, rfl, Or.inl rfl⟩, fun _ h => absurd h List.not_mem_nil⟩, by decide⟩
theorem fw_X1_210 : cz_FW "HeldCoats" 210 [(3, 8)] "[I" := ⟨"HeldCoats$Reign", "user", Or.inr ⟨_, q290⟩, List.forall_mem_cons.mpr ⟨⟨RX3, TX3, 14, rfl, by decide, rfl, rfl, Or.inl rfl⟩, fun _ h => absurd h List.not_mem_nil⟩, by decide⟩
theorem fw_X1_207 : cz_FW "HeldCoats" 207 [(3, 6)] "[I" := ⟨"HeldCoats$Reign", "at", Or.inr ⟨_, q284⟩, List.forall_mem_cons.mpr ⟨⟨RX3, TX3, 14, rfl, by decide, rfl, rfl, Or.inl rfl⟩, fun _ h => absurd h List.not_mem_nil⟩, by decide⟩
theorem fw_X1_204 : cz_FW "HeldCoats" 204 [(3, 7)] "[I" := ⟨"HeldCoats$Reign", "cloth", Or.inr ⟨_, q287⟩, List.forall_mem_cons.mpr ⟨⟨RX3, TX3, 14, rfl, by decide, rfl, rfl, Or.inl rfl⟩, fun _ h => absurd h List.not_mem_nil⟩, by decide⟩
theorem fw_X1_142 : cz_FW "HeldCoats" 142 [(1, 8)] "Ljava/util/ArrayList;" := ⟨"HeldCoats$Capital", "coats", Or.inr ⟨_, q235⟩, List.forall_mem_cons.mpr ⟨⟨RX2, TX2, 11, rfl, by decide, rfl, rfl, Or.inl rfl⟩, fun _ h => absurd h List.not_mem_nil⟩, by decide⟩
theorem fw_X1_201 : cz_FW "HeldCoats" 201 [(11, 2)] "I" := ⟨"HeldCoats$Coat", "warmth", Or.inr ⟨_, q1033⟩, List.forall_mem_cons.mpr ⟨⟨RX11, TX11, 4, rfl, by decide, rfl, rfl, Or.inl rfl⟩, fun _ h => absurd h List.not_mem_nil⟩, by decide⟩
theorem fw_X1_198 : cz_FW "HeldCoats" 198 [(11, 1)] "I" := ⟨"HeldCoats$Coat", "man", Or.inr ⟨_, q1030⟩, List.forall_mem_cons.mpr ⟨⟨RX11, TX11, 4, rfl, by decide, rfl, rfl, Or.inl rfl⟩, fun _ h => absurd h List.not_mem_nil⟩, by decide⟩
theorem md_X1_need : cz_md yX1_need 1 (ws_ yX1_need cX1_need 1 ((Option.none : Option Jvm.ClassFile.FieldType))) 1 := ⟨cz_ws_code q1828, q113, ⟨by decide, by decide, by decide +kernel⟩, by decide⟩
theorem se_java_util_ArrayList_get__I_Ljava_lang_Object__java_util_ArrayList : ∀ c ∈ ([2] : List Nat), ∃ q : vw_C, cz_cl[c]? = some q ∧ Cond.selects q.1 (⟨"java/util/ArrayList", "get", "(I)Ljava/lang/Object;"⟩ : MethodName) (⟨"java/util/ArrayList", "get", "(I)Ljava/lang/Object;"⟩ : MethodName) ∈ lw_all := List.forall_mem_cons.mpr ⟨⟨_, cz_cl2, q346⟩, fun _ h => absurd h List.not_mem_nil⟩
theorem md_J2_get : cz_md yJ2_get 2 (ws_ yJ2_get cJ2_get 2 ((Option.some (Jvm.ClassFile.FieldType.object "java/lang/Object")))) 1 := ⟨cz_ws_code q347, q117, ⟨by decide, by decide, by decide +kernel⟩, by decide⟩
theorem ca_HeldCoats_Coat : cz_cs [11] "HeldCoats$Coat" := List.forall_mem_cons.mpr ⟨⟨_, cz_cl11, Or.inl rfl⟩, fun _ h => absurd h List.not_mem_nil⟩
set_option maxHeartbeats 4000000 in
set_option maxRecDepth 100000 in
noncomputable def fn_X1_coat (l0 : Option Nat) (l1 : Int32) (l2 : Int32) (h : cz_H) : cz_Z := cz_rc h l0 [0] (cz_cI (fn_X1_isCoat l0 l1 h) (fun x8 h7 => cz_jn (fun (v9 : Int32) (h10 : cz_H) => cz_xV (fn_X1_need v9 h10) (fun q12 h13 => cz_thr q12 h13) (fun h11 => (if l2 = 0 then cz_getR h11 l0 [(0, 3)] (fun r34 => cz_getR h11 r34 [(1, 8)] (fun r35 => cz_rc h11 r35 [2] (cz_cR (fn_J2_get r35 l1 h11) (fun r43 h42 => cz_cast h42 r43 [11] (cz_getI h42 r43 [(11, 1)] (fun x44 => some (.inl (some (cz_i x44)), h42))))))) else if l2 = 1 then cz_getR h11 l0 [(0, 3)] (fun r23 => cz_getR h11 r23 [(1, 8)] (fun r24 => cz_rc h11 r24 [2] (cz_cR (fn_J2_get r24 l1 h11) (fun r32 h31 => cz_cast h31 r32 [11] (cz_getI h31 r32 [(11, 2)] (fun x33 => some (.inl (some (cz_i x33)), h31))))))) else if l2 = 2 then cz_getR h11 l0 [(0, 4)] (fun r20 => cz_getR h11 r20 [(3, 7)] (fun r21 => cz_iald h11 r21 l1 (fun x22 => some (.inl (some (cz_i x22)), h11)))) else if l2 = 3 then cz_getR h11 l0 [(0, 4)] (fun r17 => cz_getR h11 r17 [(3, 6)] (fun r18 => cz_iald h11 r18 l1 (fun x19 => some (.inl (some (cz_i x19)), h11)))) else cz_getR h11 l0 [(0, 4)] (fun r14 => cz_getR h11 r14 [(3, 8)] (fun r15 => cz_iald h11 r15 l1 (fun x16 => some (.inl (some (cz_i x16)), h11))))))) (fun j45 => cz_jn (fun (h46 : cz_H) => j45 0 h46) (fun j47 => (if x8 = 0 then j47 h7 else cz_cI (fn_X1_isIn l2 0 4 h7) (fun x49 h48 => (if x49 = 0 then j47 h48 else j45 1 h48)))))))
set_option maxHeartbeats 4000000 in
set_option maxRecDepth 100000 in
theorem wk_X1_coat {K : cz_K} {D : cz_D} {h0 : cz_H} {oh : cz_O × cz_H} {l0 : Option Nat} {l1 : Int32} {l2 : Int32} {h : cz_H} (hfl : K.2.1.stackTraces = false) (S : cz_S K D h0 cX1_coat 3 "HeldCoats" ((Option.some Jvm.ClassFile.FieldType.int)) "coat" ([])) : cz_T K D 15 h0 oh 3 (fn_X1_coat l0 l1 l2 h) h 0 [(0, cz_r l0), (1, cz_i l1), (2, cz_i l2)] [] := by
  unfold fn_X1_coat
  refine ct_aload_n (k := 0) S dX1_coat_0 rfl rfl ?_
  refine ct_iload_n (k := 1) S dX1_coat_1 rfl rfl ?_
  refine ct_rc (fun b1 ci2 V3 hb4 hc5 hi6 => ?_)
  refine ct_cI (st := []) (cg_virtual (av := [cz_i l1]) S hb4 hc5 hi6 (fun _ e => mt_X1_isCoat e) md_X1_isCoat q1142 q1144 se_HeldCoats_isCoat__I_Z_HeldCoats (by decide) (Nat.le_of_ble_eq_true rfl) rfl dX1_coat_2) (fun x8 h7 => ?_)
  refine ct_jnP (fun j45 => ∀ (v9 : Int32) (h10 : cz_H), cz_T K D 15 h0 oh 3 (j45 v9 h10) h10 22 [(0, cz_r l0), (1, cz_i l1), (2, cz_i l2)] [cz_i v9]) (fun v9 h10 => ?_) (fun j45 Hj45 => ?_)
  · refine ct_xV (st := []) (cg_static (av := [cz_i v9]) S (fun _ e => mt_X1_need hfl e) md_X1_need (Or.inl q1826) q1827 (by decide) (Nat.le_of_ble_eq_true rfl) rfl dX1_coat_22) (fun q12 h13 => ?_) (fun h11 => ?_)
    · exact ct_out S (fun x hx => by cases hx)
    · refine ct_iload_n (k := 2) S dX1_coat_25 rfl rfl ?_
      refine ct_case ?_ (fun c0_ => ?_)
      · refine ct_tableIn (tgt := 56) S dX1_coat_26 (by decide) (by decide) rfl (by decide) ?_
        refine ct_aload_n (k := 0) S dX1_coat_56 rfl rfl ?_
        refine ct_getR S fw_X1_33 dX1_coat_57 (fun r34 => ?_)
        refine ct_getR S fw_X1_142 dX1_coat_60 (fun r35 => ?_)
        refine ct_iload_n (k := 1) S dX1_coat_63 rfl rfl ?_
        refine ct_rc (fun b36 ci37 V38 hb39 hc40 hi41 => ?_)
        refine ct_cR (st := []) (cg_virtual (av := [cz_i l1]) S hb39 hc40 hi41 (fun _ e => mt_J2_get e) md_J2_get q1092 q345 se_java_util_ArrayList_get__I_Ljava_lang_Object__java_util_ArrayList (by decide) (Nat.le_of_ble_eq_true rfl) rfl dX1_coat_64) (fun r43 h42 => ?_)
        refine ct_cast S q1867 ca_HeldCoats_Coat dX1_coat_67 ?_
        refine ct_getI S fw_X1_198 dX1_coat_70 (fun x44 => ?_)
        exact ct_iret S rfl dX1_coat_73
      · refine ct_case ?_ (fun c1_ => ?_)
        · refine ct_tableIn (tgt := 74) S dX1_coat_26 (by decide) (by decide) rfl (by decide) ?_
          refine ct_aload_n (k := 0) S dX1_coat_74 rfl rfl ?_
          refine ct_getR S fw_X1_33 dX1_coat_75 (fun r23 => ?_)
          refine ct_getR S fw_X1_142 dX1_coat_78 (fun r24 => ?_)
          refine ct_iload_n (k := 1) S dX1_coat_81 rfl rfl ?_
          refine ct_rc (fun b25 ci26 V27 hb28 hc29 hi30 => ?_)
          refine ct_cR (st := []) (cg_virtual (av := [cz_i l1]) S hb28 hc29 hi30 (fun _ e => mt_J2_get e) md_J2_get q1092 q345 se_java_util_ArrayList_get__I_Ljava_lang_Object__java_util_ArrayList (by decide) (Nat.le_of_ble_eq_true rfl) rfl dX1_coat_82) (fun r32 h31 => ?_)
          refine ct_cast S q1867 ca_HeldCoats_Coat dX1_coat_85 ?_
          refine ct_getI S fw_X1_201 dX1_coat_88 (fun x33 => ?_)
          exact ct_iret S rfl dX1_coat_91
        · refine ct_case ?_ (fun c2_ => ?_)
          · refine ct_tableIn (tgt := 92) S dX1_coat_26 (by decide) (by decide) rfl (by decide) ?_
            refine ct_aload_n (k := 0) S dX1_coat_92 rfl rfl ?_
            refine ct_getR S fw_X1_42 dX1_coat_93 (fun r20 => ?_)
            refine ct_getR S fw_X1_204 dX1_coat_96 (fun r21 => ?_)
            refine ct_iload_n (k := 1) S dX1_coat_99 rfl rfl ?_
            refine ct_iald S dX1_coat_100 (fun x22 => ?_)
            exact ct_iret S rfl dX1_coat_101
          · refine ct_case ?_ (fun c3_ => ?_)
            · refine ct_tableIn (tgt := 102) S dX1_coat_26 (by decide) (by decide) rfl (by decide) ?_
              refine ct_aload_n (k := 0) S dX1_coat_102 rfl rfl ?_
              refine ct_getR S fw_X1_42 dX1_coat_103 (fun r17 => ?_)
              refine ct_getR S fw_X1_207 dX1_coat_106 (fun r18 => ?_)
              refine ct_iload_n (k := 1) S dX1_coat_109 rfl rfl ?_
              refine ct_iald S dX1_coat_110 (fun x19 => ?_)
              exact ct_iret S rfl dX1_coat_111
            · refine ct_tableOut (tgt := 112) S dX1_coat_26 (by have := lv_neT c0_ (show (0 : Int32).toInt = 0 by decide); have := lv_neT c1_ (show (1 : Int32).toInt = 1 by decide); have := lv_neT c2_ (show (2 : Int32).toInt = 2 by decide); have := lv_neT c3_ (show (3 : Int32).toInt = 3 by decide); omega) (by decide) ?_
              refine ct_aload_n (k := 0) S dX1_coat_112 rfl rfl ?_
              refine ct_getR S fw_X1_42 dX1_coat_113 (fun r14 => ?_)
              refine ct_getR S fw_X1_210 dX1_coat_116 (fun r15 => ?_)
              refine ct_iload_n (k := 1) S dX1_coat_119 rfl rfl ?_
              refine ct_iald S dX1_coat_120 (fun x16 => ?_)
              exact ct_iret S rfl dX1_coat_121
  · refine ct_jnP (fun j47 => ∀ (h46 : cz_H), cz_T K D 15 h0 oh 3 (j47 h46) h46 21 [(0, cz_r l0), (1, cz_i l1), (2, cz_i l2)] []) (fun h46 => ?_) (fun j47 Hj47 => ?_)
    · refine ct_iconst (v := 0) S dX1_coat_21 kI_0 ?_
      exact Hj45 0 h46
    · refine ct_if_eq (tgt := 21) S dX1_coat_5 (by decide) ?_ ?_
      · exact Hj47 h7
      · refine ct_iload_n (k := 2) S dX1_coat_8 rfl rfl ?_
        refine ct_iconst (v := 0) S dX1_coat_9 kI_0 ?_
        refine ct_iconst (v := 4) S dX1_coat_10 kI_4 ?_
        refine ct_cI (st := []) (cg_static (av := [cz_i l2, cz_i 0, cz_i 4]) S (fun _ e => mt_X1_isIn e) md_X1_isIn (Or.inl q1355) q929 (by decide) (Nat.le_of_ble_eq_true rfl) rfl dX1_coat_11) (fun x49 h48 => ?_)
        refine ct_if_eq (tgt := 21) S dX1_coat_14 (by decide) ?_ ?_
        · exact Hj47 h48
        · refine ct_iconst (v := 1) S dX1_coat_17 kI_1 ?_
          refine ct_goto (tgt := 22) S dX1_coat_18 (by decide) ?_
          exact Hj45 1 h48
theorem mt_X1_coat {l : Launch} {D : cz_D} {l0 : Option Nat} {l1 : Int32} {l2 : Int32} {h : cz_H} {oh : cz_O × cz_H} (hfl : l.stackTraces = false) (hz : fn_X1_coat l0 l1 l2 h = some oh) : cz_M l D yX1_coat (ws_ yX1_coat cX1_coat 3 ((Option.some Jvm.ClassFile.FieldType.int))) 15 [cz_r l0, cz_i l1, cz_i l2] h oh := cz_met (plainFor_of_name (by decide)) (Nat.le_of_ble_eq_true rfl) hz (fun K hl S => wk_X1_coat (by rw [hl]; exact hfl) S)
/-! HeldCoatsLaw.coat(LHeldCoats;II[J)I -/
def dkwX0_coat_0 : List UInt8 := [45, 3, 42, 27, 28, 182, 0, 15, 133, 80, 167, 0, 7, 58, 4, 4, 172, 3, 172]
abbrev dktX0_coat_0 : List UInt8 := dkwX0_coat_0 ++ []
theorem dksX0_coat_0 : cX0_coat.data.toList.drop 0 = dktX0_coat_0 := by decide +kernel
theorem dX0_coat_0 : decode cX0_coat 0 = .ok (.aload_n 3, 1) := dk_45 (dk_at dksX0_coat_0 0 rfl rfl)
theorem dX0_coat_1 : decode cX0_coat 1 = .ok (.iconst 0, 1) := dk_3 (dk_at dksX0_coat_0 1 rfl rfl)
theorem dX0_coat_2 : decode cX0_coat 2 = .ok (.aload_n 0, 1) := dk_42 (dk_at dksX0_coat_0 2 rfl rfl)
theorem dX0_coat_3 : decode cX0_coat 3 = .ok (.iload_n 1, 1) := dk_27 (dk_at dksX0_coat_0 3 rfl rfl)
theorem dX0_coat_4 : decode cX0_coat 4 = .ok (.iload_n 2, 1) := dk_28 (dk_at dksX0_coat_0 4 rfl rfl)
theorem dX0_coat_5 : decode cX0_coat 5 = .ok (.invokevirtual 15, 3) := dk_182 0 15 (dk_at dksX0_coat_0 5 rfl rfl)
theorem dX0_coat_8 : decode cX0_coat 8 = .ok (.i2l, 1) := dk_133 (dk_at dksX0_coat_0 8 rfl rfl)
theorem dX0_coat_9 : decode cX0_coat 9 = .ok (.lastore, 1) := dk_80 (dk_at dksX0_coat_0 9 rfl rfl)
theorem dX0_coat_10 : decode cX0_coat 10 = .ok (.goto 7, 3) := dk_167 0 7 (dk_at dksX0_coat_0 10 rfl rfl)
theorem dX0_coat_13 : decode cX0_coat 13 = .ok (.astore 4, 2) := dk_58 4 (dk_at dksX0_coat_0 13 rfl rfl)
theorem dX0_coat_15 : decode cX0_coat 15 = .ok (.iconst 1, 1) := dk_4 (dk_at dksX0_coat_0 15 rfl rfl)
theorem dX0_coat_16 : decode cX0_coat 16 = .ok (.ireturn, 1) := dk_172 (dk_at dksX0_coat_0 16 rfl rfl)
theorem dX0_coat_17 : decode cX0_coat 17 = .ok (.iconst 0, 1) := dk_3 (dk_at dksX0_coat_0 17 rfl rfl)
theorem dX0_coat_18 : decode cX0_coat 18 = .ok (.ireturn, 1) := dk_172 (dk_at dksX0_coat_0 18 rfl rfl)
theorem se_HeldCoats_coat__II_I_HeldCoats : ∀ c ∈ ([0] : List Nat), ∃ q : vw_C, cz_cl[c]? = some q ∧ Cond.selects q.1 (⟨"HeldCoats", "coat", "(II)I"⟩ : MethodName) (⟨"HeldCoats", "coat", "(II)I"⟩ : MethodName) ∈ lw_all := List.forall_mem_cons.mpr ⟨⟨_, cz_cl0, q1865⟩, fun _ h => absurd h List.not_mem_nil⟩
theorem md_X1_coat : cz_md yX1_coat 3 (ws_ yX1_coat cX1_coat 3 ((Option.some Jvm.ClassFile.FieldType.int))) 2 := ⟨cz_ws_code q1866, q113, ⟨by decide, by decide, by decide +kernel⟩, by decide⟩
theorem cc_java_util_NoSuchElementException : ∀ c ∈ ([24] : List Nat), ∃ r : vw_C, cz_cl[c]? = some r ∧ Cond.castable r.1 "java/util/NoSuchElementException" ∈ lw_tbl := List.forall_mem_cons.mpr ⟨⟨_, cz_cl24, q1831⟩, fun _ h => absurd h List.not_mem_nil⟩
set_option maxHeartbeats 4000000 in
set_option maxRecDepth 100000 in
noncomputable def fn_X0_coat (l0 : Option Nat) (l1 : Int32) (l2 : Int32) (l3 : Option Nat) (h : cz_H) : cz_Z := cz_rc h l0 [0] (cz_xI (fn_X1_coat l0 l1 l2 h) (fun q8 h9 => cz_catch h9 q8 [24] (some (.inl (some (cz_i 1)), h9))) (fun x10 h7 => cz_last h7 l3 0 ((x10).toInt64) (fun h11 => some (.inl (some (cz_i 0)), h11))))
set_option maxHeartbeats 4000000 in
set_option maxRecDepth 100000 in
theorem wk_X0_coat {K : cz_K} {D : cz_D} {h0 : cz_H} {oh : cz_O × cz_H} {l0 : Option Nat} {l1 : Int32} {l2 : Int32} {l3 : Option Nat} {h : cz_H} (hfl : K.2.1.stackTraces = false) (S : cz_S K D h0 cX0_coat 5 "HeldCoatsLaw" ((Option.some Jvm.ClassFile.FieldType.int)) "coat" (tableOf [(0, 10, 13, 13)])) : cz_T K D 16 h0 oh 5 (fn_X0_coat l0 l1 l2 l3 h) h 0 [(0, cz_r l0), (1, cz_i l1), (2, cz_i l2), (3, cz_r l3)] [] := by
  unfold fn_X0_coat
  refine ct_aload_n (k := 3) S dX0_coat_0 rfl rfl ?_
  refine ct_iconst (v := 0) S dX0_coat_1 kI_0 ?_
  refine ct_aload_n (k := 0) S dX0_coat_2 rfl rfl ?_
  refine ct_iload_n (k := 1) S dX0_coat_3 rfl rfl ?_
  refine ct_iload_n (k := 2) S dX0_coat_4 rfl rfl ?_
  refine ct_rc (fun b1 ci2 V3 hb4 hc5 hi6 => ?_)
  refine ct_xI (st := [cz_i 0, cz_r l3]) (cg_virtual (av := [cz_i l1, cz_i l2]) S hb4 hc5 hi6 (fun _ e => mt_X1_coat hfl e) md_X1_coat q1863 q1864 se_HeldCoats_coat__II_I_HeldCoats (by decide) (Nat.le_of_ble_eq_true rfl) rfl dX0_coat_5) (fun q8 h9 => ?_) (fun x10 h7 => ?_)
  · refine ct_catch (hp := 13) S rfl rfl (by decide) rfl q1821 cc_java_util_NoSuchElementException ?_
    refine ct_astore (L' := [(4, cz_r (some q8)), (0, cz_r l0), (1, cz_i l1), (2, cz_i l2), (3, cz_r l3)]) S dX0_coat_13 (by decide) rfl ?_
    refine ct_iconst (v := 1) S dX0_coat_15 kI_1 ?_
    exact ct_iret S rfl dX0_coat_16
  · refine ct_i2l S dX0_coat_8 ?_
    refine ct_last S dX0_coat_9 (fun h11 => ?_)
    refine ct_goto (tgt := 17) S dX0_coat_10 (by decide) ?_
    refine ct_iconst (v := 0) S dX0_coat_17 kI_0 ?_
    exact ct_iret S rfl dX0_coat_18
theorem mt_X0_coat {l : Launch} {D : cz_D} {l0 : Option Nat} {l1 : Int32} {l2 : Int32} {l3 : Option Nat} {h : cz_H} {oh : cz_O × cz_H} (hfl : l.stackTraces = false) (hz : fn_X0_coat l0 l1 l2 l3 h = some oh) : cz_M l D yX0_coat (wsW_ yX0_coat cX0_coat 5 ((Option.some Jvm.ClassFile.FieldType.int)) [(0, 10, 13, 13)]) 16 [cz_r l0, cz_i l1, cz_i l2, cz_r l3] h oh := cz_metW (plainFor_of_name (by decide)) (Nat.le_of_ble_eq_true rfl) hz (fun K hl S => wk_X0_coat (by rw [hl]; exact hfl) S)
/-! HeldCoats$Capital.isMan(I)Z -/
def dkwX2_isMan_0 : List UInt8 := [27, 3, 42, 180, 0, 28, 182, 0, 41, 4, 100, 184, 0, 45, 172]
abbrev dktX2_isMan_0 : List UInt8 := dkwX2_isMan_0 ++ []
theorem dksX2_isMan_0 : cX2_isMan.data.toList.drop 0 = dktX2_isMan_0 := by decide +kernel
theorem dX2_isMan_0 : decode cX2_isMan 0 = .ok (.iload_n 1, 1) := dk_27 (dk_at dksX2_isMan_0 0 rfl rfl)
theorem dX2_isMan_1 : decode cX2_isMan 1 = .ok (.iconst 0, 1) := dk_3 (dk_at dksX2_isMan_0 1 rfl rfl)
theorem dX2_isMan_2 : decode cX2_isMan 2 = .ok (.aload_n 0, 1) := dk_42 (dk_at dksX2_isMan_0 2 rfl rfl)
theorem dX2_isMan_3 : decode cX2_isMan 3 = .ok (.getfield 28, 3) := dk_180 0 28 (dk_at dksX2_isMan_0 3 rfl rfl)
theorem dX2_isMan_6 : decode cX2_isMan 6 = .ok (.invokevirtual 41, 3) := dk_182 0 41 (dk_at dksX2_isMan_0 6 rfl rfl)
theorem dX2_isMan_9 : decode cX2_isMan 9 = .ok (.iconst 1, 1) := dk_4 (dk_at dksX2_isMan_0 9 rfl rfl)
theorem dX2_isMan_10 : decode cX2_isMan 10 = .ok (.isub, 1) := dk_100 (dk_at dksX2_isMan_0 10 rfl rfl)
theorem dX2_isMan_11 : decode cX2_isMan 11 = .ok (.invokestatic 45, 3) := dk_184 0 45 (dk_at dksX2_isMan_0 11 rfl rfl)
theorem dX2_isMan_14 : decode cX2_isMan 14 = .ok (.ireturn, 1) := dk_172 (dk_at dksX2_isMan_0 14 rfl rfl)
theorem fw_X2_28 : cz_FW "HeldCoats$Capital" 28 [(1, 7)] "Ljava/util/ArrayList;" := ⟨"HeldCoats$Capital", "men", Or.inl q224, List.forall_mem_cons.mpr ⟨⟨RX2, TX2, 11, rfl, by decide, rfl, rfl, Or.inl rfl⟩, fun _ h => absurd h List.not_mem_nil⟩, by decide⟩
set_option maxHeartbeats 4000000 in
set_option maxRecDepth 100000 in
noncomputable def fn_X2_isMan (l0 : Option Nat) (l1 : Int32) (h : cz_H) : cz_Z := cz_getR h l0 [(1, 7)] (fun r1 => cz_rc h r1 [2] (cz_cI (fn_J2_size r1 h) (fun x9 h8 => cz_cI (fn_X1_isIn l1 0 (x9 - 1) h8) (fun x11 h10 => cz_ckz x11 (some (.inl (some (cz_i x11)), h10))))))
set_option maxHeartbeats 4000000 in
set_option maxRecDepth 100000 in
theorem wk_X2_isMan {K : cz_K} {D : cz_D} {h0 : cz_H} {oh : cz_O × cz_H} {l0 : Option Nat} {l1 : Int32} {h : cz_H} (S : cz_S K D h0 cX2_isMan 2 "HeldCoats$Capital" ((Option.some Jvm.ClassFile.FieldType.boolean)) "isMan" ([])) : cz_T K D 3 h0 oh 2 (fn_X2_isMan l0 l1 h) h 0 [(0, cz_r l0), (1, cz_i l1)] [] := by
  unfold fn_X2_isMan
  refine ct_iload_n (k := 1) S dX2_isMan_0 rfl rfl ?_
  refine ct_iconst (v := 0) S dX2_isMan_1 kI_0 ?_
  refine ct_aload_n (k := 0) S dX2_isMan_2 rfl rfl ?_
  refine ct_getR S fw_X2_28 dX2_isMan_3 (fun r1 => ?_)
  refine ct_rc (fun b2 ci3 V4 hb5 hc6 hi7 => ?_)
  refine ct_cI (st := [cz_i 0, cz_i l1]) (cg_virtual (av := []) S hb5 hc6 hi7 (fun _ e => mt_J2_size e) md_J2_size q1090 q341 se_java_util_ArrayList_size___I_java_util_ArrayList (by decide) (Nat.le_of_ble_eq_true rfl) rfl dX2_isMan_6) (fun x9 h8 => ?_)
  refine ct_iconst (v := 1) S dX2_isMan_9 kI_1 ?_
  refine ct_isub S dX2_isMan_10 ?_
  refine ct_cI (st := []) (cg_static (av := [cz_i l1, cz_i 0, cz_i (x9 - 1)]) S (fun _ e => mt_X1_isIn e) md_X1_isIn (Or.inr ⟨_, q1091⟩) q929 (by decide) (Nat.le_of_ble_eq_true rfl) rfl dX2_isMan_11) (fun x11 h10 => ?_)
  refine ct_ckz (fun hx => ?_)
  exact ct_zr (ty := .boolean) S rfl (cz_nz hx) dX2_isMan_14
theorem mt_X2_isMan {l : Launch} {D : cz_D} {l0 : Option Nat} {l1 : Int32} {h : cz_H} {oh : cz_O × cz_H} (hz : fn_X2_isMan l0 l1 h = some oh) : cz_M l D yX2_isMan (ws_ yX2_isMan cX2_isMan 2 ((Option.some Jvm.ClassFile.FieldType.boolean))) 3 [cz_r l0, cz_i l1] h oh := cz_met (plainFor_of_name (by decide)) (Nat.le_of_ble_eq_true rfl) hz (fun K hl S => wk_X2_isMan S)
/-! HeldCoats.isMan(I)Z -/
def dkwX1_isMan_0 : List UInt8 := [42, 180, 0, 33, 27, 182, 0, 123, 172]
abbrev dktX1_isMan_0 : List UInt8 := dkwX1_isMan_0 ++ []
theorem dksX1_isMan_0 : cX1_isMan.data.toList.drop 0 = dktX1_isMan_0 := by decide +kernel
theorem dX1_isMan_0 : decode cX1_isMan 0 = .ok (.aload_n 0, 1) := dk_42 (dk_at dksX1_isMan_0 0 rfl rfl)
theorem dX1_isMan_1 : decode cX1_isMan 1 = .ok (.getfield 33, 3) := dk_180 0 33 (dk_at dksX1_isMan_0 1 rfl rfl)
theorem dX1_isMan_4 : decode cX1_isMan 4 = .ok (.iload_n 1, 1) := dk_27 (dk_at dksX1_isMan_0 4 rfl rfl)
theorem dX1_isMan_5 : decode cX1_isMan 5 = .ok (.invokevirtual 123, 3) := dk_182 0 123 (dk_at dksX1_isMan_0 5 rfl rfl)
theorem dX1_isMan_8 : decode cX1_isMan 8 = .ok (.ireturn, 1) := dk_172 (dk_at dksX1_isMan_0 8 rfl rfl)
theorem se_HeldCoats_Capital_isMan__I_Z_HeldCoats_Capital : ∀ c ∈ ([1] : List Nat), ∃ q : vw_C, cz_cl[c]? = some q ∧ Cond.selects q.1 (⟨"HeldCoats$Capital", "isMan", "(I)Z"⟩ : MethodName) (⟨"HeldCoats$Capital", "isMan", "(I)Z"⟩ : MethodName) ∈ lw_all := List.forall_mem_cons.mpr ⟨⟨_, cz_cl1, q1315⟩, fun _ h => absurd h List.not_mem_nil⟩
theorem md_X2_isMan : cz_md yX2_isMan 2 (ws_ yX2_isMan cX2_isMan 2 ((Option.some Jvm.ClassFile.FieldType.boolean))) 1 := ⟨cz_ws_code q1316, q114, ⟨by decide, by decide, by decide +kernel⟩, by decide⟩
set_option maxHeartbeats 4000000 in
set_option maxRecDepth 100000 in
noncomputable def fn_X1_isMan (l0 : Option Nat) (l1 : Int32) (h : cz_H) : cz_Z := cz_getR h l0 [(0, 3)] (fun r1 => cz_rc h r1 [1] (cz_cI (fn_X2_isMan r1 l1 h) (fun x9 h8 => cz_ckz x9 (some (.inl (some (cz_i x9)), h8)))))
set_option maxHeartbeats 4000000 in
set_option maxRecDepth 100000 in
theorem wk_X1_isMan {K : cz_K} {D : cz_D} {h0 : cz_H} {oh : cz_O × cz_H} {l0 : Option Nat} {l1 : Int32} {h : cz_H} (S : cz_S K D h0 cX1_isMan 2 "HeldCoats" ((Option.some Jvm.ClassFile.FieldType.boolean)) "isMan" ([])) : cz_T K D 4 h0 oh 2 (fn_X1_isMan l0 l1 h) h 0 [(0, cz_r l0), (1, cz_i l1)] [] := by
  unfold fn_X1_isMan
  refine ct_aload_n (k := 0) S dX1_isMan_0 rfl rfl ?_
  refine ct_getR S fw_X1_33 dX1_isMan_1 (fun r1 => ?_)
  refine ct_iload_n (k := 1) S dX1_isMan_4 rfl rfl ?_
  refine ct_rc (fun b2 ci3 V4 hb5 hc6 hi7 => ?_)
  refine ct_cI (st := []) (cg_virtual (av := [cz_i l1]) S hb5 hc6 hi7 (fun _ e => mt_X2_isMan e) md_X2_isMan q1313 q1314 se_HeldCoats_Capital_isMan__I_Z_HeldCoats_Capital (by decide) (Nat.le_of_ble_eq_true rfl) rfl dX1_isMan_5) (fun x9 h8 => ?_)
  refine ct_ckz (fun hx => ?_)
  exact ct_zr (ty := .boolean) S rfl (cz_nz hx) dX1_isMan_8
theorem mt_X1_isMan {l : Launch} {D : cz_D} {l0 : Option Nat} {l1 : Int32} {h : cz_H} {oh : cz_O × cz_H} (hz : fn_X1_isMan l0 l1 h = some oh) : cz_M l D yX1_isMan (ws_ yX1_isMan cX1_isMan 2 ((Option.some Jvm.ClassFile.FieldType.boolean))) 4 [cz_r l0, cz_i l1] h oh := cz_met (plainFor_of_name (by decide)) (Nat.le_of_ble_eq_true rfl) hz (fun K hl S => wk_X1_isMan S)
/-! HeldCoats$Capital.coatsOf(I)I -/
def dkwX2_coatsOf_1 : List UInt8 := [192, 0, 62, 180, 0, 64, 27, 160, 0, 9, 28, 4, 29, 120, 128, 61, 132, 3, 1, 167, 255, 218, 28, 172]
abbrev dktX2_coatsOf_1 : List UInt8 := dkwX2_coatsOf_1 ++ []
def dkwX2_coatsOf_0 : List UInt8 := [3, 61, 3, 62, 29, 42, 180, 0, 31, 182, 0, 41, 162, 0, 33, 42, 180, 0, 31, 29, 182, 0, 58]
abbrev dktX2_coatsOf_0 : List UInt8 := dkwX2_coatsOf_0 ++ dktX2_coatsOf_1
theorem dksX2_coatsOf_0 : cX2_coatsOf.data.toList.drop 0 = dktX2_coatsOf_0 := by decide +kernel
theorem dksX2_coatsOf_1 : cX2_coatsOf.data.toList.drop 23 = dktX2_coatsOf_1 := dk_seg dksX2_coatsOf_0 23 rfl rfl
theorem dX2_coatsOf_0 : decode cX2_coatsOf 0 = .ok (.iconst 0, 1) := dk_3 (dk_at dksX2_coatsOf_0 0 rfl rfl)
theorem dX2_coatsOf_1 : decode cX2_coatsOf 1 = .ok (.istore_n 2, 1) := dk_61 (dk_at dksX2_coatsOf_0 1 rfl rfl)
theorem dX2_coatsOf_2 : decode cX2_coatsOf 2 = .ok (.iconst 0, 1) := dk_3 (dk_at dksX2_coatsOf_0 2 rfl rfl)
theorem dX2_coatsOf_3 : decode cX2_coatsOf 3 = .ok (.istore_n 3, 1) := dk_62 (dk_at dksX2_coatsOf_0 3 rfl rfl)
theorem dX2_coatsOf_4 : decode cX2_coatsOf 4 = .ok (.iload_n 3, 1) := dk_29 (dk_at dksX2_coatsOf_0 4 rfl rfl)
theorem dX2_coatsOf_5 : decode cX2_coatsOf 5 = .ok (.aload_n 0, 1) := dk_42 (dk_at dksX2_coatsOf_0 5 rfl rfl)
theorem dX2_coatsOf_6 : decode cX2_coatsOf 6 = .ok (.getfield 31, 3) := dk_180 0 31 (dk_at dksX2_coatsOf_0 6 rfl rfl)
theorem dX2_coatsOf_9 : decode cX2_coatsOf 9 = .ok (.invokevirtual 41, 3) := dk_182 0 41 (dk_at dksX2_coatsOf_0 9 rfl rfl)
theorem dX2_coatsOf_12 : decode cX2_coatsOf 12 = .ok (.if_icmp .ge 33, 3) := dk_162 0 33 (dk_at dksX2_coatsOf_0 12 rfl rfl)
theorem dX2_coatsOf_15 : decode cX2_coatsOf 15 = .ok (.aload_n 0, 1) := dk_42 (dk_at dksX2_coatsOf_0 15 rfl rfl)
theorem dX2_coatsOf_16 : decode cX2_coatsOf 16 = .ok (.getfield 31, 3) := dk_180 0 31 (dk_at dksX2_coatsOf_0 16 rfl rfl)
theorem dX2_coatsOf_19 : decode cX2_coatsOf 19 = .ok (.iload_n 3, 1) := dk_29 (dk_at dksX2_coatsOf_0 19 rfl rfl)
theorem dX2_coatsOf_20 : decode cX2_coatsOf 20 = .ok (.invokevirtual 58, 3) := dk_182 0 58 (dk_at dksX2_coatsOf_0 20 rfl rfl)
theorem dX2_coatsOf_23 : decode cX2_coatsOf 23 = .ok (.checkcast 62, 3) := dk_192 0 62 (dk_at dksX2_coatsOf_1 0 rfl rfl)
theorem dX2_coatsOf_26 : decode cX2_coatsOf 26 = .ok (.getfield 64, 3) := dk_180 0 64 (dk_at dksX2_coatsOf_1 3 rfl rfl)
theorem dX2_coatsOf_29 : decode cX2_coatsOf 29 = .ok (.iload_n 1, 1) := dk_27 (dk_at dksX2_coatsOf_1 6 rfl rfl)
theorem dX2_coatsOf_30 : decode cX2_coatsOf 30 = .ok (.if_icmp .ne 9, 3) := dk_160 0 9 (dk_at dksX2_coatsOf_1 7 rfl rfl)
theorem dX2_coatsOf_33 : decode cX2_coatsOf 33 = .ok (.iload_n 2, 1) := dk_28 (dk_at dksX2_coatsOf_1 10 rfl rfl)
theorem dX2_coatsOf_34 : decode cX2_coatsOf 34 = .ok (.iconst 1, 1) := dk_4 (dk_at dksX2_coatsOf_1 11 rfl rfl)
theorem dX2_coatsOf_35 : decode cX2_coatsOf 35 = .ok (.iload_n 3, 1) := dk_29 (dk_at dksX2_coatsOf_1 12 rfl rfl)
theorem dX2_coatsOf_36 : decode cX2_coatsOf 36 = .ok (.ishl, 1) := dk_120 (dk_at dksX2_coatsOf_1 13 rfl rfl)
theorem dX2_coatsOf_37 : decode cX2_coatsOf 37 = .ok (.ior, 1) := dk_128 (dk_at dksX2_coatsOf_1 14 rfl rfl)
theorem dX2_coatsOf_38 : decode cX2_coatsOf 38 = .ok (.istore_n 2, 1) := dk_61 (dk_at dksX2_coatsOf_1 15 rfl rfl)
theorem dX2_coatsOf_39 : decode cX2_coatsOf 39 = .ok (.iinc 3 1, 3) := dk_132 3 1 (dk_at dksX2_coatsOf_1 16 rfl rfl)
theorem dX2_coatsOf_42 : decode cX2_coatsOf 42 = .ok (.goto (-38), 3) := dk_167 255 218 (dk_at dksX2_coatsOf_1 19 rfl rfl)
theorem dX2_coatsOf_45 : decode cX2_coatsOf 45 = .ok (.iload_n 2, 1) := dk_28 (dk_at dksX2_coatsOf_1 22 rfl rfl)
theorem dX2_coatsOf_46 : decode cX2_coatsOf 46 = .ok (.ireturn, 1) := dk_172 (dk_at dksX2_coatsOf_1 23 rfl rfl)
theorem fw_X2_64 : cz_FW "HeldCoats$Capital" 64 [(11, 1)] "I" := ⟨"HeldCoats$Coat", "man", Or.inr ⟨_, q1029⟩, List.forall_mem_cons.mpr ⟨⟨RX11, TX11, 4, rfl, by decide, rfl, rfl, Or.inl rfl⟩, fun _ h => absurd h List.not_mem_nil⟩, by decide⟩
set_option maxHeartbeats 4000000 in
set_option maxRecDepth 100000 in
noncomputable def fn_X2_coatsOf_4 (l0 : Option Nat) (l1 : Int32) (k0 : Int32 → cz_H → cz_Z) : Nat → Int32 → Int32 → cz_H → cz_Z
  | 0, _, _, _ => none
  | n + 1, l2, l3, h => cz_getR h l0 [(1, 8)] (fun r1 => cz_rc h r1 [2] (cz_cI (fn_J2_size r1 h) (fun x9 h8 => (if x9 ≤ l3 then k0 l2 h8 else cz_getR h8 l0 [(1, 8)] (fun r10 => cz_rc h8 r10 [2] (cz_cR (fn_J2_get r10 l3 h8) (fun r18 h17 => cz_cast h17 r18 [11] (cz_getI h17 r18 [(11, 1)] (fun x19 => (if x19 = l1 then cz_leti (l2 ||| ((1 : Int32) <<< (l3 &&& 31))) (fun x21 => cz_leti (l3 + 1) (fun x22 => fn_X2_coatsOf_4 l0 l1 k0 n x21 x22 h17)) else cz_leti (l3 + 1) (fun x20 => fn_X2_coatsOf_4 l0 l1 k0 n l2 x20 h17)))))))))))
set_option maxHeartbeats 4000000 in
set_option maxRecDepth 100000 in
theorem wk_X2_coatsOf_4 {K : cz_K} {D : cz_D} {h0 : cz_H} {oh : cz_O × cz_H} {l0 : Option Nat} {l1 : Int32} {k0 : Int32 → cz_H → cz_Z} (S : cz_S K D h0 cX2_coatsOf 4 "HeldCoats$Capital" ((Option.some Jvm.ClassFile.FieldType.int)) "coatsOf" ([])) (hk0 : ∀ (e2 : Int32) (h : cz_H), cz_T K D 5 h0 oh 4 (k0 e2 h) h 45 [(2, cz_i e2)] []) : ∀ (n : Nat) (l2 : Int32) (l3 : Int32) (h : cz_H), cz_T K D 5 h0 oh 4 (fn_X2_coatsOf_4 l0 l1 k0 n l2 l3 h) h 4 [(0, cz_r l0), (1, cz_i l1), (2, cz_i l2), (3, cz_i l3)] [] := by
  intro n
  induction n with
  | zero => intros; exact ct_none
  | succ n ih =>
    intro l2 l3 h
    rw [fn_X2_coatsOf_4]
    refine ct_iload_n (k := 3) S dX2_coatsOf_4 rfl rfl ?_
    refine ct_aload_n (k := 0) S dX2_coatsOf_5 rfl rfl ?_
    refine ct_getR S fw_X2_31 dX2_coatsOf_6 (fun r1 => ?_)
    refine ct_rc (fun b2 ci3 V4 hb5 hc6 hi7 => ?_)
    refine ct_cI (st := [cz_i l3]) (cg_virtual (av := []) S hb5 hc6 hi7 (fun _ e => mt_J2_size e) md_J2_size q1090 q341 se_java_util_ArrayList_size___I_java_util_ArrayList (by decide) (Nat.le_of_ble_eq_true rfl) rfl dX2_coatsOf_9) (fun x9 h8 => ?_)
    refine ct_icmp_ge (tgt := 45) S dX2_coatsOf_12 (by decide) ?_ ?_
    · exact ct_sub [2] rfl (hk0 l2 h8)
    · refine ct_aload_n (k := 0) S dX2_coatsOf_15 rfl rfl ?_
      refine ct_getR S fw_X2_31 dX2_coatsOf_16 (fun r10 => ?_)
      refine ct_iload_n (k := 3) S dX2_coatsOf_19 rfl rfl ?_
      refine ct_rc (fun b11 ci12 V13 hb14 hc15 hi16 => ?_)
      refine ct_cR (st := []) (cg_virtual (av := [cz_i l3]) S hb14 hc15 hi16 (fun _ e => mt_J2_get e) md_J2_get q1371 q345 se_java_util_ArrayList_get__I_Ljava_lang_Object__java_util_ArrayList (by decide) (Nat.le_of_ble_eq_true rfl) rfl dX2_coatsOf_20) (fun r18 h17 => ?_)
      refine ct_cast S q1372 ca_HeldCoats_Coat dX2_coatsOf_23 ?_
      refine ct_getI S fw_X2_64 dX2_coatsOf_26 (fun x19 => ?_)
      refine ct_iload_n (k := 1) S dX2_coatsOf_29 rfl rfl ?_
      refine ct_icmp_ne (tgt := 39) S dX2_coatsOf_30 (by decide) ?_ ?_
      · refine ct_iincL (j := 3) (L2 := fun x20 => [(3, cz_i x20), (0, cz_r l0), (1, cz_i l1), (2, cz_i l2)]) S dX2_coatsOf_39 rfl kI_1 (by decide) (fun _ => rfl) (fun x20 => ?_)
        refine ct_goto (tgt := 4) S dX2_coatsOf_42 (by decide) ?_
        exact ct_sub [1, 2, 3, 0] rfl (ih l2 x20 h17)
      · refine ct_iload_n (k := 2) S dX2_coatsOf_33 rfl rfl ?_
        refine ct_iconst (v := 1) S dX2_coatsOf_34 kI_1 ?_
        refine ct_iload_n (k := 3) S dX2_coatsOf_35 rfl rfl ?_
        refine ct_ishl S dX2_coatsOf_36 ?_
        refine ct_ior S dX2_coatsOf_37 ?_
        refine ct_leti (fun x21 => ?_)
        refine ct_istore_n (L' := [(2, cz_i x21), (0, cz_r l0), (1, cz_i l1), (3, cz_i l3)]) S dX2_coatsOf_38 rfl (by decide) rfl ?_
        refine ct_iincL (j := 3) (L2 := fun x22 => [(3, cz_i x22), (2, cz_i x21), (0, cz_r l0), (1, cz_i l1)]) S dX2_coatsOf_39 rfl kI_1 (by decide) (fun _ => rfl) (fun x22 => ?_)
        refine ct_goto (tgt := 4) S dX2_coatsOf_42 (by decide) ?_
        exact ct_sub [2, 3, 1, 0] rfl (ih x21 x22 h17)
set_option maxHeartbeats 4000000 in
set_option maxRecDepth 100000 in
noncomputable def fn_X2_coatsOf (l0 : Option Nat) (l1 : Int32) (h : cz_H) : cz_Z := fn_X2_coatsOf_4 l0 l1 (fun (e23 : Int32) (h24 : cz_H) => some (.inl (some (cz_i e23)), h24)) 1000 0 0 h
set_option maxHeartbeats 4000000 in
set_option maxRecDepth 100000 in
theorem wk_X2_coatsOf {K : cz_K} {D : cz_D} {h0 : cz_H} {oh : cz_O × cz_H} {l0 : Option Nat} {l1 : Int32} {h : cz_H} (S : cz_S K D h0 cX2_coatsOf 4 "HeldCoats$Capital" ((Option.some Jvm.ClassFile.FieldType.int)) "coatsOf" ([])) : cz_T K D 5 h0 oh 4 (fn_X2_coatsOf l0 l1 h) h 0 [(0, cz_r l0), (1, cz_i l1)] [] := by
  unfold fn_X2_coatsOf
  refine ct_iconst (v := 0) S dX2_coatsOf_0 kI_0 ?_
  refine ct_istore_n (L' := [(2, cz_i 0), (0, cz_r l0), (1, cz_i l1)]) S dX2_coatsOf_1 rfl (by decide) rfl ?_
  refine ct_iconst (v := 0) S dX2_coatsOf_2 kI_0 ?_
  refine ct_istore_n (L' := [(3, cz_i 0), (2, cz_i 0), (0, cz_r l0), (1, cz_i l1)]) S dX2_coatsOf_3 rfl (by decide) rfl ?_
  refine ct_sub [2, 3, 1, 0] (L' := [(0, cz_r l0), (1, cz_i l1), (2, cz_i 0), (3, cz_i 0)]) rfl (wk_X2_coatsOf_4 S ?_ 1000 0 0 h)
  · intro e23 h24
    refine ct_iload_n (k := 0) S dX2_coatsOf_45 rfl rfl ?_
    exact ct_iret S rfl dX2_coatsOf_46
theorem mt_X2_coatsOf {l : Launch} {D : cz_D} {l0 : Option Nat} {l1 : Int32} {h : cz_H} {oh : cz_O × cz_H} (hz : fn_X2_coatsOf l0 l1 h = some oh) : cz_M l D yX2_coatsOf (ws_ yX2_coatsOf cX2_coatsOf 4 ((Option.some Jvm.ClassFile.FieldType.int))) 5 [cz_r l0, cz_i l1] h oh := cz_met (plainFor_of_name (by decide)) (Nat.le_of_ble_eq_true rfl) hz (fun K hl S => wk_X2_coatsOf S)
/-! java/lang/Math.max(II)I -/
def dkwJ11_max_0 : List UInt8 := [26, 27, 161, 0, 7, 26, 167, 0, 4, 27, 172]
abbrev dktJ11_max_0 : List UInt8 := dkwJ11_max_0 ++ []
theorem dksJ11_max_0 : cJ11_max.data.toList.drop 0 = dktJ11_max_0 := by decide +kernel
theorem dJ11_max_0 : decode cJ11_max 0 = .ok (.iload_n 0, 1) := dk_26 (dk_at dksJ11_max_0 0 rfl rfl)
theorem dJ11_max_1 : decode cJ11_max 1 = .ok (.iload_n 1, 1) := dk_27 (dk_at dksJ11_max_0 1 rfl rfl)
theorem dJ11_max_2 : decode cJ11_max 2 = .ok (.if_icmp .lt 7, 3) := dk_161 0 7 (dk_at dksJ11_max_0 2 rfl rfl)
theorem dJ11_max_5 : decode cJ11_max 5 = .ok (.iload_n 0, 1) := dk_26 (dk_at dksJ11_max_0 5 rfl rfl)
theorem dJ11_max_6 : decode cJ11_max 6 = .ok (.goto 4, 3) := dk_167 0 4 (dk_at dksJ11_max_0 6 rfl rfl)
theorem dJ11_max_9 : decode cJ11_max 9 = .ok (.iload_n 1, 1) := dk_27 (dk_at dksJ11_max_0 9 rfl rfl)
theorem dJ11_max_10 : decode cJ11_max 10 = .ok (.ireturn, 1) := dk_172 (dk_at dksJ11_max_0 10 rfl rfl)
set_option maxHeartbeats 4000000 in
set_option maxRecDepth 100000 in
noncomputable def fn_J11_max (l0 : Int32) (l1 : Int32) (h : cz_H) : cz_Z := (if l0 < l1 then some (.inl (some (cz_i l1)), h) else some (.inl (some (cz_i l0)), h))
set_option maxHeartbeats 4000000 in
set_option maxRecDepth 100000 in
theorem wk_J11_max {K : cz_K} {D : cz_D} {h0 : cz_H} {oh : cz_O × cz_H} {l0 : Int32} {l1 : Int32} {h : cz_H} (S : cz_S K D h0 cJ11_max 2 "java/lang/Math" ((Option.some Jvm.ClassFile.FieldType.int)) "max" ([])) : cz_T K D 2 h0 oh 2 (fn_J11_max l0 l1 h) h 0 [(0, cz_i l0), (1, cz_i l1)] [] := by
  unfold fn_J11_max
  refine ct_iload_n (k := 0) S dJ11_max_0 rfl rfl ?_
  refine ct_iload_n (k := 1) S dJ11_max_1 rfl rfl ?_
  refine ct_icmp_lt (tgt := 9) S dJ11_max_2 (by decide) ?_ ?_
  · refine ct_iload_n (k := 1) S dJ11_max_9 rfl rfl ?_
    exact ct_iret S rfl dJ11_max_10
  · refine ct_iload_n (k := 0) S dJ11_max_5 rfl rfl ?_
    refine ct_goto (tgt := 10) S dJ11_max_6 (by decide) ?_
    exact ct_iret S rfl dJ11_max_10
theorem mt_J11_max {l : Launch} {D : cz_D} {l0 : Int32} {l1 : Int32} {h : cz_H} {oh : cz_O × cz_H} (hz : fn_J11_max l0 l1 h = some oh) : cz_M l D yJ11_max (ws_ yJ11_max cJ11_max 2 ((Option.some Jvm.ClassFile.FieldType.int))) 2 [cz_i l0, cz_i l1] h oh := cz_met (by decide +kernel) (Nat.le_of_ble_eq_true rfl) hz (fun K hl S => wk_J11_max S)
/-! HeldCoats$Capital.cold(I)I -/
def dkwX2_cold_2 : List UInt8 := [167, 255, 213, 28, 2, 160, 0, 7, 3, 167, 0, 9, 42, 180, 0, 38, 28, 46, 172]
abbrev dktX2_cold_2 : List UInt8 := dkwX2_cold_2 ++ []
def dkwX2_cold_1 : List UInt8 := [159, 0, 18, 42, 180, 0, 34, 29, 46, 42, 180, 0, 34, 28, 46, 164, 0, 5, 29, 61, 132, 3, 1]
abbrev dktX2_cold_1 : List UInt8 := dkwX2_cold_1 ++ dktX2_cold_2
def dkwX2_cold_0 : List UInt8 := [2, 61, 3, 62, 29, 42, 180, 0, 49, 162, 0, 41, 42, 180, 0, 34, 29, 46, 27, 163, 0, 25, 28, 2]
abbrev dktX2_cold_0 : List UInt8 := dkwX2_cold_0 ++ dktX2_cold_1
theorem dksX2_cold_0 : cX2_cold.data.toList.drop 0 = dktX2_cold_0 := by decide +kernel
theorem dksX2_cold_1 : cX2_cold.data.toList.drop 24 = dktX2_cold_1 := dk_seg dksX2_cold_0 24 rfl rfl
theorem dksX2_cold_2 : cX2_cold.data.toList.drop 47 = dktX2_cold_2 := dk_seg dksX2_cold_1 23 rfl rfl
theorem dX2_cold_0 : decode cX2_cold 0 = .ok (.iconst (-1), 1) := dk_2 (dk_at dksX2_cold_0 0 rfl rfl)
theorem dX2_cold_1 : decode cX2_cold 1 = .ok (.istore_n 2, 1) := dk_61 (dk_at dksX2_cold_0 1 rfl rfl)
theorem dX2_cold_2 : decode cX2_cold 2 = .ok (.iconst 0, 1) := dk_3 (dk_at dksX2_cold_0 2 rfl rfl)
theorem dX2_cold_3 : decode cX2_cold 3 = .ok (.istore_n 3, 1) := dk_62 (dk_at dksX2_cold_0 3 rfl rfl)
theorem dX2_cold_4 : decode cX2_cold 4 = .ok (.iload_n 3, 1) := dk_29 (dk_at dksX2_cold_0 4 rfl rfl)
theorem dX2_cold_5 : decode cX2_cold 5 = .ok (.aload_n 0, 1) := dk_42 (dk_at dksX2_cold_0 5 rfl rfl)
theorem dX2_cold_6 : decode cX2_cold 6 = .ok (.getfield 49, 3) := dk_180 0 49 (dk_at dksX2_cold_0 6 rfl rfl)
theorem dX2_cold_9 : decode cX2_cold 9 = .ok (.if_icmp .ge 41, 3) := dk_162 0 41 (dk_at dksX2_cold_0 9 rfl rfl)
theorem dX2_cold_12 : decode cX2_cold 12 = .ok (.aload_n 0, 1) := dk_42 (dk_at dksX2_cold_0 12 rfl rfl)
theorem dX2_cold_13 : decode cX2_cold 13 = .ok (.getfield 34, 3) := dk_180 0 34 (dk_at dksX2_cold_0 13 rfl rfl)
theorem dX2_cold_16 : decode cX2_cold 16 = .ok (.iload_n 3, 1) := dk_29 (dk_at dksX2_cold_0 16 rfl rfl)
theorem dX2_cold_17 : decode cX2_cold 17 = .ok (.iaload, 1) := dk_46 (dk_at dksX2_cold_0 17 rfl rfl)
theorem dX2_cold_18 : decode cX2_cold 18 = .ok (.iload_n 1, 1) := dk_27 (dk_at dksX2_cold_0 18 rfl rfl)
theorem dX2_cold_19 : decode cX2_cold 19 = .ok (.if_icmp .gt 25, 3) := dk_163 0 25 (dk_at dksX2_cold_0 19 rfl rfl)
theorem dX2_cold_22 : decode cX2_cold 22 = .ok (.iload_n 2, 1) := dk_28 (dk_at dksX2_cold_0 22 rfl rfl)
theorem dX2_cold_23 : decode cX2_cold 23 = .ok (.iconst (-1), 1) := dk_2 (dk_at dksX2_cold_0 23 rfl rfl)
theorem dX2_cold_24 : decode cX2_cold 24 = .ok (.if_icmp .eq 18, 3) := dk_159 0 18 (dk_at dksX2_cold_1 0 rfl rfl)
theorem dX2_cold_27 : decode cX2_cold 27 = .ok (.aload_n 0, 1) := dk_42 (dk_at dksX2_cold_1 3 rfl rfl)
theorem dX2_cold_28 : decode cX2_cold 28 = .ok (.getfield 34, 3) := dk_180 0 34 (dk_at dksX2_cold_1 4 rfl rfl)
theorem dX2_cold_31 : decode cX2_cold 31 = .ok (.iload_n 3, 1) := dk_29 (dk_at dksX2_cold_1 7 rfl rfl)
theorem dX2_cold_32 : decode cX2_cold 32 = .ok (.iaload, 1) := dk_46 (dk_at dksX2_cold_1 8 rfl rfl)
theorem dX2_cold_33 : decode cX2_cold 33 = .ok (.aload_n 0, 1) := dk_42 (dk_at dksX2_cold_1 9 rfl rfl)
theorem dX2_cold_34 : decode cX2_cold 34 = .ok (.getfield 34, 3) := dk_180 0 34 (dk_at dksX2_cold_1 10 rfl rfl)
theorem dX2_cold_37 : decode cX2_cold 37 = .ok (.iload_n 2, 1) := dk_28 (dk_at dksX2_cold_1 13 rfl rfl)
theorem dX2_cold_38 : decode cX2_cold 38 = .ok (.iaload, 1) := dk_46 (dk_at dksX2_cold_1 14 rfl rfl)
theorem dX2_cold_39 : decode cX2_cold 39 = .ok (.if_icmp .le 5, 3) := dk_164 0 5 (dk_at dksX2_cold_1 15 rfl rfl)
theorem dX2_cold_42 : decode cX2_cold 42 = .ok (.iload_n 3, 1) := dk_29 (dk_at dksX2_cold_1 18 rfl rfl)
theorem dX2_cold_43 : decode cX2_cold 43 = .ok (.istore_n 2, 1) := dk_61 (dk_at dksX2_cold_1 19 rfl rfl)
theorem dX2_cold_44 : decode cX2_cold 44 = .ok (.iinc 3 1, 3) := dk_132 3 1 (dk_at dksX2_cold_1 20 rfl rfl)
theorem dX2_cold_47 : decode cX2_cold 47 = .ok (.goto (-43), 3) := dk_167 255 213 (dk_at dksX2_cold_2 0 rfl rfl)
theorem dX2_cold_50 : decode cX2_cold 50 = .ok (.iload_n 2, 1) := dk_28 (dk_at dksX2_cold_2 3 rfl rfl)
theorem dX2_cold_51 : decode cX2_cold 51 = .ok (.iconst (-1), 1) := dk_2 (dk_at dksX2_cold_2 4 rfl rfl)
theorem dX2_cold_52 : decode cX2_cold 52 = .ok (.if_icmp .ne 7, 3) := dk_160 0 7 (dk_at dksX2_cold_2 5 rfl rfl)
theorem dX2_cold_55 : decode cX2_cold 55 = .ok (.iconst 0, 1) := dk_3 (dk_at dksX2_cold_2 8 rfl rfl)
theorem dX2_cold_56 : decode cX2_cold 56 = .ok (.goto 9, 3) := dk_167 0 9 (dk_at dksX2_cold_2 9 rfl rfl)
theorem dX2_cold_59 : decode cX2_cold 59 = .ok (.aload_n 0, 1) := dk_42 (dk_at dksX2_cold_2 12 rfl rfl)
theorem dX2_cold_60 : decode cX2_cold 60 = .ok (.getfield 38, 3) := dk_180 0 38 (dk_at dksX2_cold_2 13 rfl rfl)
theorem dX2_cold_63 : decode cX2_cold 63 = .ok (.iload_n 2, 1) := dk_28 (dk_at dksX2_cold_2 16 rfl rfl)
theorem dX2_cold_64 : decode cX2_cold 64 = .ok (.iaload, 1) := dk_46 (dk_at dksX2_cold_2 17 rfl rfl)
theorem dX2_cold_65 : decode cX2_cold 65 = .ok (.ireturn, 1) := dk_172 (dk_at dksX2_cold_2 18 rfl rfl)
theorem fw_X2_49 : cz_FW "HeldCoats$Capital" 49 [(1, 1)] "I" := ⟨"HeldCoats$Capital", "colds", Or.inl q202, List.forall_mem_cons.mpr ⟨⟨RX2, TX2, 11, rfl, by decide, rfl, rfl, Or.inl rfl⟩, fun _ h => absurd h List.not_mem_nil⟩, by decide⟩
theorem fw_X2_34 : cz_FW "HeldCoats$Capital" 34 [(1, 9)] "[I" := ⟨"HeldCoats$Capital", "coldFrom", Or.inl q236, List.forall_mem_cons.mpr ⟨⟨RX2, TX2, 11, rfl, by decide, rfl, rfl, Or.inl rfl⟩, fun _ h => absurd h List.not_mem_nil⟩, by decide⟩
theorem fw_X2_38 : cz_FW "HeldCoats$Capital" 38 [(1, 10)] "[I" := ⟨"HeldCoats$Capital", "cold", Or.inl q238, List.forall_mem_cons.mpr ⟨⟨RX2, TX2, 11, rfl, by decide, rfl, rfl, Or.inl rfl⟩, fun _ h => absurd h List.not_mem_nil⟩, by decide⟩
set_option maxHeartbeats 4000000 in
set_option maxRecDepth 100000 in
noncomputable def fn_X2_cold_4 (l0 : Option Nat) (l1 : Int32) (k0 : Int32 → cz_H → cz_Z) : Nat → Int32 → Int32 → cz_H → cz_Z
  | 0, _, _, _ => none
  | n + 1, l2, l3, h => cz_getI h l0 [(1, 1)] (fun x1 => (if x1 ≤ l3 then k0 l2 h else cz_getR h l0 [(1, 9)] (fun r2 => cz_iald h r2 l3 (fun x3 => (if l1 < x3 then cz_leti (l3 + 1) (fun x4 => fn_X2_cold_4 l0 l1 k0 n l2 x4 h) else (if l2 = (-1) then cz_leti (l3 + 1) (fun x5 => fn_X2_cold_4 l0 l1 k0 n l3 x5 h) else cz_getR h l0 [(1, 9)] (fun r6 => cz_iald h r6 l3 (fun x7 => cz_getR h l0 [(1, 9)] (fun r8 => cz_iald h r8 l2 (fun x9 => (if x7 ≤ x9 then cz_leti (l3 + 1) (fun x10 => fn_X2_cold_4 l0 l1 k0 n l2 x10 h) else cz_leti (l3 + 1) (fun x11 => fn_X2_cold_4 l0 l1 k0 n l3 x11 h))))))))))))
set_option maxHeartbeats 4000000 in
set_option maxRecDepth 100000 in
theorem wk_X2_cold_4 {K : cz_K} {D : cz_D} {h0 : cz_H} {oh : cz_O × cz_H} {l0 : Option Nat} {l1 : Int32} {k0 : Int32 → cz_H → cz_Z} (S : cz_S K D h0 cX2_cold 4 "HeldCoats$Capital" ((Option.some Jvm.ClassFile.FieldType.int)) "cold" ([])) (hk0 : ∀ (e2 : Int32) (h : cz_H), cz_T K D 2 h0 oh 4 (k0 e2 h) h 50 [(0, cz_r l0), (2, cz_i e2)] []) : ∀ (n : Nat) (l2 : Int32) (l3 : Int32) (h : cz_H), cz_T K D 2 h0 oh 4 (fn_X2_cold_4 l0 l1 k0 n l2 l3 h) h 4 [(0, cz_r l0), (1, cz_i l1), (2, cz_i l2), (3, cz_i l3)] [] := by
  intro n
  induction n with
  | zero => intros; exact ct_none
  | succ n ih =>
    intro l2 l3 h
    rw [fn_X2_cold_4]
    refine ct_iload_n (k := 3) S dX2_cold_4 rfl rfl ?_
    refine ct_aload_n (k := 0) S dX2_cold_5 rfl rfl ?_
    refine ct_getI S fw_X2_49 dX2_cold_6 (fun x1 => ?_)
    refine ct_icmp_ge (tgt := 50) S dX2_cold_9 (by decide) ?_ ?_
    · exact ct_sub [0, 2] rfl (hk0 l2 h)
    · refine ct_aload_n (k := 0) S dX2_cold_12 rfl rfl ?_
      refine ct_getR S fw_X2_34 dX2_cold_13 (fun r2 => ?_)
      refine ct_iload_n (k := 3) S dX2_cold_16 rfl rfl ?_
      refine ct_iald S dX2_cold_17 (fun x3 => ?_)
      refine ct_iload_n (k := 1) S dX2_cold_18 rfl rfl ?_
      refine ct_icmp_gt (tgt := 44) S dX2_cold_19 (by decide) ?_ ?_
      · refine ct_iincL (j := 3) (L2 := fun x4 => [(3, cz_i x4), (0, cz_r l0), (1, cz_i l1), (2, cz_i l2)]) S dX2_cold_44 rfl kI_1 (by decide) (fun _ => rfl) (fun x4 => ?_)
        refine ct_goto (tgt := 4) S dX2_cold_47 (by decide) ?_
        exact ct_sub [1, 2, 3, 0] rfl (ih l2 x4 h)
      · refine ct_iload_n (k := 2) S dX2_cold_22 rfl rfl ?_
        refine ct_iconst (v := (-1)) S dX2_cold_23 kI_m1 ?_
        refine ct_icmp_eq (tgt := 42) S dX2_cold_24 (by decide) ?_ ?_
        · refine ct_iload_n (k := 3) S dX2_cold_42 rfl rfl ?_
          refine ct_istore_n (L' := [(2, cz_i l3), (0, cz_r l0), (1, cz_i l1), (3, cz_i l3)]) S dX2_cold_43 rfl (by decide) rfl ?_
          refine ct_iincL (j := 3) (L2 := fun x5 => [(3, cz_i x5), (2, cz_i l3), (0, cz_r l0), (1, cz_i l1)]) S dX2_cold_44 rfl kI_1 (by decide) (fun _ => rfl) (fun x5 => ?_)
          refine ct_goto (tgt := 4) S dX2_cold_47 (by decide) ?_
          exact ct_sub [2, 3, 1, 0] rfl (ih l3 x5 h)
        · refine ct_aload_n (k := 0) S dX2_cold_27 rfl rfl ?_
          refine ct_getR S fw_X2_34 dX2_cold_28 (fun r6 => ?_)
          refine ct_iload_n (k := 3) S dX2_cold_31 rfl rfl ?_
          refine ct_iald S dX2_cold_32 (fun x7 => ?_)
          refine ct_aload_n (k := 0) S dX2_cold_33 rfl rfl ?_
          refine ct_getR S fw_X2_34 dX2_cold_34 (fun r8 => ?_)
          refine ct_iload_n (k := 2) S dX2_cold_37 rfl rfl ?_
          refine ct_iald S dX2_cold_38 (fun x9 => ?_)
          refine ct_icmp_le (tgt := 44) S dX2_cold_39 (by decide) ?_ ?_
          · refine ct_iincL (j := 3) (L2 := fun x10 => [(3, cz_i x10), (0, cz_r l0), (1, cz_i l1), (2, cz_i l2)]) S dX2_cold_44 rfl kI_1 (by decide) (fun _ => rfl) (fun x10 => ?_)
            refine ct_goto (tgt := 4) S dX2_cold_47 (by decide) ?_
            exact ct_sub [1, 2, 3, 0] rfl (ih l2 x10 h)
          · refine ct_iload_n (k := 3) S dX2_cold_42 rfl rfl ?_
            refine ct_istore_n (L' := [(2, cz_i l3), (0, cz_r l0), (1, cz_i l1), (3, cz_i l3)]) S dX2_cold_43 rfl (by decide) rfl ?_
            refine ct_iincL (j := 3) (L2 := fun x11 => [(3, cz_i x11), (2, cz_i l3), (0, cz_r l0), (1, cz_i l1)]) S dX2_cold_44 rfl kI_1 (by decide) (fun _ => rfl) (fun x11 => ?_)
            refine ct_goto (tgt := 4) S dX2_cold_47 (by decide) ?_
            exact ct_sub [2, 3, 1, 0] rfl (ih l3 x11 h)
set_option maxHeartbeats 4000000 in
set_option maxRecDepth 100000 in
noncomputable def fn_X2_cold (l0 : Option Nat) (l1 : Int32) (h : cz_H) : cz_Z := fn_X2_cold_4 l0 l1 (fun (e12 : Int32) (h13 : cz_H) => (if e12 = (-1) then some (.inl (some (cz_i 0)), h13) else cz_getR h13 l0 [(1, 10)] (fun r14 => cz_iald h13 r14 e12 (fun x15 => some (.inl (some (cz_i x15)), h13))))) 1000 (-1) 0 h
set_option maxHeartbeats 4000000 in
set_option maxRecDepth 100000 in
theorem wk_X2_cold {K : cz_K} {D : cz_D} {h0 : cz_H} {oh : cz_O × cz_H} {l0 : Option Nat} {l1 : Int32} {h : cz_H} (S : cz_S K D h0 cX2_cold 4 "HeldCoats$Capital" ((Option.some Jvm.ClassFile.FieldType.int)) "cold" ([])) : cz_T K D 2 h0 oh 4 (fn_X2_cold l0 l1 h) h 0 [(0, cz_r l0), (1, cz_i l1)] [] := by
  unfold fn_X2_cold
  refine ct_iconst (v := (-1)) S dX2_cold_0 kI_m1 ?_
  refine ct_istore_n (L' := [(2, cz_i (-1)), (0, cz_r l0), (1, cz_i l1)]) S dX2_cold_1 rfl (by decide) rfl ?_
  refine ct_iconst (v := 0) S dX2_cold_2 kI_0 ?_
  refine ct_istore_n (L' := [(3, cz_i 0), (2, cz_i (-1)), (0, cz_r l0), (1, cz_i l1)]) S dX2_cold_3 rfl (by decide) rfl ?_
  refine ct_sub [2, 3, 1, 0] (L' := [(0, cz_r l0), (1, cz_i l1), (2, cz_i (-1)), (3, cz_i 0)]) rfl (wk_X2_cold_4 S ?_ 1000 (-1) 0 h)
  · intro e12 h13
    refine ct_iload_n (k := 1) S dX2_cold_50 rfl rfl ?_
    refine ct_iconst (v := (-1)) S dX2_cold_51 kI_m1 ?_
    refine ct_icmp_ne (tgt := 59) S dX2_cold_52 (by decide) ?_ ?_
    · refine ct_aload_n (k := 0) S dX2_cold_59 rfl rfl ?_
      refine ct_getR S fw_X2_38 dX2_cold_60 (fun r14 => ?_)
      refine ct_iload_n (k := 1) S dX2_cold_63 rfl rfl ?_
      refine ct_iald S dX2_cold_64 (fun x15 => ?_)
      exact ct_iret S rfl dX2_cold_65
    · refine ct_iconst (v := 0) S dX2_cold_55 kI_0 ?_
      refine ct_goto (tgt := 65) S dX2_cold_56 (by decide) ?_
      exact ct_iret S rfl dX2_cold_65
theorem mt_X2_cold {l : Launch} {D : cz_D} {l0 : Option Nat} {l1 : Int32} {h : cz_H} {oh : cz_O × cz_H} (hz : fn_X2_cold l0 l1 h = some oh) : cz_M l D yX2_cold (ws_ yX2_cold cX2_cold 4 ((Option.some Jvm.ClassFile.FieldType.int))) 2 [cz_r l0, cz_i l1] h oh := cz_met (plainFor_of_name (by decide)) (Nat.le_of_ble_eq_true rfl) hz (fun K hl S => wk_X2_cold S)
/-! HeldCoats.isOf(II)Z -/
def dkwX1_isOf_0 : List UInt8 := [26, 27, 122, 4, 126, 4, 160, 0, 7, 4, 167, 0, 4, 3, 172]
abbrev dktX1_isOf_0 : List UInt8 := dkwX1_isOf_0 ++ []
theorem dksX1_isOf_0 : cX1_isOf.data.toList.drop 0 = dktX1_isOf_0 := by decide +kernel
theorem dX1_isOf_0 : decode cX1_isOf 0 = .ok (.iload_n 0, 1) := dk_26 (dk_at dksX1_isOf_0 0 rfl rfl)
theorem dX1_isOf_1 : decode cX1_isOf 1 = .ok (.iload_n 1, 1) := dk_27 (dk_at dksX1_isOf_0 1 rfl rfl)
theorem dX1_isOf_2 : decode cX1_isOf 2 = .ok (.ishr, 1) := dk_122 (dk_at dksX1_isOf_0 2 rfl rfl)
theorem dX1_isOf_3 : decode cX1_isOf 3 = .ok (.iconst 1, 1) := dk_4 (dk_at dksX1_isOf_0 3 rfl rfl)
theorem dX1_isOf_4 : decode cX1_isOf 4 = .ok (.iand, 1) := dk_126 (dk_at dksX1_isOf_0 4 rfl rfl)
theorem dX1_isOf_5 : decode cX1_isOf 5 = .ok (.iconst 1, 1) := dk_4 (dk_at dksX1_isOf_0 5 rfl rfl)
theorem dX1_isOf_6 : decode cX1_isOf 6 = .ok (.if_icmp .ne 7, 3) := dk_160 0 7 (dk_at dksX1_isOf_0 6 rfl rfl)
theorem dX1_isOf_9 : decode cX1_isOf 9 = .ok (.iconst 1, 1) := dk_4 (dk_at dksX1_isOf_0 9 rfl rfl)
theorem dX1_isOf_10 : decode cX1_isOf 10 = .ok (.goto 4, 3) := dk_167 0 4 (dk_at dksX1_isOf_0 10 rfl rfl)
theorem dX1_isOf_13 : decode cX1_isOf 13 = .ok (.iconst 0, 1) := dk_3 (dk_at dksX1_isOf_0 13 rfl rfl)
theorem dX1_isOf_14 : decode cX1_isOf 14 = .ok (.ireturn, 1) := dk_172 (dk_at dksX1_isOf_0 14 rfl rfl)
set_option maxHeartbeats 4000000 in
set_option maxRecDepth 100000 in
noncomputable def fn_X1_isOf (l0 : Int32) (l1 : Int32) (h : cz_H) : cz_Z := (if ((l0 >>> (l1 &&& 31)) &&& 1) = 1 then some (.inl (some (cz_i 1)), h) else some (.inl (some (cz_i 0)), h))
set_option maxHeartbeats 4000000 in
set_option maxRecDepth 100000 in
theorem wk_X1_isOf {K : cz_K} {D : cz_D} {h0 : cz_H} {oh : cz_O × cz_H} {l0 : Int32} {l1 : Int32} {h : cz_H} (S : cz_S K D h0 cX1_isOf 2 "HeldCoats" ((Option.some Jvm.ClassFile.FieldType.boolean)) "isOf" ([])) : cz_T K D 2 h0 oh 2 (fn_X1_isOf l0 l1 h) h 0 [(0, cz_i l0), (1, cz_i l1)] [] := by
  unfold fn_X1_isOf
  refine ct_iload_n (k := 0) S dX1_isOf_0 rfl rfl ?_
  refine ct_iload_n (k := 1) S dX1_isOf_1 rfl rfl ?_
  refine ct_ishr S dX1_isOf_2 ?_
  refine ct_iconst (v := 1) S dX1_isOf_3 kI_1 ?_
  refine ct_iand S dX1_isOf_4 ?_
  refine ct_iconst (v := 1) S dX1_isOf_5 kI_1 ?_
  refine ct_icmp_ne (tgt := 13) S dX1_isOf_6 (by decide) ?_ ?_
  · refine ct_iconst (v := 0) S dX1_isOf_13 kI_0 ?_
    exact ct_zr (ty := .boolean) S rfl rfl dX1_isOf_14
  · refine ct_iconst (v := 1) S dX1_isOf_9 kI_1 ?_
    refine ct_goto (tgt := 14) S dX1_isOf_10 (by decide) ?_
    exact ct_zr (ty := .boolean) S rfl rfl dX1_isOf_14
theorem mt_X1_isOf {l : Launch} {D : cz_D} {l0 : Int32} {l1 : Int32} {h : cz_H} {oh : cz_O × cz_H} (hz : fn_X1_isOf l0 l1 h = some oh) : cz_M l D yX1_isOf (ws_ yX1_isOf cX1_isOf 2 ((Option.some Jvm.ClassFile.FieldType.boolean))) 2 [cz_i l0, cz_i l1] h oh := cz_met (plainFor_of_name (by decide)) (Nat.le_of_ble_eq_true rfl) hz (fun K hl S => wk_X1_isOf S)
/-! HeldCoats$Reign.coats()I -/
def dkwX3_coats_0 : List UInt8 := [42, 180, 0, 33, 180, 0, 63, 182, 0, 91, 172]
abbrev dktX3_coats_0 : List UInt8 := dkwX3_coats_0 ++ []
theorem dksX3_coats_0 : cX3_coats.data.toList.drop 0 = dktX3_coats_0 := by decide +kernel
theorem dX3_coats_0 : decode cX3_coats 0 = .ok (.aload_n 0, 1) := dk_42 (dk_at dksX3_coats_0 0 rfl rfl)
theorem dX3_coats_1 : decode cX3_coats 1 = .ok (.getfield 33, 3) := dk_180 0 33 (dk_at dksX3_coats_0 1 rfl rfl)
theorem dX3_coats_4 : decode cX3_coats 4 = .ok (.getfield 63, 3) := dk_180 0 63 (dk_at dksX3_coats_0 4 rfl rfl)
theorem dX3_coats_7 : decode cX3_coats 7 = .ok (.invokevirtual 91, 3) := dk_182 0 91 (dk_at dksX3_coats_0 7 rfl rfl)
theorem dX3_coats_10 : decode cX3_coats 10 = .ok (.ireturn, 1) := dk_172 (dk_at dksX3_coats_0 10 rfl rfl)
theorem fw_X3_33 : cz_FW "HeldCoats$Reign" 33 [(3, 0)] "LHeldCoats$Capital;" := ⟨"HeldCoats$Reign", "c", Or.inl q270, List.forall_mem_cons.mpr ⟨⟨RX3, TX3, 14, rfl, by decide, rfl, rfl, Or.inl rfl⟩, fun _ h => absurd h List.not_mem_nil⟩, by decide⟩
theorem fw_X3_63 : cz_FW "HeldCoats$Reign" 63 [(1, 8)] "Ljava/util/ArrayList;" := ⟨"HeldCoats$Capital", "coats", Or.inr ⟨_, q231⟩, List.forall_mem_cons.mpr ⟨⟨RX2, TX2, 11, rfl, by decide, rfl, rfl, Or.inl rfl⟩, fun _ h => absurd h List.not_mem_nil⟩, by decide⟩
set_option maxHeartbeats 4000000 in
set_option maxRecDepth 100000 in
noncomputable def fn_X3_coats (l0 : Option Nat) (h : cz_H) : cz_Z := cz_getR h l0 [(3, 0)] (fun r1 => cz_getR h r1 [(1, 8)] (fun r2 => cz_rc h r2 [2] (cz_cI (fn_J2_size r2 h) (fun x10 h9 => some (.inl (some (cz_i x10)), h9)))))
set_option maxHeartbeats 4000000 in
set_option maxRecDepth 100000 in
theorem wk_X3_coats {K : cz_K} {D : cz_D} {h0 : cz_H} {oh : cz_O × cz_H} {l0 : Option Nat} {h : cz_H} (S : cz_S K D h0 cX3_coats 1 "HeldCoats$Reign" ((Option.some Jvm.ClassFile.FieldType.int)) "coats" ([])) : cz_T K D 3 h0 oh 1 (fn_X3_coats l0 h) h 0 [(0, cz_r l0)] [] := by
  unfold fn_X3_coats
  refine ct_aload_n (k := 0) S dX3_coats_0 rfl rfl ?_
  refine ct_getR S fw_X3_33 dX3_coats_1 (fun r1 => ?_)
  refine ct_getR S fw_X3_63 dX3_coats_4 (fun r2 => ?_)
  refine ct_rc (fun b3 ci4 V5 hb6 hc7 hi8 => ?_)
  refine ct_cI (st := []) (cg_virtual (av := []) S hb6 hc7 hi8 (fun _ e => mt_J2_size e) md_J2_size q340 q341 se_java_util_ArrayList_size___I_java_util_ArrayList (by decide) (Nat.le_of_ble_eq_true rfl) rfl dX3_coats_7) (fun x10 h9 => ?_)
  exact ct_iret S rfl dX3_coats_10
theorem mt_X3_coats {l : Launch} {D : cz_D} {l0 : Option Nat} {h : cz_H} {oh : cz_O × cz_H} (hz : fn_X3_coats l0 h = some oh) : cz_M l D yX3_coats (ws_ yX3_coats cX3_coats 1 ((Option.some Jvm.ClassFile.FieldType.int))) 3 [cz_r l0] h oh := cz_met (plainFor_of_name (by decide)) (Nat.le_of_ble_eq_true rfl) hz (fun K hl S => wk_X3_coats S)
/-! HeldCoats$Reign.warmth(I)I -/
def dkwX3_warmth_2 : List UInt8 := [28, 172]
abbrev dktX3_warmth_2 : List UInt8 := dkwX3_warmth_2 ++ []
def dkwX3_warmth_1 : List UInt8 := [180, 0, 33, 180, 0, 63, 29, 182, 0, 68, 192, 0, 74, 180, 0, 115, 96, 61, 132, 3, 1, 167, 255, 217]
abbrev dktX3_warmth_1 : List UInt8 := dkwX3_warmth_1 ++ dktX3_warmth_2
def dkwX3_warmth_0 : List UInt8 := [3, 61, 3, 62, 29, 42, 182, 0, 59, 162, 0, 37, 27, 29, 184, 0, 111, 153, 0, 23, 28, 42]
abbrev dktX3_warmth_0 : List UInt8 := dkwX3_warmth_0 ++ dktX3_warmth_1
theorem dksX3_warmth_0 : cX3_warmth.data.toList.drop 0 = dktX3_warmth_0 := by decide +kernel
theorem dksX3_warmth_1 : cX3_warmth.data.toList.drop 22 = dktX3_warmth_1 := dk_seg dksX3_warmth_0 22 rfl rfl
theorem dksX3_warmth_2 : cX3_warmth.data.toList.drop 46 = dktX3_warmth_2 := dk_seg dksX3_warmth_1 24 rfl rfl
theorem dX3_warmth_0 : decode cX3_warmth 0 = .ok (.iconst 0, 1) := dk_3 (dk_at dksX3_warmth_0 0 rfl rfl)
theorem dX3_warmth_1 : decode cX3_warmth 1 = .ok (.istore_n 2, 1) := dk_61 (dk_at dksX3_warmth_0 1 rfl rfl)
theorem dX3_warmth_2 : decode cX3_warmth 2 = .ok (.iconst 0, 1) := dk_3 (dk_at dksX3_warmth_0 2 rfl rfl)
theorem dX3_warmth_3 : decode cX3_warmth 3 = .ok (.istore_n 3, 1) := dk_62 (dk_at dksX3_warmth_0 3 rfl rfl)
theorem dX3_warmth_4 : decode cX3_warmth 4 = .ok (.iload_n 3, 1) := dk_29 (dk_at dksX3_warmth_0 4 rfl rfl)
theorem dX3_warmth_5 : decode cX3_warmth 5 = .ok (.aload_n 0, 1) := dk_42 (dk_at dksX3_warmth_0 5 rfl rfl)
theorem dX3_warmth_6 : decode cX3_warmth 6 = .ok (.invokevirtual 59, 3) := dk_182 0 59 (dk_at dksX3_warmth_0 6 rfl rfl)
theorem dX3_warmth_9 : decode cX3_warmth 9 = .ok (.if_icmp .ge 37, 3) := dk_162 0 37 (dk_at dksX3_warmth_0 9 rfl rfl)
theorem dX3_warmth_12 : decode cX3_warmth 12 = .ok (.iload_n 1, 1) := dk_27 (dk_at dksX3_warmth_0 12 rfl rfl)
theorem dX3_warmth_13 : decode cX3_warmth 13 = .ok (.iload_n 3, 1) := dk_29 (dk_at dksX3_warmth_0 13 rfl rfl)
theorem dX3_warmth_14 : decode cX3_warmth 14 = .ok (.invokestatic 111, 3) := dk_184 0 111 (dk_at dksX3_warmth_0 14 rfl rfl)
theorem dX3_warmth_17 : decode cX3_warmth 17 = .ok (.ifCond .eq 23, 3) := dk_153 0 23 (dk_at dksX3_warmth_0 17 rfl rfl)
theorem dX3_warmth_20 : decode cX3_warmth 20 = .ok (.iload_n 2, 1) := dk_28 (dk_at dksX3_warmth_0 20 rfl rfl)
theorem dX3_warmth_21 : decode cX3_warmth 21 = .ok (.aload_n 0, 1) := dk_42 (dk_at dksX3_warmth_0 21 rfl rfl)
theorem dX3_warmth_22 : decode cX3_warmth 22 = .ok (.getfield 33, 3) := dk_180 0 33 (dk_at dksX3_warmth_1 0 rfl rfl)
theorem dX3_warmth_25 : decode cX3_warmth 25 = .ok (.getfield 63, 3) := dk_180 0 63 (dk_at dksX3_warmth_1 3 rfl rfl)
theorem dX3_warmth_28 : decode cX3_warmth 28 = .ok (.iload_n 3, 1) := dk_29 (dk_at dksX3_warmth_1 6 rfl rfl)
theorem dX3_warmth_29 : decode cX3_warmth 29 = .ok (.invokevirtual 68, 3) := dk_182 0 68 (dk_at dksX3_warmth_1 7 rfl rfl)
theorem dX3_warmth_32 : decode cX3_warmth 32 = .ok (.checkcast 74, 3) := dk_192 0 74 (dk_at dksX3_warmth_1 10 rfl rfl)
theorem dX3_warmth_35 : decode cX3_warmth 35 = .ok (.getfield 115, 3) := dk_180 0 115 (dk_at dksX3_warmth_1 13 rfl rfl)
theorem dX3_warmth_38 : decode cX3_warmth 38 = .ok (.iadd, 1) := dk_96 (dk_at dksX3_warmth_1 16 rfl rfl)
theorem dX3_warmth_39 : decode cX3_warmth 39 = .ok (.istore_n 2, 1) := dk_61 (dk_at dksX3_warmth_1 17 rfl rfl)
theorem dX3_warmth_40 : decode cX3_warmth 40 = .ok (.iinc 3 1, 3) := dk_132 3 1 (dk_at dksX3_warmth_1 18 rfl rfl)
theorem dX3_warmth_43 : decode cX3_warmth 43 = .ok (.goto (-39), 3) := dk_167 255 217 (dk_at dksX3_warmth_1 21 rfl rfl)
theorem dX3_warmth_46 : decode cX3_warmth 46 = .ok (.iload_n 2, 1) := dk_28 (dk_at dksX3_warmth_2 0 rfl rfl)
theorem dX3_warmth_47 : decode cX3_warmth 47 = .ok (.ireturn, 1) := dk_172 (dk_at dksX3_warmth_2 1 rfl rfl)
theorem fw_X3_115 : cz_FW "HeldCoats$Reign" 115 [(11, 2)] "I" := ⟨"HeldCoats$Coat", "warmth", Or.inr ⟨_, q1032⟩, List.forall_mem_cons.mpr ⟨⟨RX11, TX11, 4, rfl, by decide, rfl, rfl, Or.inl rfl⟩, fun _ h => absurd h List.not_mem_nil⟩, by decide⟩
theorem se_HeldCoats_Reign_coats___I_HeldCoats_Reign : ∀ c ∈ ([3] : List Nat), ∃ q : vw_C, cz_cl[c]? = some q ∧ Cond.selects q.1 (⟨"HeldCoats$Reign", "coats", "()I"⟩ : MethodName) (⟨"HeldCoats$Reign", "coats", "()I"⟩ : MethodName) ∈ lw_all := List.forall_mem_cons.mpr ⟨⟨_, cz_cl3, q338⟩, fun _ h => absurd h List.not_mem_nil⟩
theorem md_X3_coats : cz_md yX3_coats 1 (ws_ yX3_coats cX3_coats 1 ((Option.some Jvm.ClassFile.FieldType.int))) 0 := ⟨cz_ws_code q339, q118, ⟨by decide, by decide, by decide +kernel⟩, by decide⟩
theorem md_X1_isOf : cz_md yX1_isOf 2 (ws_ yX1_isOf cX1_isOf 2 ((Option.some Jvm.ClassFile.FieldType.boolean))) 2 := ⟨cz_ws_code q1060, q113, ⟨by decide, by decide, by decide +kernel⟩, by decide⟩
set_option maxHeartbeats 4000000 in
set_option maxRecDepth 100000 in
noncomputable def fn_X3_warmth_4 (l0 : Option Nat) (l1 : Int32) (k0 : Int32 → cz_H → cz_Z) : Nat → Int32 → Int32 → cz_H → cz_Z
  | 0, _, _, _ => none
  | n + 1, l2, l3, h => cz_rc h l0 [3] (cz_cI (fn_X3_coats l0 h) (fun x8 h7 => (if x8 ≤ l3 then k0 l2 h7 else cz_cI (fn_X1_isOf l1 l3 h7) (fun x10 h9 => (if x10 = 0 then cz_leti (l3 + 1) (fun x11 => fn_X3_warmth_4 l0 l1 k0 n l2 x11 h9) else cz_getR h9 l0 [(3, 0)] (fun r12 => cz_getR h9 r12 [(1, 8)] (fun r13 => cz_rc h9 r13 [2] (cz_cR (fn_J2_get r13 l3 h9) (fun r21 h20 => cz_cast h20 r21 [11] (cz_getI h20 r21 [(11, 2)] (fun x22 => cz_leti (l2 + x22) (fun x23 => cz_leti (l3 + 1) (fun x24 => fn_X3_warmth_4 l0 l1 k0 n x23 x24 h20)))))))))))))
set_option maxHeartbeats 4000000 in
set_option maxRecDepth 100000 in
theorem wk_X3_warmth_4 {K : cz_K} {D : cz_D} {h0 : cz_H} {oh : cz_O × cz_H} {l0 : Option Nat} {l1 : Int32} {k0 : Int32 → cz_H → cz_Z} (S : cz_S K D h0 cX3_warmth 4 "HeldCoats$Reign" ((Option.some Jvm.ClassFile.FieldType.int)) "warmth" ([])) (hk0 : ∀ (e2 : Int32) (h : cz_H), cz_T K D 5 h0 oh 4 (k0 e2 h) h 46 [(2, cz_i e2)] []) : ∀ (n : Nat) (l2 : Int32) (l3 : Int32) (h : cz_H), cz_T K D 5 h0 oh 4 (fn_X3_warmth_4 l0 l1 k0 n l2 l3 h) h 4 [(0, cz_r l0), (1, cz_i l1), (2, cz_i l2), (3, cz_i l3)] [] := by
  intro n
  induction n with
  | zero => intros; exact ct_none
  | succ n ih =>
    intro l2 l3 h
    rw [fn_X3_warmth_4]
    refine ct_iload_n (k := 3) S dX3_warmth_4 rfl rfl ?_
    refine ct_aload_n (k := 0) S dX3_warmth_5 rfl rfl ?_
    refine ct_rc (fun b1 ci2 V3 hb4 hc5 hi6 => ?_)
    refine ct_cI (st := [cz_i l3]) (cg_virtual (av := []) S hb4 hc5 hi6 (fun _ e => mt_X3_coats e) md_X3_coats q336 q337 se_HeldCoats_Reign_coats___I_HeldCoats_Reign (by decide) (Nat.le_of_ble_eq_true rfl) rfl dX3_warmth_6) (fun x8 h7 => ?_)
    refine ct_icmp_ge (tgt := 46) S dX3_warmth_9 (by decide) ?_ ?_
    · exact ct_sub [2] rfl (hk0 l2 h7)
    · refine ct_iload_n (k := 1) S dX3_warmth_12 rfl rfl ?_
      refine ct_iload_n (k := 3) S dX3_warmth_13 rfl rfl ?_
      refine ct_cI (st := []) (cg_static (av := [cz_i l1, cz_i l3]) S (fun _ e => mt_X1_isOf e) md_X1_isOf (Or.inr ⟨_, q1234⟩) q1059 (by decide) (Nat.le_of_ble_eq_true rfl) rfl dX3_warmth_14) (fun x10 h9 => ?_)
      refine ct_if_eq (tgt := 40) S dX3_warmth_17 (by decide) ?_ ?_
      · refine ct_iincL (j := 3) (L2 := fun x11 => [(3, cz_i x11), (0, cz_r l0), (1, cz_i l1), (2, cz_i l2)]) S dX3_warmth_40 rfl kI_1 (by decide) (fun _ => rfl) (fun x11 => ?_)
        refine ct_goto (tgt := 4) S dX3_warmth_43 (by decide) ?_
        exact ct_sub [1, 2, 3, 0] rfl (ih l2 x11 h9)
      · refine ct_iload_n (k := 2) S dX3_warmth_20 rfl rfl ?_
        refine ct_aload_n (k := 0) S dX3_warmth_21 rfl rfl ?_
        refine ct_getR S fw_X3_33 dX3_warmth_22 (fun r12 => ?_)
        refine ct_getR S fw_X3_63 dX3_warmth_25 (fun r13 => ?_)
        refine ct_iload_n (k := 3) S dX3_warmth_28 rfl rfl ?_
        refine ct_rc (fun b14 ci15 V16 hb17 hc18 hi19 => ?_)
        refine ct_cR (st := [cz_i l2]) (cg_virtual (av := [cz_i l3]) S hb17 hc18 hi19 (fun _ e => mt_J2_get e) md_J2_get q344 q345 se_java_util_ArrayList_get__I_Ljava_lang_Object__java_util_ArrayList (by decide) (Nat.le_of_ble_eq_true rfl) rfl dX3_warmth_29) (fun r21 h20 => ?_)
        refine ct_cast S q358 ca_HeldCoats_Coat dX3_warmth_32 ?_
        refine ct_getI S fw_X3_115 dX3_warmth_35 (fun x22 => ?_)
        refine ct_iadd S dX3_warmth_38 ?_
        refine ct_leti (fun x23 => ?_)
        refine ct_istore_n (L' := [(2, cz_i x23), (0, cz_r l0), (1, cz_i l1), (3, cz_i l3)]) S dX3_warmth_39 rfl (by decide) rfl ?_
        refine ct_iincL (j := 3) (L2 := fun x24 => [(3, cz_i x24), (2, cz_i x23), (0, cz_r l0), (1, cz_i l1)]) S dX3_warmth_40 rfl kI_1 (by decide) (fun _ => rfl) (fun x24 => ?_)
        refine ct_goto (tgt := 4) S dX3_warmth_43 (by decide) ?_
        exact ct_sub [2, 3, 1, 0] rfl (ih x23 x24 h20)
set_option maxHeartbeats 4000000 in
set_option maxRecDepth 100000 in
noncomputable def fn_X3_warmth (l0 : Option Nat) (l1 : Int32) (h : cz_H) : cz_Z := fn_X3_warmth_4 l0 l1 (fun (e25 : Int32) (h26 : cz_H) => some (.inl (some (cz_i e25)), h26)) 1000 0 0 h
set_option maxHeartbeats 4000000 in
set_option maxRecDepth 100000 in
theorem wk_X3_warmth {K : cz_K} {D : cz_D} {h0 : cz_H} {oh : cz_O × cz_H} {l0 : Option Nat} {l1 : Int32} {h : cz_H} (S : cz_S K D h0 cX3_warmth 4 "HeldCoats$Reign" ((Option.some Jvm.ClassFile.FieldType.int)) "warmth" ([])) : cz_T K D 5 h0 oh 4 (fn_X3_warmth l0 l1 h) h 0 [(0, cz_r l0), (1, cz_i l1)] [] := by
  unfold fn_X3_warmth
  refine ct_iconst (v := 0) S dX3_warmth_0 kI_0 ?_
  refine ct_istore_n (L' := [(2, cz_i 0), (0, cz_r l0), (1, cz_i l1)]) S dX3_warmth_1 rfl (by decide) rfl ?_
  refine ct_iconst (v := 0) S dX3_warmth_2 kI_0 ?_
  refine ct_istore_n (L' := [(3, cz_i 0), (2, cz_i 0), (0, cz_r l0), (1, cz_i l1)]) S dX3_warmth_3 rfl (by decide) rfl ?_
  refine ct_sub [2, 3, 1, 0] (L' := [(0, cz_r l0), (1, cz_i l1), (2, cz_i 0), (3, cz_i 0)]) rfl (wk_X3_warmth_4 S ?_ 1000 0 0 h)
  · intro e25 h26
    refine ct_iload_n (k := 0) S dX3_warmth_46 rfl rfl ?_
    exact ct_iret S rfl dX3_warmth_47
theorem mt_X3_warmth {l : Launch} {D : cz_D} {l0 : Option Nat} {l1 : Int32} {h : cz_H} {oh : cz_O × cz_H} (hz : fn_X3_warmth l0 l1 h = some oh) : cz_M l D yX3_warmth (ws_ yX3_warmth cX3_warmth 4 ((Option.some Jvm.ClassFile.FieldType.int))) 5 [cz_r l0, cz_i l1] h oh := cz_met (plainFor_of_name (by decide)) (Nat.le_of_ble_eq_true rfl) hz (fun K hl S => wk_X3_warmth S)
/-! HeldCoats$Reign.chill(III)I -/
def dkwX3_chill_1 : List UInt8 := [180, 0, 123, 100, 42, 28, 182, 0, 126, 100, 184, 0, 128, 172]
abbrev dktX3_chill_1 : List UInt8 := dkwX3_chill_1 ++ []
def dkwX3_chill_0 : List UInt8 := [3, 42, 180, 0, 33, 29, 182, 0, 118, 42, 180, 0, 33, 180, 0, 94, 27, 182, 0, 68, 192, 0, 121]
abbrev dktX3_chill_0 : List UInt8 := dkwX3_chill_0 ++ dktX3_chill_1
theorem dksX3_chill_0 : cX3_chill.data.toList.drop 0 = dktX3_chill_0 := by decide +kernel
theorem dksX3_chill_1 : cX3_chill.data.toList.drop 23 = dktX3_chill_1 := dk_seg dksX3_chill_0 23 rfl rfl
theorem dX3_chill_0 : decode cX3_chill 0 = .ok (.iconst 0, 1) := dk_3 (dk_at dksX3_chill_0 0 rfl rfl)
theorem dX3_chill_1 : decode cX3_chill 1 = .ok (.aload_n 0, 1) := dk_42 (dk_at dksX3_chill_0 1 rfl rfl)
theorem dX3_chill_2 : decode cX3_chill 2 = .ok (.getfield 33, 3) := dk_180 0 33 (dk_at dksX3_chill_0 2 rfl rfl)
theorem dX3_chill_5 : decode cX3_chill 5 = .ok (.iload_n 3, 1) := dk_29 (dk_at dksX3_chill_0 5 rfl rfl)
theorem dX3_chill_6 : decode cX3_chill 6 = .ok (.invokevirtual 118, 3) := dk_182 0 118 (dk_at dksX3_chill_0 6 rfl rfl)
theorem dX3_chill_9 : decode cX3_chill 9 = .ok (.aload_n 0, 1) := dk_42 (dk_at dksX3_chill_0 9 rfl rfl)
theorem dX3_chill_10 : decode cX3_chill 10 = .ok (.getfield 33, 3) := dk_180 0 33 (dk_at dksX3_chill_0 10 rfl rfl)
theorem dX3_chill_13 : decode cX3_chill 13 = .ok (.getfield 94, 3) := dk_180 0 94 (dk_at dksX3_chill_0 13 rfl rfl)
theorem dX3_chill_16 : decode cX3_chill 16 = .ok (.iload_n 1, 1) := dk_27 (dk_at dksX3_chill_0 16 rfl rfl)
theorem dX3_chill_17 : decode cX3_chill 17 = .ok (.invokevirtual 68, 3) := dk_182 0 68 (dk_at dksX3_chill_0 17 rfl rfl)
theorem dX3_chill_20 : decode cX3_chill 20 = .ok (.checkcast 121, 3) := dk_192 0 121 (dk_at dksX3_chill_0 20 rfl rfl)
theorem dX3_chill_23 : decode cX3_chill 23 = .ok (.getfield 123, 3) := dk_180 0 123 (dk_at dksX3_chill_1 0 rfl rfl)
theorem dX3_chill_26 : decode cX3_chill 26 = .ok (.isub, 1) := dk_100 (dk_at dksX3_chill_1 3 rfl rfl)
theorem dX3_chill_27 : decode cX3_chill 27 = .ok (.aload_n 0, 1) := dk_42 (dk_at dksX3_chill_1 4 rfl rfl)
theorem dX3_chill_28 : decode cX3_chill 28 = .ok (.iload_n 2, 1) := dk_28 (dk_at dksX3_chill_1 5 rfl rfl)
theorem dX3_chill_29 : decode cX3_chill 29 = .ok (.invokevirtual 126, 3) := dk_182 0 126 (dk_at dksX3_chill_1 6 rfl rfl)
theorem dX3_chill_32 : decode cX3_chill 32 = .ok (.isub, 1) := dk_100 (dk_at dksX3_chill_1 9 rfl rfl)
theorem dX3_chill_33 : decode cX3_chill 33 = .ok (.invokestatic 128, 3) := dk_184 0 128 (dk_at dksX3_chill_1 10 rfl rfl)
theorem dX3_chill_36 : decode cX3_chill 36 = .ok (.ireturn, 1) := dk_172 (dk_at dksX3_chill_1 13 rfl rfl)
theorem se_HeldCoats_Capital_cold__I_I_HeldCoats_Capital : ∀ c ∈ ([1] : List Nat), ∃ q : vw_C, cz_cl[c]? = some q ∧ Cond.selects q.1 (⟨"HeldCoats$Capital", "cold", "(I)I"⟩ : MethodName) (⟨"HeldCoats$Capital", "cold", "(I)I"⟩ : MethodName) ∈ lw_all := List.forall_mem_cons.mpr ⟨⟨_, cz_cl1, q1108⟩, fun _ h => absurd h List.not_mem_nil⟩
theorem md_X2_cold : cz_md yX2_cold 4 (ws_ yX2_cold cX2_cold 4 ((Option.some Jvm.ClassFile.FieldType.int))) 1 := ⟨cz_ws_code q1109, q114, ⟨by decide, by decide, by decide +kernel⟩, by decide⟩
theorem fw_X3_94 : cz_FW "HeldCoats$Reign" 94 [(1, 7)] "Ljava/util/ArrayList;" := ⟨"HeldCoats$Capital", "men", Or.inr ⟨_, q228⟩, List.forall_mem_cons.mpr ⟨⟨RX2, TX2, 11, rfl, by decide, rfl, rfl, Or.inl rfl⟩, fun _ h => absurd h List.not_mem_nil⟩, by decide⟩
theorem ca_HeldCoats_Told : cz_cs [10] "HeldCoats$Told" := List.forall_mem_cons.mpr ⟨⟨_, cz_cl10, Or.inl rfl⟩, fun _ h => absurd h List.not_mem_nil⟩
theorem fw_X3_123 : cz_FW "HeldCoats$Reign" 123 [(10, 1)] "I" := ⟨"HeldCoats$Told", "number", Or.inr ⟨_, q941⟩, List.forall_mem_cons.mpr ⟨⟨RX10, TX10, 2, rfl, by decide, rfl, rfl, Or.inl rfl⟩, fun _ h => absurd h List.not_mem_nil⟩, by decide⟩
theorem se_HeldCoats_Reign_warmth__I_I_HeldCoats_Reign : ∀ c ∈ ([3] : List Nat), ∃ q : vw_C, cz_cl[c]? = some q ∧ Cond.selects q.1 (⟨"HeldCoats$Reign", "warmth", "(I)I"⟩ : MethodName) (⟨"HeldCoats$Reign", "warmth", "(I)I"⟩ : MethodName) ∈ lw_all := List.forall_mem_cons.mpr ⟨⟨_, cz_cl3, q1232⟩, fun _ h => absurd h List.not_mem_nil⟩
theorem md_X3_warmth : cz_md yX3_warmth 4 (ws_ yX3_warmth cX3_warmth 4 ((Option.some Jvm.ClassFile.FieldType.int))) 1 := ⟨cz_ws_code q1233, q118, ⟨by decide, by decide, by decide +kernel⟩, by decide⟩
theorem md_J11_max : cz_md yJ11_max 2 (ws_ yJ11_max cJ11_max 2 ((Option.some Jvm.ClassFile.FieldType.int))) 2 := ⟨cz_ws_code q583, q131, ⟨by decide, by decide, by decide +kernel⟩, by decide⟩
set_option maxHeartbeats 4000000 in
set_option maxRecDepth 100000 in
noncomputable def fn_X3_chill (l0 : Option Nat) (l1 : Int32) (l2 : Int32) (l3 : Int32) (h : cz_H) : cz_Z := cz_getR h l0 [(3, 0)] (fun r1 => cz_rc h r1 [1] (cz_cI (fn_X2_cold r1 l3 h) (fun x9 h8 => cz_getR h8 l0 [(3, 0)] (fun r10 => cz_getR h8 r10 [(1, 7)] (fun r11 => cz_rc h8 r11 [2] (cz_cR (fn_J2_get r11 l1 h8) (fun r19 h18 => cz_cast h18 r19 [10] (cz_getI h18 r19 [(10, 1)] (fun x20 => cz_rc h18 l0 [3] (cz_cI (fn_X3_warmth l0 l2 h18) (fun x28 h27 => cz_cI (fn_J11_max 0 ((x9 - x20) - x28) h27) (fun x30 h29 => some (.inl (some (cz_i x30)), h29)))))))))))))
set_option maxHeartbeats 4000000 in
set_option maxRecDepth 100000 in
theorem wk_X3_chill {K : cz_K} {D : cz_D} {h0 : cz_H} {oh : cz_O × cz_H} {l0 : Option Nat} {l1 : Int32} {l2 : Int32} {l3 : Int32} {h : cz_H} (S : cz_S K D h0 cX3_chill 4 "HeldCoats$Reign" ((Option.some Jvm.ClassFile.FieldType.int)) "chill" ([])) : cz_T K D 6 h0 oh 4 (fn_X3_chill l0 l1 l2 l3 h) h 0 [(0, cz_r l0), (1, cz_i l1), (2, cz_i l2), (3, cz_i l3)] [] := by
  unfold fn_X3_chill
  refine ct_iconst (v := 0) S dX3_chill_0 kI_0 ?_
  refine ct_aload_n (k := 0) S dX3_chill_1 rfl rfl ?_
  refine ct_getR S fw_X3_33 dX3_chill_2 (fun r1 => ?_)
  refine ct_iload_n (k := 3) S dX3_chill_5 rfl rfl ?_
  refine ct_rc (fun b2 ci3 V4 hb5 hc6 hi7 => ?_)
  refine ct_cI (st := [cz_i 0]) (cg_virtual (av := [cz_i l3]) S hb5 hc6 hi7 (fun _ e => mt_X2_cold e) md_X2_cold q1229 q1107 se_HeldCoats_Capital_cold__I_I_HeldCoats_Capital (by decide) (Nat.le_of_ble_eq_true rfl) rfl dX3_chill_6) (fun x9 h8 => ?_)
  refine ct_aload_n (k := 0) S dX3_chill_9 rfl rfl ?_
  refine ct_getR S fw_X3_33 dX3_chill_10 (fun r10 => ?_)
  refine ct_getR S fw_X3_94 dX3_chill_13 (fun r11 => ?_)
  refine ct_iload_n (k := 1) S dX3_chill_16 rfl rfl ?_
  refine ct_rc (fun b12 ci13 V14 hb15 hc16 hi17 => ?_)
  refine ct_cR (st := [cz_i x9, cz_i 0]) (cg_virtual (av := [cz_i l1]) S hb15 hc16 hi17 (fun _ e => mt_J2_get e) md_J2_get q344 q345 se_java_util_ArrayList_get__I_Ljava_lang_Object__java_util_ArrayList (by decide) (Nat.le_of_ble_eq_true rfl) rfl dX3_chill_17) (fun r19 h18 => ?_)
  refine ct_cast S q1137 ca_HeldCoats_Told dX3_chill_20 ?_
  refine ct_getI S fw_X3_123 dX3_chill_23 (fun x20 => ?_)
  refine ct_isub S dX3_chill_26 ?_
  refine ct_aload_n (k := 0) S dX3_chill_27 rfl rfl ?_
  refine ct_iload_n (k := 2) S dX3_chill_28 rfl rfl ?_
  refine ct_rc (fun b21 ci22 V23 hb24 hc25 hi26 => ?_)
  refine ct_cI (st := [cz_i (x9 - x20), cz_i 0]) (cg_virtual (av := [cz_i l2]) S hb24 hc25 hi26 (fun _ e => mt_X3_warmth e) md_X3_warmth q1230 q1231 se_HeldCoats_Reign_warmth__I_I_HeldCoats_Reign (by decide) (Nat.le_of_ble_eq_true rfl) rfl dX3_chill_29) (fun x28 h27 => ?_)
  refine ct_isub S dX3_chill_32 ?_
  refine ct_cI (st := []) (cg_static (av := [cz_i 0, cz_i ((x9 - x20) - x28)]) S (fun _ e => mt_J11_max e) md_J11_max (Or.inl q1235) q582 (by decide) (Nat.le_of_ble_eq_true rfl) rfl dX3_chill_33) (fun x30 h29 => ?_)
  exact ct_iret S rfl dX3_chill_36
theorem mt_X3_chill {l : Launch} {D : cz_D} {l0 : Option Nat} {l1 : Int32} {l2 : Int32} {l3 : Int32} {h : cz_H} {oh : cz_O × cz_H} (hz : fn_X3_chill l0 l1 l2 l3 h = some oh) : cz_M l D yX3_chill (ws_ yX3_chill cX3_chill 4 ((Option.some Jvm.ClassFile.FieldType.int))) 6 [cz_r l0, cz_i l1, cz_i l2, cz_i l3] h oh := cz_met (plainFor_of_name (by decide)) (Nat.le_of_ble_eq_true rfl) hz (fun K hl S => wk_X3_chill S)
/-! HeldCoats$Capital.isSummer(I)Z -/
def dkwX2_isSummer_0 : List UInt8 := [42, 27, 182, 0, 52, 42, 180, 0, 55, 162, 0, 7, 4, 167, 0, 4, 3, 172]
abbrev dktX2_isSummer_0 : List UInt8 := dkwX2_isSummer_0 ++ []
theorem dksX2_isSummer_0 : cX2_isSummer.data.toList.drop 0 = dktX2_isSummer_0 := by decide +kernel
theorem dX2_isSummer_0 : decode cX2_isSummer 0 = .ok (.aload_n 0, 1) := dk_42 (dk_at dksX2_isSummer_0 0 rfl rfl)
theorem dX2_isSummer_1 : decode cX2_isSummer 1 = .ok (.iload_n 1, 1) := dk_27 (dk_at dksX2_isSummer_0 1 rfl rfl)
theorem dX2_isSummer_2 : decode cX2_isSummer 2 = .ok (.invokevirtual 52, 3) := dk_182 0 52 (dk_at dksX2_isSummer_0 2 rfl rfl)
theorem dX2_isSummer_5 : decode cX2_isSummer 5 = .ok (.aload_n 0, 1) := dk_42 (dk_at dksX2_isSummer_0 5 rfl rfl)
theorem dX2_isSummer_6 : decode cX2_isSummer 6 = .ok (.getfield 55, 3) := dk_180 0 55 (dk_at dksX2_isSummer_0 6 rfl rfl)
theorem dX2_isSummer_9 : decode cX2_isSummer 9 = .ok (.if_icmp .ge 7, 3) := dk_162 0 7 (dk_at dksX2_isSummer_0 9 rfl rfl)
theorem dX2_isSummer_12 : decode cX2_isSummer 12 = .ok (.iconst 1, 1) := dk_4 (dk_at dksX2_isSummer_0 12 rfl rfl)
theorem dX2_isSummer_13 : decode cX2_isSummer 13 = .ok (.goto 4, 3) := dk_167 0 4 (dk_at dksX2_isSummer_0 13 rfl rfl)
theorem dX2_isSummer_16 : decode cX2_isSummer 16 = .ok (.iconst 0, 1) := dk_3 (dk_at dksX2_isSummer_0 16 rfl rfl)
theorem dX2_isSummer_17 : decode cX2_isSummer 17 = .ok (.ireturn, 1) := dk_172 (dk_at dksX2_isSummer_0 17 rfl rfl)
theorem fw_X2_55 : cz_FW "HeldCoats$Capital" 55 [(1, 2)] "I" := ⟨"HeldCoats$Capital", "summer", Or.inl q205, List.forall_mem_cons.mpr ⟨⟨RX2, TX2, 11, rfl, by decide, rfl, rfl, Or.inl rfl⟩, fun _ h => absurd h List.not_mem_nil⟩, by decide⟩
set_option maxHeartbeats 4000000 in
set_option maxRecDepth 100000 in
noncomputable def fn_X2_isSummer (l0 : Option Nat) (l1 : Int32) (h : cz_H) : cz_Z := cz_rc h l0 [1] (cz_cI (fn_X2_cold l0 l1 h) (fun x8 h7 => cz_getI h7 l0 [(1, 2)] (fun x9 => (if x9 ≤ x8 then some (.inl (some (cz_i 0)), h7) else some (.inl (some (cz_i 1)), h7)))))
set_option maxHeartbeats 4000000 in
set_option maxRecDepth 100000 in
theorem wk_X2_isSummer {K : cz_K} {D : cz_D} {h0 : cz_H} {oh : cz_O × cz_H} {l0 : Option Nat} {l1 : Int32} {h : cz_H} (S : cz_S K D h0 cX2_isSummer 2 "HeldCoats$Capital" ((Option.some Jvm.ClassFile.FieldType.boolean)) "isSummer" ([])) : cz_T K D 3 h0 oh 2 (fn_X2_isSummer l0 l1 h) h 0 [(0, cz_r l0), (1, cz_i l1)] [] := by
  unfold fn_X2_isSummer
  refine ct_aload_n (k := 0) S dX2_isSummer_0 rfl rfl ?_
  refine ct_iload_n (k := 1) S dX2_isSummer_1 rfl rfl ?_
  refine ct_rc (fun b1 ci2 V3 hb4 hc5 hi6 => ?_)
  refine ct_cI (st := []) (cg_virtual (av := [cz_i l1]) S hb4 hc5 hi6 (fun _ e => mt_X2_cold e) md_X2_cold q1106 q1107 se_HeldCoats_Capital_cold__I_I_HeldCoats_Capital (by decide) (Nat.le_of_ble_eq_true rfl) rfl dX2_isSummer_2) (fun x8 h7 => ?_)
  refine ct_aload_n (k := 0) S dX2_isSummer_5 rfl rfl ?_
  refine ct_getI S fw_X2_55 dX2_isSummer_6 (fun x9 => ?_)
  refine ct_icmp_ge (tgt := 16) S dX2_isSummer_9 (by decide) ?_ ?_
  · refine ct_iconst (v := 0) S dX2_isSummer_16 kI_0 ?_
    exact ct_zr (ty := .boolean) S rfl rfl dX2_isSummer_17
  · refine ct_iconst (v := 1) S dX2_isSummer_12 kI_1 ?_
    refine ct_goto (tgt := 17) S dX2_isSummer_13 (by decide) ?_
    exact ct_zr (ty := .boolean) S rfl rfl dX2_isSummer_17
theorem mt_X2_isSummer {l : Launch} {D : cz_D} {l0 : Option Nat} {l1 : Int32} {h : cz_H} {oh : cz_O × cz_H} (hz : fn_X2_isSummer l0 l1 h = some oh) : cz_M l D yX2_isSummer (ws_ yX2_isSummer cX2_isSummer 2 ((Option.some Jvm.ClassFile.FieldType.boolean))) 3 [cz_r l0, cz_i l1] h oh := cz_met (plainFor_of_name (by decide)) (Nat.le_of_ble_eq_true rfl) hz (fun K hl S => wk_X2_isSummer S)
/-! HeldCoats$Reign.on(I)I -/
def dkwX3_on_1 : List UInt8 := [172, 132, 2, 1, 167, 255, 230, 2, 172]
abbrev dktX3_on_1 : List UInt8 := dkwX3_on_1 ++ []
def dkwX3_on_0 : List UInt8 := [3, 61, 28, 42, 182, 0, 59, 162, 0, 24, 42, 180, 0, 9, 28, 46, 16, 10, 27, 96, 160, 0, 5, 28]
abbrev dktX3_on_0 : List UInt8 := dkwX3_on_0 ++ dktX3_on_1
theorem dksX3_on_0 : cX3_on.data.toList.drop 0 = dktX3_on_0 := by decide +kernel
theorem dksX3_on_1 : cX3_on.data.toList.drop 24 = dktX3_on_1 := dk_seg dksX3_on_0 24 rfl rfl
theorem dX3_on_0 : decode cX3_on 0 = .ok (.iconst 0, 1) := dk_3 (dk_at dksX3_on_0 0 rfl rfl)
theorem dX3_on_1 : decode cX3_on 1 = .ok (.istore_n 2, 1) := dk_61 (dk_at dksX3_on_0 1 rfl rfl)
theorem dX3_on_2 : decode cX3_on 2 = .ok (.iload_n 2, 1) := dk_28 (dk_at dksX3_on_0 2 rfl rfl)
theorem dX3_on_3 : decode cX3_on 3 = .ok (.aload_n 0, 1) := dk_42 (dk_at dksX3_on_0 3 rfl rfl)
theorem dX3_on_4 : decode cX3_on 4 = .ok (.invokevirtual 59, 3) := dk_182 0 59 (dk_at dksX3_on_0 4 rfl rfl)
theorem dX3_on_7 : decode cX3_on 7 = .ok (.if_icmp .ge 24, 3) := dk_162 0 24 (dk_at dksX3_on_0 7 rfl rfl)
theorem dX3_on_10 : decode cX3_on 10 = .ok (.aload_n 0, 1) := dk_42 (dk_at dksX3_on_0 10 rfl rfl)
theorem dX3_on_11 : decode cX3_on 11 = .ok (.getfield 9, 3) := dk_180 0 9 (dk_at dksX3_on_0 11 rfl rfl)
theorem dX3_on_14 : decode cX3_on 14 = .ok (.iload_n 2, 1) := dk_28 (dk_at dksX3_on_0 14 rfl rfl)
theorem dX3_on_15 : decode cX3_on 15 = .ok (.iaload, 1) := dk_46 (dk_at dksX3_on_0 15 rfl rfl)
theorem dX3_on_16 : decode cX3_on 16 = .ok (.bipush 10, 2) := dk_16 10 (dk_at dksX3_on_0 16 rfl rfl)
theorem dX3_on_18 : decode cX3_on 18 = .ok (.iload_n 1, 1) := dk_27 (dk_at dksX3_on_0 18 rfl rfl)
theorem dX3_on_19 : decode cX3_on 19 = .ok (.iadd, 1) := dk_96 (dk_at dksX3_on_0 19 rfl rfl)
theorem dX3_on_20 : decode cX3_on 20 = .ok (.if_icmp .ne 5, 3) := dk_160 0 5 (dk_at dksX3_on_0 20 rfl rfl)
theorem dX3_on_23 : decode cX3_on 23 = .ok (.iload_n 2, 1) := dk_28 (dk_at dksX3_on_0 23 rfl rfl)
theorem dX3_on_24 : decode cX3_on 24 = .ok (.ireturn, 1) := dk_172 (dk_at dksX3_on_1 0 rfl rfl)
theorem dX3_on_25 : decode cX3_on 25 = .ok (.iinc 2 1, 3) := dk_132 2 1 (dk_at dksX3_on_1 1 rfl rfl)
theorem dX3_on_28 : decode cX3_on 28 = .ok (.goto (-26), 3) := dk_167 255 230 (dk_at dksX3_on_1 4 rfl rfl)
theorem dX3_on_31 : decode cX3_on 31 = .ok (.iconst (-1), 1) := dk_2 (dk_at dksX3_on_1 7 rfl rfl)
theorem dX3_on_32 : decode cX3_on 32 = .ok (.ireturn, 1) := dk_172 (dk_at dksX3_on_1 8 rfl rfl)
theorem fw_X3_9 : cz_FW "HeldCoats$Reign" 9 [(3, 6)] "[I" := ⟨"HeldCoats$Reign", "at", Or.inl q283, List.forall_mem_cons.mpr ⟨⟨RX3, TX3, 14, rfl, by decide, rfl, rfl, Or.inl rfl⟩, fun _ h => absurd h List.not_mem_nil⟩, by decide⟩
set_option maxHeartbeats 4000000 in
set_option maxRecDepth 100000 in
noncomputable def fn_X3_on_2 (l0 : Option Nat) (l1 : Int32) (k0 : Int32 → cz_H → cz_Z) (k1 : cz_H → cz_Z) : Nat → Int32 → cz_H → cz_Z
  | 0, _, _ => none
  | n + 1, l2, h => cz_rc h l0 [3] (cz_cI (fn_X3_coats l0 h) (fun x8 h7 => (if x8 ≤ l2 then k1 h7 else cz_getR h7 l0 [(3, 6)] (fun r9 => cz_iald h7 r9 l2 (fun x10 => (if x10 = ((10 : Int32) + l1) then k0 l2 h7 else cz_leti (l2 + 1) (fun x11 => fn_X3_on_2 l0 l1 k0 k1 n x11 h7)))))))
set_option maxHeartbeats 4000000 in
set_option maxRecDepth 100000 in
theorem wk_X3_on_2 {K : cz_K} {D : cz_D} {h0 : cz_H} {oh : cz_O × cz_H} {l0 : Option Nat} {l1 : Int32} {k0 : Int32 → cz_H → cz_Z} {k1 : cz_H → cz_Z} (S : cz_S K D h0 cX3_on 3 "HeldCoats$Reign" ((Option.some Jvm.ClassFile.FieldType.int)) "on" ([])) (hk0 : ∀ (e2 : Int32) (h : cz_H), cz_T K D 4 h0 oh 3 (k0 e2 h) h 23 [(2, cz_i e2)] []) (hk1 : ∀ (h : cz_H), cz_T K D 4 h0 oh 3 (k1 h) h 31 [] []) : ∀ (n : Nat) (l2 : Int32) (h : cz_H), cz_T K D 4 h0 oh 3 (fn_X3_on_2 l0 l1 k0 k1 n l2 h) h 2 [(0, cz_r l0), (1, cz_i l1), (2, cz_i l2)] [] := by
  intro n
  induction n with
  | zero => intros; exact ct_none
  | succ n ih =>
    intro l2 h
    rw [fn_X3_on_2]
    refine ct_iload_n (k := 2) S dX3_on_2 rfl rfl ?_
    refine ct_aload_n (k := 0) S dX3_on_3 rfl rfl ?_
    refine ct_rc (fun b1 ci2 V3 hb4 hc5 hi6 => ?_)
    refine ct_cI (st := [cz_i l2]) (cg_virtual (av := []) S hb4 hc5 hi6 (fun _ e => mt_X3_coats e) md_X3_coats q336 q337 se_HeldCoats_Reign_coats___I_HeldCoats_Reign (by decide) (Nat.le_of_ble_eq_true rfl) rfl dX3_on_4) (fun x8 h7 => ?_)
    refine ct_icmp_ge (tgt := 31) S dX3_on_7 (by decide) ?_ ?_
    · exact ct_sub [] rfl (hk1 h7)
    · refine ct_aload_n (k := 0) S dX3_on_10 rfl rfl ?_
      refine ct_getR S fw_X3_9 dX3_on_11 (fun r9 => ?_)
      refine ct_iload_n (k := 2) S dX3_on_14 rfl rfl ?_
      refine ct_iald S dX3_on_15 (fun x10 => ?_)
      refine ct_bipush (v := 10) S dX3_on_16 kB_10 ?_
      refine ct_iload_n (k := 1) S dX3_on_18 rfl rfl ?_
      refine ct_iadd S dX3_on_19 ?_
      refine ct_icmp_ne (tgt := 25) S dX3_on_20 (by decide) ?_ ?_
      · refine ct_iincL (j := 2) (L2 := fun x11 => [(2, cz_i x11), (0, cz_r l0), (1, cz_i l1)]) S dX3_on_25 rfl kI_1 (by decide) (fun _ => rfl) (fun x11 => ?_)
        refine ct_goto (tgt := 2) S dX3_on_28 (by decide) ?_
        exact ct_sub [1, 2, 0] rfl (ih x11 h7)
      · exact ct_sub [2] rfl (hk0 l2 h7)
set_option maxHeartbeats 4000000 in
set_option maxRecDepth 100000 in
noncomputable def fn_X3_on (l0 : Option Nat) (l1 : Int32) (h : cz_H) : cz_Z := fn_X3_on_2 l0 l1 (fun (e12 : Int32) (h13 : cz_H) => some (.inl (some (cz_i e12)), h13)) (fun (h14 : cz_H) => some (.inl (some (cz_i (-1))), h14)) 1000 0 h
set_option maxHeartbeats 4000000 in
set_option maxRecDepth 100000 in
theorem wk_X3_on {K : cz_K} {D : cz_D} {h0 : cz_H} {oh : cz_O × cz_H} {l0 : Option Nat} {l1 : Int32} {h : cz_H} (S : cz_S K D h0 cX3_on 3 "HeldCoats$Reign" ((Option.some Jvm.ClassFile.FieldType.int)) "on" ([])) : cz_T K D 4 h0 oh 3 (fn_X3_on l0 l1 h) h 0 [(0, cz_r l0), (1, cz_i l1)] [] := by
  unfold fn_X3_on
  refine ct_iconst (v := 0) S dX3_on_0 kI_0 ?_
  refine ct_istore_n (L' := [(2, cz_i 0), (0, cz_r l0), (1, cz_i l1)]) S dX3_on_1 rfl (by decide) rfl ?_
  refine ct_sub [1, 2, 0] (L' := [(0, cz_r l0), (1, cz_i l1), (2, cz_i 0)]) rfl (wk_X3_on_2 S ?_ ?_ 1000 0 h)
  · intro e12 h13
    refine ct_iload_n (k := 0) S dX3_on_23 rfl rfl ?_
    exact ct_iret S rfl dX3_on_24
  · intro h14
    refine ct_iconst (v := (-1)) S dX3_on_31 kI_m1 ?_
    exact ct_iret S rfl dX3_on_32
theorem mt_X3_on {l : Launch} {D : cz_D} {l0 : Option Nat} {l1 : Int32} {h : cz_H} {oh : cz_O × cz_H} (hz : fn_X3_on l0 l1 h = some oh) : cz_M l D yX3_on (ws_ yX3_on cX3_on 3 ((Option.some Jvm.ClassFile.FieldType.int))) 4 [cz_r l0, cz_i l1] h oh := cz_met (plainFor_of_name (by decide)) (Nat.le_of_ble_eq_true rfl) hz (fun K hl S => wk_X3_on S)
/-! HeldCoats$Reign.owner(I)I -/
def dkwX3_owner_1 : List UInt8 := [182, 0, 100, 182, 0, 68, 192, 0, 74, 180, 0, 76, 172]
abbrev dktX3_owner_1 : List UInt8 := dkwX3_owner_1 ++ []
def dkwX3_owner_0 : List UInt8 := [42, 27, 182, 0, 100, 2, 160, 0, 7, 2, 167, 0, 24, 42, 180, 0, 33, 180, 0, 63, 42, 27]
abbrev dktX3_owner_0 : List UInt8 := dkwX3_owner_0 ++ dktX3_owner_1
theorem dksX3_owner_0 : cX3_owner.data.toList.drop 0 = dktX3_owner_0 := by decide +kernel
theorem dksX3_owner_1 : cX3_owner.data.toList.drop 22 = dktX3_owner_1 := dk_seg dksX3_owner_0 22 rfl rfl
theorem dX3_owner_0 : decode cX3_owner 0 = .ok (.aload_n 0, 1) := dk_42 (dk_at dksX3_owner_0 0 rfl rfl)
theorem dX3_owner_1 : decode cX3_owner 1 = .ok (.iload_n 1, 1) := dk_27 (dk_at dksX3_owner_0 1 rfl rfl)
theorem dX3_owner_2 : decode cX3_owner 2 = .ok (.invokevirtual 100, 3) := dk_182 0 100 (dk_at dksX3_owner_0 2 rfl rfl)
theorem dX3_owner_5 : decode cX3_owner 5 = .ok (.iconst (-1), 1) := dk_2 (dk_at dksX3_owner_0 5 rfl rfl)
theorem dX3_owner_6 : decode cX3_owner 6 = .ok (.if_icmp .ne 7, 3) := dk_160 0 7 (dk_at dksX3_owner_0 6 rfl rfl)
theorem dX3_owner_9 : decode cX3_owner 9 = .ok (.iconst (-1), 1) := dk_2 (dk_at dksX3_owner_0 9 rfl rfl)
theorem dX3_owner_10 : decode cX3_owner 10 = .ok (.goto 24, 3) := dk_167 0 24 (dk_at dksX3_owner_0 10 rfl rfl)
theorem dX3_owner_13 : decode cX3_owner 13 = .ok (.aload_n 0, 1) := dk_42 (dk_at dksX3_owner_0 13 rfl rfl)
theorem dX3_owner_14 : decode cX3_owner 14 = .ok (.getfield 33, 3) := dk_180 0 33 (dk_at dksX3_owner_0 14 rfl rfl)
theorem dX3_owner_17 : decode cX3_owner 17 = .ok (.getfield 63, 3) := dk_180 0 63 (dk_at dksX3_owner_0 17 rfl rfl)
theorem dX3_owner_20 : decode cX3_owner 20 = .ok (.aload_n 0, 1) := dk_42 (dk_at dksX3_owner_0 20 rfl rfl)
theorem dX3_owner_21 : decode cX3_owner 21 = .ok (.iload_n 1, 1) := dk_27 (dk_at dksX3_owner_0 21 rfl rfl)
theorem dX3_owner_22 : decode cX3_owner 22 = .ok (.invokevirtual 100, 3) := dk_182 0 100 (dk_at dksX3_owner_1 0 rfl rfl)
theorem dX3_owner_25 : decode cX3_owner 25 = .ok (.invokevirtual 68, 3) := dk_182 0 68 (dk_at dksX3_owner_1 3 rfl rfl)
theorem dX3_owner_28 : decode cX3_owner 28 = .ok (.checkcast 74, 3) := dk_192 0 74 (dk_at dksX3_owner_1 6 rfl rfl)
theorem dX3_owner_31 : decode cX3_owner 31 = .ok (.getfield 76, 3) := dk_180 0 76 (dk_at dksX3_owner_1 9 rfl rfl)
theorem dX3_owner_34 : decode cX3_owner 34 = .ok (.ireturn, 1) := dk_172 (dk_at dksX3_owner_1 12 rfl rfl)
theorem se_HeldCoats_Reign_on__I_I_HeldCoats_Reign : ∀ c ∈ ([3] : List Nat), ∃ q : vw_C, cz_cl[c]? = some q ∧ Cond.selects q.1 (⟨"HeldCoats$Reign", "on", "(I)I"⟩ : MethodName) (⟨"HeldCoats$Reign", "on", "(I)I"⟩ : MethodName) ∈ lw_all := List.forall_mem_cons.mpr ⟨⟨_, cz_cl3, q1096⟩, fun _ h => absurd h List.not_mem_nil⟩
theorem md_X3_on : cz_md yX3_on 3 (ws_ yX3_on cX3_on 3 ((Option.some Jvm.ClassFile.FieldType.int))) 1 := ⟨cz_ws_code q1097, q118, ⟨by decide, by decide, by decide +kernel⟩, by decide⟩
theorem fw_X3_76 : cz_FW "HeldCoats$Reign" 76 [(11, 1)] "I" := ⟨"HeldCoats$Coat", "man", Or.inr ⟨_, q1028⟩, List.forall_mem_cons.mpr ⟨⟨RX11, TX11, 4, rfl, by decide, rfl, rfl, Or.inl rfl⟩, fun _ h => absurd h List.not_mem_nil⟩, by decide⟩
set_option maxHeartbeats 4000000 in
set_option maxRecDepth 100000 in
noncomputable def fn_X3_owner (l0 : Option Nat) (l1 : Int32) (h : cz_H) : cz_Z := cz_rc h l0 [3] (cz_cI (fn_X3_on l0 l1 h) (fun x8 h7 => (if x8 = (-1) then some (.inl (some (cz_i (-1))), h7) else cz_getR h7 l0 [(3, 0)] (fun r9 => cz_getR h7 r9 [(1, 8)] (fun r10 => cz_rc h7 l0 [3] (cz_cI (fn_X3_on l0 l1 h7) (fun x18 h17 => cz_rc h17 r10 [2] (cz_cR (fn_J2_get r10 x18 h17) (fun r26 h25 => cz_cast h25 r26 [11] (cz_getI h25 r26 [(11, 1)] (fun x27 => some (.inl (some (cz_i x27)), h25))))))))))))
set_option maxHeartbeats 4000000 in
set_option maxRecDepth 100000 in
theorem wk_X3_owner {K : cz_K} {D : cz_D} {h0 : cz_H} {oh : cz_O × cz_H} {l0 : Option Nat} {l1 : Int32} {h : cz_H} (S : cz_S K D h0 cX3_owner 2 "HeldCoats$Reign" ((Option.some Jvm.ClassFile.FieldType.int)) "owner" ([])) : cz_T K D 5 h0 oh 2 (fn_X3_owner l0 l1 h) h 0 [(0, cz_r l0), (1, cz_i l1)] [] := by
  unfold fn_X3_owner
  refine ct_aload_n (k := 0) S dX3_owner_0 rfl rfl ?_
  refine ct_iload_n (k := 1) S dX3_owner_1 rfl rfl ?_
  refine ct_rc (fun b1 ci2 V3 hb4 hc5 hi6 => ?_)
  refine ct_cI (st := []) (cg_virtual (av := [cz_i l1]) S hb4 hc5 hi6 (fun _ e => mt_X3_on e) md_X3_on q1114 q1095 se_HeldCoats_Reign_on__I_I_HeldCoats_Reign (by decide) (Nat.le_of_ble_eq_true rfl) rfl dX3_owner_2) (fun x8 h7 => ?_)
  refine ct_iconst (v := (-1)) S dX3_owner_5 kI_m1 ?_
  refine ct_icmp_ne (tgt := 13) S dX3_owner_6 (by decide) ?_ ?_
  · refine ct_aload_n (k := 0) S dX3_owner_13 rfl rfl ?_
    refine ct_getR S fw_X3_33 dX3_owner_14 (fun r9 => ?_)
    refine ct_getR S fw_X3_63 dX3_owner_17 (fun r10 => ?_)
    refine ct_aload_n (k := 0) S dX3_owner_20 rfl rfl ?_
    refine ct_iload_n (k := 1) S dX3_owner_21 rfl rfl ?_
    refine ct_rc (fun b11 ci12 V13 hb14 hc15 hi16 => ?_)
    refine ct_cI (st := [cz_r r10]) (cg_virtual (av := [cz_i l1]) S hb14 hc15 hi16 (fun _ e => mt_X3_on e) md_X3_on q1114 q1095 se_HeldCoats_Reign_on__I_I_HeldCoats_Reign (by decide) (Nat.le_of_ble_eq_true rfl) rfl dX3_owner_22) (fun x18 h17 => ?_)
    refine ct_rc (fun b19 ci20 V21 hb22 hc23 hi24 => ?_)
    refine ct_cR (st := []) (cg_virtual (av := [cz_i x18]) S hb22 hc23 hi24 (fun _ e => mt_J2_get e) md_J2_get q344 q345 se_java_util_ArrayList_get__I_Ljava_lang_Object__java_util_ArrayList (by decide) (Nat.le_of_ble_eq_true rfl) rfl dX3_owner_25) (fun r26 h25 => ?_)
    refine ct_cast S q358 ca_HeldCoats_Coat dX3_owner_28 ?_
    refine ct_getI S fw_X3_76 dX3_owner_31 (fun x27 => ?_)
    exact ct_iret S rfl dX3_owner_34
  · refine ct_iconst (v := (-1)) S dX3_owner_9 kI_m1 ?_
    refine ct_goto (tgt := 34) S dX3_owner_10 (by decide) ?_
    exact ct_iret S rfl dX3_owner_34
theorem mt_X3_owner {l : Launch} {D : cz_D} {l0 : Option Nat} {l1 : Int32} {h : cz_H} {oh : cz_O × cz_H} (hz : fn_X3_owner l0 l1 h = some oh) : cz_M l D yX3_owner (ws_ yX3_owner cX3_owner 2 ((Option.some Jvm.ClassFile.FieldType.int))) 5 [cz_r l0, cz_i l1] h oh := cz_met (plainFor_of_name (by decide)) (Nat.le_of_ble_eq_true rfl) hz (fun K hl S => wk_X3_owner S)
/-! HeldCoats$Reign.holder(I)I -/
def dkwX3_holder_0 : List UInt8 := [42, 180, 0, 33, 42, 180, 0, 37, 182, 0, 104, 153, 0, 7, 2, 167, 0, 8, 42, 27, 182, 0, 108, 172]
abbrev dktX3_holder_0 : List UInt8 := dkwX3_holder_0 ++ []
theorem dksX3_holder_0 : cX3_holder.data.toList.drop 0 = dktX3_holder_0 := by decide +kernel
theorem dX3_holder_0 : decode cX3_holder 0 = .ok (.aload_n 0, 1) := dk_42 (dk_at dksX3_holder_0 0 rfl rfl)
theorem dX3_holder_1 : decode cX3_holder 1 = .ok (.getfield 33, 3) := dk_180 0 33 (dk_at dksX3_holder_0 1 rfl rfl)
theorem dX3_holder_4 : decode cX3_holder 4 = .ok (.aload_n 0, 1) := dk_42 (dk_at dksX3_holder_0 4 rfl rfl)
theorem dX3_holder_5 : decode cX3_holder 5 = .ok (.getfield 37, 3) := dk_180 0 37 (dk_at dksX3_holder_0 5 rfl rfl)
theorem dX3_holder_8 : decode cX3_holder 8 = .ok (.invokevirtual 104, 3) := dk_182 0 104 (dk_at dksX3_holder_0 8 rfl rfl)
theorem dX3_holder_11 : decode cX3_holder 11 = .ok (.ifCond .eq 7, 3) := dk_153 0 7 (dk_at dksX3_holder_0 11 rfl rfl)
theorem dX3_holder_14 : decode cX3_holder 14 = .ok (.iconst (-1), 1) := dk_2 (dk_at dksX3_holder_0 14 rfl rfl)
theorem dX3_holder_15 : decode cX3_holder 15 = .ok (.goto 8, 3) := dk_167 0 8 (dk_at dksX3_holder_0 15 rfl rfl)
theorem dX3_holder_18 : decode cX3_holder 18 = .ok (.aload_n 0, 1) := dk_42 (dk_at dksX3_holder_0 18 rfl rfl)
theorem dX3_holder_19 : decode cX3_holder 19 = .ok (.iload_n 1, 1) := dk_27 (dk_at dksX3_holder_0 19 rfl rfl)
theorem dX3_holder_20 : decode cX3_holder 20 = .ok (.invokevirtual 108, 3) := dk_182 0 108 (dk_at dksX3_holder_0 20 rfl rfl)
theorem dX3_holder_23 : decode cX3_holder 23 = .ok (.ireturn, 1) := dk_172 (dk_at dksX3_holder_0 23 rfl rfl)
theorem fw_X3_37 : cz_FW "HeldCoats$Reign" 37 [(3, 1)] "I" := ⟨"HeldCoats$Reign", "day", Or.inl q273, List.forall_mem_cons.mpr ⟨⟨RX3, TX3, 14, rfl, by decide, rfl, rfl, Or.inl rfl⟩, fun _ h => absurd h List.not_mem_nil⟩, by decide⟩
theorem se_HeldCoats_Capital_isSummer__I_Z_HeldCoats_Capital : ∀ c ∈ ([1] : List Nat), ∃ q : vw_C, cz_cl[c]? = some q ∧ Cond.selects q.1 (⟨"HeldCoats$Capital", "isSummer", "(I)Z"⟩ : MethodName) (⟨"HeldCoats$Capital", "isSummer", "(I)Z"⟩ : MethodName) ∈ lw_all := List.forall_mem_cons.mpr ⟨⟨_, cz_cl1, q1104⟩, fun _ h => absurd h List.not_mem_nil⟩
theorem md_X2_isSummer : cz_md yX2_isSummer 2 (ws_ yX2_isSummer cX2_isSummer 2 ((Option.some Jvm.ClassFile.FieldType.boolean))) 1 := ⟨cz_ws_code q1105, q114, ⟨by decide, by decide, by decide +kernel⟩, by decide⟩
theorem se_HeldCoats_Reign_owner__I_I_HeldCoats_Reign : ∀ c ∈ ([3] : List Nat), ∃ q : vw_C, cz_cl[c]? = some q ∧ Cond.selects q.1 (⟨"HeldCoats$Reign", "owner", "(I)I"⟩ : MethodName) (⟨"HeldCoats$Reign", "owner", "(I)I"⟩ : MethodName) ∈ lw_all := List.forall_mem_cons.mpr ⟨⟨_, cz_cl3, q1112⟩, fun _ h => absurd h List.not_mem_nil⟩
theorem md_X3_owner : cz_md yX3_owner 2 (ws_ yX3_owner cX3_owner 2 ((Option.some Jvm.ClassFile.FieldType.int))) 1 := ⟨cz_ws_code q1113, q118, ⟨by decide, by decide, by decide +kernel⟩, by decide⟩
set_option maxHeartbeats 4000000 in
set_option maxRecDepth 100000 in
noncomputable def fn_X3_holder (l0 : Option Nat) (l1 : Int32) (h : cz_H) : cz_Z := cz_getR h l0 [(3, 0)] (fun r1 => cz_getI h l0 [(3, 1)] (fun x2 => cz_rc h r1 [1] (cz_cI (fn_X2_isSummer r1 x2 h) (fun x10 h9 => (if x10 = 0 then cz_rc h9 l0 [3] (cz_cI (fn_X3_owner l0 l1 h9) (fun x18 h17 => some (.inl (some (cz_i x18)), h17))) else some (.inl (some (cz_i (-1))), h9))))))
set_option maxHeartbeats 4000000 in
set_option maxRecDepth 100000 in
theorem wk_X3_holder {K : cz_K} {D : cz_D} {h0 : cz_H} {oh : cz_O × cz_H} {l0 : Option Nat} {l1 : Int32} {h : cz_H} (S : cz_S K D h0 cX3_holder 2 "HeldCoats$Reign" ((Option.some Jvm.ClassFile.FieldType.int)) "holder" ([])) : cz_T K D 6 h0 oh 2 (fn_X3_holder l0 l1 h) h 0 [(0, cz_r l0), (1, cz_i l1)] [] := by
  unfold fn_X3_holder
  refine ct_aload_n (k := 0) S dX3_holder_0 rfl rfl ?_
  refine ct_getR S fw_X3_33 dX3_holder_1 (fun r1 => ?_)
  refine ct_aload_n (k := 0) S dX3_holder_4 rfl rfl ?_
  refine ct_getI S fw_X3_37 dX3_holder_5 (fun x2 => ?_)
  refine ct_rc (fun b3 ci4 V5 hb6 hc7 hi8 => ?_)
  refine ct_cI (st := []) (cg_virtual (av := [cz_i x2]) S hb6 hc7 hi8 (fun _ e => mt_X2_isSummer e) md_X2_isSummer q1102 q1103 se_HeldCoats_Capital_isSummer__I_Z_HeldCoats_Capital (by decide) (Nat.le_of_ble_eq_true rfl) rfl dX3_holder_8) (fun x10 h9 => ?_)
  refine ct_if_eq (tgt := 18) S dX3_holder_11 (by decide) ?_ ?_
  · refine ct_aload_n (k := 0) S dX3_holder_18 rfl rfl ?_
    refine ct_iload_n (k := 1) S dX3_holder_19 rfl rfl ?_
    refine ct_rc (fun b11 ci12 V13 hb14 hc15 hi16 => ?_)
    refine ct_cI (st := []) (cg_virtual (av := [cz_i l1]) S hb14 hc15 hi16 (fun _ e => mt_X3_owner e) md_X3_owner q1110 q1111 se_HeldCoats_Reign_owner__I_I_HeldCoats_Reign (by decide) (Nat.le_of_ble_eq_true rfl) rfl dX3_holder_20) (fun x18 h17 => ?_)
    exact ct_iret S rfl dX3_holder_23
  · refine ct_iconst (v := (-1)) S dX3_holder_14 kI_m1 ?_
    refine ct_goto (tgt := 23) S dX3_holder_15 (by decide) ?_
    exact ct_iret S rfl dX3_holder_23
theorem mt_X3_holder {l : Launch} {D : cz_D} {l0 : Option Nat} {l1 : Int32} {h : cz_H} {oh : cz_O × cz_H} (hz : fn_X3_holder l0 l1 h = some oh) : cz_M l D yX3_holder (ws_ yX3_holder cX3_holder 2 ((Option.some Jvm.ClassFile.FieldType.int))) 6 [cz_r l0, cz_i l1] h oh := cz_met (plainFor_of_name (by decide)) (Nat.le_of_ble_eq_true rfl) hz (fun K hl S => wk_X3_holder S)
/-! HeldCoats$Reign.seats()I -/
def dkwX3_seats_0 : List UInt8 := [42, 180, 0, 33, 180, 0, 97, 182, 0, 91, 172]
abbrev dktX3_seats_0 : List UInt8 := dkwX3_seats_0 ++ []
theorem dksX3_seats_0 : cX3_seats.data.toList.drop 0 = dktX3_seats_0 := by decide +kernel
theorem dX3_seats_0 : decode cX3_seats 0 = .ok (.aload_n 0, 1) := dk_42 (dk_at dksX3_seats_0 0 rfl rfl)
theorem dX3_seats_1 : decode cX3_seats 1 = .ok (.getfield 33, 3) := dk_180 0 33 (dk_at dksX3_seats_0 1 rfl rfl)
theorem dX3_seats_4 : decode cX3_seats 4 = .ok (.getfield 97, 3) := dk_180 0 97 (dk_at dksX3_seats_0 4 rfl rfl)
theorem dX3_seats_7 : decode cX3_seats 7 = .ok (.invokevirtual 91, 3) := dk_182 0 91 (dk_at dksX3_seats_0 7 rfl rfl)
theorem dX3_seats_10 : decode cX3_seats 10 = .ok (.ireturn, 1) := dk_172 (dk_at dksX3_seats_0 10 rfl rfl)
theorem fw_X3_97 : cz_FW "HeldCoats$Reign" 97 [(1, 6)] "Ljava/util/ArrayList;" := ⟨"HeldCoats$Capital", "seats", Or.inr ⟨_, q222⟩, List.forall_mem_cons.mpr ⟨⟨RX2, TX2, 11, rfl, by decide, rfl, rfl, Or.inl rfl⟩, fun _ h => absurd h List.not_mem_nil⟩, by decide⟩
set_option maxHeartbeats 4000000 in
set_option maxRecDepth 100000 in
noncomputable def fn_X3_seats (l0 : Option Nat) (h : cz_H) : cz_Z := cz_getR h l0 [(3, 0)] (fun r1 => cz_getR h r1 [(1, 6)] (fun r2 => cz_rc h r2 [2] (cz_cI (fn_J2_size r2 h) (fun x10 h9 => some (.inl (some (cz_i x10)), h9)))))
set_option maxHeartbeats 4000000 in
set_option maxRecDepth 100000 in
theorem wk_X3_seats {K : cz_K} {D : cz_D} {h0 : cz_H} {oh : cz_O × cz_H} {l0 : Option Nat} {h : cz_H} (S : cz_S K D h0 cX3_seats 1 "HeldCoats$Reign" ((Option.some Jvm.ClassFile.FieldType.int)) "seats" ([])) : cz_T K D 3 h0 oh 1 (fn_X3_seats l0 h) h 0 [(0, cz_r l0)] [] := by
  unfold fn_X3_seats
  refine ct_aload_n (k := 0) S dX3_seats_0 rfl rfl ?_
  refine ct_getR S fw_X3_33 dX3_seats_1 (fun r1 => ?_)
  refine ct_getR S fw_X3_97 dX3_seats_4 (fun r2 => ?_)
  refine ct_rc (fun b3 ci4 V5 hb6 hc7 hi8 => ?_)
  refine ct_cI (st := []) (cg_virtual (av := []) S hb6 hc7 hi8 (fun _ e => mt_J2_size e) md_J2_size q340 q341 se_java_util_ArrayList_size___I_java_util_ArrayList (by decide) (Nat.le_of_ble_eq_true rfl) rfl dX3_seats_7) (fun x10 h9 => ?_)
  exact ct_iret S rfl dX3_seats_10
theorem mt_X3_seats {l : Launch} {D : cz_D} {l0 : Option Nat} {h : cz_H} {oh : cz_O × cz_H} (hz : fn_X3_seats l0 h = some oh) : cz_M l D yX3_seats (ws_ yX3_seats cX3_seats 1 ((Option.some Jvm.ClassFile.FieldType.int))) 3 [cz_r l0] h oh := cz_met (plainFor_of_name (by decide)) (Nat.le_of_ble_eq_true rfl) hz (fun K hl S => wk_X3_seats S)
/-! HeldCoats$Reign.heldBy(I)I -/
def dkwX3_heldBy_1 : List UInt8 := [120, 128, 61, 132, 3, 1, 167, 255, 230, 28, 172]
abbrev dktX3_heldBy_1 : List UInt8 := dkwX3_heldBy_1 ++ []
def dkwX3_heldBy_0 : List UInt8 := [3, 61, 3, 62, 29, 42, 182, 0, 134, 162, 0, 24, 42, 29, 182, 0, 136, 27, 160, 0, 9, 28, 4, 29]
abbrev dktX3_heldBy_0 : List UInt8 := dkwX3_heldBy_0 ++ dktX3_heldBy_1
theorem dksX3_heldBy_0 : cX3_heldBy.data.toList.drop 0 = dktX3_heldBy_0 := by decide +kernel
theorem dksX3_heldBy_1 : cX3_heldBy.data.toList.drop 24 = dktX3_heldBy_1 := dk_seg dksX3_heldBy_0 24 rfl rfl
theorem dX3_heldBy_0 : decode cX3_heldBy 0 = .ok (.iconst 0, 1) := dk_3 (dk_at dksX3_heldBy_0 0 rfl rfl)
theorem dX3_heldBy_1 : decode cX3_heldBy 1 = .ok (.istore_n 2, 1) := dk_61 (dk_at dksX3_heldBy_0 1 rfl rfl)
theorem dX3_heldBy_2 : decode cX3_heldBy 2 = .ok (.iconst 0, 1) := dk_3 (dk_at dksX3_heldBy_0 2 rfl rfl)
theorem dX3_heldBy_3 : decode cX3_heldBy 3 = .ok (.istore_n 3, 1) := dk_62 (dk_at dksX3_heldBy_0 3 rfl rfl)
theorem dX3_heldBy_4 : decode cX3_heldBy 4 = .ok (.iload_n 3, 1) := dk_29 (dk_at dksX3_heldBy_0 4 rfl rfl)
theorem dX3_heldBy_5 : decode cX3_heldBy 5 = .ok (.aload_n 0, 1) := dk_42 (dk_at dksX3_heldBy_0 5 rfl rfl)
theorem dX3_heldBy_6 : decode cX3_heldBy 6 = .ok (.invokevirtual 134, 3) := dk_182 0 134 (dk_at dksX3_heldBy_0 6 rfl rfl)
theorem dX3_heldBy_9 : decode cX3_heldBy 9 = .ok (.if_icmp .ge 24, 3) := dk_162 0 24 (dk_at dksX3_heldBy_0 9 rfl rfl)
theorem dX3_heldBy_12 : decode cX3_heldBy 12 = .ok (.aload_n 0, 1) := dk_42 (dk_at dksX3_heldBy_0 12 rfl rfl)
theorem dX3_heldBy_13 : decode cX3_heldBy 13 = .ok (.iload_n 3, 1) := dk_29 (dk_at dksX3_heldBy_0 13 rfl rfl)
theorem dX3_heldBy_14 : decode cX3_heldBy 14 = .ok (.invokevirtual 136, 3) := dk_182 0 136 (dk_at dksX3_heldBy_0 14 rfl rfl)
theorem dX3_heldBy_17 : decode cX3_heldBy 17 = .ok (.iload_n 1, 1) := dk_27 (dk_at dksX3_heldBy_0 17 rfl rfl)
theorem dX3_heldBy_18 : decode cX3_heldBy 18 = .ok (.if_icmp .ne 9, 3) := dk_160 0 9 (dk_at dksX3_heldBy_0 18 rfl rfl)
theorem dX3_heldBy_21 : decode cX3_heldBy 21 = .ok (.iload_n 2, 1) := dk_28 (dk_at dksX3_heldBy_0 21 rfl rfl)
theorem dX3_heldBy_22 : decode cX3_heldBy 22 = .ok (.iconst 1, 1) := dk_4 (dk_at dksX3_heldBy_0 22 rfl rfl)
theorem dX3_heldBy_23 : decode cX3_heldBy 23 = .ok (.iload_n 3, 1) := dk_29 (dk_at dksX3_heldBy_0 23 rfl rfl)
theorem dX3_heldBy_24 : decode cX3_heldBy 24 = .ok (.ishl, 1) := dk_120 (dk_at dksX3_heldBy_1 0 rfl rfl)
theorem dX3_heldBy_25 : decode cX3_heldBy 25 = .ok (.ior, 1) := dk_128 (dk_at dksX3_heldBy_1 1 rfl rfl)
theorem dX3_heldBy_26 : decode cX3_heldBy 26 = .ok (.istore_n 2, 1) := dk_61 (dk_at dksX3_heldBy_1 2 rfl rfl)
theorem dX3_heldBy_27 : decode cX3_heldBy 27 = .ok (.iinc 3 1, 3) := dk_132 3 1 (dk_at dksX3_heldBy_1 3 rfl rfl)
theorem dX3_heldBy_30 : decode cX3_heldBy 30 = .ok (.goto (-26), 3) := dk_167 255 230 (dk_at dksX3_heldBy_1 6 rfl rfl)
theorem dX3_heldBy_33 : decode cX3_heldBy 33 = .ok (.iload_n 2, 1) := dk_28 (dk_at dksX3_heldBy_1 9 rfl rfl)
theorem dX3_heldBy_34 : decode cX3_heldBy 34 = .ok (.ireturn, 1) := dk_172 (dk_at dksX3_heldBy_1 10 rfl rfl)
theorem se_HeldCoats_Reign_seats___I_HeldCoats_Reign : ∀ c ∈ ([3] : List Nat), ∃ q : vw_C, cz_cl[c]? = some q ∧ Cond.selects q.1 (⟨"HeldCoats$Reign", "seats", "()I"⟩ : MethodName) (⟨"HeldCoats$Reign", "seats", "()I"⟩ : MethodName) ∈ lw_all := List.forall_mem_cons.mpr ⟨⟨_, cz_cl3, q1134⟩, fun _ h => absurd h List.not_mem_nil⟩
theorem md_X3_seats : cz_md yX3_seats 1 (ws_ yX3_seats cX3_seats 1 ((Option.some Jvm.ClassFile.FieldType.int))) 0 := ⟨cz_ws_code q1135, q118, ⟨by decide, by decide, by decide +kernel⟩, by decide⟩
theorem se_HeldCoats_Reign_holder__I_I_HeldCoats_Reign : ∀ c ∈ ([3] : List Nat), ∃ q : vw_C, cz_cl[c]? = some q ∧ Cond.selects q.1 (⟨"HeldCoats$Reign", "holder", "(I)I"⟩ : MethodName) (⟨"HeldCoats$Reign", "holder", "(I)I"⟩ : MethodName) ∈ lw_all := List.forall_mem_cons.mpr ⟨⟨_, cz_cl3, q1100⟩, fun _ h => absurd h List.not_mem_nil⟩
theorem md_X3_holder : cz_md yX3_holder 2 (ws_ yX3_holder cX3_holder 2 ((Option.some Jvm.ClassFile.FieldType.int))) 1 := ⟨cz_ws_code q1101, q118, ⟨by decide, by decide, by decide +kernel⟩, by decide⟩
set_option maxHeartbeats 4000000 in
set_option maxRecDepth 100000 in
noncomputable def fn_X3_heldBy_4 (l0 : Option Nat) (l1 : Int32) (k0 : Int32 → cz_H → cz_Z) : Nat → Int32 → Int32 → cz_H → cz_Z
  | 0, _, _, _ => none
  | n + 1, l2, l3, h => cz_rc h l0 [3] (cz_cI (fn_X3_seats l0 h) (fun x8 h7 => (if x8 ≤ l3 then k0 l2 h7 else cz_rc h7 l0 [3] (cz_cI (fn_X3_holder l0 l3 h7) (fun x16 h15 => (if x16 = l1 then cz_leti (l2 ||| ((1 : Int32) <<< (l3 &&& 31))) (fun x18 => cz_leti (l3 + 1) (fun x19 => fn_X3_heldBy_4 l0 l1 k0 n x18 x19 h15)) else cz_leti (l3 + 1) (fun x17 => fn_X3_heldBy_4 l0 l1 k0 n l2 x17 h15)))))))
set_option maxHeartbeats 4000000 in
set_option maxRecDepth 100000 in
theorem wk_X3_heldBy_4 {K : cz_K} {D : cz_D} {h0 : cz_H} {oh : cz_O × cz_H} {l0 : Option Nat} {l1 : Int32} {k0 : Int32 → cz_H → cz_Z} (S : cz_S K D h0 cX3_heldBy 4 "HeldCoats$Reign" ((Option.some Jvm.ClassFile.FieldType.int)) "heldBy" ([])) (hk0 : ∀ (e2 : Int32) (h : cz_H), cz_T K D 7 h0 oh 4 (k0 e2 h) h 33 [(2, cz_i e2)] []) : ∀ (n : Nat) (l2 : Int32) (l3 : Int32) (h : cz_H), cz_T K D 7 h0 oh 4 (fn_X3_heldBy_4 l0 l1 k0 n l2 l3 h) h 4 [(0, cz_r l0), (1, cz_i l1), (2, cz_i l2), (3, cz_i l3)] [] := by
  intro n
  induction n with
  | zero => intros; exact ct_none
  | succ n ih =>
    intro l2 l3 h
    rw [fn_X3_heldBy_4]
    refine ct_iload_n (k := 3) S dX3_heldBy_4 rfl rfl ?_
    refine ct_aload_n (k := 0) S dX3_heldBy_5 rfl rfl ?_
    refine ct_rc (fun b1 ci2 V3 hb4 hc5 hi6 => ?_)
    refine ct_cI (st := [cz_i l3]) (cg_virtual (av := []) S hb4 hc5 hi6 (fun _ e => mt_X3_seats e) md_X3_seats q1132 q1133 se_HeldCoats_Reign_seats___I_HeldCoats_Reign (by decide) (Nat.le_of_ble_eq_true rfl) rfl dX3_heldBy_6) (fun x8 h7 => ?_)
    refine ct_icmp_ge (tgt := 33) S dX3_heldBy_9 (by decide) ?_ ?_
    · exact ct_sub [2] rfl (hk0 l2 h7)
    · refine ct_aload_n (k := 0) S dX3_heldBy_12 rfl rfl ?_
      refine ct_iload_n (k := 3) S dX3_heldBy_13 rfl rfl ?_
      refine ct_rc (fun b9 ci10 V11 hb12 hc13 hi14 => ?_)
      refine ct_cI (st := []) (cg_virtual (av := [cz_i l3]) S hb12 hc13 hi14 (fun _ e => mt_X3_holder e) md_X3_holder q1136 q1099 se_HeldCoats_Reign_holder__I_I_HeldCoats_Reign (by decide) (Nat.le_of_ble_eq_true rfl) rfl dX3_heldBy_14) (fun x16 h15 => ?_)
      refine ct_iload_n (k := 1) S dX3_heldBy_17 rfl rfl ?_
      refine ct_icmp_ne (tgt := 27) S dX3_heldBy_18 (by decide) ?_ ?_
      · refine ct_iincL (j := 3) (L2 := fun x17 => [(3, cz_i x17), (0, cz_r l0), (1, cz_i l1), (2, cz_i l2)]) S dX3_heldBy_27 rfl kI_1 (by decide) (fun _ => rfl) (fun x17 => ?_)
        refine ct_goto (tgt := 4) S dX3_heldBy_30 (by decide) ?_
        exact ct_sub [1, 2, 3, 0] rfl (ih l2 x17 h15)
      · refine ct_iload_n (k := 2) S dX3_heldBy_21 rfl rfl ?_
        refine ct_iconst (v := 1) S dX3_heldBy_22 kI_1 ?_
        refine ct_iload_n (k := 3) S dX3_heldBy_23 rfl rfl ?_
        refine ct_ishl S dX3_heldBy_24 ?_
        refine ct_ior S dX3_heldBy_25 ?_
        refine ct_leti (fun x18 => ?_)
        refine ct_istore_n (L' := [(2, cz_i x18), (0, cz_r l0), (1, cz_i l1), (3, cz_i l3)]) S dX3_heldBy_26 rfl (by decide) rfl ?_
        refine ct_iincL (j := 3) (L2 := fun x19 => [(3, cz_i x19), (2, cz_i x18), (0, cz_r l0), (1, cz_i l1)]) S dX3_heldBy_27 rfl kI_1 (by decide) (fun _ => rfl) (fun x19 => ?_)
        refine ct_goto (tgt := 4) S dX3_heldBy_30 (by decide) ?_
        exact ct_sub [2, 3, 1, 0] rfl (ih x18 x19 h15)
set_option maxHeartbeats 4000000 in
set_option maxRecDepth 100000 in
noncomputable def fn_X3_heldBy (l0 : Option Nat) (l1 : Int32) (h : cz_H) : cz_Z := fn_X3_heldBy_4 l0 l1 (fun (e20 : Int32) (h21 : cz_H) => some (.inl (some (cz_i e20)), h21)) 1000 0 0 h
set_option maxHeartbeats 4000000 in
set_option maxRecDepth 100000 in
theorem wk_X3_heldBy {K : cz_K} {D : cz_D} {h0 : cz_H} {oh : cz_O × cz_H} {l0 : Option Nat} {l1 : Int32} {h : cz_H} (S : cz_S K D h0 cX3_heldBy 4 "HeldCoats$Reign" ((Option.some Jvm.ClassFile.FieldType.int)) "heldBy" ([])) : cz_T K D 7 h0 oh 4 (fn_X3_heldBy l0 l1 h) h 0 [(0, cz_r l0), (1, cz_i l1)] [] := by
  unfold fn_X3_heldBy
  refine ct_iconst (v := 0) S dX3_heldBy_0 kI_0 ?_
  refine ct_istore_n (L' := [(2, cz_i 0), (0, cz_r l0), (1, cz_i l1)]) S dX3_heldBy_1 rfl (by decide) rfl ?_
  refine ct_iconst (v := 0) S dX3_heldBy_2 kI_0 ?_
  refine ct_istore_n (L' := [(3, cz_i 0), (2, cz_i 0), (0, cz_r l0), (1, cz_i l1)]) S dX3_heldBy_3 rfl (by decide) rfl ?_
  refine ct_sub [2, 3, 1, 0] (L' := [(0, cz_r l0), (1, cz_i l1), (2, cz_i 0), (3, cz_i 0)]) rfl (wk_X3_heldBy_4 S ?_ 1000 0 0 h)
  · intro e20 h21
    refine ct_iload_n (k := 0) S dX3_heldBy_33 rfl rfl ?_
    exact ct_iret S rfl dX3_heldBy_34
theorem mt_X3_heldBy {l : Launch} {D : cz_D} {l0 : Option Nat} {l1 : Int32} {h : cz_H} {oh : cz_O × cz_H} (hz : fn_X3_heldBy l0 l1 h = some oh) : cz_M l D yX3_heldBy (ws_ yX3_heldBy cX3_heldBy 4 ((Option.some Jvm.ClassFile.FieldType.int))) 7 [cz_r l0, cz_i l1] h oh := cz_met (plainFor_of_name (by decide)) (Nat.le_of_ble_eq_true rfl) hz (fun K hl S => wk_X3_heldBy S)
/-! HeldCoats$Reign.wornBy(I)I -/
def dkwX3_wornBy_1 : List UInt8 := [29, 120, 128, 61, 132, 3, 1, 167, 255, 229, 28, 172]
abbrev dktX3_wornBy_1 : List UInt8 := dkwX3_wornBy_1 ++ []
def dkwX3_wornBy_0 : List UInt8 := [3, 61, 3, 62, 29, 42, 182, 0, 59, 162, 0, 25, 42, 180, 0, 9, 29, 46, 27, 160, 0, 9, 28, 4]
abbrev dktX3_wornBy_0 : List UInt8 := dkwX3_wornBy_0 ++ dktX3_wornBy_1
theorem dksX3_wornBy_0 : cX3_wornBy.data.toList.drop 0 = dktX3_wornBy_0 := by decide +kernel
theorem dksX3_wornBy_1 : cX3_wornBy.data.toList.drop 24 = dktX3_wornBy_1 := dk_seg dksX3_wornBy_0 24 rfl rfl
theorem dX3_wornBy_0 : decode cX3_wornBy 0 = .ok (.iconst 0, 1) := dk_3 (dk_at dksX3_wornBy_0 0 rfl rfl)
theorem dX3_wornBy_1 : decode cX3_wornBy 1 = .ok (.istore_n 2, 1) := dk_61 (dk_at dksX3_wornBy_0 1 rfl rfl)
theorem dX3_wornBy_2 : decode cX3_wornBy 2 = .ok (.iconst 0, 1) := dk_3 (dk_at dksX3_wornBy_0 2 rfl rfl)
theorem dX3_wornBy_3 : decode cX3_wornBy 3 = .ok (.istore_n 3, 1) := dk_62 (dk_at dksX3_wornBy_0 3 rfl rfl)
theorem dX3_wornBy_4 : decode cX3_wornBy 4 = .ok (.iload_n 3, 1) := dk_29 (dk_at dksX3_wornBy_0 4 rfl rfl)
theorem dX3_wornBy_5 : decode cX3_wornBy 5 = .ok (.aload_n 0, 1) := dk_42 (dk_at dksX3_wornBy_0 5 rfl rfl)
theorem dX3_wornBy_6 : decode cX3_wornBy 6 = .ok (.invokevirtual 59, 3) := dk_182 0 59 (dk_at dksX3_wornBy_0 6 rfl rfl)
theorem dX3_wornBy_9 : decode cX3_wornBy 9 = .ok (.if_icmp .ge 25, 3) := dk_162 0 25 (dk_at dksX3_wornBy_0 9 rfl rfl)
theorem dX3_wornBy_12 : decode cX3_wornBy 12 = .ok (.aload_n 0, 1) := dk_42 (dk_at dksX3_wornBy_0 12 rfl rfl)
theorem dX3_wornBy_13 : decode cX3_wornBy 13 = .ok (.getfield 9, 3) := dk_180 0 9 (dk_at dksX3_wornBy_0 13 rfl rfl)
theorem dX3_wornBy_16 : decode cX3_wornBy 16 = .ok (.iload_n 3, 1) := dk_29 (dk_at dksX3_wornBy_0 16 rfl rfl)
theorem dX3_wornBy_17 : decode cX3_wornBy 17 = .ok (.iaload, 1) := dk_46 (dk_at dksX3_wornBy_0 17 rfl rfl)
theorem dX3_wornBy_18 : decode cX3_wornBy 18 = .ok (.iload_n 1, 1) := dk_27 (dk_at dksX3_wornBy_0 18 rfl rfl)
theorem dX3_wornBy_19 : decode cX3_wornBy 19 = .ok (.if_icmp .ne 9, 3) := dk_160 0 9 (dk_at dksX3_wornBy_0 19 rfl rfl)
theorem dX3_wornBy_22 : decode cX3_wornBy 22 = .ok (.iload_n 2, 1) := dk_28 (dk_at dksX3_wornBy_0 22 rfl rfl)
theorem dX3_wornBy_23 : decode cX3_wornBy 23 = .ok (.iconst 1, 1) := dk_4 (dk_at dksX3_wornBy_0 23 rfl rfl)
theorem dX3_wornBy_24 : decode cX3_wornBy 24 = .ok (.iload_n 3, 1) := dk_29 (dk_at dksX3_wornBy_1 0 rfl rfl)
theorem dX3_wornBy_25 : decode cX3_wornBy 25 = .ok (.ishl, 1) := dk_120 (dk_at dksX3_wornBy_1 1 rfl rfl)
theorem dX3_wornBy_26 : decode cX3_wornBy 26 = .ok (.ior, 1) := dk_128 (dk_at dksX3_wornBy_1 2 rfl rfl)
theorem dX3_wornBy_27 : decode cX3_wornBy 27 = .ok (.istore_n 2, 1) := dk_61 (dk_at dksX3_wornBy_1 3 rfl rfl)
theorem dX3_wornBy_28 : decode cX3_wornBy 28 = .ok (.iinc 3 1, 3) := dk_132 3 1 (dk_at dksX3_wornBy_1 4 rfl rfl)
theorem dX3_wornBy_31 : decode cX3_wornBy 31 = .ok (.goto (-27), 3) := dk_167 255 229 (dk_at dksX3_wornBy_1 7 rfl rfl)
theorem dX3_wornBy_34 : decode cX3_wornBy 34 = .ok (.iload_n 2, 1) := dk_28 (dk_at dksX3_wornBy_1 10 rfl rfl)
theorem dX3_wornBy_35 : decode cX3_wornBy 35 = .ok (.ireturn, 1) := dk_172 (dk_at dksX3_wornBy_1 11 rfl rfl)
set_option maxHeartbeats 4000000 in
set_option maxRecDepth 100000 in
noncomputable def fn_X3_wornBy_4 (l0 : Option Nat) (l1 : Int32) (k0 : Int32 → cz_H → cz_Z) : Nat → Int32 → Int32 → cz_H → cz_Z
  | 0, _, _, _ => none
  | n + 1, l2, l3, h => cz_rc h l0 [3] (cz_cI (fn_X3_coats l0 h) (fun x8 h7 => (if x8 ≤ l3 then k0 l2 h7 else cz_getR h7 l0 [(3, 6)] (fun r9 => cz_iald h7 r9 l3 (fun x10 => (if x10 = l1 then cz_leti (l2 ||| ((1 : Int32) <<< (l3 &&& 31))) (fun x12 => cz_leti (l3 + 1) (fun x13 => fn_X3_wornBy_4 l0 l1 k0 n x12 x13 h7)) else cz_leti (l3 + 1) (fun x11 => fn_X3_wornBy_4 l0 l1 k0 n l2 x11 h7)))))))
set_option maxHeartbeats 4000000 in
set_option maxRecDepth 100000 in
theorem wk_X3_wornBy_4 {K : cz_K} {D : cz_D} {h0 : cz_H} {oh : cz_O × cz_H} {l0 : Option Nat} {l1 : Int32} {k0 : Int32 → cz_H → cz_Z} (S : cz_S K D h0 cX3_wornBy 4 "HeldCoats$Reign" ((Option.some Jvm.ClassFile.FieldType.int)) "wornBy" ([])) (hk0 : ∀ (e2 : Int32) (h : cz_H), cz_T K D 4 h0 oh 4 (k0 e2 h) h 34 [(2, cz_i e2)] []) : ∀ (n : Nat) (l2 : Int32) (l3 : Int32) (h : cz_H), cz_T K D 4 h0 oh 4 (fn_X3_wornBy_4 l0 l1 k0 n l2 l3 h) h 4 [(0, cz_r l0), (1, cz_i l1), (2, cz_i l2), (3, cz_i l3)] [] := by
  intro n
  induction n with
  | zero => intros; exact ct_none
  | succ n ih =>
    intro l2 l3 h
    rw [fn_X3_wornBy_4]
    refine ct_iload_n (k := 3) S dX3_wornBy_4 rfl rfl ?_
    refine ct_aload_n (k := 0) S dX3_wornBy_5 rfl rfl ?_
    refine ct_rc (fun b1 ci2 V3 hb4 hc5 hi6 => ?_)
    refine ct_cI (st := [cz_i l3]) (cg_virtual (av := []) S hb4 hc5 hi6 (fun _ e => mt_X3_coats e) md_X3_coats q336 q337 se_HeldCoats_Reign_coats___I_HeldCoats_Reign (by decide) (Nat.le_of_ble_eq_true rfl) rfl dX3_wornBy_6) (fun x8 h7 => ?_)
    refine ct_icmp_ge (tgt := 34) S dX3_wornBy_9 (by decide) ?_ ?_
    · exact ct_sub [2] rfl (hk0 l2 h7)
    · refine ct_aload_n (k := 0) S dX3_wornBy_12 rfl rfl ?_
      refine ct_getR S fw_X3_9 dX3_wornBy_13 (fun r9 => ?_)
      refine ct_iload_n (k := 3) S dX3_wornBy_16 rfl rfl ?_
      refine ct_iald S dX3_wornBy_17 (fun x10 => ?_)
      refine ct_iload_n (k := 1) S dX3_wornBy_18 rfl rfl ?_
      refine ct_icmp_ne (tgt := 28) S dX3_wornBy_19 (by decide) ?_ ?_
      · refine ct_iincL (j := 3) (L2 := fun x11 => [(3, cz_i x11), (0, cz_r l0), (1, cz_i l1), (2, cz_i l2)]) S dX3_wornBy_28 rfl kI_1 (by decide) (fun _ => rfl) (fun x11 => ?_)
        refine ct_goto (tgt := 4) S dX3_wornBy_31 (by decide) ?_
        exact ct_sub [1, 2, 3, 0] rfl (ih l2 x11 h7)
      · refine ct_iload_n (k := 2) S dX3_wornBy_22 rfl rfl ?_
        refine ct_iconst (v := 1) S dX3_wornBy_23 kI_1 ?_
        refine ct_iload_n (k := 3) S dX3_wornBy_24 rfl rfl ?_
        refine ct_ishl S dX3_wornBy_25 ?_
        refine ct_ior S dX3_wornBy_26 ?_
        refine ct_leti (fun x12 => ?_)
        refine ct_istore_n (L' := [(2, cz_i x12), (0, cz_r l0), (1, cz_i l1), (3, cz_i l3)]) S dX3_wornBy_27 rfl (by decide) rfl ?_
        refine ct_iincL (j := 3) (L2 := fun x13 => [(3, cz_i x13), (2, cz_i x12), (0, cz_r l0), (1, cz_i l1)]) S dX3_wornBy_28 rfl kI_1 (by decide) (fun _ => rfl) (fun x13 => ?_)
        refine ct_goto (tgt := 4) S dX3_wornBy_31 (by decide) ?_
        exact ct_sub [2, 3, 1, 0] rfl (ih x12 x13 h7)
set_option maxHeartbeats 4000000 in
set_option maxRecDepth 100000 in
noncomputable def fn_X3_wornBy (l0 : Option Nat) (l1 : Int32) (h : cz_H) : cz_Z := fn_X3_wornBy_4 l0 l1 (fun (e14 : Int32) (h15 : cz_H) => some (.inl (some (cz_i e14)), h15)) 1000 0 0 h
set_option maxHeartbeats 4000000 in
set_option maxRecDepth 100000 in
theorem wk_X3_wornBy {K : cz_K} {D : cz_D} {h0 : cz_H} {oh : cz_O × cz_H} {l0 : Option Nat} {l1 : Int32} {h : cz_H} (S : cz_S K D h0 cX3_wornBy 4 "HeldCoats$Reign" ((Option.some Jvm.ClassFile.FieldType.int)) "wornBy" ([])) : cz_T K D 4 h0 oh 4 (fn_X3_wornBy l0 l1 h) h 0 [(0, cz_r l0), (1, cz_i l1)] [] := by
  unfold fn_X3_wornBy
  refine ct_iconst (v := 0) S dX3_wornBy_0 kI_0 ?_
  refine ct_istore_n (L' := [(2, cz_i 0), (0, cz_r l0), (1, cz_i l1)]) S dX3_wornBy_1 rfl (by decide) rfl ?_
  refine ct_iconst (v := 0) S dX3_wornBy_2 kI_0 ?_
  refine ct_istore_n (L' := [(3, cz_i 0), (2, cz_i 0), (0, cz_r l0), (1, cz_i l1)]) S dX3_wornBy_3 rfl (by decide) rfl ?_
  refine ct_sub [2, 3, 1, 0] (L' := [(0, cz_r l0), (1, cz_i l1), (2, cz_i 0), (3, cz_i 0)]) rfl (wk_X3_wornBy_4 S ?_ 1000 0 0 h)
  · intro e14 h15
    refine ct_iload_n (k := 0) S dX3_wornBy_34 rfl rfl ?_
    exact ct_iret S rfl dX3_wornBy_35
theorem mt_X3_wornBy {l : Launch} {D : cz_D} {l0 : Option Nat} {l1 : Int32} {h : cz_H} {oh : cz_O × cz_H} (hz : fn_X3_wornBy l0 l1 h = some oh) : cz_M l D yX3_wornBy (ws_ yX3_wornBy cX3_wornBy 4 ((Option.some Jvm.ClassFile.FieldType.int))) 4 [cz_r l0, cz_i l1] h oh := cz_met (plainFor_of_name (by decide)) (Nat.le_of_ble_eq_true rfl) hz (fun K hl S => wk_X3_wornBy S)
/-! HeldCoats$Reign.worth(I)I -/
def dkwX3_worth_2 : List UInt8 := [28, 172]
abbrev dktX3_worth_2 : List UInt8 := dkwX3_worth_2 ++ []
def dkwX3_worth_1 : List UInt8 := [180, 0, 33, 180, 0, 97, 29, 182, 0, 68, 192, 0, 121, 180, 0, 123, 96, 61, 132, 3, 1, 167, 255, 217]
abbrev dktX3_worth_1 : List UInt8 := dkwX3_worth_1 ++ dktX3_worth_2
def dkwX3_worth_0 : List UInt8 := [3, 61, 3, 62, 29, 42, 182, 0, 134, 162, 0, 37, 27, 29, 184, 0, 111, 153, 0, 23, 28, 42]
abbrev dktX3_worth_0 : List UInt8 := dkwX3_worth_0 ++ dktX3_worth_1
theorem dksX3_worth_0 : cX3_worth.data.toList.drop 0 = dktX3_worth_0 := by decide +kernel
theorem dksX3_worth_1 : cX3_worth.data.toList.drop 22 = dktX3_worth_1 := dk_seg dksX3_worth_0 22 rfl rfl
theorem dksX3_worth_2 : cX3_worth.data.toList.drop 46 = dktX3_worth_2 := dk_seg dksX3_worth_1 24 rfl rfl
theorem dX3_worth_0 : decode cX3_worth 0 = .ok (.iconst 0, 1) := dk_3 (dk_at dksX3_worth_0 0 rfl rfl)
theorem dX3_worth_1 : decode cX3_worth 1 = .ok (.istore_n 2, 1) := dk_61 (dk_at dksX3_worth_0 1 rfl rfl)
theorem dX3_worth_2 : decode cX3_worth 2 = .ok (.iconst 0, 1) := dk_3 (dk_at dksX3_worth_0 2 rfl rfl)
theorem dX3_worth_3 : decode cX3_worth 3 = .ok (.istore_n 3, 1) := dk_62 (dk_at dksX3_worth_0 3 rfl rfl)
theorem dX3_worth_4 : decode cX3_worth 4 = .ok (.iload_n 3, 1) := dk_29 (dk_at dksX3_worth_0 4 rfl rfl)
theorem dX3_worth_5 : decode cX3_worth 5 = .ok (.aload_n 0, 1) := dk_42 (dk_at dksX3_worth_0 5 rfl rfl)
theorem dX3_worth_6 : decode cX3_worth 6 = .ok (.invokevirtual 134, 3) := dk_182 0 134 (dk_at dksX3_worth_0 6 rfl rfl)
theorem dX3_worth_9 : decode cX3_worth 9 = .ok (.if_icmp .ge 37, 3) := dk_162 0 37 (dk_at dksX3_worth_0 9 rfl rfl)
theorem dX3_worth_12 : decode cX3_worth 12 = .ok (.iload_n 1, 1) := dk_27 (dk_at dksX3_worth_0 12 rfl rfl)
theorem dX3_worth_13 : decode cX3_worth 13 = .ok (.iload_n 3, 1) := dk_29 (dk_at dksX3_worth_0 13 rfl rfl)
theorem dX3_worth_14 : decode cX3_worth 14 = .ok (.invokestatic 111, 3) := dk_184 0 111 (dk_at dksX3_worth_0 14 rfl rfl)
theorem dX3_worth_17 : decode cX3_worth 17 = .ok (.ifCond .eq 23, 3) := dk_153 0 23 (dk_at dksX3_worth_0 17 rfl rfl)
theorem dX3_worth_20 : decode cX3_worth 20 = .ok (.iload_n 2, 1) := dk_28 (dk_at dksX3_worth_0 20 rfl rfl)
theorem dX3_worth_21 : decode cX3_worth 21 = .ok (.aload_n 0, 1) := dk_42 (dk_at dksX3_worth_0 21 rfl rfl)
theorem dX3_worth_22 : decode cX3_worth 22 = .ok (.getfield 33, 3) := dk_180 0 33 (dk_at dksX3_worth_1 0 rfl rfl)
theorem dX3_worth_25 : decode cX3_worth 25 = .ok (.getfield 97, 3) := dk_180 0 97 (dk_at dksX3_worth_1 3 rfl rfl)
theorem dX3_worth_28 : decode cX3_worth 28 = .ok (.iload_n 3, 1) := dk_29 (dk_at dksX3_worth_1 6 rfl rfl)
theorem dX3_worth_29 : decode cX3_worth 29 = .ok (.invokevirtual 68, 3) := dk_182 0 68 (dk_at dksX3_worth_1 7 rfl rfl)
theorem dX3_worth_32 : decode cX3_worth 32 = .ok (.checkcast 121, 3) := dk_192 0 121 (dk_at dksX3_worth_1 10 rfl rfl)
theorem dX3_worth_35 : decode cX3_worth 35 = .ok (.getfield 123, 3) := dk_180 0 123 (dk_at dksX3_worth_1 13 rfl rfl)
theorem dX3_worth_38 : decode cX3_worth 38 = .ok (.iadd, 1) := dk_96 (dk_at dksX3_worth_1 16 rfl rfl)
theorem dX3_worth_39 : decode cX3_worth 39 = .ok (.istore_n 2, 1) := dk_61 (dk_at dksX3_worth_1 17 rfl rfl)
theorem dX3_worth_40 : decode cX3_worth 40 = .ok (.iinc 3 1, 3) := dk_132 3 1 (dk_at dksX3_worth_1 18 rfl rfl)
theorem dX3_worth_43 : decode cX3_worth 43 = .ok (.goto (-39), 3) := dk_167 255 217 (dk_at dksX3_worth_1 21 rfl rfl)
theorem dX3_worth_46 : decode cX3_worth 46 = .ok (.iload_n 2, 1) := dk_28 (dk_at dksX3_worth_2 0 rfl rfl)
theorem dX3_worth_47 : decode cX3_worth 47 = .ok (.ireturn, 1) := dk_172 (dk_at dksX3_worth_2 1 rfl rfl)
set_option maxHeartbeats 4000000 in
set_option maxRecDepth 100000 in
noncomputable def fn_X3_worth_4 (l0 : Option Nat) (l1 : Int32) (k0 : Int32 → cz_H → cz_Z) : Nat → Int32 → Int32 → cz_H → cz_Z
  | 0, _, _, _ => none
  | n + 1, l2, l3, h => cz_rc h l0 [3] (cz_cI (fn_X3_seats l0 h) (fun x8 h7 => (if x8 ≤ l3 then k0 l2 h7 else cz_cI (fn_X1_isOf l1 l3 h7) (fun x10 h9 => (if x10 = 0 then cz_leti (l3 + 1) (fun x11 => fn_X3_worth_4 l0 l1 k0 n l2 x11 h9) else cz_getR h9 l0 [(3, 0)] (fun r12 => cz_getR h9 r12 [(1, 6)] (fun r13 => cz_rc h9 r13 [2] (cz_cR (fn_J2_get r13 l3 h9) (fun r21 h20 => cz_cast h20 r21 [10] (cz_getI h20 r21 [(10, 1)] (fun x22 => cz_leti (l2 + x22) (fun x23 => cz_leti (l3 + 1) (fun x24 => fn_X3_worth_4 l0 l1 k0 n x23 x24 h20)))))))))))))
set_option maxHeartbeats 4000000 in
set_option maxRecDepth 100000 in
theorem wk_X3_worth_4 {K : cz_K} {D : cz_D} {h0 : cz_H} {oh : cz_O × cz_H} {l0 : Option Nat} {l1 : Int32} {k0 : Int32 → cz_H → cz_Z} (S : cz_S K D h0 cX3_worth 4 "HeldCoats$Reign" ((Option.some Jvm.ClassFile.FieldType.int)) "worth" ([])) (hk0 : ∀ (e2 : Int32) (h : cz_H), cz_T K D 5 h0 oh 4 (k0 e2 h) h 46 [(2, cz_i e2)] []) : ∀ (n : Nat) (l2 : Int32) (l3 : Int32) (h : cz_H), cz_T K D 5 h0 oh 4 (fn_X3_worth_4 l0 l1 k0 n l2 l3 h) h 4 [(0, cz_r l0), (1, cz_i l1), (2, cz_i l2), (3, cz_i l3)] [] := by
  intro n
  induction n with
  | zero => intros; exact ct_none
  | succ n ih =>
    intro l2 l3 h
    rw [fn_X3_worth_4]
    refine ct_iload_n (k := 3) S dX3_worth_4 rfl rfl ?_
    refine ct_aload_n (k := 0) S dX3_worth_5 rfl rfl ?_
    refine ct_rc (fun b1 ci2 V3 hb4 hc5 hi6 => ?_)
    refine ct_cI (st := [cz_i l3]) (cg_virtual (av := []) S hb4 hc5 hi6 (fun _ e => mt_X3_seats e) md_X3_seats q1132 q1133 se_HeldCoats_Reign_seats___I_HeldCoats_Reign (by decide) (Nat.le_of_ble_eq_true rfl) rfl dX3_worth_6) (fun x8 h7 => ?_)
    refine ct_icmp_ge (tgt := 46) S dX3_worth_9 (by decide) ?_ ?_
    · exact ct_sub [2] rfl (hk0 l2 h7)
    · refine ct_iload_n (k := 1) S dX3_worth_12 rfl rfl ?_
      refine ct_iload_n (k := 3) S dX3_worth_13 rfl rfl ?_
      refine ct_cI (st := []) (cg_static (av := [cz_i l1, cz_i l3]) S (fun _ e => mt_X1_isOf e) md_X1_isOf (Or.inr ⟨_, q1234⟩) q1059 (by decide) (Nat.le_of_ble_eq_true rfl) rfl dX3_worth_14) (fun x10 h9 => ?_)
      refine ct_if_eq (tgt := 40) S dX3_worth_17 (by decide) ?_ ?_
      · refine ct_iincL (j := 3) (L2 := fun x11 => [(3, cz_i x11), (0, cz_r l0), (1, cz_i l1), (2, cz_i l2)]) S dX3_worth_40 rfl kI_1 (by decide) (fun _ => rfl) (fun x11 => ?_)
        refine ct_goto (tgt := 4) S dX3_worth_43 (by decide) ?_
        exact ct_sub [1, 2, 3, 0] rfl (ih l2 x11 h9)
      · refine ct_iload_n (k := 2) S dX3_worth_20 rfl rfl ?_
        refine ct_aload_n (k := 0) S dX3_worth_21 rfl rfl ?_
        refine ct_getR S fw_X3_33 dX3_worth_22 (fun r12 => ?_)
        refine ct_getR S fw_X3_97 dX3_worth_25 (fun r13 => ?_)
        refine ct_iload_n (k := 3) S dX3_worth_28 rfl rfl ?_
        refine ct_rc (fun b14 ci15 V16 hb17 hc18 hi19 => ?_)
        refine ct_cR (st := [cz_i l2]) (cg_virtual (av := [cz_i l3]) S hb17 hc18 hi19 (fun _ e => mt_J2_get e) md_J2_get q344 q345 se_java_util_ArrayList_get__I_Ljava_lang_Object__java_util_ArrayList (by decide) (Nat.le_of_ble_eq_true rfl) rfl dX3_worth_29) (fun r21 h20 => ?_)
        refine ct_cast S q1137 ca_HeldCoats_Told dX3_worth_32 ?_
        refine ct_getI S fw_X3_123 dX3_worth_35 (fun x22 => ?_)
        refine ct_iadd S dX3_worth_38 ?_
        refine ct_leti (fun x23 => ?_)
        refine ct_istore_n (L' := [(2, cz_i x23), (0, cz_r l0), (1, cz_i l1), (3, cz_i l3)]) S dX3_worth_39 rfl (by decide) rfl ?_
        refine ct_iincL (j := 3) (L2 := fun x24 => [(3, cz_i x24), (2, cz_i x23), (0, cz_r l0), (1, cz_i l1)]) S dX3_worth_40 rfl kI_1 (by decide) (fun _ => rfl) (fun x24 => ?_)
        refine ct_goto (tgt := 4) S dX3_worth_43 (by decide) ?_
        exact ct_sub [2, 3, 1, 0] rfl (ih x23 x24 h20)
set_option maxHeartbeats 4000000 in
set_option maxRecDepth 100000 in
noncomputable def fn_X3_worth (l0 : Option Nat) (l1 : Int32) (h : cz_H) : cz_Z := fn_X3_worth_4 l0 l1 (fun (e25 : Int32) (h26 : cz_H) => some (.inl (some (cz_i e25)), h26)) 1000 0 0 h
set_option maxHeartbeats 4000000 in
set_option maxRecDepth 100000 in
theorem wk_X3_worth {K : cz_K} {D : cz_D} {h0 : cz_H} {oh : cz_O × cz_H} {l0 : Option Nat} {l1 : Int32} {h : cz_H} (S : cz_S K D h0 cX3_worth 4 "HeldCoats$Reign" ((Option.some Jvm.ClassFile.FieldType.int)) "worth" ([])) : cz_T K D 5 h0 oh 4 (fn_X3_worth l0 l1 h) h 0 [(0, cz_r l0), (1, cz_i l1)] [] := by
  unfold fn_X3_worth
  refine ct_iconst (v := 0) S dX3_worth_0 kI_0 ?_
  refine ct_istore_n (L' := [(2, cz_i 0), (0, cz_r l0), (1, cz_i l1)]) S dX3_worth_1 rfl (by decide) rfl ?_
  refine ct_iconst (v := 0) S dX3_worth_2 kI_0 ?_
  refine ct_istore_n (L' := [(3, cz_i 0), (2, cz_i 0), (0, cz_r l0), (1, cz_i l1)]) S dX3_worth_3 rfl (by decide) rfl ?_
  refine ct_sub [2, 3, 1, 0] (L' := [(0, cz_r l0), (1, cz_i l1), (2, cz_i 0), (3, cz_i 0)]) rfl (wk_X3_worth_4 S ?_ 1000 0 0 h)
  · intro e25 h26
    refine ct_iload_n (k := 0) S dX3_worth_46 rfl rfl ?_
    exact ct_iret S rfl dX3_worth_47
theorem mt_X3_worth {l : Launch} {D : cz_D} {l0 : Option Nat} {l1 : Int32} {h : cz_H} {oh : cz_O × cz_H} (hz : fn_X3_worth l0 l1 h = some oh) : cz_M l D yX3_worth (ws_ yX3_worth cX3_worth 4 ((Option.some Jvm.ClassFile.FieldType.int))) 5 [cz_r l0, cz_i l1] h oh := cz_met (plainFor_of_name (by decide)) (Nat.le_of_ble_eq_true rfl) hz (fun K hl S => wk_X3_worth S)
/-! HeldCoats.man(II)I -/
def dkwX1_man_7 : List UInt8 := [46, 172, 42, 180, 0, 33, 27, 182, 0, 189, 42, 180, 0, 42, 180, 0, 192, 2, 130, 126, 172]
abbrev dktX1_man_7 : List UInt8 := dkwX1_man_7 ++ []
def dkwX1_man_6 : List UInt8 := [42, 180, 0, 42, 42, 180, 0, 42, 27, 182, 0, 180, 182, 0, 183, 172, 42, 180, 0, 42, 180, 0, 186, 27]
abbrev dktX1_man_6 : List UInt8 := dkwX1_man_6 ++ dktX1_man_7
def dkwX1_man_5 : List UInt8 := [180, 0, 177, 27, 46, 172, 42, 180, 0, 42, 27, 182, 0, 170, 172, 42, 180, 0, 42, 27, 182, 0, 180, 172]
abbrev dktX1_man_5 : List UInt8 := dkwX1_man_5 ++ dktX1_man_6
def dkwX1_man_4 : List UInt8 := [180, 0, 42, 27, 182, 0, 170, 42, 180, 0, 42, 180, 0, 15, 182, 0, 173, 172, 42, 180, 0, 42]
abbrev dktX1_man_4 : List UInt8 := dkwX1_man_4 ++ dktX1_man_5
def dkwX1_man_3 : List UInt8 := [42, 180, 0, 33, 180, 0, 139, 27, 182, 0, 146, 192, 0, 150, 180, 0, 152, 172, 42, 180, 0, 42, 27, 42]
abbrev dktX1_man_3 : List UInt8 := dkwX1_man_3 ++ dktX1_man_4
def dkwX1_man_2 : List UInt8 := [170, 0, 0, 0, 137, 0, 0, 0, 0, 0, 0, 0, 6, 0, 0, 0, 41, 0, 0, 0, 59, 0, 0, 0, 83, 0, 0, 0, 93, 0, 0, 0, 102, 0, 0, 0, 111, 0, 0, 0, 127]
abbrev dktX1_man_2 : List UInt8 := dkwX1_man_2 ++ dktX1_man_3
def dkwX1_man_1 : List UInt8 := [184, 0, 166, 28]
abbrev dktX1_man_1 : List UInt8 := dkwX1_man_1 ++ dktX1_man_2
def dkwX1_man_0 : List UInt8 := [42, 27, 182, 0, 129, 153, 0, 17, 28, 3, 16, 7, 184, 0, 162, 153, 0, 7, 4, 167, 0, 4, 3]
abbrev dktX1_man_0 : List UInt8 := dkwX1_man_0 ++ dktX1_man_1
theorem dksX1_man_0 : cX1_man.data.toList.drop 0 = dktX1_man_0 := by decide +kernel
theorem dksX1_man_1 : cX1_man.data.toList.drop 23 = dktX1_man_1 := dk_seg dksX1_man_0 23 rfl rfl
theorem dksX1_man_2 : cX1_man.data.toList.drop 27 = dktX1_man_2 := dk_seg dksX1_man_1 4 rfl rfl
theorem dksX1_man_3 : cX1_man.data.toList.drop 68 = dktX1_man_3 := dk_seg dksX1_man_2 41 rfl rfl
theorem dksX1_man_4 : cX1_man.data.toList.drop 92 = dktX1_man_4 := dk_seg dksX1_man_3 24 rfl rfl
theorem dksX1_man_5 : cX1_man.data.toList.drop 114 = dktX1_man_5 := dk_seg dksX1_man_4 22 rfl rfl
theorem dksX1_man_6 : cX1_man.data.toList.drop 138 = dktX1_man_6 := dk_seg dksX1_man_5 24 rfl rfl
theorem dksX1_man_7 : cX1_man.data.toList.drop 162 = dktX1_man_7 := dk_seg dksX1_man_6 24 rfl rfl
theorem dX1_man_0 : decode cX1_man 0 = .ok (.aload_n 0, 1) := dk_42 (dk_at dksX1_man_0 0 rfl rfl)
theorem dX1_man_1 : decode cX1_man 1 = .ok (.iload_n 1, 1) := dk_27 (dk_at dksX1_man_0 1 rfl rfl)
theorem dX1_man_2 : decode cX1_man 2 = .ok (.invokevirtual 129, 3) := dk_182 0 129 (dk_at dksX1_man_0 2 rfl rfl)
theorem dX1_man_5 : decode cX1_man 5 = .ok (.ifCond .eq 17, 3) := dk_153 0 17 (dk_at dksX1_man_0 5 rfl rfl)
theorem dX1_man_8 : decode cX1_man 8 = .ok (.iload_n 2, 1) := dk_28 (dk_at dksX1_man_0 8 rfl rfl)
theorem dX1_man_9 : decode cX1_man 9 = .ok (.iconst 0, 1) := dk_3 (dk_at dksX1_man_0 9 rfl rfl)
theorem dX1_man_10 : decode cX1_man 10 = .ok (.bipush 7, 2) := dk_16 7 (dk_at dksX1_man_0 10 rfl rfl)
theorem dX1_man_12 : decode cX1_man 12 = .ok (.invokestatic 162, 3) := dk_184 0 162 (dk_at dksX1_man_0 12 rfl rfl)
theorem dX1_man_15 : decode cX1_man 15 = .ok (.ifCond .eq 7, 3) := dk_153 0 7 (dk_at dksX1_man_0 15 rfl rfl)
theorem dX1_man_18 : decode cX1_man 18 = .ok (.iconst 1, 1) := dk_4 (dk_at dksX1_man_0 18 rfl rfl)
theorem dX1_man_19 : decode cX1_man 19 = .ok (.goto 4, 3) := dk_167 0 4 (dk_at dksX1_man_0 19 rfl rfl)
theorem dX1_man_22 : decode cX1_man 22 = .ok (.iconst 0, 1) := dk_3 (dk_at dksX1_man_0 22 rfl rfl)
theorem dX1_man_23 : decode cX1_man 23 = .ok (.invokestatic 166, 3) := dk_184 0 166 (dk_at dksX1_man_1 0 rfl rfl)
theorem dX1_man_26 : decode cX1_man 26 = .ok (.iload_n 2, 1) := dk_28 (dk_at dksX1_man_1 3 rfl rfl)
theorem dX1_man_27 : decode cX1_man 27 = .ok (.tableswitch 137 0 6 #[41, 59, 83, 93, 102, 111, 127], 41) := by decide +kernel
theorem dX1_man_68 : decode cX1_man 68 = .ok (.aload_n 0, 1) := dk_42 (dk_at dksX1_man_3 0 rfl rfl)
theorem dX1_man_69 : decode cX1_man 69 = .ok (.getfield 33, 3) := dk_180 0 33 (dk_at dksX1_man_3 1 rfl rfl)
theorem dX1_man_72 : decode cX1_man 72 = .ok (.getfield 139, 3) := dk_180 0 139 (dk_at dksX1_man_3 4 rfl rfl)
theorem dX1_man_75 : decode cX1_man 75 = .ok (.iload_n 1, 1) := dk_27 (dk_at dksX1_man_3 7 rfl rfl)
theorem dX1_man_76 : decode cX1_man 76 = .ok (.invokevirtual 146, 3) := dk_182 0 146 (dk_at dksX1_man_3 8 rfl rfl)
theorem dX1_man_79 : decode cX1_man 79 = .ok (.checkcast 150, 3) := dk_192 0 150 (dk_at dksX1_man_3 11 rfl rfl)
theorem dX1_man_82 : decode cX1_man 82 = .ok (.getfield 152, 3) := dk_180 0 152 (dk_at dksX1_man_3 14 rfl rfl)
theorem dX1_man_85 : decode cX1_man 85 = .ok (.ireturn, 1) := dk_172 (dk_at dksX1_man_3 17 rfl rfl)
theorem dX1_man_86 : decode cX1_man 86 = .ok (.aload_n 0, 1) := dk_42 (dk_at dksX1_man_3 18 rfl rfl)
theorem dX1_man_87 : decode cX1_man 87 = .ok (.getfield 42, 3) := dk_180 0 42 (dk_at dksX1_man_3 19 rfl rfl)
theorem dX1_man_90 : decode cX1_man 90 = .ok (.iload_n 1, 1) := dk_27 (dk_at dksX1_man_3 22 rfl rfl)
theorem dX1_man_91 : decode cX1_man 91 = .ok (.aload_n 0, 1) := dk_42 (dk_at dksX1_man_3 23 rfl rfl)
theorem dX1_man_92 : decode cX1_man 92 = .ok (.getfield 42, 3) := dk_180 0 42 (dk_at dksX1_man_4 0 rfl rfl)
theorem dX1_man_95 : decode cX1_man 95 = .ok (.iload_n 1, 1) := dk_27 (dk_at dksX1_man_4 3 rfl rfl)
theorem dX1_man_96 : decode cX1_man 96 = .ok (.invokevirtual 170, 3) := dk_182 0 170 (dk_at dksX1_man_4 4 rfl rfl)
theorem dX1_man_99 : decode cX1_man 99 = .ok (.aload_n 0, 1) := dk_42 (dk_at dksX1_man_4 7 rfl rfl)
theorem dX1_man_100 : decode cX1_man 100 = .ok (.getfield 42, 3) := dk_180 0 42 (dk_at dksX1_man_4 8 rfl rfl)
theorem dX1_man_103 : decode cX1_man 103 = .ok (.getfield 15, 3) := dk_180 0 15 (dk_at dksX1_man_4 11 rfl rfl)
theorem dX1_man_106 : decode cX1_man 106 = .ok (.invokevirtual 173, 3) := dk_182 0 173 (dk_at dksX1_man_4 14 rfl rfl)
theorem dX1_man_109 : decode cX1_man 109 = .ok (.ireturn, 1) := dk_172 (dk_at dksX1_man_4 17 rfl rfl)
theorem dX1_man_110 : decode cX1_man 110 = .ok (.aload_n 0, 1) := dk_42 (dk_at dksX1_man_4 18 rfl rfl)
theorem dX1_man_111 : decode cX1_man 111 = .ok (.getfield 42, 3) := dk_180 0 42 (dk_at dksX1_man_4 19 rfl rfl)
theorem dX1_man_114 : decode cX1_man 114 = .ok (.getfield 177, 3) := dk_180 0 177 (dk_at dksX1_man_5 0 rfl rfl)
theorem dX1_man_117 : decode cX1_man 117 = .ok (.iload_n 1, 1) := dk_27 (dk_at dksX1_man_5 3 rfl rfl)
theorem dX1_man_118 : decode cX1_man 118 = .ok (.iaload, 1) := dk_46 (dk_at dksX1_man_5 4 rfl rfl)
theorem dX1_man_119 : decode cX1_man 119 = .ok (.ireturn, 1) := dk_172 (dk_at dksX1_man_5 5 rfl rfl)
theorem dX1_man_120 : decode cX1_man 120 = .ok (.aload_n 0, 1) := dk_42 (dk_at dksX1_man_5 6 rfl rfl)
theorem dX1_man_121 : decode cX1_man 121 = .ok (.getfield 42, 3) := dk_180 0 42 (dk_at dksX1_man_5 7 rfl rfl)
theorem dX1_man_124 : decode cX1_man 124 = .ok (.iload_n 1, 1) := dk_27 (dk_at dksX1_man_5 10 rfl rfl)
theorem dX1_man_125 : decode cX1_man 125 = .ok (.invokevirtual 170, 3) := dk_182 0 170 (dk_at dksX1_man_5 11 rfl rfl)
theorem dX1_man_128 : decode cX1_man 128 = .ok (.ireturn, 1) := dk_172 (dk_at dksX1_man_5 14 rfl rfl)
theorem dX1_man_129 : decode cX1_man 129 = .ok (.aload_n 0, 1) := dk_42 (dk_at dksX1_man_5 15 rfl rfl)
theorem dX1_man_130 : decode cX1_man 130 = .ok (.getfield 42, 3) := dk_180 0 42 (dk_at dksX1_man_5 16 rfl rfl)
theorem dX1_man_133 : decode cX1_man 133 = .ok (.iload_n 1, 1) := dk_27 (dk_at dksX1_man_5 19 rfl rfl)
theorem dX1_man_134 : decode cX1_man 134 = .ok (.invokevirtual 180, 3) := dk_182 0 180 (dk_at dksX1_man_5 20 rfl rfl)
theorem dX1_man_137 : decode cX1_man 137 = .ok (.ireturn, 1) := dk_172 (dk_at dksX1_man_5 23 rfl rfl)
theorem dX1_man_138 : decode cX1_man 138 = .ok (.aload_n 0, 1) := dk_42 (dk_at dksX1_man_6 0 rfl rfl)
theorem dX1_man_139 : decode cX1_man 139 = .ok (.getfield 42, 3) := dk_180 0 42 (dk_at dksX1_man_6 1 rfl rfl)
theorem dX1_man_142 : decode cX1_man 142 = .ok (.aload_n 0, 1) := dk_42 (dk_at dksX1_man_6 4 rfl rfl)
theorem dX1_man_143 : decode cX1_man 143 = .ok (.getfield 42, 3) := dk_180 0 42 (dk_at dksX1_man_6 5 rfl rfl)
theorem dX1_man_146 : decode cX1_man 146 = .ok (.iload_n 1, 1) := dk_27 (dk_at dksX1_man_6 8 rfl rfl)
theorem dX1_man_147 : decode cX1_man 147 = .ok (.invokevirtual 180, 3) := dk_182 0 180 (dk_at dksX1_man_6 9 rfl rfl)
theorem dX1_man_150 : decode cX1_man 150 = .ok (.invokevirtual 183, 3) := dk_182 0 183 (dk_at dksX1_man_6 12 rfl rfl)
theorem dX1_man_153 : decode cX1_man 153 = .ok (.ireturn, 1) := dk_172 (dk_at dksX1_man_6 15 rfl rfl)
theorem dX1_man_154 : decode cX1_man 154 = .ok (.aload_n 0, 1) := dk_42 (dk_at dksX1_man_6 16 rfl rfl)
theorem dX1_man_155 : decode cX1_man 155 = .ok (.getfield 42, 3) := dk_180 0 42 (dk_at dksX1_man_6 17 rfl rfl)
theorem dX1_man_158 : decode cX1_man 158 = .ok (.getfield 186, 3) := dk_180 0 186 (dk_at dksX1_man_6 20 rfl rfl)
theorem dX1_man_161 : decode cX1_man 161 = .ok (.iload_n 1, 1) := dk_27 (dk_at dksX1_man_6 23 rfl rfl)
theorem dX1_man_162 : decode cX1_man 162 = .ok (.iaload, 1) := dk_46 (dk_at dksX1_man_7 0 rfl rfl)
theorem dX1_man_163 : decode cX1_man 163 = .ok (.ireturn, 1) := dk_172 (dk_at dksX1_man_7 1 rfl rfl)
theorem dX1_man_164 : decode cX1_man 164 = .ok (.aload_n 0, 1) := dk_42 (dk_at dksX1_man_7 2 rfl rfl)
theorem dX1_man_165 : decode cX1_man 165 = .ok (.getfield 33, 3) := dk_180 0 33 (dk_at dksX1_man_7 3 rfl rfl)
theorem dX1_man_168 : decode cX1_man 168 = .ok (.iload_n 1, 1) := dk_27 (dk_at dksX1_man_7 6 rfl rfl)
theorem dX1_man_169 : decode cX1_man 169 = .ok (.invokevirtual 189, 3) := dk_182 0 189 (dk_at dksX1_man_7 7 rfl rfl)
theorem dX1_man_172 : decode cX1_man 172 = .ok (.aload_n 0, 1) := dk_42 (dk_at dksX1_man_7 10 rfl rfl)
theorem dX1_man_173 : decode cX1_man 173 = .ok (.getfield 42, 3) := dk_180 0 42 (dk_at dksX1_man_7 11 rfl rfl)
theorem dX1_man_176 : decode cX1_man 176 = .ok (.getfield 192, 3) := dk_180 0 192 (dk_at dksX1_man_7 14 rfl rfl)
theorem dX1_man_179 : decode cX1_man 179 = .ok (.iconst (-1), 1) := dk_2 (dk_at dksX1_man_7 17 rfl rfl)
theorem dX1_man_180 : decode cX1_man 180 = .ok (.ixor, 1) := dk_130 (dk_at dksX1_man_7 18 rfl rfl)
theorem dX1_man_181 : decode cX1_man 181 = .ok (.iand, 1) := dk_126 (dk_at dksX1_man_7 19 rfl rfl)
theorem dX1_man_182 : decode cX1_man 182 = .ok (.ireturn, 1) := dk_172 (dk_at dksX1_man_7 20 rfl rfl)
theorem se_HeldCoats_isMan__I_Z_HeldCoats : ∀ c ∈ ([0] : List Nat), ∃ q : vw_C, cz_cl[c]? = some q ∧ Cond.selects q.1 (⟨"HeldCoats", "isMan", "(I)Z"⟩ : MethodName) (⟨"HeldCoats", "isMan", "(I)Z"⟩ : MethodName) ∈ lw_all := List.forall_mem_cons.mpr ⟨⟨_, cz_cl0, qs21⟩, fun _ h => absurd h List.not_mem_nil⟩
theorem md_X1_isMan : cz_md yX1_isMan 2 (ws_ yX1_isMan cX1_isMan 2 ((Option.some Jvm.ClassFile.FieldType.boolean))) 1 := ⟨cz_ws_code q1312, q113, ⟨by decide, by decide, by decide +kernel⟩, by decide⟩
theorem fw_X1_192 : cz_FW "HeldCoats" 192 [(3, 4)] "I" := ⟨"HeldCoats$Reign", "eaten", Or.inr ⟨_, q280⟩, List.forall_mem_cons.mpr ⟨⟨RX3, TX3, 14, rfl, by decide, rfl, rfl, Or.inl rfl⟩, fun _ h => absurd h List.not_mem_nil⟩, by decide⟩
theorem fw_X1_186 : cz_FW "HeldCoats" 186 [(3, 12)] "[I" := ⟨"HeldCoats$Reign", "ruled", Or.inr ⟨_, q298⟩, List.forall_mem_cons.mpr ⟨⟨RX3, TX3, 14, rfl, by decide, rfl, rfl, Or.inl rfl⟩, fun _ h => absurd h List.not_mem_nil⟩, by decide⟩
theorem fw_X1_177 : cz_FW "HeldCoats" 177 [(3, 11)] "[I" := ⟨"HeldCoats$Reign", "harm", Or.inr ⟨_, q296⟩, List.forall_mem_cons.mpr ⟨⟨RX3, TX3, 14, rfl, by decide, rfl, rfl, Or.inl rfl⟩, fun _ h => absurd h List.not_mem_nil⟩, by decide⟩
theorem fw_X1_15 : cz_FW "HeldCoats" 15 [(3, 1)] "I" := ⟨"HeldCoats$Reign", "day", Or.inr ⟨_, q274⟩, List.forall_mem_cons.mpr ⟨⟨RX3, TX3, 14, rfl, by decide, rfl, rfl, Or.inl rfl⟩, fun _ h => absurd h List.not_mem_nil⟩, by decide⟩
theorem fw_X1_139 : cz_FW "HeldCoats" 139 [(1, 7)] "Ljava/util/ArrayList;" := ⟨"HeldCoats$Capital", "men", Or.inr ⟨_, q229⟩, List.forall_mem_cons.mpr ⟨⟨RX2, TX2, 11, rfl, by decide, rfl, rfl, Or.inl rfl⟩, fun _ h => absurd h List.not_mem_nil⟩, by decide⟩
theorem fw_X1_152 : cz_FW "HeldCoats" 152 [(10, 1)] "I" := ⟨"HeldCoats$Told", "number", Or.inr ⟨_, q942⟩, List.forall_mem_cons.mpr ⟨⟨RX10, TX10, 2, rfl, by decide, rfl, rfl, Or.inl rfl⟩, fun _ h => absurd h List.not_mem_nil⟩, by decide⟩
theorem se_HeldCoats_Capital_coatsOf__I_I_HeldCoats_Capital : ∀ c ∈ ([1] : List Nat), ∃ q : vw_C, cz_cl[c]? = some q ∧ Cond.selects q.1 (⟨"HeldCoats$Capital", "coatsOf", "(I)I"⟩ : MethodName) (⟨"HeldCoats$Capital", "coatsOf", "(I)I"⟩ : MethodName) ∈ lw_all := List.forall_mem_cons.mpr ⟨⟨_, cz_cl1, q1369⟩, fun _ h => absurd h List.not_mem_nil⟩
theorem md_X2_coatsOf : cz_md yX2_coatsOf 4 (ws_ yX2_coatsOf cX2_coatsOf 4 ((Option.some Jvm.ClassFile.FieldType.int))) 1 := ⟨cz_ws_code q1370, q114, ⟨by decide, by decide, by decide +kernel⟩, by decide⟩
theorem se_HeldCoats_Reign_heldBy__I_I_HeldCoats_Reign : ∀ c ∈ ([3] : List Nat), ∃ q : vw_C, cz_cl[c]? = some q ∧ Cond.selects q.1 (⟨"HeldCoats$Reign", "heldBy", "(I)I"⟩ : MethodName) (⟨"HeldCoats$Reign", "heldBy", "(I)I"⟩ : MethodName) ∈ lw_all := List.forall_mem_cons.mpr ⟨⟨_, cz_cl3, q1854⟩, fun _ h => absurd h List.not_mem_nil⟩
theorem md_X3_heldBy : cz_md yX3_heldBy 4 (ws_ yX3_heldBy cX3_heldBy 4 ((Option.some Jvm.ClassFile.FieldType.int))) 1 := ⟨cz_ws_code q1855, q118, ⟨by decide, by decide, by decide +kernel⟩, by decide⟩
theorem se_HeldCoats_Reign_worth__I_I_HeldCoats_Reign : ∀ c ∈ ([3] : List Nat), ∃ q : vw_C, cz_cl[c]? = some q ∧ Cond.selects q.1 (⟨"HeldCoats$Reign", "worth", "(I)I"⟩ : MethodName) (⟨"HeldCoats$Reign", "worth", "(I)I"⟩ : MethodName) ∈ lw_all := List.forall_mem_cons.mpr ⟨⟨_, cz_cl3, q1858⟩, fun _ h => absurd h List.not_mem_nil⟩
theorem md_X3_worth : cz_md yX3_worth 4 (ws_ yX3_worth cX3_worth 4 ((Option.some Jvm.ClassFile.FieldType.int))) 1 := ⟨cz_ws_code q1859, q118, ⟨by decide, by decide, by decide +kernel⟩, by decide⟩
theorem se_HeldCoats_Reign_wornBy__I_I_HeldCoats_Reign : ∀ c ∈ ([3] : List Nat), ∃ q : vw_C, cz_cl[c]? = some q ∧ Cond.selects q.1 (⟨"HeldCoats$Reign", "wornBy", "(I)I"⟩ : MethodName) (⟨"HeldCoats$Reign", "wornBy", "(I)I"⟩ : MethodName) ∈ lw_all := List.forall_mem_cons.mpr ⟨⟨_, cz_cl3, q1223⟩, fun _ h => absurd h List.not_mem_nil⟩
theorem md_X3_wornBy : cz_md yX3_wornBy 4 (ws_ yX3_wornBy cX3_wornBy 4 ((Option.some Jvm.ClassFile.FieldType.int))) 1 := ⟨cz_ws_code q1224, q118, ⟨by decide, by decide, by decide +kernel⟩, by decide⟩
theorem se_HeldCoats_Reign_chill__III_I_HeldCoats_Reign : ∀ c ∈ ([3] : List Nat), ∃ q : vw_C, cz_cl[c]? = some q ∧ Cond.selects q.1 (⟨"HeldCoats$Reign", "chill", "(III)I"⟩ : MethodName) (⟨"HeldCoats$Reign", "chill", "(III)I"⟩ : MethodName) ∈ lw_all := List.forall_mem_cons.mpr ⟨⟨_, cz_cl3, q1227⟩, fun _ h => absurd h List.not_mem_nil⟩
theorem md_X3_chill : cz_md yX3_chill 4 (ws_ yX3_chill cX3_chill 4 ((Option.some Jvm.ClassFile.FieldType.int))) 3 := ⟨cz_ws_code q1228, q118, ⟨by decide, by decide, by decide +kernel⟩, by decide⟩
set_option maxHeartbeats 4000000 in
set_option maxRecDepth 100000 in
noncomputable def fn_X1_man (l0 : Option Nat) (l1 : Int32) (l2 : Int32) (h : cz_H) : cz_Z := cz_rc h l0 [0] (cz_cI (fn_X1_isMan l0 l1 h) (fun x8 h7 => cz_jn (fun (v9 : Int32) (h10 : cz_H) => cz_xV (fn_X1_need v9 h10) (fun q12 h13 => cz_thr q12 h13) (fun h11 => (if l2 = 0 then cz_getR h11 l0 [(0, 3)] (fun r87 => cz_getR h11 r87 [(1, 7)] (fun r88 => cz_rc h11 r88 [2] (cz_cR (fn_J2_get r88 l1 h11) (fun r96 h95 => cz_cast h95 r96 [10] (cz_getI h95 r96 [(10, 1)] (fun x97 => some (.inl (some (cz_i x97)), h95))))))) else if l2 = 1 then cz_getR h11 l0 [(0, 4)] (fun r67 => cz_getR h11 l0 [(0, 4)] (fun r68 => cz_rc h11 r68 [3] (cz_cI (fn_X3_wornBy r68 l1 h11) (fun x76 h75 => cz_getR h75 l0 [(0, 4)] (fun r77 => cz_getI h75 r77 [(3, 1)] (fun x78 => cz_rc h75 r67 [3] (cz_cI (fn_X3_chill r67 l1 x76 x78 h75) (fun x86 h85 => some (.inl (some (cz_i x86)), h85))))))))) else if l2 = 2 then cz_getR h11 l0 [(0, 4)] (fun r64 => cz_getR h11 r64 [(3, 11)] (fun r65 => cz_iald h11 r65 l1 (fun x66 => some (.inl (some (cz_i x66)), h11)))) else if l2 = 3 then cz_getR h11 l0 [(0, 4)] (fun r55 => cz_rc h11 r55 [3] (cz_cI (fn_X3_wornBy r55 l1 h11) (fun x63 h62 => some (.inl (some (cz_i x63)), h62)))) else if l2 = 4 then cz_getR h11 l0 [(0, 4)] (fun r46 => cz_rc h11 r46 [3] (cz_cI (fn_X3_heldBy r46 l1 h11) (fun x54 h53 => some (.inl (some (cz_i x54)), h53)))) else if l2 = 5 then cz_getR h11 l0 [(0, 4)] (fun r28 => cz_getR h11 l0 [(0, 4)] (fun r29 => cz_rc h11 r29 [3] (cz_cI (fn_X3_heldBy r29 l1 h11) (fun x37 h36 => cz_rc h36 r28 [3] (cz_cI (fn_X3_worth r28 x37 h36) (fun x45 h44 => some (.inl (some (cz_i x45)), h44))))))) else if l2 = 6 then cz_getR h11 l0 [(0, 4)] (fun r25 => cz_getR h11 r25 [(3, 12)] (fun r26 => cz_iald h11 r26 l1 (fun x27 => some (.inl (some (cz_i x27)), h11)))) else cz_getR h11 l0 [(0, 3)] (fun r14 => cz_rc h11 r14 [1] (cz_cI (fn_X2_coatsOf r14 l1 h11) (fun x22 h21 => cz_getR h21 l0 [(0, 4)] (fun r23 => cz_getI h21 r23 [(3, 4)] (fun x24 => some (.inl (some (cz_i (x22 &&& (x24 ^^^ (-1))))), h21))))))))) (fun j98 => cz_jn (fun (h99 : cz_H) => j98 0 h99) (fun j100 => (if x8 = 0 then j100 h7 else cz_cI (fn_X1_isIn l2 0 7 h7) (fun x102 h101 => (if x102 = 0 then j100 h101 else j98 1 h101)))))))
set_option maxHeartbeats 4000000 in
set_option maxRecDepth 100000 in
theorem wk_X1_man {K : cz_K} {D : cz_D} {h0 : cz_H} {oh : cz_O × cz_H} {l0 : Option Nat} {l1 : Int32} {l2 : Int32} {h : cz_H} (hfl : K.2.1.stackTraces = false) (S : cz_S K D h0 cX1_man 3 "HeldCoats" ((Option.some Jvm.ClassFile.FieldType.int)) "man" ([])) : cz_T K D 15 h0 oh 3 (fn_X1_man l0 l1 l2 h) h 0 [(0, cz_r l0), (1, cz_i l1), (2, cz_i l2)] [] := by
  unfold fn_X1_man
  refine ct_aload_n (k := 0) S dX1_man_0 rfl rfl ?_
  refine ct_iload_n (k := 1) S dX1_man_1 rfl rfl ?_
  refine ct_rc (fun b1 ci2 V3 hb4 hc5 hi6 => ?_)
  refine ct_cI (st := []) (cg_virtual (av := [cz_i l1]) S hb4 hc5 hi6 (fun _ e => mt_X1_isMan e) md_X1_isMan q1309 q1311 se_HeldCoats_isMan__I_Z_HeldCoats (by decide) (Nat.le_of_ble_eq_true rfl) rfl dX1_man_2) (fun x8 h7 => ?_)
  refine ct_jnP (fun j98 => ∀ (v9 : Int32) (h10 : cz_H), cz_T K D 15 h0 oh 3 (j98 v9 h10) h10 23 [(0, cz_r l0), (1, cz_i l1), (2, cz_i l2)] [cz_i v9]) (fun v9 h10 => ?_) (fun j98 Hj98 => ?_)
  · refine ct_xV (st := []) (cg_static (av := [cz_i v9]) S (fun _ e => mt_X1_need hfl e) md_X1_need (Or.inl q1826) q1827 (by decide) (Nat.le_of_ble_eq_true rfl) rfl dX1_man_23) (fun q12 h13 => ?_) (fun h11 => ?_)
    · exact ct_out S (fun x hx => by cases hx)
    · refine ct_iload_n (k := 2) S dX1_man_26 rfl rfl ?_
      refine ct_case ?_ (fun c0_ => ?_)
      · refine ct_tableIn (tgt := 68) S dX1_man_27 (by decide) (by decide) rfl (by decide) ?_
        refine ct_aload_n (k := 0) S dX1_man_68 rfl rfl ?_
        refine ct_getR S fw_X1_33 dX1_man_69 (fun r87 => ?_)
        refine ct_getR S fw_X1_139 dX1_man_72 (fun r88 => ?_)
        refine ct_iload_n (k := 1) S dX1_man_75 rfl rfl ?_
        refine ct_rc (fun b89 ci90 V91 hb92 hc93 hi94 => ?_)
        refine ct_cR (st := []) (cg_virtual (av := [cz_i l1]) S hb92 hc93 hi94 (fun _ e => mt_J2_get e) md_J2_get q1092 q345 se_java_util_ArrayList_get__I_Ljava_lang_Object__java_util_ArrayList (by decide) (Nat.le_of_ble_eq_true rfl) rfl dX1_man_76) (fun r96 h95 => ?_)
        refine ct_cast S q1093 ca_HeldCoats_Told dX1_man_79 ?_
        refine ct_getI S fw_X1_152 dX1_man_82 (fun x97 => ?_)
        exact ct_iret S rfl dX1_man_85
      · refine ct_case ?_ (fun c1_ => ?_)
        · refine ct_tableIn (tgt := 86) S dX1_man_27 (by decide) (by decide) rfl (by decide) ?_
          refine ct_aload_n (k := 0) S dX1_man_86 rfl rfl ?_
          refine ct_getR S fw_X1_42 dX1_man_87 (fun r67 => ?_)
          refine ct_iload_n (k := 1) S dX1_man_90 rfl rfl ?_
          refine ct_aload_n (k := 0) S dX1_man_91 rfl rfl ?_
          refine ct_getR S fw_X1_42 dX1_man_92 (fun r68 => ?_)
          refine ct_iload_n (k := 1) S dX1_man_95 rfl rfl ?_
          refine ct_rc (fun b69 ci70 V71 hb72 hc73 hi74 => ?_)
          refine ct_cI (st := [cz_i l1, cz_r r67]) (cg_virtual (av := [cz_i l1]) S hb72 hc73 hi74 (fun _ e => mt_X3_wornBy e) md_X3_wornBy q1366 q1222 se_HeldCoats_Reign_wornBy__I_I_HeldCoats_Reign (by decide) (Nat.le_of_ble_eq_true rfl) rfl dX1_man_96) (fun x76 h75 => ?_)
          refine ct_aload_n (k := 0) S dX1_man_99 rfl rfl ?_
          refine ct_getR S fw_X1_42 dX1_man_100 (fun r77 => ?_)
          refine ct_getI S fw_X1_15 dX1_man_103 (fun x78 => ?_)
          refine ct_rc (fun b79 ci80 V81 hb82 hc83 hi84 => ?_)
          refine ct_cI (st := []) (cg_virtual (av := [cz_i l1, cz_i x76, cz_i x78]) S hb82 hc83 hi84 (fun _ e => mt_X3_chill e) md_X3_chill q1373 q1226 se_HeldCoats_Reign_chill__III_I_HeldCoats_Reign (by decide) (Nat.le_of_ble_eq_true rfl) rfl dX1_man_106) (fun x86 h85 => ?_)
          exact ct_iret S rfl dX1_man_109
        · refine ct_case ?_ (fun c2_ => ?_)
          · refine ct_tableIn (tgt := 110) S dX1_man_27 (by decide) (by decide) rfl (by decide) ?_
            refine ct_aload_n (k := 0) S dX1_man_110 rfl rfl ?_
            refine ct_getR S fw_X1_42 dX1_man_111 (fun r64 => ?_)
            refine ct_getR S fw_X1_177 dX1_man_114 (fun r65 => ?_)
            refine ct_iload_n (k := 1) S dX1_man_117 rfl rfl ?_
            refine ct_iald S dX1_man_118 (fun x66 => ?_)
            exact ct_iret S rfl dX1_man_119
          · refine ct_case ?_ (fun c3_ => ?_)
            · refine ct_tableIn (tgt := 120) S dX1_man_27 (by decide) (by decide) rfl (by decide) ?_
              refine ct_aload_n (k := 0) S dX1_man_120 rfl rfl ?_
              refine ct_getR S fw_X1_42 dX1_man_121 (fun r55 => ?_)
              refine ct_iload_n (k := 1) S dX1_man_124 rfl rfl ?_
              refine ct_rc (fun b56 ci57 V58 hb59 hc60 hi61 => ?_)
              refine ct_cI (st := []) (cg_virtual (av := [cz_i l1]) S hb59 hc60 hi61 (fun _ e => mt_X3_wornBy e) md_X3_wornBy q1366 q1222 se_HeldCoats_Reign_wornBy__I_I_HeldCoats_Reign (by decide) (Nat.le_of_ble_eq_true rfl) rfl dX1_man_125) (fun x63 h62 => ?_)
              exact ct_iret S rfl dX1_man_128
            · refine ct_case ?_ (fun c4_ => ?_)
              · refine ct_tableIn (tgt := 129) S dX1_man_27 (by decide) (by decide) rfl (by decide) ?_
                refine ct_aload_n (k := 0) S dX1_man_129 rfl rfl ?_
                refine ct_getR S fw_X1_42 dX1_man_130 (fun r46 => ?_)
                refine ct_iload_n (k := 1) S dX1_man_133 rfl rfl ?_
                refine ct_rc (fun b47 ci48 V49 hb50 hc51 hi52 => ?_)
                refine ct_cI (st := []) (cg_virtual (av := [cz_i l1]) S hb50 hc51 hi52 (fun _ e => mt_X3_heldBy e) md_X3_heldBy q1852 q1853 se_HeldCoats_Reign_heldBy__I_I_HeldCoats_Reign (by decide) (Nat.le_of_ble_eq_true rfl) rfl dX1_man_134) (fun x54 h53 => ?_)
                exact ct_iret S rfl dX1_man_137
              · refine ct_case ?_ (fun c5_ => ?_)
                · refine ct_tableIn (tgt := 138) S dX1_man_27 (by decide) (by decide) rfl (by decide) ?_
                  refine ct_aload_n (k := 0) S dX1_man_138 rfl rfl ?_
                  refine ct_getR S fw_X1_42 dX1_man_139 (fun r28 => ?_)
                  refine ct_aload_n (k := 0) S dX1_man_142 rfl rfl ?_
                  refine ct_getR S fw_X1_42 dX1_man_143 (fun r29 => ?_)
                  refine ct_iload_n (k := 1) S dX1_man_146 rfl rfl ?_
                  refine ct_rc (fun b30 ci31 V32 hb33 hc34 hi35 => ?_)
                  refine ct_cI (st := [cz_r r28]) (cg_virtual (av := [cz_i l1]) S hb33 hc34 hi35 (fun _ e => mt_X3_heldBy e) md_X3_heldBy q1852 q1853 se_HeldCoats_Reign_heldBy__I_I_HeldCoats_Reign (by decide) (Nat.le_of_ble_eq_true rfl) rfl dX1_man_147) (fun x37 h36 => ?_)
                  refine ct_rc (fun b38 ci39 V40 hb41 hc42 hi43 => ?_)
                  refine ct_cI (st := []) (cg_virtual (av := [cz_i x37]) S hb41 hc42 hi43 (fun _ e => mt_X3_worth e) md_X3_worth q1856 q1857 se_HeldCoats_Reign_worth__I_I_HeldCoats_Reign (by decide) (Nat.le_of_ble_eq_true rfl) rfl dX1_man_150) (fun x45 h44 => ?_)
                  exact ct_iret S rfl dX1_man_153
                · refine ct_case ?_ (fun c6_ => ?_)
                  · refine ct_tableIn (tgt := 154) S dX1_man_27 (by decide) (by decide) rfl (by decide) ?_
                    refine ct_aload_n (k := 0) S dX1_man_154 rfl rfl ?_
                    refine ct_getR S fw_X1_42 dX1_man_155 (fun r25 => ?_)
                    refine ct_getR S fw_X1_186 dX1_man_158 (fun r26 => ?_)
                    refine ct_iload_n (k := 1) S dX1_man_161 rfl rfl ?_
                    refine ct_iald S dX1_man_162 (fun x27 => ?_)
                    exact ct_iret S rfl dX1_man_163
                  · refine ct_tableOut (tgt := 164) S dX1_man_27 (by have := lv_neT c0_ (show (0 : Int32).toInt = 0 by decide); have := lv_neT c1_ (show (1 : Int32).toInt = 1 by decide); have := lv_neT c2_ (show (2 : Int32).toInt = 2 by decide); have := lv_neT c3_ (show (3 : Int32).toInt = 3 by decide); have := lv_neT c4_ (show (4 : Int32).toInt = 4 by decide); have := lv_neT c5_ (show (5 : Int32).toInt = 5 by decide); have := lv_neT c6_ (show (6 : Int32).toInt = 6 by decide); omega) (by decide) ?_
                    refine ct_aload_n (k := 0) S dX1_man_164 rfl rfl ?_
                    refine ct_getR S fw_X1_33 dX1_man_165 (fun r14 => ?_)
                    refine ct_iload_n (k := 1) S dX1_man_168 rfl rfl ?_
                    refine ct_rc (fun b15 ci16 V17 hb18 hc19 hi20 => ?_)
                    refine ct_cI (st := []) (cg_virtual (av := [cz_i l1]) S hb18 hc19 hi20 (fun _ e => mt_X2_coatsOf e) md_X2_coatsOf q1367 q1368 se_HeldCoats_Capital_coatsOf__I_I_HeldCoats_Capital (by decide) (Nat.le_of_ble_eq_true rfl) rfl dX1_man_169) (fun x22 h21 => ?_)
                    refine ct_aload_n (k := 0) S dX1_man_172 rfl rfl ?_
                    refine ct_getR S fw_X1_42 dX1_man_173 (fun r23 => ?_)
                    refine ct_getI S fw_X1_192 dX1_man_176 (fun x24 => ?_)
                    refine ct_iconst (v := (-1)) S dX1_man_179 kI_m1 ?_
                    refine ct_ixor S dX1_man_180 ?_
                    refine ct_iand S dX1_man_181 ?_
                    exact ct_iret S rfl dX1_man_182
  · refine ct_jnP (fun j100 => ∀ (h99 : cz_H), cz_T K D 15 h0 oh 3 (j100 h99) h99 22 [(0, cz_r l0), (1, cz_i l1), (2, cz_i l2)] []) (fun h99 => ?_) (fun j100 Hj100 => ?_)
    · refine ct_iconst (v := 0) S dX1_man_22 kI_0 ?_
      exact Hj98 0 h99
    · refine ct_if_eq (tgt := 22) S dX1_man_5 (by decide) ?_ ?_
      · exact Hj100 h7
      · refine ct_iload_n (k := 2) S dX1_man_8 rfl rfl ?_
        refine ct_iconst (v := 0) S dX1_man_9 kI_0 ?_
        refine ct_bipush (v := 7) S dX1_man_10 kB_7 ?_
        refine ct_cI (st := []) (cg_static (av := [cz_i l2, cz_i 0, cz_i 7]) S (fun _ e => mt_X1_isIn e) md_X1_isIn (Or.inl q1355) q929 (by decide) (Nat.le_of_ble_eq_true rfl) rfl dX1_man_12) (fun x102 h101 => ?_)
        refine ct_if_eq (tgt := 22) S dX1_man_15 (by decide) ?_ ?_
        · exact Hj100 h101
        · refine ct_iconst (v := 1) S dX1_man_18 kI_1 ?_
          refine ct_goto (tgt := 23) S dX1_man_19 (by decide) ?_
          exact Hj98 1 h101
theorem mt_X1_man {l : Launch} {D : cz_D} {l0 : Option Nat} {l1 : Int32} {l2 : Int32} {h : cz_H} {oh : cz_O × cz_H} (hfl : l.stackTraces = false) (hz : fn_X1_man l0 l1 l2 h = some oh) : cz_M l D yX1_man (ws_ yX1_man cX1_man 3 ((Option.some Jvm.ClassFile.FieldType.int))) 15 [cz_r l0, cz_i l1, cz_i l2] h oh := cz_met (plainFor_of_name (by decide)) (Nat.le_of_ble_eq_true rfl) hz (fun K hl S => wk_X1_man (by rw [hl]; exact hfl) S)
/-! HeldCoatsLaw.man(LHeldCoats;II[J)I -/
def dkwX0_man_0 : List UInt8 := [45, 3, 42, 27, 28, 182, 0, 7, 133, 80, 167, 0, 7, 58, 4, 4, 172, 3, 172]
abbrev dktX0_man_0 : List UInt8 := dkwX0_man_0 ++ []
theorem dksX0_man_0 : cX0_man.data.toList.drop 0 = dktX0_man_0 := by decide +kernel
theorem dX0_man_0 : decode cX0_man 0 = .ok (.aload_n 3, 1) := dk_45 (dk_at dksX0_man_0 0 rfl rfl)
theorem dX0_man_1 : decode cX0_man 1 = .ok (.iconst 0, 1) := dk_3 (dk_at dksX0_man_0 1 rfl rfl)
theorem dX0_man_2 : decode cX0_man 2 = .ok (.aload_n 0, 1) := dk_42 (dk_at dksX0_man_0 2 rfl rfl)
theorem dX0_man_3 : decode cX0_man 3 = .ok (.iload_n 1, 1) := dk_27 (dk_at dksX0_man_0 3 rfl rfl)
theorem dX0_man_4 : decode cX0_man 4 = .ok (.iload_n 2, 1) := dk_28 (dk_at dksX0_man_0 4 rfl rfl)
theorem dX0_man_5 : decode cX0_man 5 = .ok (.invokevirtual 7, 3) := dk_182 0 7 (dk_at dksX0_man_0 5 rfl rfl)
theorem dX0_man_8 : decode cX0_man 8 = .ok (.i2l, 1) := dk_133 (dk_at dksX0_man_0 8 rfl rfl)
theorem dX0_man_9 : decode cX0_man 9 = .ok (.lastore, 1) := dk_80 (dk_at dksX0_man_0 9 rfl rfl)
theorem dX0_man_10 : decode cX0_man 10 = .ok (.goto 7, 3) := dk_167 0 7 (dk_at dksX0_man_0 10 rfl rfl)
theorem dX0_man_13 : decode cX0_man 13 = .ok (.astore 4, 2) := dk_58 4 (dk_at dksX0_man_0 13 rfl rfl)
theorem dX0_man_15 : decode cX0_man 15 = .ok (.iconst 1, 1) := dk_4 (dk_at dksX0_man_0 15 rfl rfl)
theorem dX0_man_16 : decode cX0_man 16 = .ok (.ireturn, 1) := dk_172 (dk_at dksX0_man_0 16 rfl rfl)
theorem dX0_man_17 : decode cX0_man 17 = .ok (.iconst 0, 1) := dk_3 (dk_at dksX0_man_0 17 rfl rfl)
theorem dX0_man_18 : decode cX0_man 18 = .ok (.ireturn, 1) := dk_172 (dk_at dksX0_man_0 18 rfl rfl)
theorem se_HeldCoats_man__II_I_HeldCoats : ∀ c ∈ ([0] : List Nat), ∃ q : vw_C, cz_cl[c]? = some q ∧ Cond.selects q.1 (⟨"HeldCoats", "man", "(II)I"⟩ : MethodName) (⟨"HeldCoats", "man", "(II)I"⟩ : MethodName) ∈ lw_all := List.forall_mem_cons.mpr ⟨⟨_, cz_cl0, q1824⟩, fun _ h => absurd h List.not_mem_nil⟩
theorem md_X1_man : cz_md yX1_man 3 (ws_ yX1_man cX1_man 3 ((Option.some Jvm.ClassFile.FieldType.int))) 2 := ⟨cz_ws_code q1825, q113, ⟨by decide, by decide, by decide +kernel⟩, by decide⟩
set_option maxHeartbeats 4000000 in
set_option maxRecDepth 100000 in
noncomputable def fn_X0_man (l0 : Option Nat) (l1 : Int32) (l2 : Int32) (l3 : Option Nat) (h : cz_H) : cz_Z := cz_rc h l0 [0] (cz_xI (fn_X1_man l0 l1 l2 h) (fun q8 h9 => cz_catch h9 q8 [24] (some (.inl (some (cz_i 1)), h9))) (fun x10 h7 => cz_last h7 l3 0 ((x10).toInt64) (fun h11 => some (.inl (some (cz_i 0)), h11))))
set_option maxHeartbeats 4000000 in
set_option maxRecDepth 100000 in
theorem wk_X0_man {K : cz_K} {D : cz_D} {h0 : cz_H} {oh : cz_O × cz_H} {l0 : Option Nat} {l1 : Int32} {l2 : Int32} {l3 : Option Nat} {h : cz_H} (hfl : K.2.1.stackTraces = false) (S : cz_S K D h0 cX0_man 5 "HeldCoatsLaw" ((Option.some Jvm.ClassFile.FieldType.int)) "man" (tableOf [(0, 10, 13, 13)])) : cz_T K D 16 h0 oh 5 (fn_X0_man l0 l1 l2 l3 h) h 0 [(0, cz_r l0), (1, cz_i l1), (2, cz_i l2), (3, cz_r l3)] [] := by
  unfold fn_X0_man
  refine ct_aload_n (k := 3) S dX0_man_0 rfl rfl ?_
  refine ct_iconst (v := 0) S dX0_man_1 kI_0 ?_
  refine ct_aload_n (k := 0) S dX0_man_2 rfl rfl ?_
  refine ct_iload_n (k := 1) S dX0_man_3 rfl rfl ?_
  refine ct_iload_n (k := 2) S dX0_man_4 rfl rfl ?_
  refine ct_rc (fun b1 ci2 V3 hb4 hc5 hi6 => ?_)
  refine ct_xI (st := [cz_i 0, cz_r l3]) (cg_virtual (av := [cz_i l1, cz_i l2]) S hb4 hc5 hi6 (fun _ e => mt_X1_man hfl e) md_X1_man q1822 q1823 se_HeldCoats_man__II_I_HeldCoats (by decide) (Nat.le_of_ble_eq_true rfl) rfl dX0_man_5) (fun q8 h9 => ?_) (fun x10 h7 => ?_)
  · refine ct_catch (hp := 13) S rfl rfl (by decide) rfl q1821 cc_java_util_NoSuchElementException ?_
    refine ct_astore (L' := [(4, cz_r (some q8)), (0, cz_r l0), (1, cz_i l1), (2, cz_i l2), (3, cz_r l3)]) S dX0_man_13 (by decide) rfl ?_
    refine ct_iconst (v := 1) S dX0_man_15 kI_1 ?_
    exact ct_iret S rfl dX0_man_16
  · refine ct_i2l S dX0_man_8 ?_
    refine ct_last S dX0_man_9 (fun h11 => ?_)
    refine ct_goto (tgt := 17) S dX0_man_10 (by decide) ?_
    refine ct_iconst (v := 0) S dX0_man_17 kI_0 ?_
    exact ct_iret S rfl dX0_man_18
theorem mt_X0_man {l : Launch} {D : cz_D} {l0 : Option Nat} {l1 : Int32} {l2 : Int32} {l3 : Option Nat} {h : cz_H} {oh : cz_O × cz_H} (hfl : l.stackTraces = false) (hz : fn_X0_man l0 l1 l2 l3 h = some oh) : cz_M l D yX0_man (wsW_ yX0_man cX0_man 5 ((Option.some Jvm.ClassFile.FieldType.int)) [(0, 10, 13, 13)]) 16 [cz_r l0, cz_i l1, cz_i l2, cz_r l3] h oh := cz_metW (plainFor_of_name (by decide)) (Nat.le_of_ble_eq_true rfl) hz (fun K hl S => wk_X0_man (by rw [hl]; exact hfl) S)
/-! HeldCoats.ahead(I)I -/
def dkwX1_ahead_1 : List UInt8 := [160, 0, 5, 28, 172, 132, 2, 1, 167, 255, 227, 2, 172]
abbrev dktX1_ahead_1 : List UInt8 := dkwX1_ahead_1 ++ []
def dkwX1_ahead_0 : List UInt8 := [3, 61, 28, 42, 180, 0, 42, 180, 0, 229, 162, 0, 24, 42, 180, 0, 42, 180, 1, 44, 28, 46, 27]
abbrev dktX1_ahead_0 : List UInt8 := dkwX1_ahead_0 ++ dktX1_ahead_1
theorem dksX1_ahead_0 : cX1_ahead.data.toList.drop 0 = dktX1_ahead_0 := by decide +kernel
theorem dksX1_ahead_1 : cX1_ahead.data.toList.drop 23 = dktX1_ahead_1 := dk_seg dksX1_ahead_0 23 rfl rfl
theorem dX1_ahead_0 : decode cX1_ahead 0 = .ok (.iconst 0, 1) := dk_3 (dk_at dksX1_ahead_0 0 rfl rfl)
theorem dX1_ahead_1 : decode cX1_ahead 1 = .ok (.istore_n 2, 1) := dk_61 (dk_at dksX1_ahead_0 1 rfl rfl)
theorem dX1_ahead_2 : decode cX1_ahead 2 = .ok (.iload_n 2, 1) := dk_28 (dk_at dksX1_ahead_0 2 rfl rfl)
theorem dX1_ahead_3 : decode cX1_ahead 3 = .ok (.aload_n 0, 1) := dk_42 (dk_at dksX1_ahead_0 3 rfl rfl)
theorem dX1_ahead_4 : decode cX1_ahead 4 = .ok (.getfield 42, 3) := dk_180 0 42 (dk_at dksX1_ahead_0 4 rfl rfl)
theorem dX1_ahead_7 : decode cX1_ahead 7 = .ok (.getfield 229, 3) := dk_180 0 229 (dk_at dksX1_ahead_0 7 rfl rfl)
theorem dX1_ahead_10 : decode cX1_ahead 10 = .ok (.if_icmp .ge 24, 3) := dk_162 0 24 (dk_at dksX1_ahead_0 10 rfl rfl)
theorem dX1_ahead_13 : decode cX1_ahead 13 = .ok (.aload_n 0, 1) := dk_42 (dk_at dksX1_ahead_0 13 rfl rfl)
theorem dX1_ahead_14 : decode cX1_ahead 14 = .ok (.getfield 42, 3) := dk_180 0 42 (dk_at dksX1_ahead_0 14 rfl rfl)
theorem dX1_ahead_17 : decode cX1_ahead 17 = .ok (.getfield 300, 3) := dk_180 1 44 (dk_at dksX1_ahead_0 17 rfl rfl)
theorem dX1_ahead_20 : decode cX1_ahead 20 = .ok (.iload_n 2, 1) := dk_28 (dk_at dksX1_ahead_0 20 rfl rfl)
theorem dX1_ahead_21 : decode cX1_ahead 21 = .ok (.iaload, 1) := dk_46 (dk_at dksX1_ahead_0 21 rfl rfl)
theorem dX1_ahead_22 : decode cX1_ahead 22 = .ok (.iload_n 1, 1) := dk_27 (dk_at dksX1_ahead_0 22 rfl rfl)
theorem dX1_ahead_23 : decode cX1_ahead 23 = .ok (.if_icmp .ne 5, 3) := dk_160 0 5 (dk_at dksX1_ahead_1 0 rfl rfl)
theorem dX1_ahead_26 : decode cX1_ahead 26 = .ok (.iload_n 2, 1) := dk_28 (dk_at dksX1_ahead_1 3 rfl rfl)
theorem dX1_ahead_27 : decode cX1_ahead 27 = .ok (.ireturn, 1) := dk_172 (dk_at dksX1_ahead_1 4 rfl rfl)
theorem dX1_ahead_28 : decode cX1_ahead 28 = .ok (.iinc 2 1, 3) := dk_132 2 1 (dk_at dksX1_ahead_1 5 rfl rfl)
theorem dX1_ahead_31 : decode cX1_ahead 31 = .ok (.goto (-29), 3) := dk_167 255 227 (dk_at dksX1_ahead_1 8 rfl rfl)
theorem dX1_ahead_34 : decode cX1_ahead 34 = .ok (.iconst (-1), 1) := dk_2 (dk_at dksX1_ahead_1 11 rfl rfl)
theorem dX1_ahead_35 : decode cX1_ahead 35 = .ok (.ireturn, 1) := dk_172 (dk_at dksX1_ahead_1 12 rfl rfl)
theorem fw_X1_229 : cz_FW "HeldCoats" 229 [(3, 5)] "I" := ⟨"HeldCoats$Reign", "queued", Or.inr ⟨_, q282⟩, List.forall_mem_cons.mpr ⟨⟨RX3, TX3, 14, rfl, by decide, rfl, rfl, Or.inl rfl⟩, fun _ h => absurd h List.not_mem_nil⟩, by decide⟩
theorem fw_X1_300 : cz_FW "HeldCoats" 300 [(3, 10)] "[I" := ⟨"HeldCoats$Reign", "queue", Or.inr ⟨_, q294⟩, List.forall_mem_cons.mpr ⟨⟨RX3, TX3, 14, rfl, by decide, rfl, rfl, Or.inl rfl⟩, fun _ h => absurd h List.not_mem_nil⟩, by decide⟩
set_option maxHeartbeats 4000000 in
set_option maxRecDepth 100000 in
noncomputable def fn_X1_ahead_2 (l0 : Option Nat) (l1 : Int32) (k0 : Int32 → cz_H → cz_Z) (k1 : cz_H → cz_Z) : Nat → Int32 → cz_H → cz_Z
  | 0, _, _ => none
  | n + 1, l2, h => cz_getR h l0 [(0, 4)] (fun r1 => cz_getI h r1 [(3, 5)] (fun x2 => (if x2 ≤ l2 then k1 h else cz_getR h l0 [(0, 4)] (fun r3 => cz_getR h r3 [(3, 10)] (fun r4 => cz_iald h r4 l2 (fun x5 => (if x5 = l1 then k0 l2 h else cz_leti (l2 + 1) (fun x6 => fn_X1_ahead_2 l0 l1 k0 k1 n x6 h))))))))
set_option maxHeartbeats 4000000 in
set_option maxRecDepth 100000 in
theorem wk_X1_ahead_2 {K : cz_K} {D : cz_D} {h0 : cz_H} {oh : cz_O × cz_H} {l0 : Option Nat} {l1 : Int32} {k0 : Int32 → cz_H → cz_Z} {k1 : cz_H → cz_Z} (S : cz_S K D h0 cX1_ahead 3 "HeldCoats" ((Option.some Jvm.ClassFile.FieldType.int)) "ahead" ([])) (hk0 : ∀ (e2 : Int32) (h : cz_H), cz_T K D 2 h0 oh 3 (k0 e2 h) h 26 [(2, cz_i e2)] []) (hk1 : ∀ (h : cz_H), cz_T K D 2 h0 oh 3 (k1 h) h 34 [] []) : ∀ (n : Nat) (l2 : Int32) (h : cz_H), cz_T K D 2 h0 oh 3 (fn_X1_ahead_2 l0 l1 k0 k1 n l2 h) h 2 [(0, cz_r l0), (1, cz_i l1), (2, cz_i l2)] [] := by
  intro n
  induction n with
  | zero => intros; exact ct_none
  | succ n ih =>
    intro l2 h
    rw [fn_X1_ahead_2]
    refine ct_iload_n (k := 2) S dX1_ahead_2 rfl rfl ?_
    refine ct_aload_n (k := 0) S dX1_ahead_3 rfl rfl ?_
    refine ct_getR S fw_X1_42 dX1_ahead_4 (fun r1 => ?_)
    refine ct_getI S fw_X1_229 dX1_ahead_7 (fun x2 => ?_)
    refine ct_icmp_ge (tgt := 34) S dX1_ahead_10 (by decide) ?_ ?_
    · exact ct_sub [] rfl (hk1 h)
    · refine ct_aload_n (k := 0) S dX1_ahead_13 rfl rfl ?_
      refine ct_getR S fw_X1_42 dX1_ahead_14 (fun r3 => ?_)
      refine ct_getR S fw_X1_300 dX1_ahead_17 (fun r4 => ?_)
      refine ct_iload_n (k := 2) S dX1_ahead_20 rfl rfl ?_
      refine ct_iald S dX1_ahead_21 (fun x5 => ?_)
      refine ct_iload_n (k := 1) S dX1_ahead_22 rfl rfl ?_
      refine ct_icmp_ne (tgt := 28) S dX1_ahead_23 (by decide) ?_ ?_
      · refine ct_iincL (j := 2) (L2 := fun x6 => [(2, cz_i x6), (0, cz_r l0), (1, cz_i l1)]) S dX1_ahead_28 rfl kI_1 (by decide) (fun _ => rfl) (fun x6 => ?_)
        refine ct_goto (tgt := 2) S dX1_ahead_31 (by decide) ?_
        exact ct_sub [1, 2, 0] rfl (ih x6 h)
      · exact ct_sub [2] rfl (hk0 l2 h)
set_option maxHeartbeats 4000000 in
set_option maxRecDepth 100000 in
noncomputable def fn_X1_ahead (l0 : Option Nat) (l1 : Int32) (h : cz_H) : cz_Z := fn_X1_ahead_2 l0 l1 (fun (e7 : Int32) (h8 : cz_H) => some (.inl (some (cz_i e7)), h8)) (fun (h9 : cz_H) => some (.inl (some (cz_i (-1))), h9)) 1000 0 h
set_option maxHeartbeats 4000000 in
set_option maxRecDepth 100000 in
theorem wk_X1_ahead {K : cz_K} {D : cz_D} {h0 : cz_H} {oh : cz_O × cz_H} {l0 : Option Nat} {l1 : Int32} {h : cz_H} (S : cz_S K D h0 cX1_ahead 3 "HeldCoats" ((Option.some Jvm.ClassFile.FieldType.int)) "ahead" ([])) : cz_T K D 2 h0 oh 3 (fn_X1_ahead l0 l1 h) h 0 [(0, cz_r l0), (1, cz_i l1)] [] := by
  unfold fn_X1_ahead
  refine ct_iconst (v := 0) S dX1_ahead_0 kI_0 ?_
  refine ct_istore_n (L' := [(2, cz_i 0), (0, cz_r l0), (1, cz_i l1)]) S dX1_ahead_1 rfl (by decide) rfl ?_
  refine ct_sub [1, 2, 0] (L' := [(0, cz_r l0), (1, cz_i l1), (2, cz_i 0)]) rfl (wk_X1_ahead_2 S ?_ ?_ 1000 0 h)
  · intro e7 h8
    refine ct_iload_n (k := 0) S dX1_ahead_26 rfl rfl ?_
    exact ct_iret S rfl dX1_ahead_27
  · intro h9
    refine ct_iconst (v := (-1)) S dX1_ahead_34 kI_m1 ?_
    exact ct_iret S rfl dX1_ahead_35
theorem mt_X1_ahead {l : Launch} {D : cz_D} {l0 : Option Nat} {l1 : Int32} {h : cz_H} {oh : cz_O × cz_H} (hz : fn_X1_ahead l0 l1 h = some oh) : cz_M l D yX1_ahead (ws_ yX1_ahead cX1_ahead 3 ((Option.some Jvm.ClassFile.FieldType.int))) 2 [cz_r l0, cz_i l1] h oh := cz_met (plainFor_of_name (by decide)) (Nat.le_of_ble_eq_true rfl) hz (fun K hl S => wk_X1_ahead S)
/-! HeldCoats$Reign.copy([I[I)V -/
def dkwX3_copy_0 : List UInt8 := [42, 3, 43, 3, 43, 190, 184, 0, 85, 177]
abbrev dktX3_copy_0 : List UInt8 := dkwX3_copy_0 ++ []
theorem dksX3_copy_0 : cX3_copy.data.toList.drop 0 = dktX3_copy_0 := by decide +kernel
theorem dX3_copy_0 : decode cX3_copy 0 = .ok (.aload_n 0, 1) := dk_42 (dk_at dksX3_copy_0 0 rfl rfl)
theorem dX3_copy_1 : decode cX3_copy 1 = .ok (.iconst 0, 1) := dk_3 (dk_at dksX3_copy_0 1 rfl rfl)
theorem dX3_copy_2 : decode cX3_copy 2 = .ok (.aload_n 1, 1) := dk_43 (dk_at dksX3_copy_0 2 rfl rfl)
theorem dX3_copy_3 : decode cX3_copy 3 = .ok (.iconst 0, 1) := dk_3 (dk_at dksX3_copy_0 3 rfl rfl)
theorem dX3_copy_4 : decode cX3_copy 4 = .ok (.aload_n 1, 1) := dk_43 (dk_at dksX3_copy_0 4 rfl rfl)
theorem dX3_copy_5 : decode cX3_copy 5 = .ok (.arraylength, 1) := dk_190 (dk_at dksX3_copy_0 5 rfl rfl)
theorem dX3_copy_6 : decode cX3_copy 6 = .ok (.invokestatic 85, 3) := dk_184 0 85 (dk_at dksX3_copy_0 6 rfl rfl)
theorem dX3_copy_9 : decode cX3_copy 9 = .ok (.return_, 1) := dk_177 (dk_at dksX3_copy_0 9 rfl rfl)
set_option maxHeartbeats 4000000 in
set_option maxRecDepth 100000 in
noncomputable def fn_X3_copy (l0 : Option Nat) (l1 : Option Nat) (h : cz_H) : cz_Z := cz_alen h l1 (fun x1 => cz_acp h l0 0 l1 0 x1 (fun h2 => some (.inl none, h2)))
set_option maxHeartbeats 4000000 in
set_option maxRecDepth 100000 in
theorem wk_X3_copy {K : cz_K} {D : cz_D} {h0 : cz_H} {oh : cz_O × cz_H} {l0 : Option Nat} {l1 : Option Nat} {h : cz_H} (S : cz_S K D h0 cX3_copy 2 "HeldCoats$Reign" ((Option.none : Option Jvm.ClassFile.FieldType)) "copy" ([])) : cz_T K D 2 h0 oh 2 (fn_X3_copy l0 l1 h) h 0 [(0, cz_r l0), (1, cz_r l1)] [] := by
  unfold fn_X3_copy
  refine ct_aload_n (k := 0) S dX3_copy_0 rfl rfl ?_
  refine ct_iconst (v := 0) S dX3_copy_1 kI_0 ?_
  refine ct_aload_n (k := 1) S dX3_copy_2 rfl rfl ?_
  refine ct_iconst (v := 0) S dX3_copy_3 kI_0 ?_
  refine ct_aload_n (k := 1) S dX3_copy_4 rfl rfl ?_
  refine ct_alen S dX3_copy_5 (fun x1 => ?_)
  refine ct_acp S q1197 q604 q603 q132 (by decide) (Nat.le_of_ble_eq_true rfl) dX3_copy_6 (fun h2 => ?_)
  exact ct_vret S rfl dX3_copy_9
theorem mt_X3_copy {l : Launch} {D : cz_D} {l0 : Option Nat} {l1 : Option Nat} {h : cz_H} {oh : cz_O × cz_H} (hz : fn_X3_copy l0 l1 h = some oh) : cz_M l D yX3_copy (ws_ yX3_copy cX3_copy 2 ((Option.none : Option Jvm.ClassFile.FieldType))) 2 [cz_r l0, cz_r l1] h oh := cz_met (plainFor_of_name (by decide)) (Nat.le_of_ble_eq_true rfl) hz (fun K hl S => wk_X3_copy S)
/-! HeldCoats$Reign.as(LHeldCoats$Reign;)LHeldCoats$Reign; -/
def dkwX3_as_5 : List UInt8 := [180, 0, 30, 42, 180, 0, 30, 184, 0, 81, 42, 176]
abbrev dktX3_as_5 : List UInt8 := dkwX3_as_5 ++ []
def dkwX3_as_4 : List UInt8 := [180, 0, 24, 42, 180, 0, 24, 184, 0, 81, 43, 180, 0, 27, 42, 180, 0, 27, 184, 0, 81, 43]
abbrev dktX3_as_4 : List UInt8 := dkwX3_as_4 ++ dktX3_as_5
def dkwX3_as_3 : List UInt8 := [180, 0, 18, 42, 180, 0, 18, 184, 0, 81, 43, 180, 0, 21, 42, 180, 0, 21, 184, 0, 81, 43]
abbrev dktX3_as_3 : List UInt8 := dkwX3_as_3 ++ dktX3_as_4
def dkwX3_as_2 : List UInt8 := [43, 180, 0, 9, 42, 180, 0, 9, 184, 0, 81, 43, 180, 0, 15, 42, 180, 0, 15, 184, 0, 81, 43]
abbrev dktX3_as_2 : List UInt8 := dkwX3_as_2 ++ dktX3_as_3
def dkwX3_as_1 : List UInt8 := [42, 43, 180, 0, 44, 181, 0, 44, 42, 43, 180, 0, 47, 181, 0, 47, 42, 43, 180, 0, 50, 181, 0, 50]
abbrev dktX3_as_1 : List UInt8 := dkwX3_as_1 ++ dktX3_as_2
def dkwX3_as_0 : List UInt8 := [42, 43, 180, 0, 33, 181, 0, 33, 42, 43, 180, 0, 37, 181, 0, 37, 42, 43, 180, 0, 41, 181, 0, 41]
abbrev dktX3_as_0 : List UInt8 := dkwX3_as_0 ++ dktX3_as_1
theorem dksX3_as_0 : cX3_as.data.toList.drop 0 = dktX3_as_0 := by decide +kernel
theorem dksX3_as_1 : cX3_as.data.toList.drop 24 = dktX3_as_1 := dk_seg dksX3_as_0 24 rfl rfl
theorem dksX3_as_2 : cX3_as.data.toList.drop 48 = dktX3_as_2 := dk_seg dksX3_as_1 24 rfl rfl
theorem dksX3_as_3 : cX3_as.data.toList.drop 71 = dktX3_as_3 := dk_seg dksX3_as_2 23 rfl rfl
theorem dksX3_as_4 : cX3_as.data.toList.drop 93 = dktX3_as_4 := dk_seg dksX3_as_3 22 rfl rfl
theorem dksX3_as_5 : cX3_as.data.toList.drop 115 = dktX3_as_5 := dk_seg dksX3_as_4 22 rfl rfl
theorem dX3_as_0 : decode cX3_as 0 = .ok (.aload_n 0, 1) := dk_42 (dk_at dksX3_as_0 0 rfl rfl)
theorem dX3_as_1 : decode cX3_as 1 = .ok (.aload_n 1, 1) := dk_43 (dk_at dksX3_as_0 1 rfl rfl)
theorem dX3_as_2 : decode cX3_as 2 = .ok (.getfield 33, 3) := dk_180 0 33 (dk_at dksX3_as_0 2 rfl rfl)
theorem dX3_as_5 : decode cX3_as 5 = .ok (.putfield 33, 3) := dk_181 0 33 (dk_at dksX3_as_0 5 rfl rfl)
theorem dX3_as_8 : decode cX3_as 8 = .ok (.aload_n 0, 1) := dk_42 (dk_at dksX3_as_0 8 rfl rfl)
theorem dX3_as_9 : decode cX3_as 9 = .ok (.aload_n 1, 1) := dk_43 (dk_at dksX3_as_0 9 rfl rfl)
theorem dX3_as_10 : decode cX3_as 10 = .ok (.getfield 37, 3) := dk_180 0 37 (dk_at dksX3_as_0 10 rfl rfl)
theorem dX3_as_13 : decode cX3_as 13 = .ok (.putfield 37, 3) := dk_181 0 37 (dk_at dksX3_as_0 13 rfl rfl)
theorem dX3_as_16 : decode cX3_as 16 = .ok (.aload_n 0, 1) := dk_42 (dk_at dksX3_as_0 16 rfl rfl)
theorem dX3_as_17 : decode cX3_as 17 = .ok (.aload_n 1, 1) := dk_43 (dk_at dksX3_as_0 17 rfl rfl)
theorem dX3_as_18 : decode cX3_as 18 = .ok (.getfield 41, 3) := dk_180 0 41 (dk_at dksX3_as_0 18 rfl rfl)
theorem dX3_as_21 : decode cX3_as 21 = .ok (.putfield 41, 3) := dk_181 0 41 (dk_at dksX3_as_0 21 rfl rfl)
theorem dX3_as_24 : decode cX3_as 24 = .ok (.aload_n 0, 1) := dk_42 (dk_at dksX3_as_1 0 rfl rfl)
theorem dX3_as_25 : decode cX3_as 25 = .ok (.aload_n 1, 1) := dk_43 (dk_at dksX3_as_1 1 rfl rfl)
theorem dX3_as_26 : decode cX3_as 26 = .ok (.getfield 44, 3) := dk_180 0 44 (dk_at dksX3_as_1 2 rfl rfl)
theorem dX3_as_29 : decode cX3_as 29 = .ok (.putfield 44, 3) := dk_181 0 44 (dk_at dksX3_as_1 5 rfl rfl)
theorem dX3_as_32 : decode cX3_as 32 = .ok (.aload_n 0, 1) := dk_42 (dk_at dksX3_as_1 8 rfl rfl)
theorem dX3_as_33 : decode cX3_as 33 = .ok (.aload_n 1, 1) := dk_43 (dk_at dksX3_as_1 9 rfl rfl)
theorem dX3_as_34 : decode cX3_as 34 = .ok (.getfield 47, 3) := dk_180 0 47 (dk_at dksX3_as_1 10 rfl rfl)
theorem dX3_as_37 : decode cX3_as 37 = .ok (.putfield 47, 3) := dk_181 0 47 (dk_at dksX3_as_1 13 rfl rfl)
theorem dX3_as_40 : decode cX3_as 40 = .ok (.aload_n 0, 1) := dk_42 (dk_at dksX3_as_1 16 rfl rfl)
theorem dX3_as_41 : decode cX3_as 41 = .ok (.aload_n 1, 1) := dk_43 (dk_at dksX3_as_1 17 rfl rfl)
theorem dX3_as_42 : decode cX3_as 42 = .ok (.getfield 50, 3) := dk_180 0 50 (dk_at dksX3_as_1 18 rfl rfl)
theorem dX3_as_45 : decode cX3_as 45 = .ok (.putfield 50, 3) := dk_181 0 50 (dk_at dksX3_as_1 21 rfl rfl)
theorem dX3_as_48 : decode cX3_as 48 = .ok (.aload_n 1, 1) := dk_43 (dk_at dksX3_as_2 0 rfl rfl)
theorem dX3_as_49 : decode cX3_as 49 = .ok (.getfield 9, 3) := dk_180 0 9 (dk_at dksX3_as_2 1 rfl rfl)
theorem dX3_as_52 : decode cX3_as 52 = .ok (.aload_n 0, 1) := dk_42 (dk_at dksX3_as_2 4 rfl rfl)
theorem dX3_as_53 : decode cX3_as 53 = .ok (.getfield 9, 3) := dk_180 0 9 (dk_at dksX3_as_2 5 rfl rfl)
theorem dX3_as_56 : decode cX3_as 56 = .ok (.invokestatic 81, 3) := dk_184 0 81 (dk_at dksX3_as_2 8 rfl rfl)
theorem dX3_as_59 : decode cX3_as 59 = .ok (.aload_n 1, 1) := dk_43 (dk_at dksX3_as_2 11 rfl rfl)
theorem dX3_as_60 : decode cX3_as 60 = .ok (.getfield 15, 3) := dk_180 0 15 (dk_at dksX3_as_2 12 rfl rfl)
theorem dX3_as_63 : decode cX3_as 63 = .ok (.aload_n 0, 1) := dk_42 (dk_at dksX3_as_2 15 rfl rfl)
theorem dX3_as_64 : decode cX3_as 64 = .ok (.getfield 15, 3) := dk_180 0 15 (dk_at dksX3_as_2 16 rfl rfl)
theorem dX3_as_67 : decode cX3_as 67 = .ok (.invokestatic 81, 3) := dk_184 0 81 (dk_at dksX3_as_2 19 rfl rfl)
theorem dX3_as_70 : decode cX3_as 70 = .ok (.aload_n 1, 1) := dk_43 (dk_at dksX3_as_2 22 rfl rfl)
theorem dX3_as_71 : decode cX3_as 71 = .ok (.getfield 18, 3) := dk_180 0 18 (dk_at dksX3_as_3 0 rfl rfl)
theorem dX3_as_74 : decode cX3_as 74 = .ok (.aload_n 0, 1) := dk_42 (dk_at dksX3_as_3 3 rfl rfl)
theorem dX3_as_75 : decode cX3_as 75 = .ok (.getfield 18, 3) := dk_180 0 18 (dk_at dksX3_as_3 4 rfl rfl)
theorem dX3_as_78 : decode cX3_as 78 = .ok (.invokestatic 81, 3) := dk_184 0 81 (dk_at dksX3_as_3 7 rfl rfl)
theorem dX3_as_81 : decode cX3_as 81 = .ok (.aload_n 1, 1) := dk_43 (dk_at dksX3_as_3 10 rfl rfl)
theorem dX3_as_82 : decode cX3_as 82 = .ok (.getfield 21, 3) := dk_180 0 21 (dk_at dksX3_as_3 11 rfl rfl)
theorem dX3_as_85 : decode cX3_as 85 = .ok (.aload_n 0, 1) := dk_42 (dk_at dksX3_as_3 14 rfl rfl)
theorem dX3_as_86 : decode cX3_as 86 = .ok (.getfield 21, 3) := dk_180 0 21 (dk_at dksX3_as_3 15 rfl rfl)
theorem dX3_as_89 : decode cX3_as 89 = .ok (.invokestatic 81, 3) := dk_184 0 81 (dk_at dksX3_as_3 18 rfl rfl)
theorem dX3_as_92 : decode cX3_as 92 = .ok (.aload_n 1, 1) := dk_43 (dk_at dksX3_as_3 21 rfl rfl)
theorem dX3_as_93 : decode cX3_as 93 = .ok (.getfield 24, 3) := dk_180 0 24 (dk_at dksX3_as_4 0 rfl rfl)
theorem dX3_as_96 : decode cX3_as 96 = .ok (.aload_n 0, 1) := dk_42 (dk_at dksX3_as_4 3 rfl rfl)
theorem dX3_as_97 : decode cX3_as 97 = .ok (.getfield 24, 3) := dk_180 0 24 (dk_at dksX3_as_4 4 rfl rfl)
theorem dX3_as_100 : decode cX3_as 100 = .ok (.invokestatic 81, 3) := dk_184 0 81 (dk_at dksX3_as_4 7 rfl rfl)
theorem dX3_as_103 : decode cX3_as 103 = .ok (.aload_n 1, 1) := dk_43 (dk_at dksX3_as_4 10 rfl rfl)
theorem dX3_as_104 : decode cX3_as 104 = .ok (.getfield 27, 3) := dk_180 0 27 (dk_at dksX3_as_4 11 rfl rfl)
theorem dX3_as_107 : decode cX3_as 107 = .ok (.aload_n 0, 1) := dk_42 (dk_at dksX3_as_4 14 rfl rfl)
theorem dX3_as_108 : decode cX3_as 108 = .ok (.getfield 27, 3) := dk_180 0 27 (dk_at dksX3_as_4 15 rfl rfl)
theorem dX3_as_111 : decode cX3_as 111 = .ok (.invokestatic 81, 3) := dk_184 0 81 (dk_at dksX3_as_4 18 rfl rfl)
theorem dX3_as_114 : decode cX3_as 114 = .ok (.aload_n 1, 1) := dk_43 (dk_at dksX3_as_4 21 rfl rfl)
theorem dX3_as_115 : decode cX3_as 115 = .ok (.getfield 30, 3) := dk_180 0 30 (dk_at dksX3_as_5 0 rfl rfl)
theorem dX3_as_118 : decode cX3_as 118 = .ok (.aload_n 0, 1) := dk_42 (dk_at dksX3_as_5 3 rfl rfl)
theorem dX3_as_119 : decode cX3_as 119 = .ok (.getfield 30, 3) := dk_180 0 30 (dk_at dksX3_as_5 4 rfl rfl)
theorem dX3_as_122 : decode cX3_as 122 = .ok (.invokestatic 81, 3) := dk_184 0 81 (dk_at dksX3_as_5 7 rfl rfl)
theorem dX3_as_125 : decode cX3_as 125 = .ok (.aload_n 0, 1) := dk_42 (dk_at dksX3_as_5 10 rfl rfl)
theorem dX3_as_126 : decode cX3_as 126 = .ok (.areturn, 1) := dk_176 (dk_at dksX3_as_5 11 rfl rfl)
theorem fp_X3_m_3_0 {nm : String} : cz_FP "HeldCoats$Reign" nm [(3, 0)] := List.forall_mem_cons.mpr ⟨⟨RX3, TX3, 14, rfl, Or.inl rfl⟩, fun _ h => absurd h List.not_mem_nil⟩
theorem pd_LHeldCoats_Capital_ : parseFieldDescriptor "LHeldCoats$Capital;" = some (.object "HeldCoats$Capital") := by decide +kernel
theorem fp_X3_m_3_1 {nm : String} : cz_FP "HeldCoats$Reign" nm [(3, 1)] := List.forall_mem_cons.mpr ⟨⟨RX3, TX3, 14, rfl, Or.inl rfl⟩, fun _ h => absurd h List.not_mem_nil⟩
theorem fw_X3_41 : cz_FW "HeldCoats$Reign" 41 [(3, 2)] "I" := ⟨"HeldCoats$Reign", "bares", Or.inl q275, List.forall_mem_cons.mpr ⟨⟨RX3, TX3, 14, rfl, by decide, rfl, rfl, Or.inl rfl⟩, fun _ h => absurd h List.not_mem_nil⟩, by decide⟩
theorem fp_X3_m_3_2 {nm : String} : cz_FP "HeldCoats$Reign" nm [(3, 2)] := List.forall_mem_cons.mpr ⟨⟨RX3, TX3, 14, rfl, Or.inl rfl⟩, fun _ h => absurd h List.not_mem_nil⟩
theorem fw_X3_44 : cz_FW "HeldCoats$Reign" 44 [(3, 3)] "I" := ⟨"HeldCoats$Reign", "firstBare", Or.inl q277, List.forall_mem_cons.mpr ⟨⟨RX3, TX3, 14, rfl, by decide, rfl, rfl, Or.inl rfl⟩, fun _ h => absurd h List.not_mem_nil⟩, by decide⟩
theorem fp_X3_m_3_3 {nm : String} : cz_FP "HeldCoats$Reign" nm [(3, 3)] := List.forall_mem_cons.mpr ⟨⟨RX3, TX3, 14, rfl, Or.inl rfl⟩, fun _ h => absurd h List.not_mem_nil⟩
theorem fw_X3_47 : cz_FW "HeldCoats$Reign" 47 [(3, 4)] "I" := ⟨"HeldCoats$Reign", "eaten", Or.inl q279, List.forall_mem_cons.mpr ⟨⟨RX3, TX3, 14, rfl, by decide, rfl, rfl, Or.inl rfl⟩, fun _ h => absurd h List.not_mem_nil⟩, by decide⟩
theorem fp_X3_m_3_4 {nm : String} : cz_FP "HeldCoats$Reign" nm [(3, 4)] := List.forall_mem_cons.mpr ⟨⟨RX3, TX3, 14, rfl, Or.inl rfl⟩, fun _ h => absurd h List.not_mem_nil⟩
theorem fw_X3_50 : cz_FW "HeldCoats$Reign" 50 [(3, 5)] "I" := ⟨"HeldCoats$Reign", "queued", Or.inl q281, List.forall_mem_cons.mpr ⟨⟨RX3, TX3, 14, rfl, by decide, rfl, rfl, Or.inl rfl⟩, fun _ h => absurd h List.not_mem_nil⟩, by decide⟩
theorem fp_X3_m_3_5 {nm : String} : cz_FP "HeldCoats$Reign" nm [(3, 5)] := List.forall_mem_cons.mpr ⟨⟨RX3, TX3, 14, rfl, Or.inl rfl⟩, fun _ h => absurd h List.not_mem_nil⟩
theorem md_X3_copy : cz_md yX3_copy 2 (ws_ yX3_copy cX3_copy 2 ((Option.none : Option Jvm.ClassFile.FieldType))) 2 := ⟨cz_ws_code q1196, q118, ⟨by decide, by decide, by decide +kernel⟩, by decide⟩
theorem fw_X3_15 : cz_FW "HeldCoats$Reign" 15 [(3, 7)] "[I" := ⟨"HeldCoats$Reign", "cloth", Or.inl q285, List.forall_mem_cons.mpr ⟨⟨RX3, TX3, 14, rfl, by decide, rfl, rfl, Or.inl rfl⟩, fun _ h => absurd h List.not_mem_nil⟩, by decide⟩
theorem fw_X3_18 : cz_FW "HeldCoats$Reign" 18 [(3, 8)] "[I" := ⟨"HeldCoats$Reign", "user", Or.inl q288, List.forall_mem_cons.mpr ⟨⟨RX3, TX3, 14, rfl, by decide, rfl, rfl, Or.inl rfl⟩, fun _ h => absurd h List.not_mem_nil⟩, by decide⟩
theorem fw_X3_21 : cz_FW "HeldCoats$Reign" 21 [(3, 9)] "[I" := ⟨"HeldCoats$Reign", "since", Or.inl q291, List.forall_mem_cons.mpr ⟨⟨RX3, TX3, 14, rfl, by decide, rfl, rfl, Or.inl rfl⟩, fun _ h => absurd h List.not_mem_nil⟩, by decide⟩
theorem fw_X3_24 : cz_FW "HeldCoats$Reign" 24 [(3, 10)] "[I" := ⟨"HeldCoats$Reign", "queue", Or.inl q293, List.forall_mem_cons.mpr ⟨⟨RX3, TX3, 14, rfl, by decide, rfl, rfl, Or.inl rfl⟩, fun _ h => absurd h List.not_mem_nil⟩, by decide⟩
theorem fw_X3_27 : cz_FW "HeldCoats$Reign" 27 [(3, 11)] "[I" := ⟨"HeldCoats$Reign", "harm", Or.inl q295, List.forall_mem_cons.mpr ⟨⟨RX3, TX3, 14, rfl, by decide, rfl, rfl, Or.inl rfl⟩, fun _ h => absurd h List.not_mem_nil⟩, by decide⟩
theorem fw_X3_30 : cz_FW "HeldCoats$Reign" 30 [(3, 12)] "[I" := ⟨"HeldCoats$Reign", "ruled", Or.inl q297, List.forall_mem_cons.mpr ⟨⟨RX3, TX3, 14, rfl, by decide, rfl, rfl, Or.inl rfl⟩, fun _ h => absurd h List.not_mem_nil⟩, by decide⟩
set_option maxHeartbeats 4000000 in
set_option maxRecDepth 100000 in
noncomputable def fn_X3_as (l0 : Option Nat) (l1 : Option Nat) (h : cz_H) : cz_Z := cz_getR h l1 [(3, 0)] (fun r1 => cz_put h l0 [(3, 0)] (cz_r r1) (fun h2 => cz_getI h2 l1 [(3, 1)] (fun x3 => cz_put h2 l0 [(3, 1)] (cz_i x3) (fun h4 => cz_getI h4 l1 [(3, 2)] (fun x5 => cz_put h4 l0 [(3, 2)] (cz_i x5) (fun h6 => cz_getI h6 l1 [(3, 3)] (fun x7 => cz_put h6 l0 [(3, 3)] (cz_i x7) (fun h8 => cz_getI h8 l1 [(3, 4)] (fun x9 => cz_put h8 l0 [(3, 4)] (cz_i x9) (fun h10 => cz_getI h10 l1 [(3, 5)] (fun x11 => cz_put h10 l0 [(3, 5)] (cz_i x11) (fun h12 => cz_getR h12 l1 [(3, 6)] (fun r13 => cz_getR h12 l0 [(3, 6)] (fun r14 => cz_cV (fn_X3_copy r13 r14 h12) (fun h15 => cz_getR h15 l1 [(3, 7)] (fun r16 => cz_getR h15 l0 [(3, 7)] (fun r17 => cz_cV (fn_X3_copy r16 r17 h15) (fun h18 => cz_getR h18 l1 [(3, 8)] (fun r19 => cz_getR h18 l0 [(3, 8)] (fun r20 => cz_cV (fn_X3_copy r19 r20 h18) (fun h21 => cz_getR h21 l1 [(3, 9)] (fun r22 => cz_getR h21 l0 [(3, 9)] (fun r23 => cz_cV (fn_X3_copy r22 r23 h21) (fun h24 => cz_getR h24 l1 [(3, 10)] (fun r25 => cz_getR h24 l0 [(3, 10)] (fun r26 => cz_cV (fn_X3_copy r25 r26 h24) (fun h27 => cz_getR h27 l1 [(3, 11)] (fun r28 => cz_getR h27 l0 [(3, 11)] (fun r29 => cz_cV (fn_X3_copy r28 r29 h27) (fun h30 => cz_getR h30 l1 [(3, 12)] (fun r31 => cz_getR h30 l0 [(3, 12)] (fun r32 => cz_cV (fn_X3_copy r31 r32 h30) (fun h33 => some (.inl (some (cz_r l0)), h33))))))))))))))))))))))))))))))))))
set_option maxHeartbeats 4000000 in
set_option maxRecDepth 100000 in
theorem wk_X3_as {K : cz_K} {D : cz_D} {h0 : cz_H} {oh : cz_O × cz_H} {l0 : Option Nat} {l1 : Option Nat} {h : cz_H} (S : cz_S K D h0 cX3_as 2 "HeldCoats$Reign" ((Option.some (Jvm.ClassFile.FieldType.object "HeldCoats$Reign"))) "as" ([])) : cz_T K D 3 h0 oh 2 (fn_X3_as l0 l1 h) h 0 [(0, cz_r l0), (1, cz_r l1)] [] := by
  unfold fn_X3_as
  refine ct_aload_n (k := 0) S dX3_as_0 rfl rfl ?_
  refine ct_aload_n (k := 1) S dX3_as_1 rfl rfl ?_
  refine ct_getR S fw_X3_33 dX3_as_2 (fun r1 => ?_)
  refine ct_put S fw_X3_33 fp_X3_m_3_0 (cz_fits_r pd_LHeldCoats_Capital_) dX3_as_5 (fun h2 => ?_)
  refine ct_aload_n (k := 0) S dX3_as_8 rfl rfl ?_
  refine ct_aload_n (k := 1) S dX3_as_9 rfl rfl ?_
  refine ct_getI S fw_X3_37 dX3_as_10 (fun x3 => ?_)
  refine ct_put S fw_X3_37 fp_X3_m_3_1 (cz_fits_i pd_I) dX3_as_13 (fun h4 => ?_)
  refine ct_aload_n (k := 0) S dX3_as_16 rfl rfl ?_
  refine ct_aload_n (k := 1) S dX3_as_17 rfl rfl ?_
  refine ct_getI S fw_X3_41 dX3_as_18 (fun x5 => ?_)
  refine ct_put S fw_X3_41 fp_X3_m_3_2 (cz_fits_i pd_I) dX3_as_21 (fun h6 => ?_)
  refine ct_aload_n (k := 0) S dX3_as_24 rfl rfl ?_
  refine ct_aload_n (k := 1) S dX3_as_25 rfl rfl ?_
  refine ct_getI S fw_X3_44 dX3_as_26 (fun x7 => ?_)
  refine ct_put S fw_X3_44 fp_X3_m_3_3 (cz_fits_i pd_I) dX3_as_29 (fun h8 => ?_)
  refine ct_aload_n (k := 0) S dX3_as_32 rfl rfl ?_
  refine ct_aload_n (k := 1) S dX3_as_33 rfl rfl ?_
  refine ct_getI S fw_X3_47 dX3_as_34 (fun x9 => ?_)
  refine ct_put S fw_X3_47 fp_X3_m_3_4 (cz_fits_i pd_I) dX3_as_37 (fun h10 => ?_)
  refine ct_aload_n (k := 0) S dX3_as_40 rfl rfl ?_
  refine ct_aload_n (k := 1) S dX3_as_41 rfl rfl ?_
  refine ct_getI S fw_X3_50 dX3_as_42 (fun x11 => ?_)
  refine ct_put S fw_X3_50 fp_X3_m_3_5 (cz_fits_i pd_I) dX3_as_45 (fun h12 => ?_)
  refine ct_aload_n (k := 1) S dX3_as_48 rfl rfl ?_
  refine ct_getR S fw_X3_9 dX3_as_49 (fun r13 => ?_)
  refine ct_aload_n (k := 0) S dX3_as_52 rfl rfl ?_
  refine ct_getR S fw_X3_9 dX3_as_53 (fun r14 => ?_)
  refine ct_cV (st := []) (cg_static (av := [cz_r r13, cz_r r14]) S (fun _ e => mt_X3_copy e) md_X3_copy (Or.inl q1194) q1195 (by decide) (Nat.le_of_ble_eq_true rfl) rfl dX3_as_56) (fun h15 => ?_)
  refine ct_aload_n (k := 1) S dX3_as_59 rfl rfl ?_
  refine ct_getR S fw_X3_15 dX3_as_60 (fun r16 => ?_)
  refine ct_aload_n (k := 0) S dX3_as_63 rfl rfl ?_
  refine ct_getR S fw_X3_15 dX3_as_64 (fun r17 => ?_)
  refine ct_cV (st := []) (cg_static (av := [cz_r r16, cz_r r17]) S (fun _ e => mt_X3_copy e) md_X3_copy (Or.inl q1194) q1195 (by decide) (Nat.le_of_ble_eq_true rfl) rfl dX3_as_67) (fun h18 => ?_)
  refine ct_aload_n (k := 1) S dX3_as_70 rfl rfl ?_
  refine ct_getR S fw_X3_18 dX3_as_71 (fun r19 => ?_)
  refine ct_aload_n (k := 0) S dX3_as_74 rfl rfl ?_
  refine ct_getR S fw_X3_18 dX3_as_75 (fun r20 => ?_)
  refine ct_cV (st := []) (cg_static (av := [cz_r r19, cz_r r20]) S (fun _ e => mt_X3_copy e) md_X3_copy (Or.inl q1194) q1195 (by decide) (Nat.le_of_ble_eq_true rfl) rfl dX3_as_78) (fun h21 => ?_)
  refine ct_aload_n (k := 1) S dX3_as_81 rfl rfl ?_
  refine ct_getR S fw_X3_21 dX3_as_82 (fun r22 => ?_)
  refine ct_aload_n (k := 0) S dX3_as_85 rfl rfl ?_
  refine ct_getR S fw_X3_21 dX3_as_86 (fun r23 => ?_)
  refine ct_cV (st := []) (cg_static (av := [cz_r r22, cz_r r23]) S (fun _ e => mt_X3_copy e) md_X3_copy (Or.inl q1194) q1195 (by decide) (Nat.le_of_ble_eq_true rfl) rfl dX3_as_89) (fun h24 => ?_)
  refine ct_aload_n (k := 1) S dX3_as_92 rfl rfl ?_
  refine ct_getR S fw_X3_24 dX3_as_93 (fun r25 => ?_)
  refine ct_aload_n (k := 0) S dX3_as_96 rfl rfl ?_
  refine ct_getR S fw_X3_24 dX3_as_97 (fun r26 => ?_)
  refine ct_cV (st := []) (cg_static (av := [cz_r r25, cz_r r26]) S (fun _ e => mt_X3_copy e) md_X3_copy (Or.inl q1194) q1195 (by decide) (Nat.le_of_ble_eq_true rfl) rfl dX3_as_100) (fun h27 => ?_)
  refine ct_aload_n (k := 1) S dX3_as_103 rfl rfl ?_
  refine ct_getR S fw_X3_27 dX3_as_104 (fun r28 => ?_)
  refine ct_aload_n (k := 0) S dX3_as_107 rfl rfl ?_
  refine ct_getR S fw_X3_27 dX3_as_108 (fun r29 => ?_)
  refine ct_cV (st := []) (cg_static (av := [cz_r r28, cz_r r29]) S (fun _ e => mt_X3_copy e) md_X3_copy (Or.inl q1194) q1195 (by decide) (Nat.le_of_ble_eq_true rfl) rfl dX3_as_111) (fun h30 => ?_)
  refine ct_aload_n (k := 1) S dX3_as_114 rfl rfl ?_
  refine ct_getR S fw_X3_30 dX3_as_115 (fun r31 => ?_)
  refine ct_aload_n (k := 0) S dX3_as_118 rfl rfl ?_
  refine ct_getR S fw_X3_30 dX3_as_119 (fun r32 => ?_)
  refine ct_cV (st := []) (cg_static (av := [cz_r r31, cz_r r32]) S (fun _ e => mt_X3_copy e) md_X3_copy (Or.inl q1194) q1195 (by decide) (Nat.le_of_ble_eq_true rfl) rfl dX3_as_122) (fun h33 => ?_)
  refine ct_aload_n (k := 0) S dX3_as_125 rfl rfl ?_
  exact ct_aret S rfl (Or.inl ⟨_, rfl⟩) dX3_as_126
theorem mt_X3_as {l : Launch} {D : cz_D} {l0 : Option Nat} {l1 : Option Nat} {h : cz_H} {oh : cz_O × cz_H} (hz : fn_X3_as l0 l1 h = some oh) : cz_M l D yX3_as (ws_ yX3_as cX3_as 2 ((Option.some (Jvm.ClassFile.FieldType.object "HeldCoats$Reign")))) 3 [cz_r l0, cz_r l1] h oh := cz_met (plainFor_of_name (by decide)) (Nat.le_of_ble_eq_true rfl) hz (fun K hl S => wk_X3_as S)
/-! HeldCoats$Reign.isOver()Z -/
def dkwX3_isOver_0 : List UInt8 := [42, 180, 0, 37, 17, 1, 144, 160, 0, 7, 4, 167, 0, 4, 3, 172]
abbrev dktX3_isOver_0 : List UInt8 := dkwX3_isOver_0 ++ []
theorem dksX3_isOver_0 : cX3_isOver.data.toList.drop 0 = dktX3_isOver_0 := by decide +kernel
theorem dX3_isOver_0 : decode cX3_isOver 0 = .ok (.aload_n 0, 1) := dk_42 (dk_at dksX3_isOver_0 0 rfl rfl)
theorem dX3_isOver_1 : decode cX3_isOver 1 = .ok (.getfield 37, 3) := dk_180 0 37 (dk_at dksX3_isOver_0 1 rfl rfl)
theorem dX3_isOver_4 : decode cX3_isOver 4 = .ok (.sipush 400, 3) := dk_17 1 144 (dk_at dksX3_isOver_0 4 rfl rfl)
theorem dX3_isOver_7 : decode cX3_isOver 7 = .ok (.if_icmp .ne 7, 3) := dk_160 0 7 (dk_at dksX3_isOver_0 7 rfl rfl)
theorem dX3_isOver_10 : decode cX3_isOver 10 = .ok (.iconst 1, 1) := dk_4 (dk_at dksX3_isOver_0 10 rfl rfl)
theorem dX3_isOver_11 : decode cX3_isOver 11 = .ok (.goto 4, 3) := dk_167 0 4 (dk_at dksX3_isOver_0 11 rfl rfl)
theorem dX3_isOver_14 : decode cX3_isOver 14 = .ok (.iconst 0, 1) := dk_3 (dk_at dksX3_isOver_0 14 rfl rfl)
theorem dX3_isOver_15 : decode cX3_isOver 15 = .ok (.ireturn, 1) := dk_172 (dk_at dksX3_isOver_0 15 rfl rfl)
set_option maxHeartbeats 4000000 in
set_option maxRecDepth 100000 in
noncomputable def fn_X3_isOver (l0 : Option Nat) (h : cz_H) : cz_Z := cz_getI h l0 [(3, 1)] (fun x1 => (if x1 = 400 then some (.inl (some (cz_i 1)), h) else some (.inl (some (cz_i 0)), h)))
set_option maxHeartbeats 4000000 in
set_option maxRecDepth 100000 in
theorem wk_X3_isOver {K : cz_K} {D : cz_D} {h0 : cz_H} {oh : cz_O × cz_H} {l0 : Option Nat} {h : cz_H} (S : cz_S K D h0 cX3_isOver 1 "HeldCoats$Reign" ((Option.some Jvm.ClassFile.FieldType.boolean)) "isOver" ([])) : cz_T K D 2 h0 oh 1 (fn_X3_isOver l0 h) h 0 [(0, cz_r l0)] [] := by
  unfold fn_X3_isOver
  refine ct_aload_n (k := 0) S dX3_isOver_0 rfl rfl ?_
  refine ct_getI S fw_X3_37 dX3_isOver_1 (fun x1 => ?_)
  refine ct_sipush (v := 400) S dX3_isOver_4 kS_400 ?_
  refine ct_icmp_ne (tgt := 14) S dX3_isOver_7 (by decide) ?_ ?_
  · refine ct_iconst (v := 0) S dX3_isOver_14 kI_0 ?_
    exact ct_zr (ty := .boolean) S rfl rfl dX3_isOver_15
  · refine ct_iconst (v := 1) S dX3_isOver_10 kI_1 ?_
    refine ct_goto (tgt := 15) S dX3_isOver_11 (by decide) ?_
    exact ct_zr (ty := .boolean) S rfl rfl dX3_isOver_15
theorem mt_X3_isOver {l : Launch} {D : cz_D} {l0 : Option Nat} {h : cz_H} {oh : cz_O × cz_H} (hz : fn_X3_isOver l0 h = some oh) : cz_M l D yX3_isOver (ws_ yX3_isOver cX3_isOver 1 ((Option.some Jvm.ClassFile.FieldType.boolean))) 2 [cz_r l0] h oh := cz_met (plainFor_of_name (by decide)) (Nat.le_of_ble_eq_true rfl) hz (fun K hl S => wk_X3_isOver S)
/-! HeldCoats$Reign.keep(I)V -/
def dkwX3_keep_1 : List UInt8 := [96, 181, 0, 50, 177]
abbrev dktX3_keep_1 : List UInt8 := dkwX3_keep_1 ++ []
def dkwX3_keep_0 : List UInt8 := [42, 180, 0, 9, 27, 16, 20, 79, 42, 180, 0, 24, 42, 180, 0, 50, 27, 79, 42, 89, 180, 0, 50, 4]
abbrev dktX3_keep_0 : List UInt8 := dkwX3_keep_0 ++ dktX3_keep_1
theorem dksX3_keep_0 : cX3_keep.data.toList.drop 0 = dktX3_keep_0 := by decide +kernel
theorem dksX3_keep_1 : cX3_keep.data.toList.drop 24 = dktX3_keep_1 := dk_seg dksX3_keep_0 24 rfl rfl
theorem dX3_keep_0 : decode cX3_keep 0 = .ok (.aload_n 0, 1) := dk_42 (dk_at dksX3_keep_0 0 rfl rfl)
theorem dX3_keep_1 : decode cX3_keep 1 = .ok (.getfield 9, 3) := dk_180 0 9 (dk_at dksX3_keep_0 1 rfl rfl)
theorem dX3_keep_4 : decode cX3_keep 4 = .ok (.iload_n 1, 1) := dk_27 (dk_at dksX3_keep_0 4 rfl rfl)
theorem dX3_keep_5 : decode cX3_keep 5 = .ok (.bipush 20, 2) := dk_16 20 (dk_at dksX3_keep_0 5 rfl rfl)
theorem dX3_keep_7 : decode cX3_keep 7 = .ok (.iastore, 1) := dk_79 (dk_at dksX3_keep_0 7 rfl rfl)
theorem dX3_keep_8 : decode cX3_keep 8 = .ok (.aload_n 0, 1) := dk_42 (dk_at dksX3_keep_0 8 rfl rfl)
theorem dX3_keep_9 : decode cX3_keep 9 = .ok (.getfield 24, 3) := dk_180 0 24 (dk_at dksX3_keep_0 9 rfl rfl)
theorem dX3_keep_12 : decode cX3_keep 12 = .ok (.aload_n 0, 1) := dk_42 (dk_at dksX3_keep_0 12 rfl rfl)
theorem dX3_keep_13 : decode cX3_keep 13 = .ok (.getfield 50, 3) := dk_180 0 50 (dk_at dksX3_keep_0 13 rfl rfl)
theorem dX3_keep_16 : decode cX3_keep 16 = .ok (.iload_n 1, 1) := dk_27 (dk_at dksX3_keep_0 16 rfl rfl)
theorem dX3_keep_17 : decode cX3_keep 17 = .ok (.iastore, 1) := dk_79 (dk_at dksX3_keep_0 17 rfl rfl)
theorem dX3_keep_18 : decode cX3_keep 18 = .ok (.aload_n 0, 1) := dk_42 (dk_at dksX3_keep_0 18 rfl rfl)
theorem dX3_keep_19 : decode cX3_keep 19 = .ok (.dup, 1) := dk_89 (dk_at dksX3_keep_0 19 rfl rfl)
theorem dX3_keep_20 : decode cX3_keep 20 = .ok (.getfield 50, 3) := dk_180 0 50 (dk_at dksX3_keep_0 20 rfl rfl)
theorem dX3_keep_23 : decode cX3_keep 23 = .ok (.iconst 1, 1) := dk_4 (dk_at dksX3_keep_0 23 rfl rfl)
theorem dX3_keep_24 : decode cX3_keep 24 = .ok (.iadd, 1) := dk_96 (dk_at dksX3_keep_1 0 rfl rfl)
theorem dX3_keep_25 : decode cX3_keep 25 = .ok (.putfield 50, 3) := dk_181 0 50 (dk_at dksX3_keep_1 1 rfl rfl)
theorem dX3_keep_28 : decode cX3_keep 28 = .ok (.return_, 1) := dk_177 (dk_at dksX3_keep_1 4 rfl rfl)
set_option maxHeartbeats 4000000 in
set_option maxRecDepth 100000 in
noncomputable def fn_X3_keep (l0 : Option Nat) (l1 : Int32) (h : cz_H) : cz_Z := cz_getR h l0 [(3, 6)] (fun r1 => cz_iast h r1 l1 20 (fun h2 => cz_getR h2 l0 [(3, 10)] (fun r3 => cz_getI h2 l0 [(3, 5)] (fun x4 => cz_iast h2 r3 x4 l1 (fun h5 => cz_getI h5 l0 [(3, 5)] (fun x6 => cz_put h5 l0 [(3, 5)] (cz_i (x6 + 1)) (fun h7 => some (.inl none, h7))))))))
set_option maxHeartbeats 4000000 in
set_option maxRecDepth 100000 in
theorem wk_X3_keep {K : cz_K} {D : cz_D} {h0 : cz_H} {oh : cz_O × cz_H} {l0 : Option Nat} {l1 : Int32} {h : cz_H} (S : cz_S K D h0 cX3_keep 2 "HeldCoats$Reign" ((Option.none : Option Jvm.ClassFile.FieldType)) "keep" ([])) : cz_T K D 2 h0 oh 2 (fn_X3_keep l0 l1 h) h 0 [(0, cz_r l0), (1, cz_i l1)] [] := by
  unfold fn_X3_keep
  refine ct_aload_n (k := 0) S dX3_keep_0 rfl rfl ?_
  refine ct_getR S fw_X3_9 dX3_keep_1 (fun r1 => ?_)
  refine ct_iload_n (k := 1) S dX3_keep_4 rfl rfl ?_
  refine ct_bipush (v := 20) S dX3_keep_5 kB_20 ?_
  refine ct_iast S dX3_keep_7 (fun h2 => ?_)
  refine ct_aload_n (k := 0) S dX3_keep_8 rfl rfl ?_
  refine ct_getR S fw_X3_24 dX3_keep_9 (fun r3 => ?_)
  refine ct_aload_n (k := 0) S dX3_keep_12 rfl rfl ?_
  refine ct_getI S fw_X3_50 dX3_keep_13 (fun x4 => ?_)
  refine ct_iload_n (k := 1) S dX3_keep_16 rfl rfl ?_
  refine ct_iast S dX3_keep_17 (fun h5 => ?_)
  refine ct_aload_n (k := 0) S dX3_keep_18 rfl rfl ?_
  refine ct_dup S dX3_keep_19 rfl ?_
  refine ct_getI S fw_X3_50 dX3_keep_20 (fun x6 => ?_)
  refine ct_iconst (v := 1) S dX3_keep_23 kI_1 ?_
  refine ct_iadd S dX3_keep_24 ?_
  refine ct_put S fw_X3_50 fp_X3_m_3_5 (cz_fits_i pd_I) dX3_keep_25 (fun h7 => ?_)
  exact ct_vret S rfl dX3_keep_28
theorem mt_X3_keep {l : Launch} {D : cz_D} {l0 : Option Nat} {l1 : Int32} {h : cz_H} {oh : cz_O × cz_H} (hz : fn_X3_keep l0 l1 h = some oh) : cz_M l D yX3_keep (ws_ yX3_keep cX3_keep 2 ((Option.none : Option Jvm.ClassFile.FieldType))) 2 [cz_r l0, cz_i l1] h oh := cz_met (plainFor_of_name (by decide)) (Nat.le_of_ble_eq_true rfl) hz (fun K hl S => wk_X3_keep S)
/-! HeldCoats$Reign.lies(I)V -/
def dkwX3_lies_3 : List UInt8 := [180, 0, 33, 180, 0, 155, 161, 0, 8, 42, 27, 182, 0, 158, 177]
abbrev dktX3_lies_3 : List UInt8 := dkwX3_lies_3 ++ []
def dkwX3_lies_2 : List UInt8 := [27, 120, 128, 181, 0, 47, 167, 0, 31, 42, 180, 0, 37, 42, 180, 0, 21, 27, 46, 100, 4, 96, 42]
abbrev dktX3_lies_2 : List UInt8 := dkwX3_lies_2 ++ dktX3_lies_3
def dkwX3_lies_1 : List UInt8 := [157, 0, 33, 42, 180, 0, 15, 27, 3, 79, 42, 180, 0, 9, 27, 16, 30, 79, 42, 89, 180, 0, 47, 4]
abbrev dktX3_lies_1 : List UInt8 := dkwX3_lies_1 ++ dktX3_lies_2
def dkwX3_lies_0 : List UInt8 := [42, 180, 0, 15, 27, 92, 46, 42, 180, 0, 33, 180, 0, 152, 100, 79, 42, 180, 0, 15, 27, 46]
abbrev dktX3_lies_0 : List UInt8 := dkwX3_lies_0 ++ dktX3_lies_1
theorem dksX3_lies_0 : cX3_lies.data.toList.drop 0 = dktX3_lies_0 := by decide +kernel
theorem dksX3_lies_1 : cX3_lies.data.toList.drop 22 = dktX3_lies_1 := dk_seg dksX3_lies_0 22 rfl rfl
theorem dksX3_lies_2 : cX3_lies.data.toList.drop 46 = dktX3_lies_2 := dk_seg dksX3_lies_1 24 rfl rfl
theorem dksX3_lies_3 : cX3_lies.data.toList.drop 69 = dktX3_lies_3 := dk_seg dksX3_lies_2 23 rfl rfl
theorem dX3_lies_0 : decode cX3_lies 0 = .ok (.aload_n 0, 1) := dk_42 (dk_at dksX3_lies_0 0 rfl rfl)
theorem dX3_lies_1 : decode cX3_lies 1 = .ok (.getfield 15, 3) := dk_180 0 15 (dk_at dksX3_lies_0 1 rfl rfl)
theorem dX3_lies_4 : decode cX3_lies 4 = .ok (.iload_n 1, 1) := dk_27 (dk_at dksX3_lies_0 4 rfl rfl)
theorem dX3_lies_5 : decode cX3_lies 5 = .ok (.dup2, 1) := dk_92 (dk_at dksX3_lies_0 5 rfl rfl)
theorem dX3_lies_6 : decode cX3_lies 6 = .ok (.iaload, 1) := dk_46 (dk_at dksX3_lies_0 6 rfl rfl)
theorem dX3_lies_7 : decode cX3_lies 7 = .ok (.aload_n 0, 1) := dk_42 (dk_at dksX3_lies_0 7 rfl rfl)
theorem dX3_lies_8 : decode cX3_lies 8 = .ok (.getfield 33, 3) := dk_180 0 33 (dk_at dksX3_lies_0 8 rfl rfl)
theorem dX3_lies_11 : decode cX3_lies 11 = .ok (.getfield 152, 3) := dk_180 0 152 (dk_at dksX3_lies_0 11 rfl rfl)
theorem dX3_lies_14 : decode cX3_lies 14 = .ok (.isub, 1) := dk_100 (dk_at dksX3_lies_0 14 rfl rfl)
theorem dX3_lies_15 : decode cX3_lies 15 = .ok (.iastore, 1) := dk_79 (dk_at dksX3_lies_0 15 rfl rfl)
theorem dX3_lies_16 : decode cX3_lies 16 = .ok (.aload_n 0, 1) := dk_42 (dk_at dksX3_lies_0 16 rfl rfl)
theorem dX3_lies_17 : decode cX3_lies 17 = .ok (.getfield 15, 3) := dk_180 0 15 (dk_at dksX3_lies_0 17 rfl rfl)
theorem dX3_lies_20 : decode cX3_lies 20 = .ok (.iload_n 1, 1) := dk_27 (dk_at dksX3_lies_0 20 rfl rfl)
theorem dX3_lies_21 : decode cX3_lies 21 = .ok (.iaload, 1) := dk_46 (dk_at dksX3_lies_0 21 rfl rfl)
theorem dX3_lies_22 : decode cX3_lies 22 = .ok (.ifCond .gt 33, 3) := dk_157 0 33 (dk_at dksX3_lies_1 0 rfl rfl)
theorem dX3_lies_25 : decode cX3_lies 25 = .ok (.aload_n 0, 1) := dk_42 (dk_at dksX3_lies_1 3 rfl rfl)
theorem dX3_lies_26 : decode cX3_lies 26 = .ok (.getfield 15, 3) := dk_180 0 15 (dk_at dksX3_lies_1 4 rfl rfl)
theorem dX3_lies_29 : decode cX3_lies 29 = .ok (.iload_n 1, 1) := dk_27 (dk_at dksX3_lies_1 7 rfl rfl)
theorem dX3_lies_30 : decode cX3_lies 30 = .ok (.iconst 0, 1) := dk_3 (dk_at dksX3_lies_1 8 rfl rfl)
theorem dX3_lies_31 : decode cX3_lies 31 = .ok (.iastore, 1) := dk_79 (dk_at dksX3_lies_1 9 rfl rfl)
theorem dX3_lies_32 : decode cX3_lies 32 = .ok (.aload_n 0, 1) := dk_42 (dk_at dksX3_lies_1 10 rfl rfl)
theorem dX3_lies_33 : decode cX3_lies 33 = .ok (.getfield 9, 3) := dk_180 0 9 (dk_at dksX3_lies_1 11 rfl rfl)
theorem dX3_lies_36 : decode cX3_lies 36 = .ok (.iload_n 1, 1) := dk_27 (dk_at dksX3_lies_1 14 rfl rfl)
theorem dX3_lies_37 : decode cX3_lies 37 = .ok (.bipush 30, 2) := dk_16 30 (dk_at dksX3_lies_1 15 rfl rfl)
theorem dX3_lies_39 : decode cX3_lies 39 = .ok (.iastore, 1) := dk_79 (dk_at dksX3_lies_1 17 rfl rfl)
theorem dX3_lies_40 : decode cX3_lies 40 = .ok (.aload_n 0, 1) := dk_42 (dk_at dksX3_lies_1 18 rfl rfl)
theorem dX3_lies_41 : decode cX3_lies 41 = .ok (.dup, 1) := dk_89 (dk_at dksX3_lies_1 19 rfl rfl)
theorem dX3_lies_42 : decode cX3_lies 42 = .ok (.getfield 47, 3) := dk_180 0 47 (dk_at dksX3_lies_1 20 rfl rfl)
theorem dX3_lies_45 : decode cX3_lies 45 = .ok (.iconst 1, 1) := dk_4 (dk_at dksX3_lies_1 23 rfl rfl)
theorem dX3_lies_46 : decode cX3_lies 46 = .ok (.iload_n 1, 1) := dk_27 (dk_at dksX3_lies_2 0 rfl rfl)
theorem dX3_lies_47 : decode cX3_lies 47 = .ok (.ishl, 1) := dk_120 (dk_at dksX3_lies_2 1 rfl rfl)
theorem dX3_lies_48 : decode cX3_lies 48 = .ok (.ior, 1) := dk_128 (dk_at dksX3_lies_2 2 rfl rfl)
theorem dX3_lies_49 : decode cX3_lies 49 = .ok (.putfield 47, 3) := dk_181 0 47 (dk_at dksX3_lies_2 3 rfl rfl)
theorem dX3_lies_52 : decode cX3_lies 52 = .ok (.goto 31, 3) := dk_167 0 31 (dk_at dksX3_lies_2 6 rfl rfl)
theorem dX3_lies_55 : decode cX3_lies 55 = .ok (.aload_n 0, 1) := dk_42 (dk_at dksX3_lies_2 9 rfl rfl)
theorem dX3_lies_56 : decode cX3_lies 56 = .ok (.getfield 37, 3) := dk_180 0 37 (dk_at dksX3_lies_2 10 rfl rfl)
theorem dX3_lies_59 : decode cX3_lies 59 = .ok (.aload_n 0, 1) := dk_42 (dk_at dksX3_lies_2 13 rfl rfl)
theorem dX3_lies_60 : decode cX3_lies 60 = .ok (.getfield 21, 3) := dk_180 0 21 (dk_at dksX3_lies_2 14 rfl rfl)
theorem dX3_lies_63 : decode cX3_lies 63 = .ok (.iload_n 1, 1) := dk_27 (dk_at dksX3_lies_2 17 rfl rfl)
theorem dX3_lies_64 : decode cX3_lies 64 = .ok (.iaload, 1) := dk_46 (dk_at dksX3_lies_2 18 rfl rfl)
theorem dX3_lies_65 : decode cX3_lies 65 = .ok (.isub, 1) := dk_100 (dk_at dksX3_lies_2 19 rfl rfl)
theorem dX3_lies_66 : decode cX3_lies 66 = .ok (.iconst 1, 1) := dk_4 (dk_at dksX3_lies_2 20 rfl rfl)
theorem dX3_lies_67 : decode cX3_lies 67 = .ok (.iadd, 1) := dk_96 (dk_at dksX3_lies_2 21 rfl rfl)
theorem dX3_lies_68 : decode cX3_lies 68 = .ok (.aload_n 0, 1) := dk_42 (dk_at dksX3_lies_2 22 rfl rfl)
theorem dX3_lies_69 : decode cX3_lies 69 = .ok (.getfield 33, 3) := dk_180 0 33 (dk_at dksX3_lies_3 0 rfl rfl)
theorem dX3_lies_72 : decode cX3_lies 72 = .ok (.getfield 155, 3) := dk_180 0 155 (dk_at dksX3_lies_3 3 rfl rfl)
theorem dX3_lies_75 : decode cX3_lies 75 = .ok (.if_icmp .lt 8, 3) := dk_161 0 8 (dk_at dksX3_lies_3 6 rfl rfl)
theorem dX3_lies_78 : decode cX3_lies 78 = .ok (.aload_n 0, 1) := dk_42 (dk_at dksX3_lies_3 9 rfl rfl)
theorem dX3_lies_79 : decode cX3_lies 79 = .ok (.iload_n 1, 1) := dk_27 (dk_at dksX3_lies_3 10 rfl rfl)
theorem dX3_lies_80 : decode cX3_lies 80 = .ok (.invokevirtual 158, 3) := dk_182 0 158 (dk_at dksX3_lies_3 11 rfl rfl)
theorem dX3_lies_83 : decode cX3_lies 83 = .ok (.return_, 1) := dk_177 (dk_at dksX3_lies_3 14 rfl rfl)
theorem fw_X3_152 : cz_FW "HeldCoats$Reign" 152 [(1, 4)] "I" := ⟨"HeldCoats$Capital", "moths", Or.inr ⟨_, q213⟩, List.forall_mem_cons.mpr ⟨⟨RX2, TX2, 11, rfl, by decide, rfl, rfl, Or.inl rfl⟩, fun _ h => absurd h List.not_mem_nil⟩, by decide⟩
theorem fw_X3_155 : cz_FW "HeldCoats$Reign" 155 [(1, 3)] "I" := ⟨"HeldCoats$Capital", "holds", Or.inr ⟨_, q209⟩, List.forall_mem_cons.mpr ⟨⟨RX2, TX2, 11, rfl, by decide, rfl, rfl, Or.inl rfl⟩, fun _ h => absurd h List.not_mem_nil⟩, by decide⟩
theorem se_HeldCoats_Reign_keep__I_V_HeldCoats_Reign : ∀ c ∈ ([3] : List Nat), ∃ q : vw_C, cz_cl[c]? = some q ∧ Cond.selects q.1 (⟨"HeldCoats$Reign", "keep", "(I)V"⟩ : MethodName) (⟨"HeldCoats$Reign", "keep", "(I)V"⟩ : MethodName) ∈ lw_all := List.forall_mem_cons.mpr ⟨⟨_, cz_cl3, q1246⟩, fun _ h => absurd h List.not_mem_nil⟩
theorem md_X3_keep : cz_md yX3_keep 2 (ws_ yX3_keep cX3_keep 2 ((Option.none : Option Jvm.ClassFile.FieldType))) 1 := ⟨cz_ws_code q1247, q118, ⟨by decide, by decide, by decide +kernel⟩, by decide⟩
set_option maxHeartbeats 4000000 in
set_option maxRecDepth 100000 in
noncomputable def fn_X3_lies (l0 : Option Nat) (l1 : Int32) (h : cz_H) : cz_Z := cz_getR h l0 [(3, 7)] (fun r1 => cz_iald h r1 l1 (fun x2 => cz_getR h l0 [(3, 0)] (fun r3 => cz_getI h r3 [(1, 4)] (fun x4 => cz_iast h r1 l1 (x2 - x4) (fun h5 => cz_getR h5 l0 [(3, 7)] (fun r6 => cz_iald h5 r6 l1 (fun x7 => (if 0 < x7 then cz_getI h5 l0 [(3, 1)] (fun x8 => cz_getR h5 l0 [(3, 9)] (fun r9 => cz_iald h5 r9 l1 (fun x10 => cz_getR h5 l0 [(3, 0)] (fun r11 => cz_getI h5 r11 [(1, 3)] (fun x12 => (if ((x8 - x10) + 1) < x12 then some (.inl none, h5) else cz_rc h5 l0 [3] (cz_cV (fn_X3_keep l0 l1 h5) (fun h19 => some (.inl none, h19))))))))) else cz_getR h5 l0 [(3, 7)] (fun r20 => cz_iast h5 r20 l1 0 (fun h21 => cz_getR h21 l0 [(3, 6)] (fun r22 => cz_iast h21 r22 l1 30 (fun h23 => cz_getI h23 l0 [(3, 4)] (fun x24 => cz_put h23 l0 [(3, 4)] (cz_i (x24 ||| ((1 : Int32) <<< (l1 &&& 31)))) (fun h25 => some (.inl none, h25)))))))))))))))
set_option maxHeartbeats 4000000 in
set_option maxRecDepth 100000 in
theorem wk_X3_lies {K : cz_K} {D : cz_D} {h0 : cz_H} {oh : cz_O × cz_H} {l0 : Option Nat} {l1 : Int32} {h : cz_H} (S : cz_S K D h0 cX3_lies 2 "HeldCoats$Reign" ((Option.none : Option Jvm.ClassFile.FieldType)) "lies" ([])) : cz_T K D 3 h0 oh 2 (fn_X3_lies l0 l1 h) h 0 [(0, cz_r l0), (1, cz_i l1)] [] := by
  unfold fn_X3_lies
  refine ct_aload_n (k := 0) S dX3_lies_0 rfl rfl ?_
  refine ct_getR S fw_X3_15 dX3_lies_1 (fun r1 => ?_)
  refine ct_iload_n (k := 1) S dX3_lies_4 rfl rfl ?_
  refine ct_dup2 S dX3_lies_5 rfl rfl ?_
  refine ct_iald S dX3_lies_6 (fun x2 => ?_)
  refine ct_aload_n (k := 0) S dX3_lies_7 rfl rfl ?_
  refine ct_getR S fw_X3_33 dX3_lies_8 (fun r3 => ?_)
  refine ct_getI S fw_X3_152 dX3_lies_11 (fun x4 => ?_)
  refine ct_isub S dX3_lies_14 ?_
  refine ct_iast S dX3_lies_15 (fun h5 => ?_)
  refine ct_aload_n (k := 0) S dX3_lies_16 rfl rfl ?_
  refine ct_getR S fw_X3_15 dX3_lies_17 (fun r6 => ?_)
  refine ct_iload_n (k := 1) S dX3_lies_20 rfl rfl ?_
  refine ct_iald S dX3_lies_21 (fun x7 => ?_)
  refine ct_if_gt (tgt := 55) S dX3_lies_22 (by decide) ?_ ?_
  · refine ct_aload_n (k := 0) S dX3_lies_55 rfl rfl ?_
    refine ct_getI S fw_X3_37 dX3_lies_56 (fun x8 => ?_)
    refine ct_aload_n (k := 0) S dX3_lies_59 rfl rfl ?_
    refine ct_getR S fw_X3_21 dX3_lies_60 (fun r9 => ?_)
    refine ct_iload_n (k := 1) S dX3_lies_63 rfl rfl ?_
    refine ct_iald S dX3_lies_64 (fun x10 => ?_)
    refine ct_isub S dX3_lies_65 ?_
    refine ct_iconst (v := 1) S dX3_lies_66 kI_1 ?_
    refine ct_iadd S dX3_lies_67 ?_
    refine ct_aload_n (k := 0) S dX3_lies_68 rfl rfl ?_
    refine ct_getR S fw_X3_33 dX3_lies_69 (fun r11 => ?_)
    refine ct_getI S fw_X3_155 dX3_lies_72 (fun x12 => ?_)
    refine ct_icmp_lt (tgt := 83) S dX3_lies_75 (by decide) ?_ ?_
    · exact ct_vret S rfl dX3_lies_83
    · refine ct_aload_n (k := 0) S dX3_lies_78 rfl rfl ?_
      refine ct_iload_n (k := 1) S dX3_lies_79 rfl rfl ?_
      refine ct_rc (fun b13 ci14 V15 hb16 hc17 hi18 => ?_)
      refine ct_cV (st := []) (cg_virtual (av := [cz_i l1]) S hb16 hc17 hi18 (fun _ e => mt_X3_keep e) md_X3_keep q1244 q1245 se_HeldCoats_Reign_keep__I_V_HeldCoats_Reign (by decide) (Nat.le_of_ble_eq_true rfl) rfl dX3_lies_80) (fun h19 => ?_)
      exact ct_vret S rfl dX3_lies_83
  · refine ct_aload_n (k := 0) S dX3_lies_25 rfl rfl ?_
    refine ct_getR S fw_X3_15 dX3_lies_26 (fun r20 => ?_)
    refine ct_iload_n (k := 1) S dX3_lies_29 rfl rfl ?_
    refine ct_iconst (v := 0) S dX3_lies_30 kI_0 ?_
    refine ct_iast S dX3_lies_31 (fun h21 => ?_)
    refine ct_aload_n (k := 0) S dX3_lies_32 rfl rfl ?_
    refine ct_getR S fw_X3_9 dX3_lies_33 (fun r22 => ?_)
    refine ct_iload_n (k := 1) S dX3_lies_36 rfl rfl ?_
    refine ct_bipush (v := 30) S dX3_lies_37 kB_30 ?_
    refine ct_iast S dX3_lies_39 (fun h23 => ?_)
    refine ct_aload_n (k := 0) S dX3_lies_40 rfl rfl ?_
    refine ct_dup S dX3_lies_41 rfl ?_
    refine ct_getI S fw_X3_47 dX3_lies_42 (fun x24 => ?_)
    refine ct_iconst (v := 1) S dX3_lies_45 kI_1 ?_
    refine ct_iload_n (k := 1) S dX3_lies_46 rfl rfl ?_
    refine ct_ishl S dX3_lies_47 ?_
    refine ct_ior S dX3_lies_48 ?_
    refine ct_put S fw_X3_47 fp_X3_m_3_4 (cz_fits_i pd_I) dX3_lies_49 (fun h25 => ?_)
    refine ct_goto (tgt := 83) S dX3_lies_52 (by decide) ?_
    exact ct_vret S rfl dX3_lies_83
theorem mt_X3_lies {l : Launch} {D : cz_D} {l0 : Option Nat} {l1 : Int32} {h : cz_H} {oh : cz_O × cz_H} (hz : fn_X3_lies l0 l1 h = some oh) : cz_M l D yX3_lies (ws_ yX3_lies cX3_lies 2 ((Option.none : Option Jvm.ClassFile.FieldType))) 3 [cz_r l0, cz_i l1] h oh := cz_met (plainFor_of_name (by decide)) (Nat.le_of_ble_eq_true rfl) hz (fun K hl S => wk_X3_lies S)
/-! HeldCoats$Reign.men()I -/
def dkwX3_men_0 : List UInt8 := [42, 180, 0, 33, 180, 0, 94, 182, 0, 91, 172]
abbrev dktX3_men_0 : List UInt8 := dkwX3_men_0 ++ []
theorem dksX3_men_0 : cX3_men.data.toList.drop 0 = dktX3_men_0 := by decide +kernel
theorem dX3_men_0 : decode cX3_men 0 = .ok (.aload_n 0, 1) := dk_42 (dk_at dksX3_men_0 0 rfl rfl)
theorem dX3_men_1 : decode cX3_men 1 = .ok (.getfield 33, 3) := dk_180 0 33 (dk_at dksX3_men_0 1 rfl rfl)
theorem dX3_men_4 : decode cX3_men 4 = .ok (.getfield 94, 3) := dk_180 0 94 (dk_at dksX3_men_0 4 rfl rfl)
theorem dX3_men_7 : decode cX3_men 7 = .ok (.invokevirtual 91, 3) := dk_182 0 91 (dk_at dksX3_men_0 7 rfl rfl)
theorem dX3_men_10 : decode cX3_men 10 = .ok (.ireturn, 1) := dk_172 (dk_at dksX3_men_0 10 rfl rfl)
set_option maxHeartbeats 4000000 in
set_option maxRecDepth 100000 in
noncomputable def fn_X3_men (l0 : Option Nat) (h : cz_H) : cz_Z := cz_getR h l0 [(3, 0)] (fun r1 => cz_getR h r1 [(1, 7)] (fun r2 => cz_rc h r2 [2] (cz_cI (fn_J2_size r2 h) (fun x10 h9 => some (.inl (some (cz_i x10)), h9)))))
set_option maxHeartbeats 4000000 in
set_option maxRecDepth 100000 in
theorem wk_X3_men {K : cz_K} {D : cz_D} {h0 : cz_H} {oh : cz_O × cz_H} {l0 : Option Nat} {h : cz_H} (S : cz_S K D h0 cX3_men 1 "HeldCoats$Reign" ((Option.some Jvm.ClassFile.FieldType.int)) "men" ([])) : cz_T K D 3 h0 oh 1 (fn_X3_men l0 h) h 0 [(0, cz_r l0)] [] := by
  unfold fn_X3_men
  refine ct_aload_n (k := 0) S dX3_men_0 rfl rfl ?_
  refine ct_getR S fw_X3_33 dX3_men_1 (fun r1 => ?_)
  refine ct_getR S fw_X3_94 dX3_men_4 (fun r2 => ?_)
  refine ct_rc (fun b3 ci4 V5 hb6 hc7 hi8 => ?_)
  refine ct_cI (st := []) (cg_virtual (av := []) S hb6 hc7 hi8 (fun _ e => mt_J2_size e) md_J2_size q340 q341 se_java_util_ArrayList_size___I_java_util_ArrayList (by decide) (Nat.le_of_ble_eq_true rfl) rfl dX3_men_7) (fun x10 h9 => ?_)
  exact ct_iret S rfl dX3_men_10
theorem mt_X3_men {l : Launch} {D : cz_D} {l0 : Option Nat} {h : cz_H} {oh : cz_O × cz_H} (hz : fn_X3_men l0 h = some oh) : cz_M l D yX3_men (ws_ yX3_men cX3_men 1 ((Option.some Jvm.ClassFile.FieldType.int))) 3 [cz_r l0] h oh := cz_met (plainFor_of_name (by decide)) (Nat.le_of_ble_eq_true rfl) hz (fun K hl S => wk_X3_men S)
/-! HeldCoats$Reign.ruler(Z)I -/
def dkwX3_ruler_4 : List UInt8 := [21, 5, 62, 21, 4, 61, 132, 4, 1, 167, 255, 161, 28, 172]
abbrev dktX3_ruler_4 : List UInt8 := dkwX3_ruler_4 ++ []
def dkwX3_ruler_3 : List UInt8 := [192, 0, 121, 180, 0, 123, 96, 54, 5, 132, 6, 1, 167, 255, 197, 21, 5, 29, 163, 0, 6, 167, 0, 9]
abbrev dktX3_ruler_3 : List UInt8 := dkwX3_ruler_3 ++ dktX3_ruler_4
def dkwX3_ruler_2 : List UInt8 := [182, 0, 108, 21, 4, 160, 0, 26, 21, 5, 42, 180, 0, 33, 180, 0, 97, 21, 6, 182, 0, 68]
abbrev dktX3_ruler_2 : List UInt8 := dkwX3_ruler_2 ++ dktX3_ruler_3
def dkwX3_ruler_1 : List UInt8 := [42, 182, 0, 134, 162, 0, 56, 27, 153, 0, 12, 42, 21, 6, 182, 0, 136, 167, 0, 9, 42, 21, 6]
abbrev dktX3_ruler_1 : List UInt8 := dkwX3_ruler_1 ++ dktX3_ruler_2
def dkwX3_ruler_0 : List UInt8 := [2, 61, 3, 62, 3, 54, 4, 21, 4, 42, 182, 0, 139, 162, 0, 92, 3, 54, 5, 3, 54, 6, 21, 6]
abbrev dktX3_ruler_0 : List UInt8 := dkwX3_ruler_0 ++ dktX3_ruler_1
theorem dksX3_ruler_0 : cX3_ruler.data.toList.drop 0 = dktX3_ruler_0 := by decide +kernel
theorem dksX3_ruler_1 : cX3_ruler.data.toList.drop 24 = dktX3_ruler_1 := dk_seg dksX3_ruler_0 24 rfl rfl
theorem dksX3_ruler_2 : cX3_ruler.data.toList.drop 47 = dktX3_ruler_2 := dk_seg dksX3_ruler_1 23 rfl rfl
theorem dksX3_ruler_3 : cX3_ruler.data.toList.drop 69 = dktX3_ruler_3 := dk_seg dksX3_ruler_2 22 rfl rfl
theorem dksX3_ruler_4 : cX3_ruler.data.toList.drop 93 = dktX3_ruler_4 := dk_seg dksX3_ruler_3 24 rfl rfl
theorem dX3_ruler_0 : decode cX3_ruler 0 = .ok (.iconst (-1), 1) := dk_2 (dk_at dksX3_ruler_0 0 rfl rfl)
theorem dX3_ruler_1 : decode cX3_ruler 1 = .ok (.istore_n 2, 1) := dk_61 (dk_at dksX3_ruler_0 1 rfl rfl)
theorem dX3_ruler_2 : decode cX3_ruler 2 = .ok (.iconst 0, 1) := dk_3 (dk_at dksX3_ruler_0 2 rfl rfl)
theorem dX3_ruler_3 : decode cX3_ruler 3 = .ok (.istore_n 3, 1) := dk_62 (dk_at dksX3_ruler_0 3 rfl rfl)
theorem dX3_ruler_4 : decode cX3_ruler 4 = .ok (.iconst 0, 1) := dk_3 (dk_at dksX3_ruler_0 4 rfl rfl)
theorem dX3_ruler_5 : decode cX3_ruler 5 = .ok (.istore 4, 2) := dk_54 4 (dk_at dksX3_ruler_0 5 rfl rfl)
theorem dX3_ruler_7 : decode cX3_ruler 7 = .ok (.iload 4, 2) := dk_21 4 (dk_at dksX3_ruler_0 7 rfl rfl)
theorem dX3_ruler_9 : decode cX3_ruler 9 = .ok (.aload_n 0, 1) := dk_42 (dk_at dksX3_ruler_0 9 rfl rfl)
theorem dX3_ruler_10 : decode cX3_ruler 10 = .ok (.invokevirtual 139, 3) := dk_182 0 139 (dk_at dksX3_ruler_0 10 rfl rfl)
theorem dX3_ruler_13 : decode cX3_ruler 13 = .ok (.if_icmp .ge 92, 3) := dk_162 0 92 (dk_at dksX3_ruler_0 13 rfl rfl)
theorem dX3_ruler_16 : decode cX3_ruler 16 = .ok (.iconst 0, 1) := dk_3 (dk_at dksX3_ruler_0 16 rfl rfl)
theorem dX3_ruler_17 : decode cX3_ruler 17 = .ok (.istore 5, 2) := dk_54 5 (dk_at dksX3_ruler_0 17 rfl rfl)
theorem dX3_ruler_19 : decode cX3_ruler 19 = .ok (.iconst 0, 1) := dk_3 (dk_at dksX3_ruler_0 19 rfl rfl)
theorem dX3_ruler_20 : decode cX3_ruler 20 = .ok (.istore 6, 2) := dk_54 6 (dk_at dksX3_ruler_0 20 rfl rfl)
theorem dX3_ruler_22 : decode cX3_ruler 22 = .ok (.iload 6, 2) := dk_21 6 (dk_at dksX3_ruler_0 22 rfl rfl)
theorem dX3_ruler_24 : decode cX3_ruler 24 = .ok (.aload_n 0, 1) := dk_42 (dk_at dksX3_ruler_1 0 rfl rfl)
theorem dX3_ruler_25 : decode cX3_ruler 25 = .ok (.invokevirtual 134, 3) := dk_182 0 134 (dk_at dksX3_ruler_1 1 rfl rfl)
theorem dX3_ruler_28 : decode cX3_ruler 28 = .ok (.if_icmp .ge 56, 3) := dk_162 0 56 (dk_at dksX3_ruler_1 4 rfl rfl)
theorem dX3_ruler_31 : decode cX3_ruler 31 = .ok (.iload_n 1, 1) := dk_27 (dk_at dksX3_ruler_1 7 rfl rfl)
theorem dX3_ruler_32 : decode cX3_ruler 32 = .ok (.ifCond .eq 12, 3) := dk_153 0 12 (dk_at dksX3_ruler_1 8 rfl rfl)
theorem dX3_ruler_35 : decode cX3_ruler 35 = .ok (.aload_n 0, 1) := dk_42 (dk_at dksX3_ruler_1 11 rfl rfl)
theorem dX3_ruler_36 : decode cX3_ruler 36 = .ok (.iload 6, 2) := dk_21 6 (dk_at dksX3_ruler_1 12 rfl rfl)
theorem dX3_ruler_38 : decode cX3_ruler 38 = .ok (.invokevirtual 136, 3) := dk_182 0 136 (dk_at dksX3_ruler_1 14 rfl rfl)
theorem dX3_ruler_41 : decode cX3_ruler 41 = .ok (.goto 9, 3) := dk_167 0 9 (dk_at dksX3_ruler_1 17 rfl rfl)
theorem dX3_ruler_44 : decode cX3_ruler 44 = .ok (.aload_n 0, 1) := dk_42 (dk_at dksX3_ruler_1 20 rfl rfl)
theorem dX3_ruler_45 : decode cX3_ruler 45 = .ok (.iload 6, 2) := dk_21 6 (dk_at dksX3_ruler_1 21 rfl rfl)
theorem dX3_ruler_47 : decode cX3_ruler 47 = .ok (.invokevirtual 108, 3) := dk_182 0 108 (dk_at dksX3_ruler_2 0 rfl rfl)
theorem dX3_ruler_50 : decode cX3_ruler 50 = .ok (.iload 4, 2) := dk_21 4 (dk_at dksX3_ruler_2 3 rfl rfl)
theorem dX3_ruler_52 : decode cX3_ruler 52 = .ok (.if_icmp .ne 26, 3) := dk_160 0 26 (dk_at dksX3_ruler_2 5 rfl rfl)
theorem dX3_ruler_55 : decode cX3_ruler 55 = .ok (.iload 5, 2) := dk_21 5 (dk_at dksX3_ruler_2 8 rfl rfl)
theorem dX3_ruler_57 : decode cX3_ruler 57 = .ok (.aload_n 0, 1) := dk_42 (dk_at dksX3_ruler_2 10 rfl rfl)
theorem dX3_ruler_58 : decode cX3_ruler 58 = .ok (.getfield 33, 3) := dk_180 0 33 (dk_at dksX3_ruler_2 11 rfl rfl)
theorem dX3_ruler_61 : decode cX3_ruler 61 = .ok (.getfield 97, 3) := dk_180 0 97 (dk_at dksX3_ruler_2 14 rfl rfl)
theorem dX3_ruler_64 : decode cX3_ruler 64 = .ok (.iload 6, 2) := dk_21 6 (dk_at dksX3_ruler_2 17 rfl rfl)
theorem dX3_ruler_66 : decode cX3_ruler 66 = .ok (.invokevirtual 68, 3) := dk_182 0 68 (dk_at dksX3_ruler_2 19 rfl rfl)
theorem dX3_ruler_69 : decode cX3_ruler 69 = .ok (.checkcast 121, 3) := dk_192 0 121 (dk_at dksX3_ruler_3 0 rfl rfl)
theorem dX3_ruler_72 : decode cX3_ruler 72 = .ok (.getfield 123, 3) := dk_180 0 123 (dk_at dksX3_ruler_3 3 rfl rfl)
theorem dX3_ruler_75 : decode cX3_ruler 75 = .ok (.iadd, 1) := dk_96 (dk_at dksX3_ruler_3 6 rfl rfl)
theorem dX3_ruler_76 : decode cX3_ruler 76 = .ok (.istore 5, 2) := dk_54 5 (dk_at dksX3_ruler_3 7 rfl rfl)
theorem dX3_ruler_78 : decode cX3_ruler 78 = .ok (.iinc 6 1, 3) := dk_132 6 1 (dk_at dksX3_ruler_3 9 rfl rfl)
theorem dX3_ruler_81 : decode cX3_ruler 81 = .ok (.goto (-59), 3) := dk_167 255 197 (dk_at dksX3_ruler_3 12 rfl rfl)
theorem dX3_ruler_84 : decode cX3_ruler 84 = .ok (.iload 5, 2) := dk_21 5 (dk_at dksX3_ruler_3 15 rfl rfl)
theorem dX3_ruler_86 : decode cX3_ruler 86 = .ok (.iload_n 3, 1) := dk_29 (dk_at dksX3_ruler_3 17 rfl rfl)
theorem dX3_ruler_87 : decode cX3_ruler 87 = .ok (.if_icmp .gt 6, 3) := dk_163 0 6 (dk_at dksX3_ruler_3 18 rfl rfl)
theorem dX3_ruler_90 : decode cX3_ruler 90 = .ok (.goto 9, 3) := dk_167 0 9 (dk_at dksX3_ruler_3 21 rfl rfl)
theorem dX3_ruler_93 : decode cX3_ruler 93 = .ok (.iload 5, 2) := dk_21 5 (dk_at dksX3_ruler_4 0 rfl rfl)
theorem dX3_ruler_95 : decode cX3_ruler 95 = .ok (.istore_n 3, 1) := dk_62 (dk_at dksX3_ruler_4 2 rfl rfl)
theorem dX3_ruler_96 : decode cX3_ruler 96 = .ok (.iload 4, 2) := dk_21 4 (dk_at dksX3_ruler_4 3 rfl rfl)
theorem dX3_ruler_98 : decode cX3_ruler 98 = .ok (.istore_n 2, 1) := dk_61 (dk_at dksX3_ruler_4 5 rfl rfl)
theorem dX3_ruler_99 : decode cX3_ruler 99 = .ok (.iinc 4 1, 3) := dk_132 4 1 (dk_at dksX3_ruler_4 6 rfl rfl)
theorem dX3_ruler_102 : decode cX3_ruler 102 = .ok (.goto (-95), 3) := dk_167 255 161 (dk_at dksX3_ruler_4 9 rfl rfl)
theorem dX3_ruler_105 : decode cX3_ruler 105 = .ok (.iload_n 2, 1) := dk_28 (dk_at dksX3_ruler_4 12 rfl rfl)
theorem dX3_ruler_106 : decode cX3_ruler 106 = .ok (.ireturn, 1) := dk_172 (dk_at dksX3_ruler_4 13 rfl rfl)
theorem se_HeldCoats_Reign_men___I_HeldCoats_Reign : ∀ c ∈ ([3] : List Nat), ∃ q : vw_C, cz_cl[c]? = some q ∧ Cond.selects q.1 (⟨"HeldCoats$Reign", "men", "()I"⟩ : MethodName) (⟨"HeldCoats$Reign", "men", "()I"⟩ : MethodName) ∈ lw_all := List.forall_mem_cons.mpr ⟨⟨_, cz_cl3, q1130⟩, fun _ h => absurd h List.not_mem_nil⟩
theorem md_X3_men : cz_md yX3_men 1 (ws_ yX3_men cX3_men 1 ((Option.some Jvm.ClassFile.FieldType.int))) 0 := ⟨cz_ws_code q1131, q118, ⟨by decide, by decide, by decide +kernel⟩, by decide⟩
set_option maxHeartbeats 4000000 in
set_option maxRecDepth 100000 in
noncomputable def fn_X3_ruler_22 (l0 : Option Nat) (l1 : Int32) (l4 : Int32) (k0 : Int32 → cz_H → cz_Z) : Nat → Int32 → Int32 → cz_H → cz_Z
  | 0, _, _, _ => none
  | n + 1, l5, l6, h => cz_rc h l0 [3] (cz_cI (fn_X3_seats l0 h) (fun x16 h15 => (if x16 ≤ l6 then k0 l5 h15 else cz_jn (fun (v17 : Int32) (h18 : cz_H) => (if v17 = l4 then cz_getR h18 l0 [(3, 0)] (fun r20 => cz_getR h18 r20 [(1, 6)] (fun r21 => cz_rc h18 r21 [2] (cz_cR (fn_J2_get r21 l6 h18) (fun r29 h28 => cz_cast h28 r29 [10] (cz_getI h28 r29 [(10, 1)] (fun x30 => cz_leti (l5 + x30) (fun x31 => cz_leti (l6 + 1) (fun x32 => fn_X3_ruler_22 l0 l1 l4 k0 n x31 x32 h28)))))))) else cz_leti (l6 + 1) (fun x19 => fn_X3_ruler_22 l0 l1 l4 k0 n l5 x19 h18))) (fun j33 => (if l1 = 0 then cz_rc h15 l0 [3] (cz_cI (fn_X3_owner l0 l6 h15) (fun x41 h40 => j33 x41 h40)) else cz_rc h15 l0 [3] (cz_cI (fn_X3_holder l0 l6 h15) (fun x49 h48 => j33 x49 h48)))))))
set_option maxHeartbeats 4000000 in
set_option maxRecDepth 100000 in
theorem wk_X3_ruler_22 {K : cz_K} {D : cz_D} {h0 : cz_H} {oh : cz_O × cz_H} {l0 : Option Nat} {l1 : Int32} {l4 : Int32} {l2 : Int32} {l3 : Int32} {k0 : Int32 → cz_H → cz_Z} (S : cz_S K D h0 cX3_ruler 7 "HeldCoats$Reign" ((Option.some Jvm.ClassFile.FieldType.int)) "ruler" ([])) (hk0 : ∀ (e5 : Int32) (h : cz_H), cz_T K D 7 h0 oh 7 (k0 e5 h) h 84 [(0, cz_r l0), (1, cz_i l1), (2, cz_i l2), (3, cz_i l3), (4, cz_i l4), (5, cz_i e5)] []) : ∀ (n : Nat) (l5 : Int32) (l6 : Int32) (h : cz_H), cz_T K D 7 h0 oh 7 (fn_X3_ruler_22 l0 l1 l4 k0 n l5 l6 h) h 22 [(0, cz_r l0), (1, cz_i l1), (2, cz_i l2), (3, cz_i l3), (4, cz_i l4), (5, cz_i l5), (6, cz_i l6)] [] := by
  intro n
  induction n with
  | zero => intros; exact ct_none
  | succ n ih =>
    intro l5 l6 h
    rw [fn_X3_ruler_22]
    refine ct_iload (k := 6) S dX3_ruler_22 rfl ?_
    refine ct_aload_n (k := 0) S dX3_ruler_24 rfl rfl ?_
    refine ct_rc (fun b9 ci10 V11 hb12 hc13 hi14 => ?_)
    refine ct_cI (st := [cz_i l6]) (cg_virtual (av := []) S hb12 hc13 hi14 (fun _ e => mt_X3_seats e) md_X3_seats q1132 q1133 se_HeldCoats_Reign_seats___I_HeldCoats_Reign (by decide) (Nat.le_of_ble_eq_true rfl) rfl dX3_ruler_25) (fun x16 h15 => ?_)
    refine ct_icmp_ge (tgt := 84) S dX3_ruler_28 (by decide) ?_ ?_
    · exact ct_sub [0, 1, 2, 3, 4, 5] rfl (hk0 l5 h15)
    · refine ct_iload_n (k := 1) S dX3_ruler_31 rfl rfl ?_
      refine ct_jnP (fun j33 => ∀ (v17 : Int32) (h18 : cz_H), cz_T K D 7 h0 oh 7 (j33 v17 h18) h18 50 [(0, cz_r l0), (1, cz_i l1), (2, cz_i l2), (3, cz_i l3), (4, cz_i l4), (5, cz_i l5), (6, cz_i l6)] [cz_i v17]) (fun v17 h18 => ?_) (fun j33 Hj33 => ?_)
      · refine ct_iload (k := 4) S dX3_ruler_50 rfl ?_
        refine ct_icmp_ne (tgt := 78) S dX3_ruler_52 (by decide) ?_ ?_
        · refine ct_iincL (j := 6) (L2 := fun x19 => [(6, cz_i x19), (0, cz_r l0), (1, cz_i l1), (2, cz_i l2), (3, cz_i l3), (4, cz_i l4), (5, cz_i l5)]) S dX3_ruler_78 rfl kI_1 (by decide) (fun _ => rfl) (fun x19 => ?_)
          refine ct_goto (tgt := 22) S dX3_ruler_81 (by decide) ?_
          exact ct_sub [1, 2, 3, 4, 5, 6, 0] rfl (ih l5 x19 h18)
        · refine ct_iload (k := 5) S dX3_ruler_55 rfl ?_
          refine ct_aload_n (k := 0) S dX3_ruler_57 rfl rfl ?_
          refine ct_getR S fw_X3_33 dX3_ruler_58 (fun r20 => ?_)
          refine ct_getR S fw_X3_97 dX3_ruler_61 (fun r21 => ?_)
          refine ct_iload (k := 6) S dX3_ruler_64 rfl ?_
          refine ct_rc (fun b22 ci23 V24 hb25 hc26 hi27 => ?_)
          refine ct_cR (st := [cz_i l5]) (cg_virtual (av := [cz_i l6]) S hb25 hc26 hi27 (fun _ e => mt_J2_get e) md_J2_get q344 q345 se_java_util_ArrayList_get__I_Ljava_lang_Object__java_util_ArrayList (by decide) (Nat.le_of_ble_eq_true rfl) rfl dX3_ruler_66) (fun r29 h28 => ?_)
          refine ct_cast S q1137 ca_HeldCoats_Told dX3_ruler_69 ?_
          refine ct_getI S fw_X3_123 dX3_ruler_72 (fun x30 => ?_)
          refine ct_iadd S dX3_ruler_75 ?_
          refine ct_leti (fun x31 => ?_)
          refine ct_istore (L' := [(5, cz_i x31), (0, cz_r l0), (1, cz_i l1), (2, cz_i l2), (3, cz_i l3), (4, cz_i l4), (6, cz_i l6)]) S dX3_ruler_76 (by decide) rfl ?_
          refine ct_iincL (j := 6) (L2 := fun x32 => [(6, cz_i x32), (5, cz_i x31), (0, cz_r l0), (1, cz_i l1), (2, cz_i l2), (3, cz_i l3), (4, cz_i l4)]) S dX3_ruler_78 rfl kI_1 (by decide) (fun _ => rfl) (fun x32 => ?_)
          refine ct_goto (tgt := 22) S dX3_ruler_81 (by decide) ?_
          exact ct_sub [2, 3, 4, 5, 6, 1, 0] rfl (ih x31 x32 h28)
      · refine ct_if_eq (tgt := 44) S dX3_ruler_32 (by decide) ?_ ?_
        · refine ct_aload_n (k := 0) S dX3_ruler_44 rfl rfl ?_
          refine ct_iload (k := 6) S dX3_ruler_45 rfl ?_
          refine ct_rc (fun b34 ci35 V36 hb37 hc38 hi39 => ?_)
          refine ct_cI (st := []) (cg_virtual (av := [cz_i l6]) S hb37 hc38 hi39 (fun _ e => mt_X3_owner e) md_X3_owner q1110 q1111 se_HeldCoats_Reign_owner__I_I_HeldCoats_Reign (by decide) (Nat.le_of_ble_eq_true rfl) rfl dX3_ruler_47) (fun x41 h40 => ?_)
          exact Hj33 x41 h40
        · refine ct_aload_n (k := 0) S dX3_ruler_35 rfl rfl ?_
          refine ct_iload (k := 6) S dX3_ruler_36 rfl ?_
          refine ct_rc (fun b42 ci43 V44 hb45 hc46 hi47 => ?_)
          refine ct_cI (st := []) (cg_virtual (av := [cz_i l6]) S hb45 hc46 hi47 (fun _ e => mt_X3_holder e) md_X3_holder q1136 q1099 se_HeldCoats_Reign_holder__I_I_HeldCoats_Reign (by decide) (Nat.le_of_ble_eq_true rfl) rfl dX3_ruler_38) (fun x49 h48 => ?_)
          refine ct_goto (tgt := 50) S dX3_ruler_41 (by decide) ?_
          exact Hj33 x49 h48
set_option maxHeartbeats 4000000 in
set_option maxRecDepth 100000 in
noncomputable def fn_X3_ruler_7 (l0 : Option Nat) (l1 : Int32) (k0 : Int32 → cz_H → cz_Z) : Nat → Int32 → Int32 → Int32 → cz_H → cz_Z
  | 0, _, _, _, _ => none
  | n + 1, l2, l3, l4, h => cz_rc h l0 [3] (cz_cI (fn_X3_men l0 h) (fun x8 h7 => (if x8 ≤ l4 then k0 l2 h7 else fn_X3_ruler_22 l0 l1 l4 (fun (e50 : Int32) (h51 : cz_H) => (if l3 < e50 then cz_leti (l4 + 1) (fun x52 => fn_X3_ruler_7 l0 l1 k0 n l4 e50 x52 h51) else cz_leti (l4 + 1) (fun x53 => fn_X3_ruler_7 l0 l1 k0 n l2 l3 x53 h51))) 1000 0 0 h7)))
set_option maxHeartbeats 4000000 in
set_option maxRecDepth 100000 in
theorem wk_X3_ruler_7 {K : cz_K} {D : cz_D} {h0 : cz_H} {oh : cz_O × cz_H} {l0 : Option Nat} {l1 : Int32} {k0 : Int32 → cz_H → cz_Z} (S : cz_S K D h0 cX3_ruler 7 "HeldCoats$Reign" ((Option.some Jvm.ClassFile.FieldType.int)) "ruler" ([])) (hk0 : ∀ (e2 : Int32) (h : cz_H), cz_T K D 7 h0 oh 7 (k0 e2 h) h 105 [(2, cz_i e2)] []) : ∀ (n : Nat) (l2 : Int32) (l3 : Int32) (l4 : Int32) (h : cz_H), cz_T K D 7 h0 oh 7 (fn_X3_ruler_7 l0 l1 k0 n l2 l3 l4 h) h 7 [(0, cz_r l0), (1, cz_i l1), (2, cz_i l2), (3, cz_i l3), (4, cz_i l4)] [] := by
  intro n
  induction n with
  | zero => intros; exact ct_none
  | succ n ih =>
    intro l2 l3 l4 h
    rw [fn_X3_ruler_7]
    refine ct_iload (k := 4) S dX3_ruler_7 rfl ?_
    refine ct_aload_n (k := 0) S dX3_ruler_9 rfl rfl ?_
    refine ct_rc (fun b1 ci2 V3 hb4 hc5 hi6 => ?_)
    refine ct_cI (st := [cz_i l4]) (cg_virtual (av := []) S hb4 hc5 hi6 (fun _ e => mt_X3_men e) md_X3_men q1128 q1129 se_HeldCoats_Reign_men___I_HeldCoats_Reign (by decide) (Nat.le_of_ble_eq_true rfl) rfl dX3_ruler_10) (fun x8 h7 => ?_)
    refine ct_icmp_ge (tgt := 105) S dX3_ruler_13 (by decide) ?_ ?_
    · exact ct_sub [2] rfl (hk0 l2 h7)
    · refine ct_iconst (v := 0) S dX3_ruler_16 kI_0 ?_
      refine ct_istore (L' := [(5, cz_i 0), (0, cz_r l0), (1, cz_i l1), (2, cz_i l2), (3, cz_i l3), (4, cz_i l4)]) S dX3_ruler_17 (by decide) rfl ?_
      refine ct_iconst (v := 0) S dX3_ruler_19 kI_0 ?_
      refine ct_istore (L' := [(6, cz_i 0), (5, cz_i 0), (0, cz_r l0), (1, cz_i l1), (2, cz_i l2), (3, cz_i l3), (4, cz_i l4)]) S dX3_ruler_20 (by decide) rfl ?_
      refine ct_sub [2, 3, 4, 5, 6, 1, 0] (L' := [(0, cz_r l0), (1, cz_i l1), (2, cz_i l2), (3, cz_i l3), (4, cz_i l4), (5, cz_i 0), (6, cz_i 0)]) rfl (wk_X3_ruler_22 S ?_ 1000 0 0 h7)
      · intro e50 h51
        refine ct_iload (k := 5) S dX3_ruler_84 rfl ?_
        refine ct_iload_n (k := 3) S dX3_ruler_86 rfl rfl ?_
        refine ct_icmp_gt (tgt := 93) S dX3_ruler_87 (by decide) ?_ ?_
        · refine ct_iload (k := 5) S dX3_ruler_93 rfl ?_
          refine ct_istore_n (L' := [(3, cz_i e50), (0, cz_r l0), (1, cz_i l1), (2, cz_i l2), (4, cz_i l4), (5, cz_i e50)]) S dX3_ruler_95 rfl (by decide) rfl ?_
          refine ct_iload (k := 4) S dX3_ruler_96 rfl ?_
          refine ct_istore_n (L' := [(2, cz_i l4), (3, cz_i e50), (0, cz_r l0), (1, cz_i l1), (4, cz_i l4), (5, cz_i e50)]) S dX3_ruler_98 rfl (by decide) rfl ?_
          refine ct_iincL (j := 4) (L2 := fun x52 => [(4, cz_i x52), (2, cz_i l4), (3, cz_i e50), (0, cz_r l0), (1, cz_i l1), (5, cz_i e50)]) S dX3_ruler_99 rfl kI_1 (by decide) (fun _ => rfl) (fun x52 => ?_)
          refine ct_goto (tgt := 7) S dX3_ruler_102 (by decide) ?_
          exact ct_sub [3, 4, 1, 2, 0] rfl (ih l4 e50 x52 h51)
        · refine ct_goto (tgt := 99) S dX3_ruler_90 (by decide) ?_
          refine ct_iincL (j := 4) (L2 := fun x53 => [(4, cz_i x53), (0, cz_r l0), (1, cz_i l1), (2, cz_i l2), (3, cz_i l3), (5, cz_i e50)]) S dX3_ruler_99 rfl kI_1 (by decide) (fun _ => rfl) (fun x53 => ?_)
          refine ct_goto (tgt := 7) S dX3_ruler_102 (by decide) ?_
          exact ct_sub [1, 2, 3, 4, 0] rfl (ih l2 l3 x53 h51)
set_option maxHeartbeats 4000000 in
set_option maxRecDepth 100000 in
noncomputable def fn_X3_ruler (l0 : Option Nat) (l1 : Int32) (h : cz_H) : cz_Z := fn_X3_ruler_7 l0 l1 (fun (e54 : Int32) (h55 : cz_H) => some (.inl (some (cz_i e54)), h55)) 1000 (-1) 0 0 h
set_option maxHeartbeats 4000000 in
set_option maxRecDepth 100000 in
theorem wk_X3_ruler {K : cz_K} {D : cz_D} {h0 : cz_H} {oh : cz_O × cz_H} {l0 : Option Nat} {l1 : Int32} {h : cz_H} (S : cz_S K D h0 cX3_ruler 7 "HeldCoats$Reign" ((Option.some Jvm.ClassFile.FieldType.int)) "ruler" ([])) : cz_T K D 7 h0 oh 7 (fn_X3_ruler l0 l1 h) h 0 [(0, cz_r l0), (1, cz_i l1)] [] := by
  unfold fn_X3_ruler
  refine ct_iconst (v := (-1)) S dX3_ruler_0 kI_m1 ?_
  refine ct_istore_n (L' := [(2, cz_i (-1)), (0, cz_r l0), (1, cz_i l1)]) S dX3_ruler_1 rfl (by decide) rfl ?_
  refine ct_iconst (v := 0) S dX3_ruler_2 kI_0 ?_
  refine ct_istore_n (L' := [(3, cz_i 0), (2, cz_i (-1)), (0, cz_r l0), (1, cz_i l1)]) S dX3_ruler_3 rfl (by decide) rfl ?_
  refine ct_iconst (v := 0) S dX3_ruler_4 kI_0 ?_
  refine ct_istore (L' := [(4, cz_i 0), (3, cz_i 0), (2, cz_i (-1)), (0, cz_r l0), (1, cz_i l1)]) S dX3_ruler_5 (by decide) rfl ?_
  refine ct_sub [3, 4, 2, 1, 0] (L' := [(0, cz_r l0), (1, cz_i l1), (2, cz_i (-1)), (3, cz_i 0), (4, cz_i 0)]) rfl (wk_X3_ruler_7 S ?_ 1000 (-1) 0 0 h)
  · intro e54 h55
    refine ct_iload_n (k := 0) S dX3_ruler_105 rfl rfl ?_
    exact ct_iret S rfl dX3_ruler_106
theorem mt_X3_ruler {l : Launch} {D : cz_D} {l0 : Option Nat} {l1 : Int32} {h : cz_H} {oh : cz_O × cz_H} (hz : fn_X3_ruler l0 l1 h = some oh) : cz_M l D yX3_ruler (ws_ yX3_ruler cX3_ruler 7 ((Option.some Jvm.ClassFile.FieldType.int))) 7 [cz_r l0, cz_i l1] h oh := cz_met (plainFor_of_name (by decide)) (Nat.le_of_ble_eq_true rfl) hz (fun K hl S => wk_X3_ruler S)
