/-! methods of the model, 1 (printed by wip/D-98934w/gen) -/
set_option maxRecDepth 100000
/-! HeldCoatsModel.bad(I)Z -/
def dkwX5_bad_0 : List UInt8 := [42, 27, 181, 0, 156, 42, 42, 180, 0, 133, 181, 0, 159, 3, 172]
abbrev dktX5_bad_0 : List UInt8 := dkwX5_bad_0 ++ []
theorem dksX5_bad_0 : cX5_bad.data.toList.drop 0 = dktX5_bad_0 := by decide +kernel
theorem dX5_bad_0 : decode cX5_bad 0 = .ok (.aload_n 0, 1) := dk_42 (dk_at dksX5_bad_0 0 rfl rfl)
theorem dX5_bad_1 : decode cX5_bad 1 = .ok (.iload_n 1, 1) := dk_27 (dk_at dksX5_bad_0 1 rfl rfl)
theorem dX5_bad_2 : decode cX5_bad 2 = .ok (.putfield 156, 3) := dk_181 0 156 (dk_at dksX5_bad_0 2 rfl rfl)
theorem dX5_bad_5 : decode cX5_bad 5 = .ok (.aload_n 0, 1) := dk_42 (dk_at dksX5_bad_0 5 rfl rfl)
theorem dX5_bad_6 : decode cX5_bad 6 = .ok (.aload_n 0, 1) := dk_42 (dk_at dksX5_bad_0 6 rfl rfl)
theorem dX5_bad_7 : decode cX5_bad 7 = .ok (.getfield 133, 3) := dk_180 0 133 (dk_at dksX5_bad_0 7 rfl rfl)
theorem dX5_bad_10 : decode cX5_bad 10 = .ok (.putfield 159, 3) := dk_181 0 159 (dk_at dksX5_bad_0 10 rfl rfl)
theorem dX5_bad_13 : decode cX5_bad 13 = .ok (.iconst 0, 1) := dk_3 (dk_at dksX5_bad_0 13 rfl rfl)
theorem dX5_bad_14 : decode cX5_bad 14 = .ok (.ireturn, 1) := dk_172 (dk_at dksX5_bad_0 14 rfl rfl)
theorem fw_X5_156 : cz_FW "HeldCoatsModel" 156 [(5, 15)] "I" := ⟨"HeldCoatsModel", "fault", Or.inl q1933, List.forall_mem_cons.mpr ⟨⟨RX5, TX5, 49, rfl, by decide, rfl, rfl, Or.inl rfl⟩, fun _ h => absurd h List.not_mem_nil⟩, by decide⟩
theorem fp_X5_m_5_15 {nm : String} : cz_FP "HeldCoatsModel" nm [(5, 15)] := List.forall_mem_cons.mpr ⟨⟨RX5, TX5, 49, rfl, Or.inl rfl⟩, fun _ h => absurd h List.not_mem_nil⟩
theorem fw_X5_133 : cz_FW "HeldCoatsModel" 133 [(5, 12)] "I" := ⟨"HeldCoatsModel", "at", Or.inl q1930, List.forall_mem_cons.mpr ⟨⟨RX5, TX5, 49, rfl, by decide, rfl, rfl, Or.inl rfl⟩, fun _ h => absurd h List.not_mem_nil⟩, by decide⟩
theorem fw_X5_159 : cz_FW "HeldCoatsModel" 159 [(5, 16)] "I" := ⟨"HeldCoatsModel", "faultAt", Or.inl q1934, List.forall_mem_cons.mpr ⟨⟨RX5, TX5, 49, rfl, by decide, rfl, rfl, Or.inl rfl⟩, fun _ h => absurd h List.not_mem_nil⟩, by decide⟩
theorem fp_X5_m_5_16 {nm : String} : cz_FP "HeldCoatsModel" nm [(5, 16)] := List.forall_mem_cons.mpr ⟨⟨RX5, TX5, 49, rfl, Or.inl rfl⟩, fun _ h => absurd h List.not_mem_nil⟩
set_option maxHeartbeats 4000000 in
set_option maxRecDepth 100000 in
noncomputable def fn_X5_bad (l0 : Option Nat) (l1 : Int32) (h : cz_H) : cz_Z := cz_put h l0 [(5, 15)] (cz_i l1) (fun h1 => cz_getI h1 l0 [(5, 12)] (fun x2 => cz_put h1 l0 [(5, 16)] (cz_i x2) (fun h3 => some (.inl (some (cz_i 0)), h3))))
set_option maxHeartbeats 4000000 in
set_option maxRecDepth 100000 in
theorem wk_X5_bad {K : cz_K} {D : cz_D} {h0 : cz_H} {oh : cz_O × cz_H} {l0 : Option Nat} {l1 : Int32} {h : cz_H} (S : cz_S K D h0 cX5_bad 2 "HeldCoatsModel" ((Option.some Jvm.ClassFile.FieldType.boolean)) "bad" ([])) : cz_T K D 2 h0 oh 2 (fn_X5_bad l0 l1 h) h 0 [(0, cz_r l0), (1, cz_i l1)] [] := by
  unfold fn_X5_bad
  refine ct_aload_n (k := 0) S dX5_bad_0 rfl rfl ?_
  refine ct_iload_n (k := 1) S dX5_bad_1 rfl rfl ?_
  refine ct_put S fw_X5_156 fp_X5_m_5_15 (cz_fits_i pd_I) dX5_bad_2 (fun h1 => ?_)
  refine ct_aload_n (k := 0) S dX5_bad_5 rfl rfl ?_
  refine ct_aload_n (k := 0) S dX5_bad_6 rfl rfl ?_
  refine ct_getI S fw_X5_133 dX5_bad_7 (fun x2 => ?_)
  refine ct_put S fw_X5_159 fp_X5_m_5_16 (cz_fits_i pd_I) dX5_bad_10 (fun h3 => ?_)
  refine ct_iconst (v := 0) S dX5_bad_13 kI_0 ?_
  exact ct_zr (ty := .boolean) S rfl rfl dX5_bad_14
theorem mt_X5_bad {l : Launch} {D : cz_D} {l0 : Option Nat} {l1 : Int32} {h : cz_H} {oh : cz_O × cz_H} (hz : fn_X5_bad l0 l1 h = some oh) : cz_M l D yX5_bad (ws_ yX5_bad cX5_bad 2 ((Option.some Jvm.ClassFile.FieldType.boolean))) 2 [cz_r l0, cz_i l1] h oh := cz_met (plainFor_of_name (by decide)) (Nat.le_of_ble_eq_true rfl) hz (fun K hl S => wk_X5_bad S)
/-! HeldCoatsModel.find(II)I -/
def dkwX5_find_1 : List UInt8 := [172, 132, 3, 1, 167, 255, 230, 2, 172]
abbrev dktX5_find_1 : List UInt8 := dkwX5_find_1 ++ []
def dkwX5_find_0 : List UInt8 := [3, 62, 29, 28, 162, 0, 27, 42, 180, 0, 43, 27, 29, 96, 47, 42, 180, 0, 152, 148, 154, 0, 5, 29]
abbrev dktX5_find_0 : List UInt8 := dkwX5_find_0 ++ dktX5_find_1
theorem dksX5_find_0 : cX5_find.data.toList.drop 0 = dktX5_find_0 := by decide +kernel
theorem dksX5_find_1 : cX5_find.data.toList.drop 24 = dktX5_find_1 := dk_seg dksX5_find_0 24 rfl rfl
theorem dX5_find_0 : decode cX5_find 0 = .ok (.iconst 0, 1) := dk_3 (dk_at dksX5_find_0 0 rfl rfl)
theorem dX5_find_1 : decode cX5_find 1 = .ok (.istore_n 3, 1) := dk_62 (dk_at dksX5_find_0 1 rfl rfl)
theorem dX5_find_2 : decode cX5_find 2 = .ok (.iload_n 3, 1) := dk_29 (dk_at dksX5_find_0 2 rfl rfl)
theorem dX5_find_3 : decode cX5_find 3 = .ok (.iload_n 2, 1) := dk_28 (dk_at dksX5_find_0 3 rfl rfl)
theorem dX5_find_4 : decode cX5_find 4 = .ok (.if_icmp .ge 27, 3) := dk_162 0 27 (dk_at dksX5_find_0 4 rfl rfl)
theorem dX5_find_7 : decode cX5_find 7 = .ok (.aload_n 0, 1) := dk_42 (dk_at dksX5_find_0 7 rfl rfl)
theorem dX5_find_8 : decode cX5_find 8 = .ok (.getfield 43, 3) := dk_180 0 43 (dk_at dksX5_find_0 8 rfl rfl)
theorem dX5_find_11 : decode cX5_find 11 = .ok (.iload_n 1, 1) := dk_27 (dk_at dksX5_find_0 11 rfl rfl)
theorem dX5_find_12 : decode cX5_find 12 = .ok (.iload_n 3, 1) := dk_29 (dk_at dksX5_find_0 12 rfl rfl)
theorem dX5_find_13 : decode cX5_find 13 = .ok (.iadd, 1) := dk_96 (dk_at dksX5_find_0 13 rfl rfl)
theorem dX5_find_14 : decode cX5_find 14 = .ok (.laload, 1) := dk_47 (dk_at dksX5_find_0 14 rfl rfl)
theorem dX5_find_15 : decode cX5_find 15 = .ok (.aload_n 0, 1) := dk_42 (dk_at dksX5_find_0 15 rfl rfl)
theorem dX5_find_16 : decode cX5_find 16 = .ok (.getfield 152, 3) := dk_180 0 152 (dk_at dksX5_find_0 16 rfl rfl)
theorem dX5_find_19 : decode cX5_find 19 = .ok (.lcmp, 1) := dk_148 (dk_at dksX5_find_0 19 rfl rfl)
theorem dX5_find_20 : decode cX5_find 20 = .ok (.ifCond .ne 5, 3) := dk_154 0 5 (dk_at dksX5_find_0 20 rfl rfl)
theorem dX5_find_23 : decode cX5_find 23 = .ok (.iload_n 3, 1) := dk_29 (dk_at dksX5_find_0 23 rfl rfl)
theorem dX5_find_24 : decode cX5_find 24 = .ok (.ireturn, 1) := dk_172 (dk_at dksX5_find_1 0 rfl rfl)
theorem dX5_find_25 : decode cX5_find 25 = .ok (.iinc 3 1, 3) := dk_132 3 1 (dk_at dksX5_find_1 1 rfl rfl)
theorem dX5_find_28 : decode cX5_find 28 = .ok (.goto (-26), 3) := dk_167 255 230 (dk_at dksX5_find_1 4 rfl rfl)
theorem dX5_find_31 : decode cX5_find 31 = .ok (.iconst (-1), 1) := dk_2 (dk_at dksX5_find_1 7 rfl rfl)
theorem dX5_find_32 : decode cX5_find 32 = .ok (.ireturn, 1) := dk_172 (dk_at dksX5_find_1 8 rfl rfl)
theorem fw_X5_43 : cz_FW "HeldCoatsModel" 43 [(5, 9)] "[J" := ⟨"HeldCoatsModel", "names", Or.inl q1927, List.forall_mem_cons.mpr ⟨⟨RX5, TX5, 49, rfl, by decide, rfl, rfl, Or.inl rfl⟩, fun _ h => absurd h List.not_mem_nil⟩, by decide⟩
theorem fw_X5_152 : cz_FW "HeldCoatsModel" 152 [(5, 17)] "J" := ⟨"HeldCoatsModel", "word", Or.inl q1935, List.forall_mem_cons.mpr ⟨⟨RX5, TX5, 49, rfl, by decide, rfl, rfl, Or.inl rfl⟩, fun _ h => absurd h List.not_mem_nil⟩, by decide⟩
set_option maxHeartbeats 4000000 in
set_option maxRecDepth 100000 in
noncomputable def fn_X5_find_2 (l0 : Option Nat) (l1 : Int32) (l2 : Int32) (k0 : Int32 → cz_H → cz_Z) (k1 : cz_H → cz_Z) : Nat → Int32 → cz_H → cz_Z
  | 0, _, _ => none
  | n + 1, l3, h => (if l2 ≤ l3 then k1 h else cz_getR h l0 [(5, 9)] (fun r1 => cz_lald h r1 (l1 + l3) (fun y2 => cz_getJ h l0 [(5, 17)] (fun y3 => (if (lg_cmp y2 y3) = 0 then k0 l3 h else cz_leti (l3 + 1) (fun x4 => fn_X5_find_2 l0 l1 l2 k0 k1 n x4 h))))))
set_option maxHeartbeats 4000000 in
set_option maxRecDepth 100000 in
theorem wk_X5_find_2 {K : cz_K} {D : cz_D} {h0 : cz_H} {oh : cz_O × cz_H} {l0 : Option Nat} {l1 : Int32} {l2 : Int32} {k0 : Int32 → cz_H → cz_Z} {k1 : cz_H → cz_Z} (S : cz_S K D h0 cX5_find 4 "HeldCoatsModel" ((Option.some Jvm.ClassFile.FieldType.int)) "find" ([])) (hk0 : ∀ (e3 : Int32) (h : cz_H), cz_T K D 2 h0 oh 4 (k0 e3 h) h 23 [(3, cz_i e3)] []) (hk1 : ∀ (h : cz_H), cz_T K D 2 h0 oh 4 (k1 h) h 31 [] []) : ∀ (n : Nat) (l3 : Int32) (h : cz_H), cz_T K D 2 h0 oh 4 (fn_X5_find_2 l0 l1 l2 k0 k1 n l3 h) h 2 [(0, cz_r l0), (1, cz_i l1), (2, cz_i l2), (3, cz_i l3)] [] := by
  intro n
  induction n with
  | zero => intros; exact ct_none
  | succ n ih =>
    intro l3 h
    rw [fn_X5_find_2]
    refine ct_iload_n (k := 3) S dX5_find_2 rfl rfl ?_
    refine ct_iload_n (k := 2) S dX5_find_3 rfl rfl ?_
    refine ct_icmp_ge (tgt := 31) S dX5_find_4 (by decide) ?_ ?_
    · exact ct_sub [] rfl (hk1 h)
    · refine ct_aload_n (k := 0) S dX5_find_7 rfl rfl ?_
      refine ct_getR S fw_X5_43 dX5_find_8 (fun r1 => ?_)
      refine ct_iload_n (k := 1) S dX5_find_11 rfl rfl ?_
      refine ct_iload_n (k := 3) S dX5_find_12 rfl rfl ?_
      refine ct_iadd S dX5_find_13 ?_
      refine ct_lald S dX5_find_14 (fun y2 => ?_)
      refine ct_aload_n (k := 0) S dX5_find_15 rfl rfl ?_
      refine ct_getJ S fw_X5_152 dX5_find_16 (fun y3 => ?_)
      refine ct_lcmp S dX5_find_19 ?_
      refine ct_if_ne (tgt := 25) S dX5_find_20 (by decide) ?_ ?_
      · refine ct_iincL (j := 3) (L2 := fun x4 => [(3, cz_i x4), (0, cz_r l0), (1, cz_i l1), (2, cz_i l2)]) S dX5_find_25 rfl kI_1 (by decide) (fun _ => rfl) (fun x4 => ?_)
        refine ct_goto (tgt := 2) S dX5_find_28 (by decide) ?_
        exact ct_sub [1, 2, 3, 0] rfl (ih x4 h)
      · exact ct_sub [3] rfl (hk0 l3 h)
set_option maxHeartbeats 4000000 in
set_option maxRecDepth 100000 in
noncomputable def fn_X5_find (l0 : Option Nat) (l1 : Int32) (l2 : Int32) (h : cz_H) : cz_Z := fn_X5_find_2 l0 l1 l2 (fun (e5 : Int32) (h6 : cz_H) => some (.inl (some (cz_i e5)), h6)) (fun (h7 : cz_H) => some (.inl (some (cz_i (-1))), h7)) 1000 0 h
set_option maxHeartbeats 4000000 in
set_option maxRecDepth 100000 in
theorem wk_X5_find {K : cz_K} {D : cz_D} {h0 : cz_H} {oh : cz_O × cz_H} {l0 : Option Nat} {l1 : Int32} {l2 : Int32} {h : cz_H} (S : cz_S K D h0 cX5_find 4 "HeldCoatsModel" ((Option.some Jvm.ClassFile.FieldType.int)) "find" ([])) : cz_T K D 2 h0 oh 4 (fn_X5_find l0 l1 l2 h) h 0 [(0, cz_r l0), (1, cz_i l1), (2, cz_i l2)] [] := by
  unfold fn_X5_find
  refine ct_iconst (v := 0) S dX5_find_0 kI_0 ?_
  refine ct_istore_n (L' := [(3, cz_i 0), (0, cz_r l0), (1, cz_i l1), (2, cz_i l2)]) S dX5_find_1 rfl (by decide) rfl ?_
  refine ct_sub [1, 2, 3, 0] (L' := [(0, cz_r l0), (1, cz_i l1), (2, cz_i l2), (3, cz_i 0)]) rfl (wk_X5_find_2 S ?_ ?_ 1000 0 h)
  · intro e5 h6
    refine ct_iload_n (k := 0) S dX5_find_23 rfl rfl ?_
    exact ct_iret S rfl dX5_find_24
  · intro h7
    refine ct_iconst (v := (-1)) S dX5_find_31 kI_m1 ?_
    exact ct_iret S rfl dX5_find_32
theorem mt_X5_find {l : Launch} {D : cz_D} {l0 : Option Nat} {l1 : Int32} {l2 : Int32} {h : cz_H} {oh : cz_O × cz_H} (hz : fn_X5_find l0 l1 l2 h = some oh) : cz_M l D yX5_find (ws_ yX5_find cX5_find 4 ((Option.some Jvm.ClassFile.FieldType.int))) 2 [cz_r l0, cz_i l1, cz_i l2] h oh := cz_met (plainFor_of_name (by decide)) (Nat.le_of_ble_eq_true rfl) hz (fun K hl S => wk_X5_find S)
/-! HeldCoatsModel.isName()Z -/
def dkwX5_isName_2 : List UInt8 := [132, 2, 1, 167, 255, 223, 27, 172]
abbrev dktX5_isName_2 : List UInt8 := dkwX5_isName_2 ++ []
def dkwX5_isName_1 : List UInt8 := [153, 0, 21, 42, 180, 0, 152, 42, 180, 0, 47, 28, 47, 148, 153, 0, 7, 4, 167, 0, 4, 3, 60]
abbrev dktX5_isName_1 : List UInt8 := dkwX5_isName_1 ++ dktX5_isName_2
def dkwX5_isName_0 : List UInt8 := [42, 180, 0, 139, 4, 160, 0, 7, 4, 167, 0, 4, 3, 60, 3, 61, 28, 16, 24, 162, 0, 33, 27]
abbrev dktX5_isName_0 : List UInt8 := dkwX5_isName_0 ++ dktX5_isName_1
theorem dksX5_isName_0 : cX5_isName.data.toList.drop 0 = dktX5_isName_0 := by decide +kernel
theorem dksX5_isName_1 : cX5_isName.data.toList.drop 23 = dktX5_isName_1 := dk_seg dksX5_isName_0 23 rfl rfl
theorem dksX5_isName_2 : cX5_isName.data.toList.drop 46 = dktX5_isName_2 := dk_seg dksX5_isName_1 23 rfl rfl
theorem dX5_isName_0 : decode cX5_isName 0 = .ok (.aload_n 0, 1) := dk_42 (dk_at dksX5_isName_0 0 rfl rfl)
theorem dX5_isName_1 : decode cX5_isName 1 = .ok (.getfield 139, 3) := dk_180 0 139 (dk_at dksX5_isName_0 1 rfl rfl)
theorem dX5_isName_4 : decode cX5_isName 4 = .ok (.iconst 1, 1) := dk_4 (dk_at dksX5_isName_0 4 rfl rfl)
theorem dX5_isName_5 : decode cX5_isName 5 = .ok (.if_icmp .ne 7, 3) := dk_160 0 7 (dk_at dksX5_isName_0 5 rfl rfl)
theorem dX5_isName_8 : decode cX5_isName 8 = .ok (.iconst 1, 1) := dk_4 (dk_at dksX5_isName_0 8 rfl rfl)
theorem dX5_isName_9 : decode cX5_isName 9 = .ok (.goto 4, 3) := dk_167 0 4 (dk_at dksX5_isName_0 9 rfl rfl)
theorem dX5_isName_12 : decode cX5_isName 12 = .ok (.iconst 0, 1) := dk_3 (dk_at dksX5_isName_0 12 rfl rfl)
theorem dX5_isName_13 : decode cX5_isName 13 = .ok (.istore_n 1, 1) := dk_60 (dk_at dksX5_isName_0 13 rfl rfl)
theorem dX5_isName_14 : decode cX5_isName 14 = .ok (.iconst 0, 1) := dk_3 (dk_at dksX5_isName_0 14 rfl rfl)
theorem dX5_isName_15 : decode cX5_isName 15 = .ok (.istore_n 2, 1) := dk_61 (dk_at dksX5_isName_0 15 rfl rfl)
theorem dX5_isName_16 : decode cX5_isName 16 = .ok (.iload_n 2, 1) := dk_28 (dk_at dksX5_isName_0 16 rfl rfl)
theorem dX5_isName_17 : decode cX5_isName 17 = .ok (.bipush 24, 2) := dk_16 24 (dk_at dksX5_isName_0 17 rfl rfl)
theorem dX5_isName_19 : decode cX5_isName 19 = .ok (.if_icmp .ge 33, 3) := dk_162 0 33 (dk_at dksX5_isName_0 19 rfl rfl)
theorem dX5_isName_22 : decode cX5_isName 22 = .ok (.iload_n 1, 1) := dk_27 (dk_at dksX5_isName_0 22 rfl rfl)
theorem dX5_isName_23 : decode cX5_isName 23 = .ok (.ifCond .eq 21, 3) := dk_153 0 21 (dk_at dksX5_isName_1 0 rfl rfl)
theorem dX5_isName_26 : decode cX5_isName 26 = .ok (.aload_n 0, 1) := dk_42 (dk_at dksX5_isName_1 3 rfl rfl)
theorem dX5_isName_27 : decode cX5_isName 27 = .ok (.getfield 152, 3) := dk_180 0 152 (dk_at dksX5_isName_1 4 rfl rfl)
theorem dX5_isName_30 : decode cX5_isName 30 = .ok (.aload_n 0, 1) := dk_42 (dk_at dksX5_isName_1 7 rfl rfl)
theorem dX5_isName_31 : decode cX5_isName 31 = .ok (.getfield 47, 3) := dk_180 0 47 (dk_at dksX5_isName_1 8 rfl rfl)
theorem dX5_isName_34 : decode cX5_isName 34 = .ok (.iload_n 2, 1) := dk_28 (dk_at dksX5_isName_1 11 rfl rfl)
theorem dX5_isName_35 : decode cX5_isName 35 = .ok (.laload, 1) := dk_47 (dk_at dksX5_isName_1 12 rfl rfl)
theorem dX5_isName_36 : decode cX5_isName 36 = .ok (.lcmp, 1) := dk_148 (dk_at dksX5_isName_1 13 rfl rfl)
theorem dX5_isName_37 : decode cX5_isName 37 = .ok (.ifCond .eq 7, 3) := dk_153 0 7 (dk_at dksX5_isName_1 14 rfl rfl)
theorem dX5_isName_40 : decode cX5_isName 40 = .ok (.iconst 1, 1) := dk_4 (dk_at dksX5_isName_1 17 rfl rfl)
theorem dX5_isName_41 : decode cX5_isName 41 = .ok (.goto 4, 3) := dk_167 0 4 (dk_at dksX5_isName_1 18 rfl rfl)
theorem dX5_isName_44 : decode cX5_isName 44 = .ok (.iconst 0, 1) := dk_3 (dk_at dksX5_isName_1 21 rfl rfl)
theorem dX5_isName_45 : decode cX5_isName 45 = .ok (.istore_n 1, 1) := dk_60 (dk_at dksX5_isName_1 22 rfl rfl)
theorem dX5_isName_46 : decode cX5_isName 46 = .ok (.iinc 2 1, 3) := dk_132 2 1 (dk_at dksX5_isName_2 0 rfl rfl)
theorem dX5_isName_49 : decode cX5_isName 49 = .ok (.goto (-33), 3) := dk_167 255 223 (dk_at dksX5_isName_2 3 rfl rfl)
theorem dX5_isName_52 : decode cX5_isName 52 = .ok (.iload_n 1, 1) := dk_27 (dk_at dksX5_isName_2 6 rfl rfl)
theorem dX5_isName_53 : decode cX5_isName 53 = .ok (.ireturn, 1) := dk_172 (dk_at dksX5_isName_2 7 rfl rfl)
theorem fw_X5_139 : cz_FW "HeldCoatsModel" 139 [(5, 11)] "I" := ⟨"HeldCoatsModel", "token", Or.inl q1929, List.forall_mem_cons.mpr ⟨⟨RX5, TX5, 49, rfl, by decide, rfl, rfl, Or.inl rfl⟩, fun _ h => absurd h List.not_mem_nil⟩, by decide⟩
theorem fw_X5_47 : cz_FW "HeldCoatsModel" 47 [(5, 10)] "[J" := ⟨"HeldCoatsModel", "reserved", Or.inl q1928, List.forall_mem_cons.mpr ⟨⟨RX5, TX5, 49, rfl, by decide, rfl, rfl, Or.inl rfl⟩, fun _ h => absurd h List.not_mem_nil⟩, by decide⟩
theorem kB_24 : (Int8.ofInt (24)).toInt32 = 24 := by decide
set_option maxHeartbeats 4000000 in
set_option maxRecDepth 100000 in
noncomputable def fn_X5_isName_16 (l0 : Option Nat) (k0 : Int32 → cz_H → cz_Z) : Nat → Int32 → Int32 → cz_H → cz_Z
  | 0, _, _, _ => none
  | n + 1, l1, l2, h => (if (24 : Int32) ≤ l2 then k0 l1 h else (if l1 = 0 then cz_leti (l2 + 1) (fun x4 => fn_X5_isName_16 l0 k0 n 0 x4 h) else cz_getJ h l0 [(5, 17)] (fun y5 => cz_getR h l0 [(5, 10)] (fun r6 => cz_lald h r6 l2 (fun y7 => (if (lg_cmp y5 y7) = 0 then cz_leti (l2 + 1) (fun x8 => fn_X5_isName_16 l0 k0 n 0 x8 h) else cz_leti (l2 + 1) (fun x9 => fn_X5_isName_16 l0 k0 n 1 x9 h)))))))
set_option maxHeartbeats 4000000 in
set_option maxRecDepth 100000 in
theorem wk_X5_isName_16 {K : cz_K} {D : cz_D} {h0 : cz_H} {oh : cz_O × cz_H} {l0 : Option Nat} {k0 : Int32 → cz_H → cz_Z} (S : cz_S K D h0 cX5_isName 3 "HeldCoatsModel" ((Option.some Jvm.ClassFile.FieldType.boolean)) "isName" ([])) (hk0 : ∀ (e1 : Int32) (h : cz_H), cz_T K D 2 h0 oh 3 (k0 e1 h) h 52 [(1, cz_i e1)] []) : ∀ (n : Nat) (l1 : Int32) (l2 : Int32) (h : cz_H), cz_T K D 2 h0 oh 3 (fn_X5_isName_16 l0 k0 n l1 l2 h) h 16 [(0, cz_r l0), (1, cz_i l1), (2, cz_i l2)] [] := by
  intro n
  induction n with
  | zero => intros; exact ct_none
  | succ n ih =>
    intro l1 l2 h
    rw [fn_X5_isName_16]
    refine ct_iload_n (k := 2) S dX5_isName_16 rfl rfl ?_
    refine ct_bipush (v := 24) S dX5_isName_17 kB_24 ?_
    refine ct_icmp_ge (tgt := 52) S dX5_isName_19 (by decide) ?_ ?_
    · exact ct_sub [1] rfl (hk0 l1 h)
    · refine ct_iload_n (k := 1) S dX5_isName_22 rfl rfl ?_
      refine ct_if_eq (tgt := 44) S dX5_isName_23 (by decide) ?_ ?_
      · refine ct_iconst (v := 0) S dX5_isName_44 kI_0 ?_
        refine ct_istore_n (L' := [(1, cz_i 0), (0, cz_r l0), (2, cz_i l2)]) S dX5_isName_45 rfl (by decide) rfl ?_
        refine ct_iincL (j := 2) (L2 := fun x4 => [(2, cz_i x4), (1, cz_i 0), (0, cz_r l0)]) S dX5_isName_46 rfl kI_1 (by decide) (fun _ => rfl) (fun x4 => ?_)
        refine ct_goto (tgt := 16) S dX5_isName_49 (by decide) ?_
        exact ct_sub [2, 1, 0] rfl (ih 0 x4 h)
      · refine ct_aload_n (k := 0) S dX5_isName_26 rfl rfl ?_
        refine ct_getJ S fw_X5_152 dX5_isName_27 (fun y5 => ?_)
        refine ct_aload_n (k := 0) S dX5_isName_30 rfl rfl ?_
        refine ct_getR S fw_X5_47 dX5_isName_31 (fun r6 => ?_)
        refine ct_iload_n (k := 2) S dX5_isName_34 rfl rfl ?_
        refine ct_lald S dX5_isName_35 (fun y7 => ?_)
        refine ct_lcmp S dX5_isName_36 ?_
        refine ct_if_eq (tgt := 44) S dX5_isName_37 (by decide) ?_ ?_
        · refine ct_iconst (v := 0) S dX5_isName_44 kI_0 ?_
          refine ct_istore_n (L' := [(1, cz_i 0), (0, cz_r l0), (2, cz_i l2)]) S dX5_isName_45 rfl (by decide) rfl ?_
          refine ct_iincL (j := 2) (L2 := fun x8 => [(2, cz_i x8), (1, cz_i 0), (0, cz_r l0)]) S dX5_isName_46 rfl kI_1 (by decide) (fun _ => rfl) (fun x8 => ?_)
          refine ct_goto (tgt := 16) S dX5_isName_49 (by decide) ?_
          exact ct_sub [2, 1, 0] rfl (ih 0 x8 h)
        · refine ct_iconst (v := 1) S dX5_isName_40 kI_1 ?_
          refine ct_goto (tgt := 45) S dX5_isName_41 (by decide) ?_
          refine ct_istore_n (L' := [(1, cz_i 1), (0, cz_r l0), (2, cz_i l2)]) S dX5_isName_45 rfl (by decide) rfl ?_
          refine ct_iincL (j := 2) (L2 := fun x9 => [(2, cz_i x9), (1, cz_i 1), (0, cz_r l0)]) S dX5_isName_46 rfl kI_1 (by decide) (fun _ => rfl) (fun x9 => ?_)
          refine ct_goto (tgt := 16) S dX5_isName_49 (by decide) ?_
          exact ct_sub [2, 1, 0] rfl (ih 1 x9 h)
set_option maxHeartbeats 4000000 in
set_option maxRecDepth 100000 in
noncomputable def fn_X5_isName (l0 : Option Nat) (h : cz_H) : cz_Z := cz_getI h l0 [(5, 11)] (fun x1 => cz_jn (fun (v2 : Int32) (h3 : cz_H) => fn_X5_isName_16 l0 (fun (e10 : Int32) (h11 : cz_H) => cz_ckz e10 (some (.inl (some (cz_i e10)), h11))) 1000 v2 0 h3) (fun j12 => (if x1 = 1 then j12 1 h else j12 0 h)))
set_option maxHeartbeats 4000000 in
set_option maxRecDepth 100000 in
theorem wk_X5_isName {K : cz_K} {D : cz_D} {h0 : cz_H} {oh : cz_O × cz_H} {l0 : Option Nat} {h : cz_H} (S : cz_S K D h0 cX5_isName 3 "HeldCoatsModel" ((Option.some Jvm.ClassFile.FieldType.boolean)) "isName" ([])) : cz_T K D 2 h0 oh 3 (fn_X5_isName l0 h) h 0 [(0, cz_r l0)] [] := by
  unfold fn_X5_isName
  refine ct_aload_n (k := 0) S dX5_isName_0 rfl rfl ?_
  refine ct_getI S fw_X5_139 dX5_isName_1 (fun x1 => ?_)
  refine ct_iconst (v := 1) S dX5_isName_4 kI_1 ?_
  refine ct_jnP (fun j12 => ∀ (v2 : Int32) (h3 : cz_H), cz_T K D 2 h0 oh 3 (j12 v2 h3) h3 13 [(0, cz_r l0)] [cz_i v2]) (fun v2 h3 => ?_) (fun j12 Hj12 => ?_)
  · refine ct_istore_n (L' := [(1, cz_i v2), (0, cz_r l0)]) S dX5_isName_13 rfl (by decide) rfl ?_
    refine ct_iconst (v := 0) S dX5_isName_14 kI_0 ?_
    refine ct_istore_n (L' := [(2, cz_i 0), (1, cz_i v2), (0, cz_r l0)]) S dX5_isName_15 rfl (by decide) rfl ?_
    refine ct_sub [2, 1, 0] (L' := [(0, cz_r l0), (1, cz_i v2), (2, cz_i 0)]) rfl (wk_X5_isName_16 S ?_ 1000 v2 0 h3)
    · intro e10 h11
      refine ct_iload_n (k := 0) S dX5_isName_52 rfl rfl ?_
      refine ct_ckz (fun hx => ?_)
      exact ct_zr (ty := .boolean) S rfl (cz_nz hx) dX5_isName_53
  · refine ct_icmp_ne (tgt := 12) S dX5_isName_5 (by decide) ?_ ?_
    · refine ct_iconst (v := 0) S dX5_isName_12 kI_0 ?_
      exact Hj12 0 h
    · refine ct_iconst (v := 1) S dX5_isName_8 kI_1 ?_
      refine ct_goto (tgt := 13) S dX5_isName_9 (by decide) ?_
      exact Hj12 1 h
theorem mt_X5_isName {l : Launch} {D : cz_D} {l0 : Option Nat} {h : cz_H} {oh : cz_O × cz_H} (hz : fn_X5_isName l0 h = some oh) : cz_M l D yX5_isName (ws_ yX5_isName cX5_isName 3 ((Option.some Jvm.ClassFile.FieldType.boolean))) 2 [cz_r l0] h oh := cz_met (plainFor_of_name (by decide)) (Nat.le_of_ble_eq_true rfl) hz (fun K hl S => wk_X5_isName S)
/-! HeldCoatsModel.isWord(J)Z -/
def dkwX5_isWord_0 : List UInt8 := [42, 180, 0, 139, 4, 160, 0, 16, 42, 180, 0, 152, 31, 148, 154, 0, 7, 4, 167, 0, 4, 3, 172]
abbrev dktX5_isWord_0 : List UInt8 := dkwX5_isWord_0 ++ []
theorem dksX5_isWord_0 : cX5_isWord.data.toList.drop 0 = dktX5_isWord_0 := by decide +kernel
theorem dX5_isWord_0 : decode cX5_isWord 0 = .ok (.aload_n 0, 1) := dk_42 (dk_at dksX5_isWord_0 0 rfl rfl)
theorem dX5_isWord_1 : decode cX5_isWord 1 = .ok (.getfield 139, 3) := dk_180 0 139 (dk_at dksX5_isWord_0 1 rfl rfl)
theorem dX5_isWord_4 : decode cX5_isWord 4 = .ok (.iconst 1, 1) := dk_4 (dk_at dksX5_isWord_0 4 rfl rfl)
theorem dX5_isWord_5 : decode cX5_isWord 5 = .ok (.if_icmp .ne 16, 3) := dk_160 0 16 (dk_at dksX5_isWord_0 5 rfl rfl)
theorem dX5_isWord_8 : decode cX5_isWord 8 = .ok (.aload_n 0, 1) := dk_42 (dk_at dksX5_isWord_0 8 rfl rfl)
theorem dX5_isWord_9 : decode cX5_isWord 9 = .ok (.getfield 152, 3) := dk_180 0 152 (dk_at dksX5_isWord_0 9 rfl rfl)
theorem dX5_isWord_12 : decode cX5_isWord 12 = .ok (.lload_n 1, 1) := dk_31 (dk_at dksX5_isWord_0 12 rfl rfl)
theorem dX5_isWord_13 : decode cX5_isWord 13 = .ok (.lcmp, 1) := dk_148 (dk_at dksX5_isWord_0 13 rfl rfl)
theorem dX5_isWord_14 : decode cX5_isWord 14 = .ok (.ifCond .ne 7, 3) := dk_154 0 7 (dk_at dksX5_isWord_0 14 rfl rfl)
theorem dX5_isWord_17 : decode cX5_isWord 17 = .ok (.iconst 1, 1) := dk_4 (dk_at dksX5_isWord_0 17 rfl rfl)
theorem dX5_isWord_18 : decode cX5_isWord 18 = .ok (.goto 4, 3) := dk_167 0 4 (dk_at dksX5_isWord_0 18 rfl rfl)
theorem dX5_isWord_21 : decode cX5_isWord 21 = .ok (.iconst 0, 1) := dk_3 (dk_at dksX5_isWord_0 21 rfl rfl)
theorem dX5_isWord_22 : decode cX5_isWord 22 = .ok (.ireturn, 1) := dk_172 (dk_at dksX5_isWord_0 22 rfl rfl)
set_option maxHeartbeats 4000000 in
set_option maxRecDepth 100000 in
noncomputable def fn_X5_isWord (l0 : Option Nat) (l1 : Int64) (h : cz_H) : cz_Z := cz_getI h l0 [(5, 11)] (fun x1 => (if x1 = 1 then cz_getJ h l0 [(5, 17)] (fun y2 => (if (lg_cmp y2 l1) = 0 then some (.inl (some (cz_i 1)), h) else some (.inl (some (cz_i 0)), h))) else some (.inl (some (cz_i 0)), h)))
set_option maxHeartbeats 4000000 in
set_option maxRecDepth 100000 in
theorem wk_X5_isWord {K : cz_K} {D : cz_D} {h0 : cz_H} {oh : cz_O × cz_H} {l0 : Option Nat} {l1 : Int64} {h : cz_H} (S : cz_S K D h0 cX5_isWord 3 "HeldCoatsModel" ((Option.some Jvm.ClassFile.FieldType.boolean)) "isWord" ([])) : cz_T K D 2 h0 oh 3 (fn_X5_isWord l0 l1 h) h 0 [(0, cz_r l0), (1, cz_j l1)] [] := by
  unfold fn_X5_isWord
  refine ct_aload_n (k := 0) S dX5_isWord_0 rfl rfl ?_
  refine ct_getI S fw_X5_139 dX5_isWord_1 (fun x1 => ?_)
  refine ct_iconst (v := 1) S dX5_isWord_4 kI_1 ?_
  refine ct_icmp_ne (tgt := 21) S dX5_isWord_5 (by decide) ?_ ?_
  · refine ct_iconst (v := 0) S dX5_isWord_21 kI_0 ?_
    exact ct_zr (ty := .boolean) S rfl rfl dX5_isWord_22
  · refine ct_aload_n (k := 0) S dX5_isWord_8 rfl rfl ?_
    refine ct_getJ S fw_X5_152 dX5_isWord_9 (fun y2 => ?_)
    refine ct_lload_n (k := 1) S dX5_isWord_12 rfl rfl ?_
    refine ct_lcmp S dX5_isWord_13 ?_
    refine ct_if_ne (tgt := 21) S dX5_isWord_14 (by decide) ?_ ?_
    · refine ct_iconst (v := 0) S dX5_isWord_21 kI_0 ?_
      exact ct_zr (ty := .boolean) S rfl rfl dX5_isWord_22
    · refine ct_iconst (v := 1) S dX5_isWord_17 kI_1 ?_
      refine ct_goto (tgt := 22) S dX5_isWord_18 (by decide) ?_
      exact ct_zr (ty := .boolean) S rfl rfl dX5_isWord_22
theorem mt_X5_isWord {l : Launch} {D : cz_D} {l0 : Option Nat} {l1 : Int64} {h : cz_H} {oh : cz_O × cz_H} (hz : fn_X5_isWord l0 l1 h = some oh) : cz_M l D yX5_isWord (ws_ yX5_isWord cX5_isWord 3 ((Option.some Jvm.ClassFile.FieldType.boolean))) 2 [cz_r l0, cz_j l1] h oh := cz_met (plainFor_of_name (by decide)) (Nat.le_of_ble_eq_true rfl) hz (fun K hl S => wk_X5_isWord S)
/-! HeldCoatsModel.isDigit(I)Z -/
def dkwX5_isDigit_0 : List UInt8 := [26, 16, 48, 161, 0, 13, 26, 16, 57, 163, 0, 7, 4, 167, 0, 4, 3, 172]
abbrev dktX5_isDigit_0 : List UInt8 := dkwX5_isDigit_0 ++ []
theorem dksX5_isDigit_0 : cX5_isDigit.data.toList.drop 0 = dktX5_isDigit_0 := by decide +kernel
theorem dX5_isDigit_0 : decode cX5_isDigit 0 = .ok (.iload_n 0, 1) := dk_26 (dk_at dksX5_isDigit_0 0 rfl rfl)
theorem dX5_isDigit_1 : decode cX5_isDigit 1 = .ok (.bipush 48, 2) := dk_16 48 (dk_at dksX5_isDigit_0 1 rfl rfl)
theorem dX5_isDigit_3 : decode cX5_isDigit 3 = .ok (.if_icmp .lt 13, 3) := dk_161 0 13 (dk_at dksX5_isDigit_0 3 rfl rfl)
theorem dX5_isDigit_6 : decode cX5_isDigit 6 = .ok (.iload_n 0, 1) := dk_26 (dk_at dksX5_isDigit_0 6 rfl rfl)
theorem dX5_isDigit_7 : decode cX5_isDigit 7 = .ok (.bipush 57, 2) := dk_16 57 (dk_at dksX5_isDigit_0 7 rfl rfl)
theorem dX5_isDigit_9 : decode cX5_isDigit 9 = .ok (.if_icmp .gt 7, 3) := dk_163 0 7 (dk_at dksX5_isDigit_0 9 rfl rfl)
theorem dX5_isDigit_12 : decode cX5_isDigit 12 = .ok (.iconst 1, 1) := dk_4 (dk_at dksX5_isDigit_0 12 rfl rfl)
theorem dX5_isDigit_13 : decode cX5_isDigit 13 = .ok (.goto 4, 3) := dk_167 0 4 (dk_at dksX5_isDigit_0 13 rfl rfl)
theorem dX5_isDigit_16 : decode cX5_isDigit 16 = .ok (.iconst 0, 1) := dk_3 (dk_at dksX5_isDigit_0 16 rfl rfl)
theorem dX5_isDigit_17 : decode cX5_isDigit 17 = .ok (.ireturn, 1) := dk_172 (dk_at dksX5_isDigit_0 17 rfl rfl)
theorem kB_57 : (Int8.ofInt (57)).toInt32 = 57 := by decide
theorem kB_48 : (Int8.ofInt (48)).toInt32 = 48 := by decide
set_option maxHeartbeats 4000000 in
set_option maxRecDepth 100000 in
noncomputable def fn_X5_isDigit (l0 : Int32) (h : cz_H) : cz_Z := (if l0 < 48 then some (.inl (some (cz_i 0)), h) else (if (57 : Int32) < l0 then some (.inl (some (cz_i 0)), h) else some (.inl (some (cz_i 1)), h)))
set_option maxHeartbeats 4000000 in
set_option maxRecDepth 100000 in
theorem wk_X5_isDigit {K : cz_K} {D : cz_D} {h0 : cz_H} {oh : cz_O × cz_H} {l0 : Int32} {h : cz_H} (S : cz_S K D h0 cX5_isDigit 1 "HeldCoatsModel" ((Option.some Jvm.ClassFile.FieldType.boolean)) "isDigit" ([])) : cz_T K D 2 h0 oh 1 (fn_X5_isDigit l0 h) h 0 [(0, cz_i l0)] [] := by
  unfold fn_X5_isDigit
  refine ct_iload_n (k := 0) S dX5_isDigit_0 rfl rfl ?_
  refine ct_bipush (v := 48) S dX5_isDigit_1 kB_48 ?_
  refine ct_icmp_lt (tgt := 16) S dX5_isDigit_3 (by decide) ?_ ?_
  · refine ct_iconst (v := 0) S dX5_isDigit_16 kI_0 ?_
    exact ct_zr (ty := .boolean) S rfl rfl dX5_isDigit_17
  · refine ct_iload_n (k := 0) S dX5_isDigit_6 rfl rfl ?_
    refine ct_bipush (v := 57) S dX5_isDigit_7 kB_57 ?_
    refine ct_icmp_gt (tgt := 16) S dX5_isDigit_9 (by decide) ?_ ?_
    · refine ct_iconst (v := 0) S dX5_isDigit_16 kI_0 ?_
      exact ct_zr (ty := .boolean) S rfl rfl dX5_isDigit_17
    · refine ct_iconst (v := 1) S dX5_isDigit_12 kI_1 ?_
      refine ct_goto (tgt := 17) S dX5_isDigit_13 (by decide) ?_
      exact ct_zr (ty := .boolean) S rfl rfl dX5_isDigit_17
theorem mt_X5_isDigit {l : Launch} {D : cz_D} {l0 : Int32} {h : cz_H} {oh : cz_O × cz_H} (hz : fn_X5_isDigit l0 h = some oh) : cz_M l D yX5_isDigit (ws_ yX5_isDigit cX5_isDigit 1 ((Option.some Jvm.ClassFile.FieldType.boolean))) 2 [cz_i l0] h oh := cz_met (plainFor_of_name (by decide)) (Nat.le_of_ble_eq_true rfl) hz (fun K hl S => wk_X5_isDigit S)
/-! HeldCoatsModel.isSmall(I)Z -/
def dkwX5_isSmall_0 : List UInt8 := [26, 16, 97, 161, 0, 13, 26, 16, 122, 163, 0, 7, 4, 167, 0, 4, 3, 172]
abbrev dktX5_isSmall_0 : List UInt8 := dkwX5_isSmall_0 ++ []
theorem dksX5_isSmall_0 : cX5_isSmall.data.toList.drop 0 = dktX5_isSmall_0 := by decide +kernel
theorem dX5_isSmall_0 : decode cX5_isSmall 0 = .ok (.iload_n 0, 1) := dk_26 (dk_at dksX5_isSmall_0 0 rfl rfl)
theorem dX5_isSmall_1 : decode cX5_isSmall 1 = .ok (.bipush 97, 2) := dk_16 97 (dk_at dksX5_isSmall_0 1 rfl rfl)
theorem dX5_isSmall_3 : decode cX5_isSmall 3 = .ok (.if_icmp .lt 13, 3) := dk_161 0 13 (dk_at dksX5_isSmall_0 3 rfl rfl)
theorem dX5_isSmall_6 : decode cX5_isSmall 6 = .ok (.iload_n 0, 1) := dk_26 (dk_at dksX5_isSmall_0 6 rfl rfl)
theorem dX5_isSmall_7 : decode cX5_isSmall 7 = .ok (.bipush 122, 2) := dk_16 122 (dk_at dksX5_isSmall_0 7 rfl rfl)
theorem dX5_isSmall_9 : decode cX5_isSmall 9 = .ok (.if_icmp .gt 7, 3) := dk_163 0 7 (dk_at dksX5_isSmall_0 9 rfl rfl)
theorem dX5_isSmall_12 : decode cX5_isSmall 12 = .ok (.iconst 1, 1) := dk_4 (dk_at dksX5_isSmall_0 12 rfl rfl)
theorem dX5_isSmall_13 : decode cX5_isSmall 13 = .ok (.goto 4, 3) := dk_167 0 4 (dk_at dksX5_isSmall_0 13 rfl rfl)
theorem dX5_isSmall_16 : decode cX5_isSmall 16 = .ok (.iconst 0, 1) := dk_3 (dk_at dksX5_isSmall_0 16 rfl rfl)
theorem dX5_isSmall_17 : decode cX5_isSmall 17 = .ok (.ireturn, 1) := dk_172 (dk_at dksX5_isSmall_0 17 rfl rfl)
theorem kB_122 : (Int8.ofInt (122)).toInt32 = 122 := by decide
set_option maxHeartbeats 4000000 in
set_option maxRecDepth 100000 in
noncomputable def fn_X5_isSmall (l0 : Int32) (h : cz_H) : cz_Z := (if l0 < 97 then some (.inl (some (cz_i 0)), h) else (if (122 : Int32) < l0 then some (.inl (some (cz_i 0)), h) else some (.inl (some (cz_i 1)), h)))
set_option maxHeartbeats 4000000 in
set_option maxRecDepth 100000 in
theorem wk_X5_isSmall {K : cz_K} {D : cz_D} {h0 : cz_H} {oh : cz_O × cz_H} {l0 : Int32} {h : cz_H} (S : cz_S K D h0 cX5_isSmall 1 "HeldCoatsModel" ((Option.some Jvm.ClassFile.FieldType.boolean)) "isSmall" ([])) : cz_T K D 2 h0 oh 1 (fn_X5_isSmall l0 h) h 0 [(0, cz_i l0)] [] := by
  unfold fn_X5_isSmall
  refine ct_iload_n (k := 0) S dX5_isSmall_0 rfl rfl ?_
  refine ct_bipush (v := 97) S dX5_isSmall_1 kB_97 ?_
  refine ct_icmp_lt (tgt := 16) S dX5_isSmall_3 (by decide) ?_ ?_
  · refine ct_iconst (v := 0) S dX5_isSmall_16 kI_0 ?_
    exact ct_zr (ty := .boolean) S rfl rfl dX5_isSmall_17
  · refine ct_iload_n (k := 0) S dX5_isSmall_6 rfl rfl ?_
    refine ct_bipush (v := 122) S dX5_isSmall_7 kB_122 ?_
    refine ct_icmp_gt (tgt := 16) S dX5_isSmall_9 (by decide) ?_ ?_
    · refine ct_iconst (v := 0) S dX5_isSmall_16 kI_0 ?_
      exact ct_zr (ty := .boolean) S rfl rfl dX5_isSmall_17
    · refine ct_iconst (v := 1) S dX5_isSmall_12 kI_1 ?_
      refine ct_goto (tgt := 17) S dX5_isSmall_13 (by decide) ?_
      exact ct_zr (ty := .boolean) S rfl rfl dX5_isSmall_17
theorem mt_X5_isSmall {l : Launch} {D : cz_D} {l0 : Int32} {h : cz_H} {oh : cz_O × cz_H} (hz : fn_X5_isSmall l0 h = some oh) : cz_M l D yX5_isSmall (ws_ yX5_isSmall cX5_isSmall 1 ((Option.some Jvm.ClassFile.FieldType.boolean))) 2 [cz_i l0] h oh := cz_met (plainFor_of_name (by decide)) (Nat.le_of_ble_eq_true rfl) hz (fun K hl S => wk_X5_isSmall S)
/-! HeldCoatsModel.peek()I -/
def dkwX5_peek_1 : List UInt8 := [167, 0, 4, 2, 172]
abbrev dktX5_peek_1 : List UInt8 := dkwX5_peek_1 ++ []
def dkwX5_peek_0 : List UInt8 := [42, 180, 0, 21, 42, 180, 0, 18, 162, 0, 19, 42, 180, 0, 14, 42, 180, 0, 21, 51, 17, 0, 255, 126]
abbrev dktX5_peek_0 : List UInt8 := dkwX5_peek_0 ++ dktX5_peek_1
theorem dksX5_peek_0 : cX5_peek.data.toList.drop 0 = dktX5_peek_0 := by decide +kernel
theorem dksX5_peek_1 : cX5_peek.data.toList.drop 24 = dktX5_peek_1 := dk_seg dksX5_peek_0 24 rfl rfl
theorem dX5_peek_0 : decode cX5_peek 0 = .ok (.aload_n 0, 1) := dk_42 (dk_at dksX5_peek_0 0 rfl rfl)
theorem dX5_peek_1 : decode cX5_peek 1 = .ok (.getfield 21, 3) := dk_180 0 21 (dk_at dksX5_peek_0 1 rfl rfl)
theorem dX5_peek_4 : decode cX5_peek 4 = .ok (.aload_n 0, 1) := dk_42 (dk_at dksX5_peek_0 4 rfl rfl)
theorem dX5_peek_5 : decode cX5_peek 5 = .ok (.getfield 18, 3) := dk_180 0 18 (dk_at dksX5_peek_0 5 rfl rfl)
theorem dX5_peek_8 : decode cX5_peek 8 = .ok (.if_icmp .ge 19, 3) := dk_162 0 19 (dk_at dksX5_peek_0 8 rfl rfl)
theorem dX5_peek_11 : decode cX5_peek 11 = .ok (.aload_n 0, 1) := dk_42 (dk_at dksX5_peek_0 11 rfl rfl)
theorem dX5_peek_12 : decode cX5_peek 12 = .ok (.getfield 14, 3) := dk_180 0 14 (dk_at dksX5_peek_0 12 rfl rfl)
theorem dX5_peek_15 : decode cX5_peek 15 = .ok (.aload_n 0, 1) := dk_42 (dk_at dksX5_peek_0 15 rfl rfl)
theorem dX5_peek_16 : decode cX5_peek 16 = .ok (.getfield 21, 3) := dk_180 0 21 (dk_at dksX5_peek_0 16 rfl rfl)
theorem dX5_peek_19 : decode cX5_peek 19 = .ok (.baload, 1) := dk_51 (dk_at dksX5_peek_0 19 rfl rfl)
theorem dX5_peek_20 : decode cX5_peek 20 = .ok (.sipush 255, 3) := dk_17 0 255 (dk_at dksX5_peek_0 20 rfl rfl)
theorem dX5_peek_23 : decode cX5_peek 23 = .ok (.iand, 1) := dk_126 (dk_at dksX5_peek_0 23 rfl rfl)
theorem dX5_peek_24 : decode cX5_peek 24 = .ok (.goto 4, 3) := dk_167 0 4 (dk_at dksX5_peek_1 0 rfl rfl)
theorem dX5_peek_27 : decode cX5_peek 27 = .ok (.iconst (-1), 1) := dk_2 (dk_at dksX5_peek_1 3 rfl rfl)
theorem dX5_peek_28 : decode cX5_peek 28 = .ok (.ireturn, 1) := dk_172 (dk_at dksX5_peek_1 4 rfl rfl)
theorem fw_X5_21 : cz_FW "HeldCoatsModel" 21 [(5, 4)] "I" := ⟨"HeldCoatsModel", "p", Or.inl q1922, List.forall_mem_cons.mpr ⟨⟨RX5, TX5, 49, rfl, by decide, rfl, rfl, Or.inl rfl⟩, fun _ h => absurd h List.not_mem_nil⟩, by decide⟩
theorem fw_X5_18 : cz_FW "HeldCoatsModel" 18 [(5, 3)] "I" := ⟨"HeldCoatsModel", "size", Or.inl q1921, List.forall_mem_cons.mpr ⟨⟨RX5, TX5, 49, rfl, by decide, rfl, rfl, Or.inl rfl⟩, fun _ h => absurd h List.not_mem_nil⟩, by decide⟩
theorem fw_X5_14 : cz_FW "HeldCoatsModel" 14 [(5, 1)] "[B" := ⟨"HeldCoatsModel", "tape", Or.inl q1919, List.forall_mem_cons.mpr ⟨⟨RX5, TX5, 49, rfl, by decide, rfl, rfl, Or.inl rfl⟩, fun _ h => absurd h List.not_mem_nil⟩, by decide⟩
theorem kS_255 : (Int16.ofInt (255)).toInt32 = 255 := by decide
set_option maxHeartbeats 4000000 in
set_option maxRecDepth 100000 in
noncomputable def fn_X5_peek (l0 : Option Nat) (h : cz_H) : cz_Z := cz_getI h l0 [(5, 4)] (fun x1 => cz_getI h l0 [(5, 3)] (fun x2 => (if x2 ≤ x1 then some (.inl (some (cz_i (-1))), h) else cz_getR h l0 [(5, 1)] (fun r3 => cz_getI h l0 [(5, 4)] (fun x4 => cz_bald h r3 x4 (fun x5 => some (.inl (some (cz_i (x5 &&& 255))), h)))))))
set_option maxHeartbeats 4000000 in
set_option maxRecDepth 100000 in
theorem wk_X5_peek {K : cz_K} {D : cz_D} {h0 : cz_H} {oh : cz_O × cz_H} {l0 : Option Nat} {h : cz_H} (S : cz_S K D h0 cX5_peek 1 "HeldCoatsModel" ((Option.some Jvm.ClassFile.FieldType.int)) "peek" ([])) : cz_T K D 2 h0 oh 1 (fn_X5_peek l0 h) h 0 [(0, cz_r l0)] [] := by
  unfold fn_X5_peek
  refine ct_aload_n (k := 0) S dX5_peek_0 rfl rfl ?_
  refine ct_getI S fw_X5_21 dX5_peek_1 (fun x1 => ?_)
  refine ct_aload_n (k := 0) S dX5_peek_4 rfl rfl ?_
  refine ct_getI S fw_X5_18 dX5_peek_5 (fun x2 => ?_)
  refine ct_icmp_ge (tgt := 27) S dX5_peek_8 (by decide) ?_ ?_
  · refine ct_iconst (v := (-1)) S dX5_peek_27 kI_m1 ?_
    exact ct_iret S rfl dX5_peek_28
  · refine ct_aload_n (k := 0) S dX5_peek_11 rfl rfl ?_
    refine ct_getR S fw_X5_14 dX5_peek_12 (fun r3 => ?_)
    refine ct_aload_n (k := 0) S dX5_peek_15 rfl rfl ?_
    refine ct_getI S fw_X5_21 dX5_peek_16 (fun x4 => ?_)
    refine ct_bald S dX5_peek_19 (fun x5 => ?_)
    refine ct_sipush (v := 255) S dX5_peek_20 kS_255 ?_
    refine ct_iand S dX5_peek_23 ?_
    refine ct_goto (tgt := 28) S dX5_peek_24 (by decide) ?_
    exact ct_iret S rfl dX5_peek_28
theorem mt_X5_peek {l : Launch} {D : cz_D} {l0 : Option Nat} {h : cz_H} {oh : cz_O × cz_H} (hz : fn_X5_peek l0 h = some oh) : cz_M l D yX5_peek (ws_ yX5_peek cX5_peek 1 ((Option.some Jvm.ClassFile.FieldType.int))) 2 [cz_r l0] h oh := cz_met (plainFor_of_name (by decide)) (Nat.le_of_ble_eq_true rfl) hz (fun K hl S => wk_X5_peek S)
/-! HeldCoatsModel.next()V -/
def dkwX5_next_14 : List UInt8 := [4, 167, 0, 4, 5, 181, 0, 139, 177]
abbrev dktX5_next_14 : List UInt8 := dkwX5_next_14 ++ []
def dkwX5_next_13 : List UInt8 := [180, 0, 136, 28, 153, 0, 8, 16, 7, 167, 0, 4, 6, 164, 0, 7, 7, 167, 0, 12, 28, 153, 0, 7]
abbrev dktX5_next_13 : List UInt8 := dkwX5_next_13 ++ dktX5_next_14
def dkwX5_next_12 : List UInt8 := [181, 0, 136, 42, 89, 180, 0, 21, 4, 96, 181, 0, 21, 167, 255, 142, 42, 29, 153, 0, 20, 42]
abbrev dktX5_next_12 : List UInt8 := dkwX5_next_12 ++ dktX5_next_13
def dkwX5_next_11 : List UInt8 := [180, 0, 149, 104, 42, 182, 0, 129, 96, 16, 48, 100, 181, 0, 149, 42, 89, 180, 0, 136, 4, 96]
abbrev dktX5_next_11 : List UInt8 := dkwX5_next_11 ++ dktX5_next_12
def dkwX5_next_10 : List UInt8 := [16, 8, 121, 42, 182, 0, 129, 133, 129, 181, 0, 152, 42, 180, 0, 136, 6, 162, 0, 22, 42, 16, 10, 42]
abbrev dktX5_next_10 : List UInt8 := dkwX5_next_10 ++ dktX5_next_11
def dkwX5_next_9 : List UInt8 := [28, 160, 0, 7, 4, 167, 0, 4, 3, 62, 42, 180, 0, 136, 16, 7, 162, 0, 20, 42, 42, 180, 0, 152]
abbrev dktX5_next_9 : List UInt8 := dkwX5_next_9 ++ dktX5_next_10
def dkwX5_next_8 : List UInt8 := [154, 0, 13, 42, 182, 0, 129, 184, 0, 146, 153, 0, 100, 29, 153, 0, 18, 42, 182, 0, 129, 184, 0, 142]
abbrev dktX5_next_8 : List UInt8 := dkwX5_next_8 ++ dktX5_next_9
def dkwX5_next_7 : List UInt8 := [184, 0, 142, 61, 4, 62, 42, 9, 181, 0, 152, 42, 3, 181, 0, 149, 42, 182, 0, 129, 184, 0, 142]
abbrev dktX5_next_7 : List UInt8 := dkwX5_next_7 ++ dktX5_next_8
def dkwX5_next_6 : List UInt8 := [167, 0, 4, 7, 181, 0, 139, 42, 27, 181, 0, 149, 42, 89, 180, 0, 21, 4, 96, 181, 0, 21, 177, 27]
abbrev dktX5_next_6 : List UInt8 := dkwX5_next_6 ++ dktX5_next_7
def dkwX5_next_5 : List UInt8 := [159, 0, 21, 27, 16, 41, 159, 0, 15, 27, 16, 60, 161, 0, 13, 27, 16, 62, 163, 0, 7, 6]
abbrev dktX5_next_5 : List UInt8 := dkwX5_next_5 ++ dktX5_next_6
def dkwX5_next_4 : List UInt8 := [27, 184, 0, 142, 154, 0, 65, 27, 184, 0, 146, 154, 0, 58, 42, 27, 16, 59, 159, 0, 27, 27, 16, 40]
abbrev dktX5_next_4 : List UInt8 := dkwX5_next_4 ++ dktX5_next_5
def dkwX5_next_3 : List UInt8 := [181, 0, 133, 42, 7, 181, 0, 139, 177, 42, 182, 0, 129, 60, 27, 156, 0, 9, 42, 3, 181, 0, 139, 177]
abbrev dktX5_next_3 : List UInt8 := dkwX5_next_3 ++ dktX5_next_4
def dkwX5_next_2 : List UInt8 := [42, 180, 0, 24, 164, 0, 28, 42, 180, 0, 21, 42, 180, 0, 24, 161, 0, 17, 42, 42, 180, 0, 24]
abbrev dktX5_next_2 : List UInt8 := dkwX5_next_2 ++ dktX5_next_3
def dkwX5_next_1 : List UInt8 := [96, 181, 0, 21, 167, 255, 228, 42, 42, 180, 0, 21, 181, 0, 133, 42, 3, 181, 0, 136, 42, 180, 0, 18]
abbrev dktX5_next_1 : List UInt8 := dkwX5_next_1 ++ dktX5_next_2
def dkwX5_next_0 : List UInt8 := [42, 182, 0, 129, 16, 32, 159, 0, 12, 42, 182, 0, 129, 16, 10, 160, 0, 16, 42, 89, 180, 0, 21, 4]
abbrev dktX5_next_0 : List UInt8 := dkwX5_next_0 ++ dktX5_next_1
theorem dksX5_next_0 : cX5_next.data.toList.drop 0 = dktX5_next_0 := by decide +kernel
theorem dksX5_next_1 : cX5_next.data.toList.drop 24 = dktX5_next_1 := dk_seg dksX5_next_0 24 rfl rfl
theorem dksX5_next_2 : cX5_next.data.toList.drop 48 = dktX5_next_2 := dk_seg dksX5_next_1 24 rfl rfl
theorem dksX5_next_3 : cX5_next.data.toList.drop 71 = dktX5_next_3 := dk_seg dksX5_next_2 23 rfl rfl
theorem dksX5_next_4 : cX5_next.data.toList.drop 95 = dktX5_next_4 := dk_seg dksX5_next_3 24 rfl rfl
theorem dksX5_next_5 : cX5_next.data.toList.drop 119 = dktX5_next_5 := dk_seg dksX5_next_4 24 rfl rfl
theorem dksX5_next_6 : cX5_next.data.toList.drop 141 = dktX5_next_6 := dk_seg dksX5_next_5 22 rfl rfl
theorem dksX5_next_7 : cX5_next.data.toList.drop 165 = dktX5_next_7 := dk_seg dksX5_next_6 24 rfl rfl
theorem dksX5_next_8 : cX5_next.data.toList.drop 188 = dktX5_next_8 := dk_seg dksX5_next_7 23 rfl rfl
theorem dksX5_next_9 : cX5_next.data.toList.drop 212 = dktX5_next_9 := dk_seg dksX5_next_8 24 rfl rfl
theorem dksX5_next_10 : cX5_next.data.toList.drop 236 = dktX5_next_10 := dk_seg dksX5_next_9 24 rfl rfl
theorem dksX5_next_11 : cX5_next.data.toList.drop 260 = dktX5_next_11 := dk_seg dksX5_next_10 24 rfl rfl
theorem dksX5_next_12 : cX5_next.data.toList.drop 282 = dktX5_next_12 := dk_seg dksX5_next_11 22 rfl rfl
theorem dksX5_next_13 : cX5_next.data.toList.drop 304 = dktX5_next_13 := dk_seg dksX5_next_12 22 rfl rfl
theorem dksX5_next_14 : cX5_next.data.toList.drop 328 = dktX5_next_14 := dk_seg dksX5_next_13 24 rfl rfl
theorem dX5_next_0 : decode cX5_next 0 = .ok (.aload_n 0, 1) := dk_42 (dk_at dksX5_next_0 0 rfl rfl)
theorem dX5_next_1 : decode cX5_next 1 = .ok (.invokevirtual 129, 3) := dk_182 0 129 (dk_at dksX5_next_0 1 rfl rfl)
theorem dX5_next_4 : decode cX5_next 4 = .ok (.bipush 32, 2) := dk_16 32 (dk_at dksX5_next_0 4 rfl rfl)
theorem dX5_next_6 : decode cX5_next 6 = .ok (.if_icmp .eq 12, 3) := dk_159 0 12 (dk_at dksX5_next_0 6 rfl rfl)
theorem dX5_next_9 : decode cX5_next 9 = .ok (.aload_n 0, 1) := dk_42 (dk_at dksX5_next_0 9 rfl rfl)
theorem dX5_next_10 : decode cX5_next 10 = .ok (.invokevirtual 129, 3) := dk_182 0 129 (dk_at dksX5_next_0 10 rfl rfl)
theorem dX5_next_13 : decode cX5_next 13 = .ok (.bipush 10, 2) := dk_16 10 (dk_at dksX5_next_0 13 rfl rfl)
theorem dX5_next_15 : decode cX5_next 15 = .ok (.if_icmp .ne 16, 3) := dk_160 0 16 (dk_at dksX5_next_0 15 rfl rfl)
theorem dX5_next_18 : decode cX5_next 18 = .ok (.aload_n 0, 1) := dk_42 (dk_at dksX5_next_0 18 rfl rfl)
theorem dX5_next_19 : decode cX5_next 19 = .ok (.dup, 1) := dk_89 (dk_at dksX5_next_0 19 rfl rfl)
theorem dX5_next_20 : decode cX5_next 20 = .ok (.getfield 21, 3) := dk_180 0 21 (dk_at dksX5_next_0 20 rfl rfl)
theorem dX5_next_23 : decode cX5_next 23 = .ok (.iconst 1, 1) := dk_4 (dk_at dksX5_next_0 23 rfl rfl)
theorem dX5_next_24 : decode cX5_next 24 = .ok (.iadd, 1) := dk_96 (dk_at dksX5_next_1 0 rfl rfl)
theorem dX5_next_25 : decode cX5_next 25 = .ok (.putfield 21, 3) := dk_181 0 21 (dk_at dksX5_next_1 1 rfl rfl)
theorem dX5_next_28 : decode cX5_next 28 = .ok (.goto (-28), 3) := dk_167 255 228 (dk_at dksX5_next_1 4 rfl rfl)
theorem dX5_next_31 : decode cX5_next 31 = .ok (.aload_n 0, 1) := dk_42 (dk_at dksX5_next_1 7 rfl rfl)
theorem dX5_next_32 : decode cX5_next 32 = .ok (.aload_n 0, 1) := dk_42 (dk_at dksX5_next_1 8 rfl rfl)
theorem dX5_next_33 : decode cX5_next 33 = .ok (.getfield 21, 3) := dk_180 0 21 (dk_at dksX5_next_1 9 rfl rfl)
theorem dX5_next_36 : decode cX5_next 36 = .ok (.putfield 133, 3) := dk_181 0 133 (dk_at dksX5_next_1 12 rfl rfl)
theorem dX5_next_39 : decode cX5_next 39 = .ok (.aload_n 0, 1) := dk_42 (dk_at dksX5_next_1 15 rfl rfl)
theorem dX5_next_40 : decode cX5_next 40 = .ok (.iconst 0, 1) := dk_3 (dk_at dksX5_next_1 16 rfl rfl)
theorem dX5_next_41 : decode cX5_next 41 = .ok (.putfield 136, 3) := dk_181 0 136 (dk_at dksX5_next_1 17 rfl rfl)
theorem dX5_next_44 : decode cX5_next 44 = .ok (.aload_n 0, 1) := dk_42 (dk_at dksX5_next_1 20 rfl rfl)
theorem dX5_next_45 : decode cX5_next 45 = .ok (.getfield 18, 3) := dk_180 0 18 (dk_at dksX5_next_1 21 rfl rfl)
theorem dX5_next_48 : decode cX5_next 48 = .ok (.aload_n 0, 1) := dk_42 (dk_at dksX5_next_2 0 rfl rfl)
theorem dX5_next_49 : decode cX5_next 49 = .ok (.getfield 24, 3) := dk_180 0 24 (dk_at dksX5_next_2 1 rfl rfl)
theorem dX5_next_52 : decode cX5_next 52 = .ok (.if_icmp .le 28, 3) := dk_164 0 28 (dk_at dksX5_next_2 4 rfl rfl)
theorem dX5_next_55 : decode cX5_next 55 = .ok (.aload_n 0, 1) := dk_42 (dk_at dksX5_next_2 7 rfl rfl)
theorem dX5_next_56 : decode cX5_next 56 = .ok (.getfield 21, 3) := dk_180 0 21 (dk_at dksX5_next_2 8 rfl rfl)
theorem dX5_next_59 : decode cX5_next 59 = .ok (.aload_n 0, 1) := dk_42 (dk_at dksX5_next_2 11 rfl rfl)
theorem dX5_next_60 : decode cX5_next 60 = .ok (.getfield 24, 3) := dk_180 0 24 (dk_at dksX5_next_2 12 rfl rfl)
theorem dX5_next_63 : decode cX5_next 63 = .ok (.if_icmp .lt 17, 3) := dk_161 0 17 (dk_at dksX5_next_2 15 rfl rfl)
theorem dX5_next_66 : decode cX5_next 66 = .ok (.aload_n 0, 1) := dk_42 (dk_at dksX5_next_2 18 rfl rfl)
theorem dX5_next_67 : decode cX5_next 67 = .ok (.aload_n 0, 1) := dk_42 (dk_at dksX5_next_2 19 rfl rfl)
theorem dX5_next_68 : decode cX5_next 68 = .ok (.getfield 24, 3) := dk_180 0 24 (dk_at dksX5_next_2 20 rfl rfl)
theorem dX5_next_71 : decode cX5_next 71 = .ok (.putfield 133, 3) := dk_181 0 133 (dk_at dksX5_next_3 0 rfl rfl)
theorem dX5_next_74 : decode cX5_next 74 = .ok (.aload_n 0, 1) := dk_42 (dk_at dksX5_next_3 3 rfl rfl)
theorem dX5_next_75 : decode cX5_next 75 = .ok (.iconst 4, 1) := dk_7 (dk_at dksX5_next_3 4 rfl rfl)
theorem dX5_next_76 : decode cX5_next 76 = .ok (.putfield 139, 3) := dk_181 0 139 (dk_at dksX5_next_3 5 rfl rfl)
theorem dX5_next_79 : decode cX5_next 79 = .ok (.return_, 1) := dk_177 (dk_at dksX5_next_3 8 rfl rfl)
theorem dX5_next_80 : decode cX5_next 80 = .ok (.aload_n 0, 1) := dk_42 (dk_at dksX5_next_3 9 rfl rfl)
theorem dX5_next_81 : decode cX5_next 81 = .ok (.invokevirtual 129, 3) := dk_182 0 129 (dk_at dksX5_next_3 10 rfl rfl)
theorem dX5_next_84 : decode cX5_next 84 = .ok (.istore_n 1, 1) := dk_60 (dk_at dksX5_next_3 13 rfl rfl)
theorem dX5_next_85 : decode cX5_next 85 = .ok (.iload_n 1, 1) := dk_27 (dk_at dksX5_next_3 14 rfl rfl)
theorem dX5_next_86 : decode cX5_next 86 = .ok (.ifCond .ge 9, 3) := dk_156 0 9 (dk_at dksX5_next_3 15 rfl rfl)
theorem dX5_next_89 : decode cX5_next 89 = .ok (.aload_n 0, 1) := dk_42 (dk_at dksX5_next_3 18 rfl rfl)
theorem dX5_next_90 : decode cX5_next 90 = .ok (.iconst 0, 1) := dk_3 (dk_at dksX5_next_3 19 rfl rfl)
theorem dX5_next_91 : decode cX5_next 91 = .ok (.putfield 139, 3) := dk_181 0 139 (dk_at dksX5_next_3 20 rfl rfl)
theorem dX5_next_94 : decode cX5_next 94 = .ok (.return_, 1) := dk_177 (dk_at dksX5_next_3 23 rfl rfl)
theorem dX5_next_95 : decode cX5_next 95 = .ok (.iload_n 1, 1) := dk_27 (dk_at dksX5_next_4 0 rfl rfl)
theorem dX5_next_96 : decode cX5_next 96 = .ok (.invokestatic 142, 3) := dk_184 0 142 (dk_at dksX5_next_4 1 rfl rfl)
theorem dX5_next_99 : decode cX5_next 99 = .ok (.ifCond .ne 65, 3) := dk_154 0 65 (dk_at dksX5_next_4 4 rfl rfl)
theorem dX5_next_102 : decode cX5_next 102 = .ok (.iload_n 1, 1) := dk_27 (dk_at dksX5_next_4 7 rfl rfl)
theorem dX5_next_103 : decode cX5_next 103 = .ok (.invokestatic 146, 3) := dk_184 0 146 (dk_at dksX5_next_4 8 rfl rfl)
theorem dX5_next_106 : decode cX5_next 106 = .ok (.ifCond .ne 58, 3) := dk_154 0 58 (dk_at dksX5_next_4 11 rfl rfl)
theorem dX5_next_109 : decode cX5_next 109 = .ok (.aload_n 0, 1) := dk_42 (dk_at dksX5_next_4 14 rfl rfl)
theorem dX5_next_110 : decode cX5_next 110 = .ok (.iload_n 1, 1) := dk_27 (dk_at dksX5_next_4 15 rfl rfl)
theorem dX5_next_111 : decode cX5_next 111 = .ok (.bipush 59, 2) := dk_16 59 (dk_at dksX5_next_4 16 rfl rfl)
theorem dX5_next_113 : decode cX5_next 113 = .ok (.if_icmp .eq 27, 3) := dk_159 0 27 (dk_at dksX5_next_4 18 rfl rfl)
theorem dX5_next_116 : decode cX5_next 116 = .ok (.iload_n 1, 1) := dk_27 (dk_at dksX5_next_4 21 rfl rfl)
theorem dX5_next_117 : decode cX5_next 117 = .ok (.bipush 40, 2) := dk_16 40 (dk_at dksX5_next_4 22 rfl rfl)
theorem dX5_next_119 : decode cX5_next 119 = .ok (.if_icmp .eq 21, 3) := dk_159 0 21 (dk_at dksX5_next_5 0 rfl rfl)
theorem dX5_next_122 : decode cX5_next 122 = .ok (.iload_n 1, 1) := dk_27 (dk_at dksX5_next_5 3 rfl rfl)
theorem dX5_next_123 : decode cX5_next 123 = .ok (.bipush 41, 2) := dk_16 41 (dk_at dksX5_next_5 4 rfl rfl)
theorem dX5_next_125 : decode cX5_next 125 = .ok (.if_icmp .eq 15, 3) := dk_159 0 15 (dk_at dksX5_next_5 6 rfl rfl)
theorem dX5_next_128 : decode cX5_next 128 = .ok (.iload_n 1, 1) := dk_27 (dk_at dksX5_next_5 9 rfl rfl)
theorem dX5_next_129 : decode cX5_next 129 = .ok (.bipush 60, 2) := dk_16 60 (dk_at dksX5_next_5 10 rfl rfl)
theorem dX5_next_131 : decode cX5_next 131 = .ok (.if_icmp .lt 13, 3) := dk_161 0 13 (dk_at dksX5_next_5 12 rfl rfl)
theorem dX5_next_134 : decode cX5_next 134 = .ok (.iload_n 1, 1) := dk_27 (dk_at dksX5_next_5 15 rfl rfl)
theorem dX5_next_135 : decode cX5_next 135 = .ok (.bipush 62, 2) := dk_16 62 (dk_at dksX5_next_5 16 rfl rfl)
theorem dX5_next_137 : decode cX5_next 137 = .ok (.if_icmp .gt 7, 3) := dk_163 0 7 (dk_at dksX5_next_5 18 rfl rfl)
theorem dX5_next_140 : decode cX5_next 140 = .ok (.iconst 3, 1) := dk_6 (dk_at dksX5_next_5 21 rfl rfl)
theorem dX5_next_141 : decode cX5_next 141 = .ok (.goto 4, 3) := dk_167 0 4 (dk_at dksX5_next_6 0 rfl rfl)
theorem dX5_next_144 : decode cX5_next 144 = .ok (.iconst 4, 1) := dk_7 (dk_at dksX5_next_6 3 rfl rfl)
theorem dX5_next_145 : decode cX5_next 145 = .ok (.putfield 139, 3) := dk_181 0 139 (dk_at dksX5_next_6 4 rfl rfl)
theorem dX5_next_148 : decode cX5_next 148 = .ok (.aload_n 0, 1) := dk_42 (dk_at dksX5_next_6 7 rfl rfl)
theorem dX5_next_149 : decode cX5_next 149 = .ok (.iload_n 1, 1) := dk_27 (dk_at dksX5_next_6 8 rfl rfl)
theorem dX5_next_150 : decode cX5_next 150 = .ok (.putfield 149, 3) := dk_181 0 149 (dk_at dksX5_next_6 9 rfl rfl)
theorem dX5_next_153 : decode cX5_next 153 = .ok (.aload_n 0, 1) := dk_42 (dk_at dksX5_next_6 12 rfl rfl)
theorem dX5_next_154 : decode cX5_next 154 = .ok (.dup, 1) := dk_89 (dk_at dksX5_next_6 13 rfl rfl)
theorem dX5_next_155 : decode cX5_next 155 = .ok (.getfield 21, 3) := dk_180 0 21 (dk_at dksX5_next_6 14 rfl rfl)
theorem dX5_next_158 : decode cX5_next 158 = .ok (.iconst 1, 1) := dk_4 (dk_at dksX5_next_6 17 rfl rfl)
theorem dX5_next_159 : decode cX5_next 159 = .ok (.iadd, 1) := dk_96 (dk_at dksX5_next_6 18 rfl rfl)
theorem dX5_next_160 : decode cX5_next 160 = .ok (.putfield 21, 3) := dk_181 0 21 (dk_at dksX5_next_6 19 rfl rfl)
theorem dX5_next_163 : decode cX5_next 163 = .ok (.return_, 1) := dk_177 (dk_at dksX5_next_6 22 rfl rfl)
theorem dX5_next_164 : decode cX5_next 164 = .ok (.iload_n 1, 1) := dk_27 (dk_at dksX5_next_6 23 rfl rfl)
theorem dX5_next_165 : decode cX5_next 165 = .ok (.invokestatic 142, 3) := dk_184 0 142 (dk_at dksX5_next_7 0 rfl rfl)
theorem dX5_next_168 : decode cX5_next 168 = .ok (.istore_n 2, 1) := dk_61 (dk_at dksX5_next_7 3 rfl rfl)
theorem dX5_next_169 : decode cX5_next 169 = .ok (.iconst 1, 1) := dk_4 (dk_at dksX5_next_7 4 rfl rfl)
theorem dX5_next_170 : decode cX5_next 170 = .ok (.istore_n 3, 1) := dk_62 (dk_at dksX5_next_7 5 rfl rfl)
theorem dX5_next_171 : decode cX5_next 171 = .ok (.aload_n 0, 1) := dk_42 (dk_at dksX5_next_7 6 rfl rfl)
theorem dX5_next_172 : decode cX5_next 172 = .ok (.lconst 0, 1) := dk_9 (dk_at dksX5_next_7 7 rfl rfl)
theorem dX5_next_173 : decode cX5_next 173 = .ok (.putfield 152, 3) := dk_181 0 152 (dk_at dksX5_next_7 8 rfl rfl)
theorem dX5_next_176 : decode cX5_next 176 = .ok (.aload_n 0, 1) := dk_42 (dk_at dksX5_next_7 11 rfl rfl)
theorem dX5_next_177 : decode cX5_next 177 = .ok (.iconst 0, 1) := dk_3 (dk_at dksX5_next_7 12 rfl rfl)
theorem dX5_next_178 : decode cX5_next 178 = .ok (.putfield 149, 3) := dk_181 0 149 (dk_at dksX5_next_7 13 rfl rfl)
theorem dX5_next_181 : decode cX5_next 181 = .ok (.aload_n 0, 1) := dk_42 (dk_at dksX5_next_7 16 rfl rfl)
theorem dX5_next_182 : decode cX5_next 182 = .ok (.invokevirtual 129, 3) := dk_182 0 129 (dk_at dksX5_next_7 17 rfl rfl)
theorem dX5_next_185 : decode cX5_next 185 = .ok (.invokestatic 142, 3) := dk_184 0 142 (dk_at dksX5_next_7 20 rfl rfl)
theorem dX5_next_188 : decode cX5_next 188 = .ok (.ifCond .ne 13, 3) := dk_154 0 13 (dk_at dksX5_next_8 0 rfl rfl)
theorem dX5_next_191 : decode cX5_next 191 = .ok (.aload_n 0, 1) := dk_42 (dk_at dksX5_next_8 3 rfl rfl)
theorem dX5_next_192 : decode cX5_next 192 = .ok (.invokevirtual 129, 3) := dk_182 0 129 (dk_at dksX5_next_8 4 rfl rfl)
theorem dX5_next_195 : decode cX5_next 195 = .ok (.invokestatic 146, 3) := dk_184 0 146 (dk_at dksX5_next_8 7 rfl rfl)
theorem dX5_next_198 : decode cX5_next 198 = .ok (.ifCond .eq 100, 3) := dk_153 0 100 (dk_at dksX5_next_8 10 rfl rfl)
theorem dX5_next_201 : decode cX5_next 201 = .ok (.iload_n 3, 1) := dk_29 (dk_at dksX5_next_8 13 rfl rfl)
theorem dX5_next_202 : decode cX5_next 202 = .ok (.ifCond .eq 18, 3) := dk_153 0 18 (dk_at dksX5_next_8 14 rfl rfl)
theorem dX5_next_205 : decode cX5_next 205 = .ok (.aload_n 0, 1) := dk_42 (dk_at dksX5_next_8 17 rfl rfl)
theorem dX5_next_206 : decode cX5_next 206 = .ok (.invokevirtual 129, 3) := dk_182 0 129 (dk_at dksX5_next_8 18 rfl rfl)
theorem dX5_next_209 : decode cX5_next 209 = .ok (.invokestatic 142, 3) := dk_184 0 142 (dk_at dksX5_next_8 21 rfl rfl)
theorem dX5_next_212 : decode cX5_next 212 = .ok (.iload_n 2, 1) := dk_28 (dk_at dksX5_next_9 0 rfl rfl)
theorem dX5_next_213 : decode cX5_next 213 = .ok (.if_icmp .ne 7, 3) := dk_160 0 7 (dk_at dksX5_next_9 1 rfl rfl)
theorem dX5_next_216 : decode cX5_next 216 = .ok (.iconst 1, 1) := dk_4 (dk_at dksX5_next_9 4 rfl rfl)
theorem dX5_next_217 : decode cX5_next 217 = .ok (.goto 4, 3) := dk_167 0 4 (dk_at dksX5_next_9 5 rfl rfl)
theorem dX5_next_220 : decode cX5_next 220 = .ok (.iconst 0, 1) := dk_3 (dk_at dksX5_next_9 8 rfl rfl)
theorem dX5_next_221 : decode cX5_next 221 = .ok (.istore_n 3, 1) := dk_62 (dk_at dksX5_next_9 9 rfl rfl)
theorem dX5_next_222 : decode cX5_next 222 = .ok (.aload_n 0, 1) := dk_42 (dk_at dksX5_next_9 10 rfl rfl)
theorem dX5_next_223 : decode cX5_next 223 = .ok (.getfield 136, 3) := dk_180 0 136 (dk_at dksX5_next_9 11 rfl rfl)
theorem dX5_next_226 : decode cX5_next 226 = .ok (.bipush 7, 2) := dk_16 7 (dk_at dksX5_next_9 14 rfl rfl)
theorem dX5_next_228 : decode cX5_next 228 = .ok (.if_icmp .ge 20, 3) := dk_162 0 20 (dk_at dksX5_next_9 16 rfl rfl)
theorem dX5_next_231 : decode cX5_next 231 = .ok (.aload_n 0, 1) := dk_42 (dk_at dksX5_next_9 19 rfl rfl)
theorem dX5_next_232 : decode cX5_next 232 = .ok (.aload_n 0, 1) := dk_42 (dk_at dksX5_next_9 20 rfl rfl)
theorem dX5_next_233 : decode cX5_next 233 = .ok (.getfield 152, 3) := dk_180 0 152 (dk_at dksX5_next_9 21 rfl rfl)
theorem dX5_next_236 : decode cX5_next 236 = .ok (.bipush 8, 2) := dk_16 8 (dk_at dksX5_next_10 0 rfl rfl)
theorem dX5_next_238 : decode cX5_next 238 = .ok (.lshl, 1) := dk_121 (dk_at dksX5_next_10 2 rfl rfl)
theorem dX5_next_239 : decode cX5_next 239 = .ok (.aload_n 0, 1) := dk_42 (dk_at dksX5_next_10 3 rfl rfl)
theorem dX5_next_240 : decode cX5_next 240 = .ok (.invokevirtual 129, 3) := dk_182 0 129 (dk_at dksX5_next_10 4 rfl rfl)
theorem dX5_next_243 : decode cX5_next 243 = .ok (.i2l, 1) := dk_133 (dk_at dksX5_next_10 7 rfl rfl)
theorem dX5_next_244 : decode cX5_next 244 = .ok (.lor, 1) := dk_129 (dk_at dksX5_next_10 8 rfl rfl)
theorem dX5_next_245 : decode cX5_next 245 = .ok (.putfield 152, 3) := dk_181 0 152 (dk_at dksX5_next_10 9 rfl rfl)
theorem dX5_next_248 : decode cX5_next 248 = .ok (.aload_n 0, 1) := dk_42 (dk_at dksX5_next_10 12 rfl rfl)
theorem dX5_next_249 : decode cX5_next 249 = .ok (.getfield 136, 3) := dk_180 0 136 (dk_at dksX5_next_10 13 rfl rfl)
theorem dX5_next_252 : decode cX5_next 252 = .ok (.iconst 3, 1) := dk_6 (dk_at dksX5_next_10 16 rfl rfl)
theorem dX5_next_253 : decode cX5_next 253 = .ok (.if_icmp .ge 22, 3) := dk_162 0 22 (dk_at dksX5_next_10 17 rfl rfl)
theorem dX5_next_256 : decode cX5_next 256 = .ok (.aload_n 0, 1) := dk_42 (dk_at dksX5_next_10 20 rfl rfl)
theorem dX5_next_257 : decode cX5_next 257 = .ok (.bipush 10, 2) := dk_16 10 (dk_at dksX5_next_10 21 rfl rfl)
theorem dX5_next_259 : decode cX5_next 259 = .ok (.aload_n 0, 1) := dk_42 (dk_at dksX5_next_10 23 rfl rfl)
theorem dX5_next_260 : decode cX5_next 260 = .ok (.getfield 149, 3) := dk_180 0 149 (dk_at dksX5_next_11 0 rfl rfl)
theorem dX5_next_263 : decode cX5_next 263 = .ok (.imul, 1) := dk_104 (dk_at dksX5_next_11 3 rfl rfl)
theorem dX5_next_264 : decode cX5_next 264 = .ok (.aload_n 0, 1) := dk_42 (dk_at dksX5_next_11 4 rfl rfl)
theorem dX5_next_265 : decode cX5_next 265 = .ok (.invokevirtual 129, 3) := dk_182 0 129 (dk_at dksX5_next_11 5 rfl rfl)
theorem dX5_next_268 : decode cX5_next 268 = .ok (.iadd, 1) := dk_96 (dk_at dksX5_next_11 8 rfl rfl)
theorem dX5_next_269 : decode cX5_next 269 = .ok (.bipush 48, 2) := dk_16 48 (dk_at dksX5_next_11 9 rfl rfl)
theorem dX5_next_271 : decode cX5_next 271 = .ok (.isub, 1) := dk_100 (dk_at dksX5_next_11 11 rfl rfl)
theorem dX5_next_272 : decode cX5_next 272 = .ok (.putfield 149, 3) := dk_181 0 149 (dk_at dksX5_next_11 12 rfl rfl)
theorem dX5_next_275 : decode cX5_next 275 = .ok (.aload_n 0, 1) := dk_42 (dk_at dksX5_next_11 15 rfl rfl)
theorem dX5_next_276 : decode cX5_next 276 = .ok (.dup, 1) := dk_89 (dk_at dksX5_next_11 16 rfl rfl)
theorem dX5_next_277 : decode cX5_next 277 = .ok (.getfield 136, 3) := dk_180 0 136 (dk_at dksX5_next_11 17 rfl rfl)
theorem dX5_next_280 : decode cX5_next 280 = .ok (.iconst 1, 1) := dk_4 (dk_at dksX5_next_11 20 rfl rfl)
theorem dX5_next_281 : decode cX5_next 281 = .ok (.iadd, 1) := dk_96 (dk_at dksX5_next_11 21 rfl rfl)
theorem dX5_next_282 : decode cX5_next 282 = .ok (.putfield 136, 3) := dk_181 0 136 (dk_at dksX5_next_12 0 rfl rfl)
theorem dX5_next_285 : decode cX5_next 285 = .ok (.aload_n 0, 1) := dk_42 (dk_at dksX5_next_12 3 rfl rfl)
theorem dX5_next_286 : decode cX5_next 286 = .ok (.dup, 1) := dk_89 (dk_at dksX5_next_12 4 rfl rfl)
theorem dX5_next_287 : decode cX5_next 287 = .ok (.getfield 21, 3) := dk_180 0 21 (dk_at dksX5_next_12 5 rfl rfl)
theorem dX5_next_290 : decode cX5_next 290 = .ok (.iconst 1, 1) := dk_4 (dk_at dksX5_next_12 8 rfl rfl)
theorem dX5_next_291 : decode cX5_next 291 = .ok (.iadd, 1) := dk_96 (dk_at dksX5_next_12 9 rfl rfl)
theorem dX5_next_292 : decode cX5_next 292 = .ok (.putfield 21, 3) := dk_181 0 21 (dk_at dksX5_next_12 10 rfl rfl)
theorem dX5_next_295 : decode cX5_next 295 = .ok (.goto (-114), 3) := dk_167 255 142 (dk_at dksX5_next_12 13 rfl rfl)
theorem dX5_next_298 : decode cX5_next 298 = .ok (.aload_n 0, 1) := dk_42 (dk_at dksX5_next_12 16 rfl rfl)
theorem dX5_next_299 : decode cX5_next 299 = .ok (.iload_n 3, 1) := dk_29 (dk_at dksX5_next_12 17 rfl rfl)
theorem dX5_next_300 : decode cX5_next 300 = .ok (.ifCond .eq 20, 3) := dk_153 0 20 (dk_at dksX5_next_12 18 rfl rfl)
theorem dX5_next_303 : decode cX5_next 303 = .ok (.aload_n 0, 1) := dk_42 (dk_at dksX5_next_12 21 rfl rfl)
theorem dX5_next_304 : decode cX5_next 304 = .ok (.getfield 136, 3) := dk_180 0 136 (dk_at dksX5_next_13 0 rfl rfl)
theorem dX5_next_307 : decode cX5_next 307 = .ok (.iload_n 2, 1) := dk_28 (dk_at dksX5_next_13 3 rfl rfl)
theorem dX5_next_308 : decode cX5_next 308 = .ok (.ifCond .eq 8, 3) := dk_153 0 8 (dk_at dksX5_next_13 4 rfl rfl)
theorem dX5_next_311 : decode cX5_next 311 = .ok (.bipush 7, 2) := dk_16 7 (dk_at dksX5_next_13 7 rfl rfl)
theorem dX5_next_313 : decode cX5_next 313 = .ok (.goto 4, 3) := dk_167 0 4 (dk_at dksX5_next_13 9 rfl rfl)
theorem dX5_next_316 : decode cX5_next 316 = .ok (.iconst 3, 1) := dk_6 (dk_at dksX5_next_13 12 rfl rfl)
theorem dX5_next_317 : decode cX5_next 317 = .ok (.if_icmp .le 7, 3) := dk_164 0 7 (dk_at dksX5_next_13 13 rfl rfl)
theorem dX5_next_320 : decode cX5_next 320 = .ok (.iconst 4, 1) := dk_7 (dk_at dksX5_next_13 16 rfl rfl)
theorem dX5_next_321 : decode cX5_next 321 = .ok (.goto 12, 3) := dk_167 0 12 (dk_at dksX5_next_13 17 rfl rfl)
theorem dX5_next_324 : decode cX5_next 324 = .ok (.iload_n 2, 1) := dk_28 (dk_at dksX5_next_13 20 rfl rfl)
theorem dX5_next_325 : decode cX5_next 325 = .ok (.ifCond .eq 7, 3) := dk_153 0 7 (dk_at dksX5_next_13 21 rfl rfl)
theorem dX5_next_328 : decode cX5_next 328 = .ok (.iconst 1, 1) := dk_4 (dk_at dksX5_next_14 0 rfl rfl)
theorem dX5_next_329 : decode cX5_next 329 = .ok (.goto 4, 3) := dk_167 0 4 (dk_at dksX5_next_14 1 rfl rfl)
theorem dX5_next_332 : decode cX5_next 332 = .ok (.iconst 2, 1) := dk_5 (dk_at dksX5_next_14 4 rfl rfl)
theorem dX5_next_333 : decode cX5_next 333 = .ok (.putfield 139, 3) := dk_181 0 139 (dk_at dksX5_next_14 5 rfl rfl)
theorem dX5_next_336 : decode cX5_next 336 = .ok (.return_, 1) := dk_177 (dk_at dksX5_next_14 8 rfl rfl)
theorem fw_X5_24 : cz_FW "HeldCoatsModel" 24 [(5, 5)] "I" := ⟨"HeldCoatsModel", "limit", Or.inl q1923, List.forall_mem_cons.mpr ⟨⟨RX5, TX5, 49, rfl, by decide, rfl, rfl, Or.inl rfl⟩, fun _ h => absurd h List.not_mem_nil⟩, by decide⟩
theorem fw_X5_136 : cz_FW "HeldCoatsModel" 136 [(5, 13)] "I" := ⟨"HeldCoatsModel", "span", Or.inl q1931, List.forall_mem_cons.mpr ⟨⟨RX5, TX5, 49, rfl, by decide, rfl, rfl, Or.inl rfl⟩, fun _ h => absurd h List.not_mem_nil⟩, by decide⟩
theorem fw_X5_149 : cz_FW "HeldCoatsModel" 149 [(5, 14)] "I" := ⟨"HeldCoatsModel", "number", Or.inl q1932, List.forall_mem_cons.mpr ⟨⟨RX5, TX5, 49, rfl, by decide, rfl, rfl, Or.inl rfl⟩, fun _ h => absurd h List.not_mem_nil⟩, by decide⟩
theorem se_HeldCoatsModel_peek___I_HeldCoatsModel : ∀ c ∈ ([5] : List Nat), ∃ q : vw_C, cz_cl[c]? = some q ∧ Cond.selects q.1 (⟨"HeldCoatsModel", "peek", "()I"⟩ : MethodName) (⟨"HeldCoatsModel", "peek", "()I"⟩ : MethodName) ∈ lw_all := List.forall_mem_cons.mpr ⟨⟨_, cz_cl5, qs48⟩, fun _ h => absurd h List.not_mem_nil⟩
theorem md_X5_peek : cz_md yX5_peek 1 (ws_ yX5_peek cX5_peek 1 ((Option.some Jvm.ClassFile.FieldType.int))) 0 := ⟨cz_ws_code q2083, q123, ⟨by decide, by decide, by decide +kernel⟩, by decide⟩
theorem fp_X5_m_5_4 {nm : String} : cz_FP "HeldCoatsModel" nm [(5, 4)] := List.forall_mem_cons.mpr ⟨⟨RX5, TX5, 49, rfl, Or.inl rfl⟩, fun _ h => absurd h List.not_mem_nil⟩
theorem kB_32 : (Int8.ofInt (32)).toInt32 = 32 := by decide
theorem fp_X5_m_5_12 {nm : String} : cz_FP "HeldCoatsModel" nm [(5, 12)] := List.forall_mem_cons.mpr ⟨⟨RX5, TX5, 49, rfl, Or.inl rfl⟩, fun _ h => absurd h List.not_mem_nil⟩
theorem fp_X5_m_5_13 {nm : String} : cz_FP "HeldCoatsModel" nm [(5, 13)] := List.forall_mem_cons.mpr ⟨⟨RX5, TX5, 49, rfl, Or.inl rfl⟩, fun _ h => absurd h List.not_mem_nil⟩
theorem md_X5_isSmall : cz_md yX5_isSmall 1 (ws_ yX5_isSmall cX5_isSmall 1 ((Option.some Jvm.ClassFile.FieldType.boolean))) 1 := ⟨cz_ws_code q2086, q123, ⟨by decide, by decide, by decide +kernel⟩, by decide⟩
theorem fp_X5_m_5_17 {nm : String} : cz_FP "HeldCoatsModel" nm [(5, 17)] := List.forall_mem_cons.mpr ⟨⟨RX5, TX5, 49, rfl, Or.inl rfl⟩, fun _ h => absurd h List.not_mem_nil⟩
theorem pd_J : parseFieldDescriptor "J" = some .long := by decide +kernel
theorem fp_X5_m_5_14 {nm : String} : cz_FP "HeldCoatsModel" nm [(5, 14)] := List.forall_mem_cons.mpr ⟨⟨RX5, TX5, 49, rfl, Or.inl rfl⟩, fun _ h => absurd h List.not_mem_nil⟩
theorem md_X5_isDigit : cz_md yX5_isDigit 1 (ws_ yX5_isDigit cX5_isDigit 1 ((Option.some Jvm.ClassFile.FieldType.boolean))) 1 := ⟨cz_ws_code q2089, q123, ⟨by decide, by decide, by decide +kernel⟩, by decide⟩
theorem fp_X5_m_5_11 {nm : String} : cz_FP "HeldCoatsModel" nm [(5, 11)] := List.forall_mem_cons.mpr ⟨⟨RX5, TX5, 49, rfl, Or.inl rfl⟩, fun _ h => absurd h List.not_mem_nil⟩
theorem kB_60 : (Int8.ofInt (60)).toInt32 = 60 := by decide
theorem kB_41 : (Int8.ofInt (41)).toInt32 = 41 := by decide
theorem kB_40 : (Int8.ofInt (40)).toInt32 = 40 := by decide
theorem kB_59 : (Int8.ofInt (59)).toInt32 = 59 := by decide
set_option maxHeartbeats 4000000 in
set_option maxRecDepth 100000 in
noncomputable def fn_X5_next_0 (l0 : Option Nat) (k0 : cz_H → cz_Z) : Nat → cz_H → cz_Z
  | 0, _ => none
  | n + 1, h => cz_rc h l0 [5] (cz_cI (fn_X5_peek l0 h) (fun x8 h7 => cz_jn (fun (h9 : cz_H) => cz_getI h9 l0 [(5, 4)] (fun x10 => cz_put h9 l0 [(5, 4)] (cz_i (x10 + 1)) (fun h11 => fn_X5_next_0 l0 k0 n h11))) (fun j12 => (if x8 = 32 then j12 h7 else cz_rc h7 l0 [5] (cz_cI (fn_X5_peek l0 h7) (fun x20 h19 => (if x20 = 10 then j12 h19 else k0 h19)))))))
set_option maxHeartbeats 4000000 in
set_option maxRecDepth 100000 in
theorem wk_X5_next_0 {K : cz_K} {D : cz_D} {h0 : cz_H} {oh : cz_O × cz_H} {l0 : Option Nat} {k0 : cz_H → cz_Z} (S : cz_S K D h0 cX5_next 4 "HeldCoatsModel" ((Option.none : Option Jvm.ClassFile.FieldType)) "next" ([])) (hk0 : ∀ (h : cz_H), cz_T K D 3 h0 oh 4 (k0 h) h 31 [(0, cz_r l0)] []) : ∀ (n : Nat) (h : cz_H), cz_T K D 3 h0 oh 4 (fn_X5_next_0 l0 k0 n h) h 0 [(0, cz_r l0)] [] := by
  intro n
  induction n with
  | zero => intros; exact ct_none
  | succ n ih =>
    intro h
    rw [fn_X5_next_0]
    refine ct_aload_n (k := 0) S dX5_next_0 rfl rfl ?_
    refine ct_rc (fun b1 ci2 V3 hb4 hc5 hi6 => ?_)
    refine ct_cI (st := []) (cg_virtual (av := []) S hb4 hc5 hi6 (fun _ e => mt_X5_peek e) md_X5_peek q2080 q2082 se_HeldCoatsModel_peek___I_HeldCoatsModel (by decide) (Nat.le_of_ble_eq_true rfl) rfl dX5_next_1) (fun x8 h7 => ?_)
    refine ct_bipush (v := 32) S dX5_next_4 kB_32 ?_
    refine ct_jnP (fun j12 => ∀ (h9 : cz_H), cz_T K D 3 h0 oh 4 (j12 h9) h9 18 [(0, cz_r l0)] []) (fun h9 => ?_) (fun j12 Hj12 => ?_)
    · refine ct_aload_n (k := 0) S dX5_next_18 rfl rfl ?_
      refine ct_dup S dX5_next_19 rfl ?_
      refine ct_getI S fw_X5_21 dX5_next_20 (fun x10 => ?_)
      refine ct_iconst (v := 1) S dX5_next_23 kI_1 ?_
      refine ct_iadd S dX5_next_24 ?_
      refine ct_put S fw_X5_21 fp_X5_m_5_4 (cz_fits_i pd_I) dX5_next_25 (fun h11 => ?_)
      refine ct_goto (tgt := 0) S dX5_next_28 (by decide) ?_
      exact ih h11
    · refine ct_icmp_eq (tgt := 18) S dX5_next_6 (by decide) ?_ ?_
      · exact Hj12 h7
      · refine ct_aload_n (k := 0) S dX5_next_9 rfl rfl ?_
        refine ct_rc (fun b13 ci14 V15 hb16 hc17 hi18 => ?_)
        refine ct_cI (st := []) (cg_virtual (av := []) S hb16 hc17 hi18 (fun _ e => mt_X5_peek e) md_X5_peek q2080 q2082 se_HeldCoatsModel_peek___I_HeldCoatsModel (by decide) (Nat.le_of_ble_eq_true rfl) rfl dX5_next_10) (fun x20 h19 => ?_)
        refine ct_bipush (v := 10) S dX5_next_13 kB_10 ?_
        refine ct_icmp_ne (tgt := 31) S dX5_next_15 (by decide) ?_ ?_
        · exact hk0 h19
        · exact Hj12 h19
set_option maxHeartbeats 4000000 in
set_option maxRecDepth 100000 in
noncomputable def fn_X5_next_181 (l0 : Option Nat) (l2 : Int32) (k0 : Int32 → cz_H → cz_Z) : Nat → Int32 → cz_H → cz_Z
  | 0, _, _ => none
  | n + 1, l3, h => cz_rc h l0 [5] (cz_cI (fn_X5_peek l0 h) (fun x50 h49 => cz_cI (fn_X5_isSmall x50 h49) (fun x52 h51 => cz_jn (fun (h53 : cz_H) => cz_jn (fun (v54 : Int32) (h55 : cz_H) => cz_getI h55 l0 [(5, 13)] (fun x56 => cz_jn (fun (h57 : cz_H) => cz_getI h57 l0 [(5, 13)] (fun x58 => cz_jn (fun (h59 : cz_H) => cz_getI h59 l0 [(5, 13)] (fun x60 => cz_put h59 l0 [(5, 13)] (cz_i (x60 + 1)) (fun h61 => cz_getI h61 l0 [(5, 4)] (fun x62 => cz_put h61 l0 [(5, 4)] (cz_i (x62 + 1)) (fun h63 => fn_X5_next_181 l0 l2 k0 n v54 h63))))) (fun j64 => (if (3 : Int32) ≤ x58 then j64 h57 else cz_getI h57 l0 [(5, 14)] (fun x65 => cz_rc h57 l0 [5] (cz_cI (fn_X5_peek l0 h57) (fun x73 h72 => cz_put h72 l0 [(5, 14)] (cz_i ((((10 : Int32) * x65) + x73) - 48)) (fun h74 => j64 h74)))))))) (fun j75 => (if (7 : Int32) ≤ x56 then j75 h55 else cz_getJ h55 l0 [(5, 17)] (fun y76 => cz_rc h55 l0 [5] (cz_cI (fn_X5_peek l0 h55) (fun x84 h83 => cz_put h83 l0 [(5, 17)] (cz_j ((y76 <<< (((8 : Int32)).toInt64 &&& 63)) ||| ((x84).toInt64))) (fun h85 => j75 h85)))))))) (fun j86 => cz_jn (fun (h87 : cz_H) => j86 0 h87) (fun j88 => (if l3 = 0 then j88 h53 else cz_rc h53 l0 [5] (cz_cI (fn_X5_peek l0 h53) (fun x96 h95 => cz_cI (fn_X5_isSmall x96 h95) (fun x98 h97 => (if x98 = l2 then j86 1 h97 else j88 h97)))))))) (fun j99 => (if x52 = 0 then cz_rc h51 l0 [5] (cz_cI (fn_X5_peek l0 h51) (fun x107 h106 => cz_cI (fn_X5_isDigit x107 h106) (fun x109 h108 => (if x109 = 0 then k0 l3 h108 else j99 h108)))) else j99 h51)))))
set_option maxHeartbeats 4000000 in
set_option maxRecDepth 100000 in
theorem wk_X5_next_181 {K : cz_K} {D : cz_D} {h0 : cz_H} {oh : cz_O × cz_H} {l0 : Option Nat} {l2 : Int32} {k0 : Int32 → cz_H → cz_Z} (S : cz_S K D h0 cX5_next 4 "HeldCoatsModel" ((Option.none : Option Jvm.ClassFile.FieldType)) "next" ([])) (hk0 : ∀ (e3 : Int32) (h : cz_H), cz_T K D 3 h0 oh 4 (k0 e3 h) h 298 [(0, cz_r l0), (2, cz_i l2), (3, cz_i e3)] []) : ∀ (n : Nat) (l3 : Int32) (h : cz_H), cz_T K D 3 h0 oh 4 (fn_X5_next_181 l0 l2 k0 n l3 h) h 181 [(0, cz_r l0), (2, cz_i l2), (3, cz_i l3)] [] := by
  intro n
  induction n with
  | zero => intros; exact ct_none
  | succ n ih =>
    intro l3 h
    rw [fn_X5_next_181]
    refine ct_aload_n (k := 0) S dX5_next_181 rfl rfl ?_
    refine ct_rc (fun b43 ci44 V45 hb46 hc47 hi48 => ?_)
    refine ct_cI (st := []) (cg_virtual (av := []) S hb46 hc47 hi48 (fun _ e => mt_X5_peek e) md_X5_peek q2080 q2082 se_HeldCoatsModel_peek___I_HeldCoatsModel (by decide) (Nat.le_of_ble_eq_true rfl) rfl dX5_next_182) (fun x50 h49 => ?_)
    refine ct_cI (st := []) (cg_static (av := [cz_i x50]) S (fun _ e => mt_X5_isSmall e) md_X5_isSmall (Or.inl q2084) q2085 (by decide) (Nat.le_of_ble_eq_true rfl) rfl dX5_next_185) (fun x52 h51 => ?_)
    refine ct_jnP (fun j99 => ∀ (h53 : cz_H), cz_T K D 3 h0 oh 4 (j99 h53) h53 201 [(0, cz_r l0), (2, cz_i l2), (3, cz_i l3)] []) (fun h53 => ?_) (fun j99 Hj99 => ?_)
    · refine ct_iload_n (k := 2) S dX5_next_201 rfl rfl ?_
      refine ct_jnP (fun j86 => ∀ (v54 : Int32) (h55 : cz_H), cz_T K D 3 h0 oh 4 (j86 v54 h55) h55 221 [(0, cz_r l0), (2, cz_i l2)] [cz_i v54]) (fun v54 h55 => ?_) (fun j86 Hj86 => ?_)
      · refine ct_istore_n (L' := [(3, cz_i v54), (0, cz_r l0), (2, cz_i l2)]) S dX5_next_221 rfl (by decide) rfl ?_
        refine ct_aload_n (k := 1) S dX5_next_222 rfl rfl ?_
        refine ct_getI S fw_X5_136 dX5_next_223 (fun x56 => ?_)
        refine ct_bipush (v := 7) S dX5_next_226 kB_7 ?_
        refine ct_jnP (fun j75 => ∀ (h57 : cz_H), cz_T K D 3 h0 oh 4 (j75 h57) h57 248 [(0, cz_r l0), (2, cz_i l2), (3, cz_i v54)] []) (fun h57 => ?_) (fun j75 Hj75 => ?_)
        · refine ct_aload_n (k := 0) S dX5_next_248 rfl rfl ?_
          refine ct_getI S fw_X5_136 dX5_next_249 (fun x58 => ?_)
          refine ct_iconst (v := 3) S dX5_next_252 kI_3 ?_
          refine ct_jnP (fun j64 => ∀ (h59 : cz_H), cz_T K D 3 h0 oh 4 (j64 h59) h59 275 [(0, cz_r l0), (2, cz_i l2), (3, cz_i v54)] []) (fun h59 => ?_) (fun j64 Hj64 => ?_)
          · refine ct_aload_n (k := 0) S dX5_next_275 rfl rfl ?_
            refine ct_dup S dX5_next_276 rfl ?_
            refine ct_getI S fw_X5_136 dX5_next_277 (fun x60 => ?_)
            refine ct_iconst (v := 1) S dX5_next_280 kI_1 ?_
            refine ct_iadd S dX5_next_281 ?_
            refine ct_put S fw_X5_136 fp_X5_m_5_13 (cz_fits_i pd_I) dX5_next_282 (fun h61 => ?_)
            refine ct_aload_n (k := 0) S dX5_next_285 rfl rfl ?_
            refine ct_dup S dX5_next_286 rfl ?_
            refine ct_getI S fw_X5_21 dX5_next_287 (fun x62 => ?_)
            refine ct_iconst (v := 1) S dX5_next_290 kI_1 ?_
            refine ct_iadd S dX5_next_291 ?_
            refine ct_put S fw_X5_21 fp_X5_m_5_4 (cz_fits_i pd_I) dX5_next_292 (fun h63 => ?_)
            refine ct_goto (tgt := 181) S dX5_next_295 (by decide) ?_
            exact ih v54 h63
          · refine ct_icmp_ge (tgt := 275) S dX5_next_253 (by decide) ?_ ?_
            · exact Hj64 h57
            · refine ct_aload_n (k := 0) S dX5_next_256 rfl rfl ?_
              refine ct_bipush (v := 10) S dX5_next_257 kB_10 ?_
              refine ct_aload_n (k := 0) S dX5_next_259 rfl rfl ?_
              refine ct_getI S fw_X5_149 dX5_next_260 (fun x65 => ?_)
              refine ct_imul S dX5_next_263 ?_
              refine ct_aload_n (k := 0) S dX5_next_264 rfl rfl ?_
              refine ct_rc (fun b66 ci67 V68 hb69 hc70 hi71 => ?_)
              refine ct_cI (st := [cz_i ((10 : Int32) * x65), cz_r l0]) (cg_virtual (av := []) S hb69 hc70 hi71 (fun _ e => mt_X5_peek e) md_X5_peek q2080 q2082 se_HeldCoatsModel_peek___I_HeldCoatsModel (by decide) (Nat.le_of_ble_eq_true rfl) rfl dX5_next_265) (fun x73 h72 => ?_)
              refine ct_iadd S dX5_next_268 ?_
              refine ct_bipush (v := 48) S dX5_next_269 kB_48 ?_
              refine ct_isub S dX5_next_271 ?_
              refine ct_put S fw_X5_149 fp_X5_m_5_14 (cz_fits_i pd_I) dX5_next_272 (fun h74 => ?_)
              exact Hj64 h74
        · refine ct_icmp_ge (tgt := 248) S dX5_next_228 (by decide) ?_ ?_
          · exact ct_sub [1, 2, 0] rfl (Hj75 h55)
          · refine ct_aload_n (k := 1) S dX5_next_231 rfl rfl ?_
            refine ct_aload_n (k := 1) S dX5_next_232 rfl rfl ?_
            refine ct_getJ S fw_X5_152 dX5_next_233 (fun y76 => ?_)
            refine ct_bipush (v := 8) S dX5_next_236 kB_8 ?_
            refine ct_lshl S dX5_next_238 ?_
            refine ct_aload_n (k := 1) S dX5_next_239 rfl rfl ?_
            refine ct_rc (fun b77 ci78 V79 hb80 hc81 hi82 => ?_)
            refine ct_cI (st := [cz_j (y76 <<< (((8 : Int32)).toInt64 &&& 63)), cz_r l0]) (cg_virtual (av := []) S hb80 hc81 hi82 (fun _ e => mt_X5_peek e) md_X5_peek q2080 q2082 se_HeldCoatsModel_peek___I_HeldCoatsModel (by decide) (Nat.le_of_ble_eq_true rfl) rfl dX5_next_240) (fun x84 h83 => ?_)
            refine ct_i2l S dX5_next_243 ?_
            refine ct_lor S dX5_next_244 ?_
            refine ct_put S fw_X5_152 fp_X5_m_5_17 (cz_fits_j pd_J) dX5_next_245 (fun h85 => ?_)
            exact ct_sub [1, 2, 0] rfl (Hj75 h85)
      · refine ct_jnP (fun j88 => ∀ (h87 : cz_H), cz_T K D 3 h0 oh 4 (j88 h87) h87 220 [(0, cz_r l0), (2, cz_i l2)] []) (fun h87 => ?_) (fun j88 Hj88 => ?_)
        · refine ct_iconst (v := 0) S dX5_next_220 kI_0 ?_
          exact Hj86 0 h87
        · refine ct_if_eq (tgt := 220) S dX5_next_202 (by decide) ?_ ?_
          · exact ct_sub [0, 1] rfl (Hj88 h53)
          · refine ct_aload_n (k := 0) S dX5_next_205 rfl rfl ?_
            refine ct_rc (fun b89 ci90 V91 hb92 hc93 hi94 => ?_)
            refine ct_cI (st := []) (cg_virtual (av := []) S hb92 hc93 hi94 (fun _ e => mt_X5_peek e) md_X5_peek q2080 q2082 se_HeldCoatsModel_peek___I_HeldCoatsModel (by decide) (Nat.le_of_ble_eq_true rfl) rfl dX5_next_206) (fun x96 h95 => ?_)
            refine ct_cI (st := []) (cg_static (av := [cz_i x96]) S (fun _ e => mt_X5_isSmall e) md_X5_isSmall (Or.inl q2084) q2085 (by decide) (Nat.le_of_ble_eq_true rfl) rfl dX5_next_209) (fun x98 h97 => ?_)
            refine ct_iload_n (k := 1) S dX5_next_212 rfl rfl ?_
            refine ct_icmp_ne (tgt := 220) S dX5_next_213 (by decide) ?_ ?_
            · exact ct_sub [0, 1] rfl (Hj88 h97)
            · refine ct_iconst (v := 1) S dX5_next_216 kI_1 ?_
              refine ct_goto (tgt := 221) S dX5_next_217 (by decide) ?_
              exact ct_sub [0, 1] rfl (Hj86 1 h97)
    · refine ct_if_ne (tgt := 201) S dX5_next_188 (by decide) ?_ ?_
      · exact Hj99 h51
      · refine ct_aload_n (k := 0) S dX5_next_191 rfl rfl ?_
        refine ct_rc (fun b100 ci101 V102 hb103 hc104 hi105 => ?_)
        refine ct_cI (st := []) (cg_virtual (av := []) S hb103 hc104 hi105 (fun _ e => mt_X5_peek e) md_X5_peek q2080 q2082 se_HeldCoatsModel_peek___I_HeldCoatsModel (by decide) (Nat.le_of_ble_eq_true rfl) rfl dX5_next_192) (fun x107 h106 => ?_)
        refine ct_cI (st := []) (cg_static (av := [cz_i x107]) S (fun _ e => mt_X5_isDigit e) md_X5_isDigit (Or.inl q2087) q2088 (by decide) (Nat.le_of_ble_eq_true rfl) rfl dX5_next_195) (fun x109 h108 => ?_)
        refine ct_if_eq (tgt := 298) S dX5_next_198 (by decide) ?_ ?_
        · exact hk0 l3 h108
        · exact Hj99 h108
set_option maxHeartbeats 4000000 in
set_option maxRecDepth 100000 in
noncomputable def fn_X5_next (l0 : Option Nat) (h : cz_H) : cz_Z := fn_X5_next_0 l0 (fun (h21 : cz_H) => cz_getI h21 l0 [(5, 4)] (fun x22 => cz_put h21 l0 [(5, 12)] (cz_i x22) (fun h23 => cz_put h23 l0 [(5, 13)] (cz_i 0) (fun h24 => cz_getI h24 l0 [(5, 3)] (fun x25 => cz_getI h24 l0 [(5, 5)] (fun x26 => cz_jn (fun (h27 : cz_H) => cz_rc h27 l0 [5] (cz_cI (fn_X5_peek l0 h27) (fun x35 h34 => (if 0 ≤ x35 then cz_cI (fn_X5_isSmall x35 h34) (fun x37 h36 => cz_jn (fun (h38 : cz_H) => cz_cI (fn_X5_isSmall x35 h38) (fun x40 h39 => cz_put h39 l0 [(5, 17)] (cz_j 0) (fun h41 => cz_put h41 l0 [(5, 14)] (cz_i 0) (fun h42 => fn_X5_next_181 l0 x40 (fun (e110 : Int32) (h111 : cz_H) => (if e110 = 0 then cz_put h111 l0 [(5, 11)] (cz_i 4) (fun h112 => some (.inl none, h112)) else cz_getI h111 l0 [(5, 13)] (fun x113 => cz_jn (fun (v114 : Int32) (h115 : cz_H) => (if x113 ≤ v114 then (if x40 = 0 then cz_put h115 l0 [(5, 11)] (cz_i 2) (fun h116 => some (.inl none, h116)) else cz_put h115 l0 [(5, 11)] (cz_i 1) (fun h117 => some (.inl none, h117))) else cz_put h115 l0 [(5, 11)] (cz_i 4) (fun h118 => some (.inl none, h118)))) (fun j119 => (if x40 = 0 then j119 3 h111 else j119 7 h111))))) 1000 1 h42)))) (fun j120 => (if x37 = 0 then cz_cI (fn_X5_isDigit x35 h36) (fun x122 h121 => (if x122 = 0 then cz_jn (fun (v123 : Int32) (h124 : cz_H) => cz_put h124 l0 [(5, 11)] (cz_i v123) (fun h125 => cz_put h125 l0 [(5, 14)] (cz_i x35) (fun h126 => cz_getI h126 l0 [(5, 4)] (fun x127 => cz_put h126 l0 [(5, 4)] (cz_i (x127 + 1)) (fun h128 => some (.inl none, h128)))))) (fun j129 => cz_jn (fun (h130 : cz_H) => j129 3 h130) (fun j131 => (if x35 = 59 then j131 h121 else (if x35 = 40 then j131 h121 else (if x35 = 41 then j131 h121 else cz_jn (fun (h132 : cz_H) => j129 4 h132) (fun j133 => (if x35 < 60 then j133 h121 else (if (62 : Int32) < x35 then j133 h121 else j131 h121)))))))) else j120 h121)) else j120 h36))) else cz_put h34 l0 [(5, 11)] (cz_i 0) (fun h134 => some (.inl none, h134)))))) (fun j135 => (if x25 ≤ x26 then j135 h24 else cz_getI h24 l0 [(5, 4)] (fun x136 => cz_getI h24 l0 [(5, 5)] (fun x137 => (if x136 < x137 then j135 h24 else cz_getI h24 l0 [(5, 5)] (fun x138 => cz_put h24 l0 [(5, 12)] (cz_i x138) (fun h139 => cz_put h139 l0 [(5, 11)] (cz_i 4) (fun h140 => some (.inl none, h140))))))))))))))) 1000 h
set_option maxHeartbeats 4000000 in
set_option maxRecDepth 100000 in
theorem wk_X5_next {K : cz_K} {D : cz_D} {h0 : cz_H} {oh : cz_O × cz_H} {l0 : Option Nat} {h : cz_H} (S : cz_S K D h0 cX5_next 4 "HeldCoatsModel" ((Option.none : Option Jvm.ClassFile.FieldType)) "next" ([])) : cz_T K D 3 h0 oh 4 (fn_X5_next l0 h) h 0 [(0, cz_r l0)] [] := by
  unfold fn_X5_next
  refine ct_sub [0] (L' := [(0, cz_r l0)]) rfl (wk_X5_next_0 S ?_ 1000 h)
  · intro h21
    refine ct_aload_n (k := 0) S dX5_next_31 rfl rfl ?_
    refine ct_aload_n (k := 0) S dX5_next_32 rfl rfl ?_
    refine ct_getI S fw_X5_21 dX5_next_33 (fun x22 => ?_)
    refine ct_put S fw_X5_133 fp_X5_m_5_12 (cz_fits_i pd_I) dX5_next_36 (fun h23 => ?_)
    refine ct_aload_n (k := 0) S dX5_next_39 rfl rfl ?_
    refine ct_iconst (v := 0) S dX5_next_40 kI_0 ?_
    refine ct_put S fw_X5_136 fp_X5_m_5_13 (cz_fits_i pd_I) dX5_next_41 (fun h24 => ?_)
    refine ct_aload_n (k := 0) S dX5_next_44 rfl rfl ?_
    refine ct_getI S fw_X5_18 dX5_next_45 (fun x25 => ?_)
    refine ct_aload_n (k := 0) S dX5_next_48 rfl rfl ?_
    refine ct_getI S fw_X5_24 dX5_next_49 (fun x26 => ?_)
    refine ct_jnP (fun j135 => ∀ (h27 : cz_H), cz_T K D 3 h0 oh 4 (j135 h27) h27 80 [(0, cz_r l0)] []) (fun h27 => ?_) (fun j135 Hj135 => ?_)
    · refine ct_aload_n (k := 0) S dX5_next_80 rfl rfl ?_
      refine ct_rc (fun b28 ci29 V30 hb31 hc32 hi33 => ?_)
      refine ct_cI (st := []) (cg_virtual (av := []) S hb31 hc32 hi33 (fun _ e => mt_X5_peek e) md_X5_peek q2080 q2082 se_HeldCoatsModel_peek___I_HeldCoatsModel (by decide) (Nat.le_of_ble_eq_true rfl) rfl dX5_next_81) (fun x35 h34 => ?_)
      refine ct_istore_n (L' := [(1, cz_i x35), (0, cz_r l0)]) S dX5_next_84 rfl (by decide) rfl ?_
      refine ct_iload_n (k := 0) S dX5_next_85 rfl rfl ?_
      refine ct_if_ge (tgt := 95) S dX5_next_86 (by decide) ?_ ?_
      · refine ct_iload_n (k := 0) S dX5_next_95 rfl rfl ?_
        refine ct_cI (st := []) (cg_static (av := [cz_i x35]) S (fun _ e => mt_X5_isSmall e) md_X5_isSmall (Or.inl q2084) q2085 (by decide) (Nat.le_of_ble_eq_true rfl) rfl dX5_next_96) (fun x37 h36 => ?_)
        refine ct_jnP (fun j120 => ∀ (h38 : cz_H), cz_T K D 3 h0 oh 4 (j120 h38) h38 164 [(0, cz_r l0), (1, cz_i x35)] []) (fun h38 => ?_) (fun j120 Hj120 => ?_)
        · refine ct_iload_n (k := 1) S dX5_next_164 rfl rfl ?_
          refine ct_cI (st := []) (cg_static (av := [cz_i x35]) S (fun _ e => mt_X5_isSmall e) md_X5_isSmall (Or.inl q2084) q2085 (by decide) (Nat.le_of_ble_eq_true rfl) rfl dX5_next_165) (fun x40 h39 => ?_)
          refine ct_istore_n (L' := [(2, cz_i x40), (0, cz_r l0), (1, cz_i x35)]) S dX5_next_168 rfl (by decide) rfl ?_
          refine ct_iconst (v := 1) S dX5_next_169 kI_1 ?_
          refine ct_istore_n (L' := [(3, cz_i 1), (2, cz_i x40), (0, cz_r l0), (1, cz_i x35)]) S dX5_next_170 rfl (by decide) rfl ?_
          refine ct_aload_n (k := 2) S dX5_next_171 rfl rfl ?_
          refine ct_lconst (v := 0) S dX5_next_172 (by decide) ?_
          refine ct_put S fw_X5_152 fp_X5_m_5_17 (cz_fits_j pd_J) dX5_next_173 (fun h41 => ?_)
          refine ct_aload_n (k := 2) S dX5_next_176 rfl rfl ?_
          refine ct_iconst (v := 0) S dX5_next_177 kI_0 ?_
          refine ct_put S fw_X5_149 fp_X5_m_5_14 (cz_fits_i pd_I) dX5_next_178 (fun h42 => ?_)
          refine ct_sub [2, 1, 0] (L' := [(0, cz_r l0), (2, cz_i x40), (3, cz_i 1)]) rfl (wk_X5_next_181 S ?_ 1000 1 h42)
          · intro e110 h111
            refine ct_aload_n (k := 0) S dX5_next_298 rfl rfl ?_
            refine ct_iload_n (k := 2) S dX5_next_299 rfl rfl ?_
            refine ct_if_eq (tgt := 320) S dX5_next_300 (by decide) ?_ ?_
            · refine ct_iconst (v := 4) S dX5_next_320 kI_4 ?_
              refine ct_goto (tgt := 333) S dX5_next_321 (by decide) ?_
              refine ct_put S fw_X5_139 fp_X5_m_5_11 (cz_fits_i pd_I) dX5_next_333 (fun h112 => ?_)
              exact ct_vret S rfl dX5_next_336
            · refine ct_aload_n (k := 0) S dX5_next_303 rfl rfl ?_
              refine ct_getI S fw_X5_136 dX5_next_304 (fun x113 => ?_)
              refine ct_iload_n (k := 1) S dX5_next_307 rfl rfl ?_
              refine ct_jnP (fun j119 => ∀ (v114 : Int32) (h115 : cz_H), cz_T K D 3 h0 oh 4 (j119 v114 h115) h115 317 [(2, cz_i x40)] [cz_i v114, cz_i x113, cz_r l0]) (fun v114 h115 => ?_) (fun j119 Hj119 => ?_)
              · refine ct_icmp_le (tgt := 324) S dX5_next_317 (by decide) ?_ ?_
                · refine ct_iload_n (k := 0) S dX5_next_324 rfl rfl ?_
                  refine ct_if_eq (tgt := 332) S dX5_next_325 (by decide) ?_ ?_
                  · refine ct_iconst (v := 2) S dX5_next_332 kI_2 ?_
                    refine ct_put S fw_X5_139 fp_X5_m_5_11 (cz_fits_i pd_I) dX5_next_333 (fun h116 => ?_)
                    exact ct_vret S rfl dX5_next_336
                  · refine ct_iconst (v := 1) S dX5_next_328 kI_1 ?_
                    refine ct_goto (tgt := 333) S dX5_next_329 (by decide) ?_
                    refine ct_put S fw_X5_139 fp_X5_m_5_11 (cz_fits_i pd_I) dX5_next_333 (fun h117 => ?_)
                    exact ct_vret S rfl dX5_next_336
                · refine ct_iconst (v := 4) S dX5_next_320 kI_4 ?_
                  refine ct_goto (tgt := 333) S dX5_next_321 (by decide) ?_
                  refine ct_put S fw_X5_139 fp_X5_m_5_11 (cz_fits_i pd_I) dX5_next_333 (fun h118 => ?_)
                  exact ct_vret S rfl dX5_next_336
              · refine ct_if_eq (tgt := 316) S dX5_next_308 (by decide) ?_ ?_
                · refine ct_iconst (v := 3) S dX5_next_316 kI_3 ?_
                  exact ct_sub [1] rfl (Hj119 3 h111)
                · refine ct_bipush (v := 7) S dX5_next_311 kB_7 ?_
                  refine ct_goto (tgt := 317) S dX5_next_313 (by decide) ?_
                  exact ct_sub [1] rfl (Hj119 7 h111)
        · refine ct_if_ne (tgt := 164) S dX5_next_99 (by decide) ?_ ?_
          · exact ct_sub [1, 0] rfl (Hj120 h36)
          · refine ct_iload_n (k := 0) S dX5_next_102 rfl rfl ?_
            refine ct_cI (st := []) (cg_static (av := [cz_i x35]) S (fun _ e => mt_X5_isDigit e) md_X5_isDigit (Or.inl q2087) q2088 (by decide) (Nat.le_of_ble_eq_true rfl) rfl dX5_next_103) (fun x122 h121 => ?_)
            refine ct_if_ne (tgt := 164) S dX5_next_106 (by decide) ?_ ?_
            · exact ct_sub [1, 0] rfl (Hj120 h121)
            · refine ct_aload_n (k := 1) S dX5_next_109 rfl rfl ?_
              refine ct_iload_n (k := 0) S dX5_next_110 rfl rfl ?_
              refine ct_bipush (v := 59) S dX5_next_111 kB_59 ?_
              refine ct_jnP (fun j129 => ∀ (v123 : Int32) (h124 : cz_H), cz_T K D 3 h0 oh 4 (j129 v123 h124) h124 145 [(0, cz_r l0), (1, cz_i x35)] [cz_i v123, cz_r l0]) (fun v123 h124 => ?_) (fun j129 Hj129 => ?_)
              · refine ct_put S fw_X5_139 fp_X5_m_5_11 (cz_fits_i pd_I) dX5_next_145 (fun h125 => ?_)
                refine ct_aload_n (k := 0) S dX5_next_148 rfl rfl ?_
                refine ct_iload_n (k := 1) S dX5_next_149 rfl rfl ?_
                refine ct_put S fw_X5_149 fp_X5_m_5_14 (cz_fits_i pd_I) dX5_next_150 (fun h126 => ?_)
                refine ct_aload_n (k := 0) S dX5_next_153 rfl rfl ?_
                refine ct_dup S dX5_next_154 rfl ?_
                refine ct_getI S fw_X5_21 dX5_next_155 (fun x127 => ?_)
                refine ct_iconst (v := 1) S dX5_next_158 kI_1 ?_
                refine ct_iadd S dX5_next_159 ?_
                refine ct_put S fw_X5_21 fp_X5_m_5_4 (cz_fits_i pd_I) dX5_next_160 (fun h128 => ?_)
                exact ct_vret S rfl dX5_next_163
              · refine ct_jnP (fun j131 => ∀ (h130 : cz_H), cz_T K D 3 h0 oh 4 (j131 h130) h130 140 [(0, cz_r l0), (1, cz_i x35)] [cz_r l0]) (fun h130 => ?_) (fun j131 Hj131 => ?_)
                · refine ct_iconst (v := 3) S dX5_next_140 kI_3 ?_
                  refine ct_goto (tgt := 145) S dX5_next_141 (by decide) ?_
                  exact Hj129 3 h130
                · refine ct_icmp_eq (tgt := 140) S dX5_next_113 (by decide) ?_ ?_
                  · exact ct_sub [1, 0] rfl (Hj131 h121)
                  · refine ct_iload_n (k := 0) S dX5_next_116 rfl rfl ?_
                    refine ct_bipush (v := 40) S dX5_next_117 kB_40 ?_
                    refine ct_icmp_eq (tgt := 140) S dX5_next_119 (by decide) ?_ ?_
                    · exact ct_sub [1, 0] rfl (Hj131 h121)
                    · refine ct_iload_n (k := 0) S dX5_next_122 rfl rfl ?_
                      refine ct_bipush (v := 41) S dX5_next_123 kB_41 ?_
                      refine ct_icmp_eq (tgt := 140) S dX5_next_125 (by decide) ?_ ?_
                      · exact ct_sub [1, 0] rfl (Hj131 h121)
                      · refine ct_iload_n (k := 0) S dX5_next_128 rfl rfl ?_
                        refine ct_bipush (v := 60) S dX5_next_129 kB_60 ?_
                        refine ct_jnP (fun j133 => ∀ (h132 : cz_H), cz_T K D 3 h0 oh 4 (j133 h132) h132 144 [(0, cz_r l0), (1, cz_i x35)] [cz_r l0]) (fun h132 => ?_) (fun j133 Hj133 => ?_)
                        · refine ct_iconst (v := 4) S dX5_next_144 kI_4 ?_
                          exact Hj129 4 h132
                        · refine ct_icmp_lt (tgt := 144) S dX5_next_131 (by decide) ?_ ?_
                          · exact ct_sub [1, 0] rfl (Hj133 h121)
                          · refine ct_iload_n (k := 0) S dX5_next_134 rfl rfl ?_
                            refine ct_bipush (v := 62) S dX5_next_135 kB_62 ?_
                            refine ct_icmp_gt (tgt := 144) S dX5_next_137 (by decide) ?_ ?_
                            · exact ct_sub [1, 0] rfl (Hj133 h121)
                            · exact ct_sub [1, 0] rfl (Hj131 h121)
      · refine ct_aload_n (k := 1) S dX5_next_89 rfl rfl ?_
        refine ct_iconst (v := 0) S dX5_next_90 kI_0 ?_
        refine ct_put S fw_X5_139 fp_X5_m_5_11 (cz_fits_i pd_I) dX5_next_91 (fun h134 => ?_)
        exact ct_vret S rfl dX5_next_94
    · refine ct_icmp_le (tgt := 80) S dX5_next_52 (by decide) ?_ ?_
      · exact Hj135 h24
      · refine ct_aload_n (k := 0) S dX5_next_55 rfl rfl ?_
        refine ct_getI S fw_X5_21 dX5_next_56 (fun x136 => ?_)
        refine ct_aload_n (k := 0) S dX5_next_59 rfl rfl ?_
        refine ct_getI S fw_X5_24 dX5_next_60 (fun x137 => ?_)
        refine ct_icmp_lt (tgt := 80) S dX5_next_63 (by decide) ?_ ?_
        · exact Hj135 h24
        · refine ct_aload_n (k := 0) S dX5_next_66 rfl rfl ?_
          refine ct_aload_n (k := 0) S dX5_next_67 rfl rfl ?_
          refine ct_getI S fw_X5_24 dX5_next_68 (fun x138 => ?_)
          refine ct_put S fw_X5_133 fp_X5_m_5_12 (cz_fits_i pd_I) dX5_next_71 (fun h139 => ?_)
          refine ct_aload_n (k := 0) S dX5_next_74 rfl rfl ?_
          refine ct_iconst (v := 4) S dX5_next_75 kI_4 ?_
          refine ct_put S fw_X5_139 fp_X5_m_5_11 (cz_fits_i pd_I) dX5_next_76 (fun h140 => ?_)
          exact ct_vret S rfl dX5_next_79
theorem mt_X5_next {l : Launch} {D : cz_D} {l0 : Option Nat} {h : cz_H} {oh : cz_O × cz_H} (hz : fn_X5_next l0 h = some oh) : cz_M l D yX5_next (ws_ yX5_next cX5_next 4 ((Option.none : Option Jvm.ClassFile.FieldType))) 3 [cz_r l0] h oh := cz_met (plainFor_of_name (by decide)) (Nat.le_of_ble_eq_true rfl) hz (fun K hl S => wk_X5_next S)
/-! HeldCoatsModel.takes(II)Z -/
def dkwX5_takes_1 : List UInt8 := [154, 0, 9, 42, 5, 182, 0, 165, 172, 42, 42, 180, 0, 149, 181, 0, 175, 42, 182, 0, 168, 4, 172]
abbrev dktX5_takes_1 : List UInt8 := dkwX5_takes_1 ++ []
def dkwX5_takes_0 : List UInt8 := [42, 180, 0, 139, 5, 159, 0, 9, 42, 4, 182, 0, 165, 172, 42, 180, 0, 149, 27, 28, 184, 0, 171]
abbrev dktX5_takes_0 : List UInt8 := dkwX5_takes_0 ++ dktX5_takes_1
theorem dksX5_takes_0 : cX5_takes.data.toList.drop 0 = dktX5_takes_0 := by decide +kernel
theorem dksX5_takes_1 : cX5_takes.data.toList.drop 23 = dktX5_takes_1 := dk_seg dksX5_takes_0 23 rfl rfl
theorem dX5_takes_0 : decode cX5_takes 0 = .ok (.aload_n 0, 1) := dk_42 (dk_at dksX5_takes_0 0 rfl rfl)
theorem dX5_takes_1 : decode cX5_takes 1 = .ok (.getfield 139, 3) := dk_180 0 139 (dk_at dksX5_takes_0 1 rfl rfl)
theorem dX5_takes_4 : decode cX5_takes 4 = .ok (.iconst 2, 1) := dk_5 (dk_at dksX5_takes_0 4 rfl rfl)
theorem dX5_takes_5 : decode cX5_takes 5 = .ok (.if_icmp .eq 9, 3) := dk_159 0 9 (dk_at dksX5_takes_0 5 rfl rfl)
theorem dX5_takes_8 : decode cX5_takes 8 = .ok (.aload_n 0, 1) := dk_42 (dk_at dksX5_takes_0 8 rfl rfl)
theorem dX5_takes_9 : decode cX5_takes 9 = .ok (.iconst 1, 1) := dk_4 (dk_at dksX5_takes_0 9 rfl rfl)
theorem dX5_takes_10 : decode cX5_takes 10 = .ok (.invokevirtual 165, 3) := dk_182 0 165 (dk_at dksX5_takes_0 10 rfl rfl)
theorem dX5_takes_13 : decode cX5_takes 13 = .ok (.ireturn, 1) := dk_172 (dk_at dksX5_takes_0 13 rfl rfl)
theorem dX5_takes_14 : decode cX5_takes 14 = .ok (.aload_n 0, 1) := dk_42 (dk_at dksX5_takes_0 14 rfl rfl)
theorem dX5_takes_15 : decode cX5_takes 15 = .ok (.getfield 149, 3) := dk_180 0 149 (dk_at dksX5_takes_0 15 rfl rfl)
theorem dX5_takes_18 : decode cX5_takes 18 = .ok (.iload_n 1, 1) := dk_27 (dk_at dksX5_takes_0 18 rfl rfl)
theorem dX5_takes_19 : decode cX5_takes 19 = .ok (.iload_n 2, 1) := dk_28 (dk_at dksX5_takes_0 19 rfl rfl)
theorem dX5_takes_20 : decode cX5_takes 20 = .ok (.invokestatic 171, 3) := dk_184 0 171 (dk_at dksX5_takes_0 20 rfl rfl)
theorem dX5_takes_23 : decode cX5_takes 23 = .ok (.ifCond .ne 9, 3) := dk_154 0 9 (dk_at dksX5_takes_1 0 rfl rfl)
theorem dX5_takes_26 : decode cX5_takes 26 = .ok (.aload_n 0, 1) := dk_42 (dk_at dksX5_takes_1 3 rfl rfl)
theorem dX5_takes_27 : decode cX5_takes 27 = .ok (.iconst 2, 1) := dk_5 (dk_at dksX5_takes_1 4 rfl rfl)
theorem dX5_takes_28 : decode cX5_takes 28 = .ok (.invokevirtual 165, 3) := dk_182 0 165 (dk_at dksX5_takes_1 5 rfl rfl)
theorem dX5_takes_31 : decode cX5_takes 31 = .ok (.ireturn, 1) := dk_172 (dk_at dksX5_takes_1 8 rfl rfl)
theorem dX5_takes_32 : decode cX5_takes 32 = .ok (.aload_n 0, 1) := dk_42 (dk_at dksX5_takes_1 9 rfl rfl)
theorem dX5_takes_33 : decode cX5_takes 33 = .ok (.aload_n 0, 1) := dk_42 (dk_at dksX5_takes_1 10 rfl rfl)
theorem dX5_takes_34 : decode cX5_takes 34 = .ok (.getfield 149, 3) := dk_180 0 149 (dk_at dksX5_takes_1 11 rfl rfl)
theorem dX5_takes_37 : decode cX5_takes 37 = .ok (.putfield 175, 3) := dk_181 0 175 (dk_at dksX5_takes_1 14 rfl rfl)
theorem dX5_takes_40 : decode cX5_takes 40 = .ok (.aload_n 0, 1) := dk_42 (dk_at dksX5_takes_1 17 rfl rfl)
theorem dX5_takes_41 : decode cX5_takes 41 = .ok (.invokevirtual 168, 3) := dk_182 0 168 (dk_at dksX5_takes_1 18 rfl rfl)
theorem dX5_takes_44 : decode cX5_takes 44 = .ok (.iconst 1, 1) := dk_4 (dk_at dksX5_takes_1 21 rfl rfl)
theorem dX5_takes_45 : decode cX5_takes 45 = .ok (.ireturn, 1) := dk_172 (dk_at dksX5_takes_1 22 rfl rfl)
theorem fw_X5_175 : cz_FW "HeldCoatsModel" 175 [(5, 18)] "I" := ⟨"HeldCoatsModel", "got", Or.inl q1936, List.forall_mem_cons.mpr ⟨⟨RX5, TX5, 49, rfl, by decide, rfl, rfl, Or.inl rfl⟩, fun _ h => absurd h List.not_mem_nil⟩, by decide⟩
theorem fp_X5_m_5_18 {nm : String} : cz_FP "HeldCoatsModel" nm [(5, 18)] := List.forall_mem_cons.mpr ⟨⟨RX5, TX5, 49, rfl, Or.inl rfl⟩, fun _ h => absurd h List.not_mem_nil⟩
theorem se_HeldCoatsModel_next___V_HeldCoatsModel : ∀ c ∈ ([5] : List Nat), ∃ q : vw_C, cz_cl[c]? = some q ∧ Cond.selects q.1 (⟨"HeldCoatsModel", "next", "()V"⟩ : MethodName) (⟨"HeldCoatsModel", "next", "()V"⟩ : MethodName) ∈ lw_all := List.forall_mem_cons.mpr ⟨⟨_, cz_cl5, qs47⟩, fun _ h => absurd h List.not_mem_nil⟩
theorem md_X5_next : cz_md yX5_next 4 (ws_ yX5_next cX5_next 4 ((Option.none : Option Jvm.ClassFile.FieldType))) 0 := ⟨cz_ws_code q2079, q123, ⟨by decide, by decide, by decide +kernel⟩, by decide⟩
theorem se_HeldCoatsModel_bad__I_Z_HeldCoatsModel : ∀ c ∈ ([5] : List Nat), ∃ q : vw_C, cz_cl[c]? = some q ∧ Cond.selects q.1 (⟨"HeldCoatsModel", "bad", "(I)Z"⟩ : MethodName) (⟨"HeldCoatsModel", "bad", "(I)Z"⟩ : MethodName) ∈ lw_all := List.forall_mem_cons.mpr ⟨⟨_, cz_cl5, qs51⟩, fun _ h => absurd h List.not_mem_nil⟩
theorem md_X5_bad : cz_md yX5_bad 2 (ws_ yX5_bad cX5_bad 2 ((Option.some Jvm.ClassFile.FieldType.boolean))) 1 := ⟨cz_ws_code q2101, q123, ⟨by decide, by decide, by decide +kernel⟩, by decide⟩
set_option maxHeartbeats 4000000 in
set_option maxRecDepth 100000 in
noncomputable def fn_X5_takes (l0 : Option Nat) (l1 : Int32) (l2 : Int32) (h : cz_H) : cz_Z := cz_getI h l0 [(5, 11)] (fun x1 => (if x1 = 2 then cz_getI h l0 [(5, 14)] (fun x2 => cz_cI (fn_X5_isIn x2 l1 l2 h) (fun x4 h3 => (if x4 = 0 then cz_rc h3 l0 [5] (cz_cI (fn_X5_bad l0 2 h3) (fun x21 h20 => cz_ckz x21 (some (.inl (some (cz_i x21)), h20)))) else cz_getI h3 l0 [(5, 14)] (fun x5 => cz_put h3 l0 [(5, 18)] (cz_i x5) (fun h6 => cz_rc h6 l0 [5] (cz_cV (fn_X5_next l0 h6) (fun h13 => some (.inl (some (cz_i 1)), h13)))))))) else cz_rc h l0 [5] (cz_cI (fn_X5_bad l0 1 h) (fun x29 h28 => cz_ckz x29 (some (.inl (some (cz_i x29)), h28))))))
set_option maxHeartbeats 4000000 in
set_option maxRecDepth 100000 in
theorem wk_X5_takes {K : cz_K} {D : cz_D} {h0 : cz_H} {oh : cz_O × cz_H} {l0 : Option Nat} {l1 : Int32} {l2 : Int32} {h : cz_H} (S : cz_S K D h0 cX5_takes 3 "HeldCoatsModel" ((Option.some Jvm.ClassFile.FieldType.boolean)) "takes" ([])) : cz_T K D 4 h0 oh 3 (fn_X5_takes l0 l1 l2 h) h 0 [(0, cz_r l0), (1, cz_i l1), (2, cz_i l2)] [] := by
  unfold fn_X5_takes
  refine ct_aload_n (k := 0) S dX5_takes_0 rfl rfl ?_
  refine ct_getI S fw_X5_139 dX5_takes_1 (fun x1 => ?_)
  refine ct_iconst (v := 2) S dX5_takes_4 kI_2 ?_
  refine ct_icmp_eq (tgt := 14) S dX5_takes_5 (by decide) ?_ ?_
  · refine ct_aload_n (k := 0) S dX5_takes_14 rfl rfl ?_
    refine ct_getI S fw_X5_149 dX5_takes_15 (fun x2 => ?_)
    refine ct_iload_n (k := 1) S dX5_takes_18 rfl rfl ?_
    refine ct_iload_n (k := 2) S dX5_takes_19 rfl rfl ?_
    refine ct_cI (st := []) (cg_static (av := [cz_i x2, cz_i l1, cz_i l2]) S (fun _ e => mt_X5_isIn e) md_X5_isIn (Or.inl q2122) q2123 (by decide) (Nat.le_of_ble_eq_true rfl) rfl dX5_takes_20) (fun x4 h3 => ?_)
    refine ct_if_ne (tgt := 32) S dX5_takes_23 (by decide) ?_ ?_
    · refine ct_aload_n (k := 0) S dX5_takes_32 rfl rfl ?_
      refine ct_aload_n (k := 0) S dX5_takes_33 rfl rfl ?_
      refine ct_getI S fw_X5_149 dX5_takes_34 (fun x5 => ?_)
      refine ct_put S fw_X5_175 fp_X5_m_5_18 (cz_fits_i pd_I) dX5_takes_37 (fun h6 => ?_)
      refine ct_aload_n (k := 0) S dX5_takes_40 rfl rfl ?_
      refine ct_rc (fun b7 ci8 V9 hb10 hc11 hi12 => ?_)
      refine ct_cV (st := []) (cg_virtual (av := []) S hb10 hc11 hi12 (fun _ e => mt_X5_next e) md_X5_next q2076 q2078 se_HeldCoatsModel_next___V_HeldCoatsModel (by decide) (Nat.le_of_ble_eq_true rfl) rfl dX5_takes_41) (fun h13 => ?_)
      refine ct_iconst (v := 1) S dX5_takes_44 kI_1 ?_
      exact ct_zr (ty := .boolean) S rfl rfl dX5_takes_45
    · refine ct_aload_n (k := 0) S dX5_takes_26 rfl rfl ?_
      refine ct_iconst (v := 2) S dX5_takes_27 kI_2 ?_
      refine ct_rc (fun b14 ci15 V16 hb17 hc18 hi19 => ?_)
      refine ct_cI (st := []) (cg_virtual (av := [cz_i 2]) S hb17 hc18 hi19 (fun _ e => mt_X5_bad e) md_X5_bad q2098 q2100 se_HeldCoatsModel_bad__I_Z_HeldCoatsModel (by decide) (Nat.le_of_ble_eq_true rfl) rfl dX5_takes_28) (fun x21 h20 => ?_)
      refine ct_ckz (fun hx => ?_)
      exact ct_zr (ty := .boolean) S rfl (cz_nz hx) dX5_takes_31
  · refine ct_aload_n (k := 0) S dX5_takes_8 rfl rfl ?_
    refine ct_iconst (v := 1) S dX5_takes_9 kI_1 ?_
    refine ct_rc (fun b22 ci23 V24 hb25 hc26 hi27 => ?_)
    refine ct_cI (st := []) (cg_virtual (av := [cz_i 1]) S hb25 hc26 hi27 (fun _ e => mt_X5_bad e) md_X5_bad q2098 q2100 se_HeldCoatsModel_bad__I_Z_HeldCoatsModel (by decide) (Nat.le_of_ble_eq_true rfl) rfl dX5_takes_10) (fun x29 h28 => ?_)
    refine ct_ckz (fun hx => ?_)
    exact ct_zr (ty := .boolean) S rfl (cz_nz hx) dX5_takes_13
theorem mt_X5_takes {l : Launch} {D : cz_D} {l0 : Option Nat} {l1 : Int32} {l2 : Int32} {h : cz_H} {oh : cz_O × cz_H} (hz : fn_X5_takes l0 l1 l2 h = some oh) : cz_M l D yX5_takes (ws_ yX5_takes cX5_takes 3 ((Option.some Jvm.ClassFile.FieldType.boolean))) 4 [cz_r l0, cz_i l1, cz_i l2] h oh := cz_met (plainFor_of_name (by decide)) (Nat.le_of_ble_eq_true rfl) hz (fun K hl S => wk_X5_takes S)
/-! HeldCoatsModel.looksAt(II)Z -/
def dkwX5_looksAt_1 : List UInt8 := [180, 0, 175, 156, 0, 11, 42, 6, 182, 0, 165, 153, 0, 7, 4, 167, 0, 4, 3, 172]
abbrev dktX5_looksAt_1 : List UInt8 := dkwX5_looksAt_1 ++ []
def dkwX5_looksAt_0 : List UInt8 := [42, 182, 0, 182, 154, 0, 9, 42, 4, 182, 0, 165, 172, 42, 42, 27, 28, 182, 0, 186, 181, 0, 175, 42]
abbrev dktX5_looksAt_0 : List UInt8 := dkwX5_looksAt_0 ++ dktX5_looksAt_1
theorem dksX5_looksAt_0 : cX5_looksAt.data.toList.drop 0 = dktX5_looksAt_0 := by decide +kernel
theorem dksX5_looksAt_1 : cX5_looksAt.data.toList.drop 24 = dktX5_looksAt_1 := dk_seg dksX5_looksAt_0 24 rfl rfl
theorem dX5_looksAt_0 : decode cX5_looksAt 0 = .ok (.aload_n 0, 1) := dk_42 (dk_at dksX5_looksAt_0 0 rfl rfl)
theorem dX5_looksAt_1 : decode cX5_looksAt 1 = .ok (.invokevirtual 182, 3) := dk_182 0 182 (dk_at dksX5_looksAt_0 1 rfl rfl)
theorem dX5_looksAt_4 : decode cX5_looksAt 4 = .ok (.ifCond .ne 9, 3) := dk_154 0 9 (dk_at dksX5_looksAt_0 4 rfl rfl)
theorem dX5_looksAt_7 : decode cX5_looksAt 7 = .ok (.aload_n 0, 1) := dk_42 (dk_at dksX5_looksAt_0 7 rfl rfl)
theorem dX5_looksAt_8 : decode cX5_looksAt 8 = .ok (.iconst 1, 1) := dk_4 (dk_at dksX5_looksAt_0 8 rfl rfl)
theorem dX5_looksAt_9 : decode cX5_looksAt 9 = .ok (.invokevirtual 165, 3) := dk_182 0 165 (dk_at dksX5_looksAt_0 9 rfl rfl)
theorem dX5_looksAt_12 : decode cX5_looksAt 12 = .ok (.ireturn, 1) := dk_172 (dk_at dksX5_looksAt_0 12 rfl rfl)
theorem dX5_looksAt_13 : decode cX5_looksAt 13 = .ok (.aload_n 0, 1) := dk_42 (dk_at dksX5_looksAt_0 13 rfl rfl)
theorem dX5_looksAt_14 : decode cX5_looksAt 14 = .ok (.aload_n 0, 1) := dk_42 (dk_at dksX5_looksAt_0 14 rfl rfl)
theorem dX5_looksAt_15 : decode cX5_looksAt 15 = .ok (.iload_n 1, 1) := dk_27 (dk_at dksX5_looksAt_0 15 rfl rfl)
theorem dX5_looksAt_16 : decode cX5_looksAt 16 = .ok (.iload_n 2, 1) := dk_28 (dk_at dksX5_looksAt_0 16 rfl rfl)
theorem dX5_looksAt_17 : decode cX5_looksAt 17 = .ok (.invokevirtual 186, 3) := dk_182 0 186 (dk_at dksX5_looksAt_0 17 rfl rfl)
theorem dX5_looksAt_20 : decode cX5_looksAt 20 = .ok (.putfield 175, 3) := dk_181 0 175 (dk_at dksX5_looksAt_0 20 rfl rfl)
theorem dX5_looksAt_23 : decode cX5_looksAt 23 = .ok (.aload_n 0, 1) := dk_42 (dk_at dksX5_looksAt_0 23 rfl rfl)
theorem dX5_looksAt_24 : decode cX5_looksAt 24 = .ok (.getfield 175, 3) := dk_180 0 175 (dk_at dksX5_looksAt_1 0 rfl rfl)
theorem dX5_looksAt_27 : decode cX5_looksAt 27 = .ok (.ifCond .ge 11, 3) := dk_156 0 11 (dk_at dksX5_looksAt_1 3 rfl rfl)
theorem dX5_looksAt_30 : decode cX5_looksAt 30 = .ok (.aload_n 0, 1) := dk_42 (dk_at dksX5_looksAt_1 6 rfl rfl)
theorem dX5_looksAt_31 : decode cX5_looksAt 31 = .ok (.iconst 3, 1) := dk_6 (dk_at dksX5_looksAt_1 7 rfl rfl)
theorem dX5_looksAt_32 : decode cX5_looksAt 32 = .ok (.invokevirtual 165, 3) := dk_182 0 165 (dk_at dksX5_looksAt_1 8 rfl rfl)
theorem dX5_looksAt_35 : decode cX5_looksAt 35 = .ok (.ifCond .eq 7, 3) := dk_153 0 7 (dk_at dksX5_looksAt_1 11 rfl rfl)
theorem dX5_looksAt_38 : decode cX5_looksAt 38 = .ok (.iconst 1, 1) := dk_4 (dk_at dksX5_looksAt_1 14 rfl rfl)
theorem dX5_looksAt_39 : decode cX5_looksAt 39 = .ok (.goto 4, 3) := dk_167 0 4 (dk_at dksX5_looksAt_1 15 rfl rfl)
theorem dX5_looksAt_42 : decode cX5_looksAt 42 = .ok (.iconst 0, 1) := dk_3 (dk_at dksX5_looksAt_1 18 rfl rfl)
theorem dX5_looksAt_43 : decode cX5_looksAt 43 = .ok (.ireturn, 1) := dk_172 (dk_at dksX5_looksAt_1 19 rfl rfl)
theorem se_HeldCoatsModel_isName___Z_HeldCoatsModel : ∀ c ∈ ([5] : List Nat), ∃ q : vw_C, cz_cl[c]? = some q ∧ Cond.selects q.1 (⟨"HeldCoatsModel", "isName", "()Z"⟩ : MethodName) (⟨"HeldCoatsModel", "isName", "()Z"⟩ : MethodName) ∈ lw_all := List.forall_mem_cons.mpr ⟨⟨_, cz_cl5, qs53⟩, fun _ h => absurd h List.not_mem_nil⟩
theorem md_X5_isName : cz_md yX5_isName 3 (ws_ yX5_isName cX5_isName 3 ((Option.some Jvm.ClassFile.FieldType.boolean))) 0 := ⟨cz_ws_code q2109, q123, ⟨by decide, by decide, by decide +kernel⟩, by decide⟩
theorem se_HeldCoatsModel_find__II_I_HeldCoatsModel : ∀ c ∈ ([5] : List Nat), ∃ q : vw_C, cz_cl[c]? = some q ∧ Cond.selects q.1 (⟨"HeldCoatsModel", "find", "(II)I"⟩ : MethodName) (⟨"HeldCoatsModel", "find", "(II)I"⟩ : MethodName) ∈ lw_all := List.forall_mem_cons.mpr ⟨⟨_, cz_cl5, qs54⟩, fun _ h => absurd h List.not_mem_nil⟩
theorem md_X5_find : cz_md yX5_find 4 (ws_ yX5_find cX5_find 4 ((Option.some Jvm.ClassFile.FieldType.int))) 2 := ⟨cz_ws_code q2113, q123, ⟨by decide, by decide, by decide +kernel⟩, by decide⟩
set_option maxHeartbeats 4000000 in
set_option maxRecDepth 100000 in
noncomputable def fn_X5_looksAt (l0 : Option Nat) (l1 : Int32) (l2 : Int32) (h : cz_H) : cz_Z := cz_rc h l0 [5] (cz_cI (fn_X5_isName l0 h) (fun x8 h7 => (if x8 = 0 then cz_rc h7 l0 [5] (cz_cI (fn_X5_bad l0 1 h7) (fun x34 h33 => cz_ckz x34 (some (.inl (some (cz_i x34)), h33)))) else cz_rc h7 l0 [5] (cz_cI (fn_X5_find l0 l1 l2 h7) (fun x16 h15 => cz_put h15 l0 [(5, 18)] (cz_i x16) (fun h17 => cz_getI h17 l0 [(5, 18)] (fun x18 => (if 0 ≤ x18 then some (.inl (some (cz_i 1)), h17) else cz_rc h17 l0 [5] (cz_cI (fn_X5_bad l0 3 h17) (fun x26 h25 => (if x26 = 0 then some (.inl (some (cz_i 0)), h25) else some (.inl (some (cz_i 1)), h25))))))))))))
set_option maxHeartbeats 4000000 in
set_option maxRecDepth 100000 in
theorem wk_X5_looksAt {K : cz_K} {D : cz_D} {h0 : cz_H} {oh : cz_O × cz_H} {l0 : Option Nat} {l1 : Int32} {l2 : Int32} {h : cz_H} (S : cz_S K D h0 cX5_looksAt 3 "HeldCoatsModel" ((Option.some Jvm.ClassFile.FieldType.boolean)) "looksAt" ([])) : cz_T K D 3 h0 oh 3 (fn_X5_looksAt l0 l1 l2 h) h 0 [(0, cz_r l0), (1, cz_i l1), (2, cz_i l2)] [] := by
  unfold fn_X5_looksAt
  refine ct_aload_n (k := 0) S dX5_looksAt_0 rfl rfl ?_
  refine ct_rc (fun b1 ci2 V3 hb4 hc5 hi6 => ?_)
  refine ct_cI (st := []) (cg_virtual (av := []) S hb4 hc5 hi6 (fun _ e => mt_X5_isName e) md_X5_isName q2106 q2108 se_HeldCoatsModel_isName___Z_HeldCoatsModel (by decide) (Nat.le_of_ble_eq_true rfl) rfl dX5_looksAt_1) (fun x8 h7 => ?_)
  refine ct_if_ne (tgt := 13) S dX5_looksAt_4 (by decide) ?_ ?_
  · refine ct_aload_n (k := 0) S dX5_looksAt_13 rfl rfl ?_
    refine ct_aload_n (k := 0) S dX5_looksAt_14 rfl rfl ?_
    refine ct_iload_n (k := 1) S dX5_looksAt_15 rfl rfl ?_
    refine ct_iload_n (k := 2) S dX5_looksAt_16 rfl rfl ?_
    refine ct_rc (fun b9 ci10 V11 hb12 hc13 hi14 => ?_)
    refine ct_cI (st := [cz_r l0]) (cg_virtual (av := [cz_i l1, cz_i l2]) S hb12 hc13 hi14 (fun _ e => mt_X5_find e) md_X5_find q2110 q2112 se_HeldCoatsModel_find__II_I_HeldCoatsModel (by decide) (Nat.le_of_ble_eq_true rfl) rfl dX5_looksAt_17) (fun x16 h15 => ?_)
    refine ct_put S fw_X5_175 fp_X5_m_5_18 (cz_fits_i pd_I) dX5_looksAt_20 (fun h17 => ?_)
    refine ct_aload_n (k := 0) S dX5_looksAt_23 rfl rfl ?_
    refine ct_getI S fw_X5_175 dX5_looksAt_24 (fun x18 => ?_)
    refine ct_if_ge (tgt := 38) S dX5_looksAt_27 (by decide) ?_ ?_
    · refine ct_iconst (v := 1) S dX5_looksAt_38 kI_1 ?_
      refine ct_goto (tgt := 43) S dX5_looksAt_39 (by decide) ?_
      exact ct_zr (ty := .boolean) S rfl rfl dX5_looksAt_43
    · refine ct_aload_n (k := 0) S dX5_looksAt_30 rfl rfl ?_
      refine ct_iconst (v := 3) S dX5_looksAt_31 kI_3 ?_
      refine ct_rc (fun b19 ci20 V21 hb22 hc23 hi24 => ?_)
      refine ct_cI (st := []) (cg_virtual (av := [cz_i 3]) S hb22 hc23 hi24 (fun _ e => mt_X5_bad e) md_X5_bad q2098 q2100 se_HeldCoatsModel_bad__I_Z_HeldCoatsModel (by decide) (Nat.le_of_ble_eq_true rfl) rfl dX5_looksAt_32) (fun x26 h25 => ?_)
      refine ct_if_eq (tgt := 42) S dX5_looksAt_35 (by decide) ?_ ?_
      · refine ct_iconst (v := 0) S dX5_looksAt_42 kI_0 ?_
        exact ct_zr (ty := .boolean) S rfl rfl dX5_looksAt_43
      · refine ct_iconst (v := 1) S dX5_looksAt_38 kI_1 ?_
        refine ct_goto (tgt := 43) S dX5_looksAt_39 (by decide) ?_
        exact ct_zr (ty := .boolean) S rfl rfl dX5_looksAt_43
  · refine ct_aload_n (k := 0) S dX5_looksAt_7 rfl rfl ?_
    refine ct_iconst (v := 1) S dX5_looksAt_8 kI_1 ?_
    refine ct_rc (fun b27 ci28 V29 hb30 hc31 hi32 => ?_)
    refine ct_cI (st := []) (cg_virtual (av := [cz_i 1]) S hb30 hc31 hi32 (fun _ e => mt_X5_bad e) md_X5_bad q2098 q2100 se_HeldCoatsModel_bad__I_Z_HeldCoatsModel (by decide) (Nat.le_of_ble_eq_true rfl) rfl dX5_looksAt_9) (fun x34 h33 => ?_)
    refine ct_ckz (fun hx => ?_)
    exact ct_zr (ty := .boolean) S rfl (cz_nz hx) dX5_looksAt_12
theorem mt_X5_looksAt {l : Launch} {D : cz_D} {l0 : Option Nat} {l1 : Int32} {l2 : Int32} {h : cz_H} {oh : cz_O × cz_H} (hz : fn_X5_looksAt l0 l1 l2 h = some oh) : cz_M l D yX5_looksAt (ws_ yX5_looksAt cX5_looksAt 3 ((Option.some Jvm.ClassFile.FieldType.boolean))) 3 [cz_r l0, cz_i l1, cz_i l2] h oh := cz_met (plainFor_of_name (by decide)) (Nat.le_of_ble_eq_true rfl) hz (fun K hl S => wk_X5_looksAt S)
/-! HeldCoatsModel.takesName(II)Z -/
def dkwX5_takesName_0 : List UInt8 := [42, 27, 28, 182, 0, 190, 154, 0, 5, 3, 172, 42, 182, 0, 168, 4, 172]
abbrev dktX5_takesName_0 : List UInt8 := dkwX5_takesName_0 ++ []
theorem dksX5_takesName_0 : cX5_takesName.data.toList.drop 0 = dktX5_takesName_0 := by decide +kernel
theorem dX5_takesName_0 : decode cX5_takesName 0 = .ok (.aload_n 0, 1) := dk_42 (dk_at dksX5_takesName_0 0 rfl rfl)
theorem dX5_takesName_1 : decode cX5_takesName 1 = .ok (.iload_n 1, 1) := dk_27 (dk_at dksX5_takesName_0 1 rfl rfl)
theorem dX5_takesName_2 : decode cX5_takesName 2 = .ok (.iload_n 2, 1) := dk_28 (dk_at dksX5_takesName_0 2 rfl rfl)
theorem dX5_takesName_3 : decode cX5_takesName 3 = .ok (.invokevirtual 190, 3) := dk_182 0 190 (dk_at dksX5_takesName_0 3 rfl rfl)
theorem dX5_takesName_6 : decode cX5_takesName 6 = .ok (.ifCond .ne 5, 3) := dk_154 0 5 (dk_at dksX5_takesName_0 6 rfl rfl)
theorem dX5_takesName_9 : decode cX5_takesName 9 = .ok (.iconst 0, 1) := dk_3 (dk_at dksX5_takesName_0 9 rfl rfl)
theorem dX5_takesName_10 : decode cX5_takesName 10 = .ok (.ireturn, 1) := dk_172 (dk_at dksX5_takesName_0 10 rfl rfl)
theorem dX5_takesName_11 : decode cX5_takesName 11 = .ok (.aload_n 0, 1) := dk_42 (dk_at dksX5_takesName_0 11 rfl rfl)
theorem dX5_takesName_12 : decode cX5_takesName 12 = .ok (.invokevirtual 168, 3) := dk_182 0 168 (dk_at dksX5_takesName_0 12 rfl rfl)
theorem dX5_takesName_15 : decode cX5_takesName 15 = .ok (.iconst 1, 1) := dk_4 (dk_at dksX5_takesName_0 15 rfl rfl)
theorem dX5_takesName_16 : decode cX5_takesName 16 = .ok (.ireturn, 1) := dk_172 (dk_at dksX5_takesName_0 16 rfl rfl)
theorem se_HeldCoatsModel_looksAt__II_Z_HeldCoatsModel : ∀ c ∈ ([5] : List Nat), ∃ q : vw_C, cz_cl[c]? = some q ∧ Cond.selects q.1 (⟨"HeldCoatsModel", "looksAt", "(II)Z"⟩ : MethodName) (⟨"HeldCoatsModel", "looksAt", "(II)Z"⟩ : MethodName) ∈ lw_all := List.forall_mem_cons.mpr ⟨⟨_, cz_cl5, qs58⟩, fun _ h => absurd h List.not_mem_nil⟩
theorem md_X5_looksAt : cz_md yX5_looksAt 3 (ws_ yX5_looksAt cX5_looksAt 3 ((Option.some Jvm.ClassFile.FieldType.boolean))) 2 := ⟨cz_ws_code q2132, q123, ⟨by decide, by decide, by decide +kernel⟩, by decide⟩
set_option maxHeartbeats 4000000 in
set_option maxRecDepth 100000 in
noncomputable def fn_X5_takesName (l0 : Option Nat) (l1 : Int32) (l2 : Int32) (h : cz_H) : cz_Z := cz_rc h l0 [5] (cz_cI (fn_X5_looksAt l0 l1 l2 h) (fun x8 h7 => (if x8 = 0 then some (.inl (some (cz_i 0)), h7) else cz_rc h7 l0 [5] (cz_cV (fn_X5_next l0 h7) (fun h15 => some (.inl (some (cz_i 1)), h15))))))
set_option maxHeartbeats 4000000 in
set_option maxRecDepth 100000 in
theorem wk_X5_takesName {K : cz_K} {D : cz_D} {h0 : cz_H} {oh : cz_O × cz_H} {l0 : Option Nat} {l1 : Int32} {l2 : Int32} {h : cz_H} (S : cz_S K D h0 cX5_takesName 3 "HeldCoatsModel" ((Option.some Jvm.ClassFile.FieldType.boolean)) "takesName" ([])) : cz_T K D 4 h0 oh 3 (fn_X5_takesName l0 l1 l2 h) h 0 [(0, cz_r l0), (1, cz_i l1), (2, cz_i l2)] [] := by
  unfold fn_X5_takesName
  refine ct_aload_n (k := 0) S dX5_takesName_0 rfl rfl ?_
  refine ct_iload_n (k := 1) S dX5_takesName_1 rfl rfl ?_
  refine ct_iload_n (k := 2) S dX5_takesName_2 rfl rfl ?_
  refine ct_rc (fun b1 ci2 V3 hb4 hc5 hi6 => ?_)
  refine ct_cI (st := []) (cg_virtual (av := [cz_i l1, cz_i l2]) S hb4 hc5 hi6 (fun _ e => mt_X5_looksAt e) md_X5_looksAt q2129 q2131 se_HeldCoatsModel_looksAt__II_Z_HeldCoatsModel (by decide) (Nat.le_of_ble_eq_true rfl) rfl dX5_takesName_3) (fun x8 h7 => ?_)
  refine ct_if_ne (tgt := 11) S dX5_takesName_6 (by decide) ?_ ?_
  · refine ct_aload_n (k := 0) S dX5_takesName_11 rfl rfl ?_
    refine ct_rc (fun b9 ci10 V11 hb12 hc13 hi14 => ?_)
    refine ct_cV (st := []) (cg_virtual (av := []) S hb12 hc13 hi14 (fun _ e => mt_X5_next e) md_X5_next q2076 q2078 se_HeldCoatsModel_next___V_HeldCoatsModel (by decide) (Nat.le_of_ble_eq_true rfl) rfl dX5_takesName_12) (fun h15 => ?_)
    refine ct_iconst (v := 1) S dX5_takesName_15 kI_1 ?_
    exact ct_zr (ty := .boolean) S rfl rfl dX5_takesName_16
  · refine ct_iconst (v := 0) S dX5_takesName_9 kI_0 ?_
    exact ct_zr (ty := .boolean) S rfl rfl dX5_takesName_10
theorem mt_X5_takesName {l : Launch} {D : cz_D} {l0 : Option Nat} {l1 : Int32} {l2 : Int32} {h : cz_H} {oh : cz_O × cz_H} (hz : fn_X5_takesName l0 l1 l2 h = some oh) : cz_M l D yX5_takesName (ws_ yX5_takesName cX5_takesName 3 ((Option.some Jvm.ClassFile.FieldType.boolean))) 4 [cz_r l0, cz_i l1, cz_i l2] h oh := cz_met (plainFor_of_name (by decide)) (Nat.le_of_ble_eq_true rfl) hz (fun K hl S => wk_X5_takesName S)
/-! HeldCoatsModel.bookLine()Z -/
def dkwX5_bookLine_14 : List UInt8 := [180, 0, 40, 27, 5, 96, 42, 180, 0, 175, 79, 4, 172]
abbrev dktX5_bookLine_14 : List UInt8 := dkwX5_bookLine_14 ++ []
def dkwX5_bookLine_13 : List UInt8 := [180, 0, 33, 21, 4, 154, 0, 7, 3, 167, 0, 4, 4, 46, 182, 0, 209, 154, 0, 5, 3, 172, 42]
abbrev dktX5_bookLine_13 : List UInt8 := dkwX5_bookLine_13 ++ dktX5_bookLine_14
def dkwX5_bookLine_12 : List UInt8 := [182, 0, 168, 21, 4, 6, 160, 0, 5, 4, 172, 42, 21, 4, 154, 0, 7, 3, 167, 0, 5, 16, 8, 42]
abbrev dktX5_bookLine_12 : List UInt8 := dkwX5_bookLine_12 ++ dktX5_bookLine_13
def dkwX5_bookLine_11 : List UInt8 := [2, 54, 4, 21, 4, 156, 0, 9, 42, 4, 182, 0, 165, 172, 42, 180, 0, 40, 27, 21, 4, 79, 42]
abbrev dktX5_bookLine_11 : List UInt8 := dkwX5_bookLine_11 ++ dktX5_bookLine_12
def dkwX5_bookLine_10 : List UInt8 := [182, 0, 202, 153, 0, 7, 5, 167, 0, 18, 42, 20, 0, 98, 182, 0, 202, 153, 0, 7, 6, 167, 0, 4]
abbrev dktX5_bookLine_10 : List UInt8 := dkwX5_bookLine_10 ++ dktX5_bookLine_11
def dkwX5_bookLine_9 : List UInt8 := [180, 0, 175, 79, 4, 172, 42, 20, 0, 94, 182, 0, 202, 153, 0, 7, 3, 167, 0, 32, 42, 20, 0, 96]
abbrev dktX5_bookLine_9 : List UInt8 := dkwX5_bookLine_9 ++ dktX5_bookLine_10
def dkwX5_bookLine_8 : List UInt8 := [16, 14, 42, 180, 0, 33, 5, 46, 182, 0, 209, 154, 0, 5, 3, 172, 42, 180, 0, 40, 27, 5, 96, 42]
abbrev dktX5_bookLine_8 : List UInt8 := dkwX5_bookLine_8 ++ dktX5_bookLine_9
def dkwX5_bookLine_7 : List UInt8 := [182, 0, 202, 154, 0, 9, 42, 4, 182, 0, 165, 172, 42, 182, 0, 168, 42, 180, 0, 40, 27, 4, 79, 42]
abbrev dktX5_bookLine_7 : List UInt8 := dkwX5_bookLine_7 ++ dktX5_bookLine_8
def dkwX5_bookLine_6 : List UInt8 := [180, 0, 40, 27, 4, 96, 28, 156, 0, 7, 29, 167, 0, 4, 28, 79, 28, 156, 0, 61, 42, 20, 0, 100]
abbrev dktX5_bookLine_6 : List UInt8 := dkwX5_bookLine_6 ++ dktX5_bookLine_7
def dkwX5_bookLine_5 : List UInt8 := [182, 0, 165, 172, 42, 180, 1, 141, 16, 40, 160, 0, 9, 42, 7, 182, 0, 165, 172, 42, 182, 0, 168, 42]
abbrev dktX5_bookLine_5 : List UInt8 := dkwX5_bookLine_5 ++ dktX5_bookLine_6
def dkwX5_bookLine_4 : List UInt8 := [61, 42, 16, 8, 42, 180, 0, 33, 4, 46, 182, 0, 186, 62, 28, 156, 0, 13, 29, 156, 0, 9, 42, 6]
abbrev dktX5_bookLine_4 : List UInt8 := dkwX5_bookLine_4 ++ dktX5_bookLine_5
def dkwX5_bookLine_3 : List UInt8 := [182, 0, 182, 154, 0, 9, 42, 4, 182, 0, 165, 172, 42, 16, 14, 42, 180, 0, 33, 5, 46, 182, 0, 186]
abbrev dktX5_bookLine_3 : List UInt8 := dkwX5_bookLine_3 ++ dktX5_bookLine_4
def dkwX5_bookLine_2 : List UInt8 := [182, 0, 178, 154, 0, 5, 3, 172, 42, 180, 0, 40, 27, 4, 96, 42, 180, 0, 175, 79, 4, 172, 42]
abbrev dktX5_bookLine_2 : List UInt8 := dkwX5_bookLine_2 ++ dktX5_bookLine_3
def dkwX5_bookLine_1 : List UInt8 := [160, 0, 9, 42, 7, 182, 0, 165, 172, 42, 182, 0, 168, 42, 180, 0, 40, 27, 7, 79, 42, 4, 16, 60]
abbrev dktX5_bookLine_1 : List UInt8 := dkwX5_bookLine_1 ++ dktX5_bookLine_2
def dkwX5_bookLine_0 : List UInt8 := [6, 42, 180, 1, 141, 104, 60, 42, 20, 0, 102, 182, 0, 202, 153, 0, 55, 42, 180, 1, 141, 16, 40]
abbrev dktX5_bookLine_0 : List UInt8 := dkwX5_bookLine_0 ++ dktX5_bookLine_1
theorem dksX5_bookLine_0 : cX5_bookLine.data.toList.drop 0 = dktX5_bookLine_0 := by decide +kernel
theorem dksX5_bookLine_1 : cX5_bookLine.data.toList.drop 23 = dktX5_bookLine_1 := dk_seg dksX5_bookLine_0 23 rfl rfl
theorem dksX5_bookLine_2 : cX5_bookLine.data.toList.drop 47 = dktX5_bookLine_2 := dk_seg dksX5_bookLine_1 24 rfl rfl
theorem dksX5_bookLine_3 : cX5_bookLine.data.toList.drop 70 = dktX5_bookLine_3 := dk_seg dksX5_bookLine_2 23 rfl rfl
theorem dksX5_bookLine_4 : cX5_bookLine.data.toList.drop 94 = dktX5_bookLine_4 := dk_seg dksX5_bookLine_3 24 rfl rfl
theorem dksX5_bookLine_5 : cX5_bookLine.data.toList.drop 118 = dktX5_bookLine_5 := dk_seg dksX5_bookLine_4 24 rfl rfl
theorem dksX5_bookLine_6 : cX5_bookLine.data.toList.drop 142 = dktX5_bookLine_6 := dk_seg dksX5_bookLine_5 24 rfl rfl
theorem dksX5_bookLine_7 : cX5_bookLine.data.toList.drop 166 = dktX5_bookLine_7 := dk_seg dksX5_bookLine_6 24 rfl rfl
theorem dksX5_bookLine_8 : cX5_bookLine.data.toList.drop 190 = dktX5_bookLine_8 := dk_seg dksX5_bookLine_7 24 rfl rfl
theorem dksX5_bookLine_9 : cX5_bookLine.data.toList.drop 214 = dktX5_bookLine_9 := dk_seg dksX5_bookLine_8 24 rfl rfl
theorem dksX5_bookLine_10 : cX5_bookLine.data.toList.drop 238 = dktX5_bookLine_10 := dk_seg dksX5_bookLine_9 24 rfl rfl
theorem dksX5_bookLine_11 : cX5_bookLine.data.toList.drop 262 = dktX5_bookLine_11 := dk_seg dksX5_bookLine_10 24 rfl rfl
theorem dksX5_bookLine_12 : cX5_bookLine.data.toList.drop 285 = dktX5_bookLine_12 := dk_seg dksX5_bookLine_11 23 rfl rfl
theorem dksX5_bookLine_13 : cX5_bookLine.data.toList.drop 309 = dktX5_bookLine_13 := dk_seg dksX5_bookLine_12 24 rfl rfl
theorem dksX5_bookLine_14 : cX5_bookLine.data.toList.drop 332 = dktX5_bookLine_14 := dk_seg dksX5_bookLine_13 23 rfl rfl
theorem dX5_bookLine_0 : decode cX5_bookLine 0 = .ok (.iconst 3, 1) := dk_6 (dk_at dksX5_bookLine_0 0 rfl rfl)
theorem dX5_bookLine_1 : decode cX5_bookLine 1 = .ok (.aload_n 0, 1) := dk_42 (dk_at dksX5_bookLine_0 1 rfl rfl)
theorem dX5_bookLine_2 : decode cX5_bookLine 2 = .ok (.getfield 397, 3) := dk_180 1 141 (dk_at dksX5_bookLine_0 2 rfl rfl)
theorem dX5_bookLine_5 : decode cX5_bookLine 5 = .ok (.imul, 1) := dk_104 (dk_at dksX5_bookLine_0 5 rfl rfl)
theorem dX5_bookLine_6 : decode cX5_bookLine 6 = .ok (.istore_n 1, 1) := dk_60 (dk_at dksX5_bookLine_0 6 rfl rfl)
theorem dX5_bookLine_7 : decode cX5_bookLine 7 = .ok (.aload_n 0, 1) := dk_42 (dk_at dksX5_bookLine_0 7 rfl rfl)
theorem dX5_bookLine_8 : decode cX5_bookLine 8 = .ok (.ldc2_w 102, 3) := dk_20 0 102 (dk_at dksX5_bookLine_0 8 rfl rfl)
theorem dX5_bookLine_11 : decode cX5_bookLine 11 = .ok (.invokevirtual 202, 3) := dk_182 0 202 (dk_at dksX5_bookLine_0 11 rfl rfl)
theorem dX5_bookLine_14 : decode cX5_bookLine 14 = .ok (.ifCond .eq 55, 3) := dk_153 0 55 (dk_at dksX5_bookLine_0 14 rfl rfl)
theorem dX5_bookLine_17 : decode cX5_bookLine 17 = .ok (.aload_n 0, 1) := dk_42 (dk_at dksX5_bookLine_0 17 rfl rfl)
theorem dX5_bookLine_18 : decode cX5_bookLine 18 = .ok (.getfield 397, 3) := dk_180 1 141 (dk_at dksX5_bookLine_0 18 rfl rfl)
theorem dX5_bookLine_21 : decode cX5_bookLine 21 = .ok (.bipush 40, 2) := dk_16 40 (dk_at dksX5_bookLine_0 21 rfl rfl)
theorem dX5_bookLine_23 : decode cX5_bookLine 23 = .ok (.if_icmp .ne 9, 3) := dk_160 0 9 (dk_at dksX5_bookLine_1 0 rfl rfl)
theorem dX5_bookLine_26 : decode cX5_bookLine 26 = .ok (.aload_n 0, 1) := dk_42 (dk_at dksX5_bookLine_1 3 rfl rfl)
theorem dX5_bookLine_27 : decode cX5_bookLine 27 = .ok (.iconst 4, 1) := dk_7 (dk_at dksX5_bookLine_1 4 rfl rfl)
theorem dX5_bookLine_28 : decode cX5_bookLine 28 = .ok (.invokevirtual 165, 3) := dk_182 0 165 (dk_at dksX5_bookLine_1 5 rfl rfl)
theorem dX5_bookLine_31 : decode cX5_bookLine 31 = .ok (.ireturn, 1) := dk_172 (dk_at dksX5_bookLine_1 8 rfl rfl)
theorem dX5_bookLine_32 : decode cX5_bookLine 32 = .ok (.aload_n 0, 1) := dk_42 (dk_at dksX5_bookLine_1 9 rfl rfl)
theorem dX5_bookLine_33 : decode cX5_bookLine 33 = .ok (.invokevirtual 168, 3) := dk_182 0 168 (dk_at dksX5_bookLine_1 10 rfl rfl)
theorem dX5_bookLine_36 : decode cX5_bookLine 36 = .ok (.aload_n 0, 1) := dk_42 (dk_at dksX5_bookLine_1 13 rfl rfl)
theorem dX5_bookLine_37 : decode cX5_bookLine 37 = .ok (.getfield 40, 3) := dk_180 0 40 (dk_at dksX5_bookLine_1 14 rfl rfl)
theorem dX5_bookLine_40 : decode cX5_bookLine 40 = .ok (.iload_n 1, 1) := dk_27 (dk_at dksX5_bookLine_1 17 rfl rfl)
theorem dX5_bookLine_41 : decode cX5_bookLine 41 = .ok (.iconst 4, 1) := dk_7 (dk_at dksX5_bookLine_1 18 rfl rfl)
theorem dX5_bookLine_42 : decode cX5_bookLine 42 = .ok (.iastore, 1) := dk_79 (dk_at dksX5_bookLine_1 19 rfl rfl)
theorem dX5_bookLine_43 : decode cX5_bookLine 43 = .ok (.aload_n 0, 1) := dk_42 (dk_at dksX5_bookLine_1 20 rfl rfl)
theorem dX5_bookLine_44 : decode cX5_bookLine 44 = .ok (.iconst 1, 1) := dk_4 (dk_at dksX5_bookLine_1 21 rfl rfl)
theorem dX5_bookLine_45 : decode cX5_bookLine 45 = .ok (.bipush 60, 2) := dk_16 60 (dk_at dksX5_bookLine_1 22 rfl rfl)
theorem dX5_bookLine_47 : decode cX5_bookLine 47 = .ok (.invokevirtual 178, 3) := dk_182 0 178 (dk_at dksX5_bookLine_2 0 rfl rfl)
theorem dX5_bookLine_50 : decode cX5_bookLine 50 = .ok (.ifCond .ne 5, 3) := dk_154 0 5 (dk_at dksX5_bookLine_2 3 rfl rfl)
theorem dX5_bookLine_53 : decode cX5_bookLine 53 = .ok (.iconst 0, 1) := dk_3 (dk_at dksX5_bookLine_2 6 rfl rfl)
theorem dX5_bookLine_54 : decode cX5_bookLine 54 = .ok (.ireturn, 1) := dk_172 (dk_at dksX5_bookLine_2 7 rfl rfl)
theorem dX5_bookLine_55 : decode cX5_bookLine 55 = .ok (.aload_n 0, 1) := dk_42 (dk_at dksX5_bookLine_2 8 rfl rfl)
theorem dX5_bookLine_56 : decode cX5_bookLine 56 = .ok (.getfield 40, 3) := dk_180 0 40 (dk_at dksX5_bookLine_2 9 rfl rfl)
theorem dX5_bookLine_59 : decode cX5_bookLine 59 = .ok (.iload_n 1, 1) := dk_27 (dk_at dksX5_bookLine_2 12 rfl rfl)
theorem dX5_bookLine_60 : decode cX5_bookLine 60 = .ok (.iconst 1, 1) := dk_4 (dk_at dksX5_bookLine_2 13 rfl rfl)
theorem dX5_bookLine_61 : decode cX5_bookLine 61 = .ok (.iadd, 1) := dk_96 (dk_at dksX5_bookLine_2 14 rfl rfl)
theorem dX5_bookLine_62 : decode cX5_bookLine 62 = .ok (.aload_n 0, 1) := dk_42 (dk_at dksX5_bookLine_2 15 rfl rfl)
theorem dX5_bookLine_63 : decode cX5_bookLine 63 = .ok (.getfield 175, 3) := dk_180 0 175 (dk_at dksX5_bookLine_2 16 rfl rfl)
theorem dX5_bookLine_66 : decode cX5_bookLine 66 = .ok (.iastore, 1) := dk_79 (dk_at dksX5_bookLine_2 19 rfl rfl)
theorem dX5_bookLine_67 : decode cX5_bookLine 67 = .ok (.iconst 1, 1) := dk_4 (dk_at dksX5_bookLine_2 20 rfl rfl)
theorem dX5_bookLine_68 : decode cX5_bookLine 68 = .ok (.ireturn, 1) := dk_172 (dk_at dksX5_bookLine_2 21 rfl rfl)
theorem dX5_bookLine_69 : decode cX5_bookLine 69 = .ok (.aload_n 0, 1) := dk_42 (dk_at dksX5_bookLine_2 22 rfl rfl)
theorem dX5_bookLine_70 : decode cX5_bookLine 70 = .ok (.invokevirtual 182, 3) := dk_182 0 182 (dk_at dksX5_bookLine_3 0 rfl rfl)
theorem dX5_bookLine_73 : decode cX5_bookLine 73 = .ok (.ifCond .ne 9, 3) := dk_154 0 9 (dk_at dksX5_bookLine_3 3 rfl rfl)
theorem dX5_bookLine_76 : decode cX5_bookLine 76 = .ok (.aload_n 0, 1) := dk_42 (dk_at dksX5_bookLine_3 6 rfl rfl)
theorem dX5_bookLine_77 : decode cX5_bookLine 77 = .ok (.iconst 1, 1) := dk_4 (dk_at dksX5_bookLine_3 7 rfl rfl)
theorem dX5_bookLine_78 : decode cX5_bookLine 78 = .ok (.invokevirtual 165, 3) := dk_182 0 165 (dk_at dksX5_bookLine_3 8 rfl rfl)
theorem dX5_bookLine_81 : decode cX5_bookLine 81 = .ok (.ireturn, 1) := dk_172 (dk_at dksX5_bookLine_3 11 rfl rfl)
theorem dX5_bookLine_82 : decode cX5_bookLine 82 = .ok (.aload_n 0, 1) := dk_42 (dk_at dksX5_bookLine_3 12 rfl rfl)
theorem dX5_bookLine_83 : decode cX5_bookLine 83 = .ok (.bipush 14, 2) := dk_16 14 (dk_at dksX5_bookLine_3 13 rfl rfl)
theorem dX5_bookLine_85 : decode cX5_bookLine 85 = .ok (.aload_n 0, 1) := dk_42 (dk_at dksX5_bookLine_3 15 rfl rfl)
theorem dX5_bookLine_86 : decode cX5_bookLine 86 = .ok (.getfield 33, 3) := dk_180 0 33 (dk_at dksX5_bookLine_3 16 rfl rfl)
theorem dX5_bookLine_89 : decode cX5_bookLine 89 = .ok (.iconst 2, 1) := dk_5 (dk_at dksX5_bookLine_3 19 rfl rfl)
theorem dX5_bookLine_90 : decode cX5_bookLine 90 = .ok (.iaload, 1) := dk_46 (dk_at dksX5_bookLine_3 20 rfl rfl)
theorem dX5_bookLine_91 : decode cX5_bookLine 91 = .ok (.invokevirtual 186, 3) := dk_182 0 186 (dk_at dksX5_bookLine_3 21 rfl rfl)
theorem dX5_bookLine_94 : decode cX5_bookLine 94 = .ok (.istore_n 2, 1) := dk_61 (dk_at dksX5_bookLine_4 0 rfl rfl)
theorem dX5_bookLine_95 : decode cX5_bookLine 95 = .ok (.aload_n 0, 1) := dk_42 (dk_at dksX5_bookLine_4 1 rfl rfl)
theorem dX5_bookLine_96 : decode cX5_bookLine 96 = .ok (.bipush 8, 2) := dk_16 8 (dk_at dksX5_bookLine_4 2 rfl rfl)
theorem dX5_bookLine_98 : decode cX5_bookLine 98 = .ok (.aload_n 0, 1) := dk_42 (dk_at dksX5_bookLine_4 4 rfl rfl)
theorem dX5_bookLine_99 : decode cX5_bookLine 99 = .ok (.getfield 33, 3) := dk_180 0 33 (dk_at dksX5_bookLine_4 5 rfl rfl)
theorem dX5_bookLine_102 : decode cX5_bookLine 102 = .ok (.iconst 1, 1) := dk_4 (dk_at dksX5_bookLine_4 8 rfl rfl)
theorem dX5_bookLine_103 : decode cX5_bookLine 103 = .ok (.iaload, 1) := dk_46 (dk_at dksX5_bookLine_4 9 rfl rfl)
theorem dX5_bookLine_104 : decode cX5_bookLine 104 = .ok (.invokevirtual 186, 3) := dk_182 0 186 (dk_at dksX5_bookLine_4 10 rfl rfl)
theorem dX5_bookLine_107 : decode cX5_bookLine 107 = .ok (.istore_n 3, 1) := dk_62 (dk_at dksX5_bookLine_4 13 rfl rfl)
theorem dX5_bookLine_108 : decode cX5_bookLine 108 = .ok (.iload_n 2, 1) := dk_28 (dk_at dksX5_bookLine_4 14 rfl rfl)
theorem dX5_bookLine_109 : decode cX5_bookLine 109 = .ok (.ifCond .ge 13, 3) := dk_156 0 13 (dk_at dksX5_bookLine_4 15 rfl rfl)
theorem dX5_bookLine_112 : decode cX5_bookLine 112 = .ok (.iload_n 3, 1) := dk_29 (dk_at dksX5_bookLine_4 18 rfl rfl)
theorem dX5_bookLine_113 : decode cX5_bookLine 113 = .ok (.ifCond .ge 9, 3) := dk_156 0 9 (dk_at dksX5_bookLine_4 19 rfl rfl)
theorem dX5_bookLine_116 : decode cX5_bookLine 116 = .ok (.aload_n 0, 1) := dk_42 (dk_at dksX5_bookLine_4 22 rfl rfl)
theorem dX5_bookLine_117 : decode cX5_bookLine 117 = .ok (.iconst 3, 1) := dk_6 (dk_at dksX5_bookLine_4 23 rfl rfl)
theorem dX5_bookLine_118 : decode cX5_bookLine 118 = .ok (.invokevirtual 165, 3) := dk_182 0 165 (dk_at dksX5_bookLine_5 0 rfl rfl)
theorem dX5_bookLine_121 : decode cX5_bookLine 121 = .ok (.ireturn, 1) := dk_172 (dk_at dksX5_bookLine_5 3 rfl rfl)
theorem dX5_bookLine_122 : decode cX5_bookLine 122 = .ok (.aload_n 0, 1) := dk_42 (dk_at dksX5_bookLine_5 4 rfl rfl)
theorem dX5_bookLine_123 : decode cX5_bookLine 123 = .ok (.getfield 397, 3) := dk_180 1 141 (dk_at dksX5_bookLine_5 5 rfl rfl)
theorem dX5_bookLine_126 : decode cX5_bookLine 126 = .ok (.bipush 40, 2) := dk_16 40 (dk_at dksX5_bookLine_5 8 rfl rfl)
theorem dX5_bookLine_128 : decode cX5_bookLine 128 = .ok (.if_icmp .ne 9, 3) := dk_160 0 9 (dk_at dksX5_bookLine_5 10 rfl rfl)
theorem dX5_bookLine_131 : decode cX5_bookLine 131 = .ok (.aload_n 0, 1) := dk_42 (dk_at dksX5_bookLine_5 13 rfl rfl)
theorem dX5_bookLine_132 : decode cX5_bookLine 132 = .ok (.iconst 4, 1) := dk_7 (dk_at dksX5_bookLine_5 14 rfl rfl)
theorem dX5_bookLine_133 : decode cX5_bookLine 133 = .ok (.invokevirtual 165, 3) := dk_182 0 165 (dk_at dksX5_bookLine_5 15 rfl rfl)
theorem dX5_bookLine_136 : decode cX5_bookLine 136 = .ok (.ireturn, 1) := dk_172 (dk_at dksX5_bookLine_5 18 rfl rfl)
theorem dX5_bookLine_137 : decode cX5_bookLine 137 = .ok (.aload_n 0, 1) := dk_42 (dk_at dksX5_bookLine_5 19 rfl rfl)
theorem dX5_bookLine_138 : decode cX5_bookLine 138 = .ok (.invokevirtual 168, 3) := dk_182 0 168 (dk_at dksX5_bookLine_5 20 rfl rfl)
theorem dX5_bookLine_141 : decode cX5_bookLine 141 = .ok (.aload_n 0, 1) := dk_42 (dk_at dksX5_bookLine_5 23 rfl rfl)
theorem dX5_bookLine_142 : decode cX5_bookLine 142 = .ok (.getfield 40, 3) := dk_180 0 40 (dk_at dksX5_bookLine_6 0 rfl rfl)
theorem dX5_bookLine_145 : decode cX5_bookLine 145 = .ok (.iload_n 1, 1) := dk_27 (dk_at dksX5_bookLine_6 3 rfl rfl)
theorem dX5_bookLine_146 : decode cX5_bookLine 146 = .ok (.iconst 1, 1) := dk_4 (dk_at dksX5_bookLine_6 4 rfl rfl)
theorem dX5_bookLine_147 : decode cX5_bookLine 147 = .ok (.iadd, 1) := dk_96 (dk_at dksX5_bookLine_6 5 rfl rfl)
theorem dX5_bookLine_148 : decode cX5_bookLine 148 = .ok (.iload_n 2, 1) := dk_28 (dk_at dksX5_bookLine_6 6 rfl rfl)
theorem dX5_bookLine_149 : decode cX5_bookLine 149 = .ok (.ifCond .ge 7, 3) := dk_156 0 7 (dk_at dksX5_bookLine_6 7 rfl rfl)
theorem dX5_bookLine_152 : decode cX5_bookLine 152 = .ok (.iload_n 3, 1) := dk_29 (dk_at dksX5_bookLine_6 10 rfl rfl)
theorem dX5_bookLine_153 : decode cX5_bookLine 153 = .ok (.goto 4, 3) := dk_167 0 4 (dk_at dksX5_bookLine_6 11 rfl rfl)
theorem dX5_bookLine_156 : decode cX5_bookLine 156 = .ok (.iload_n 2, 1) := dk_28 (dk_at dksX5_bookLine_6 14 rfl rfl)
theorem dX5_bookLine_157 : decode cX5_bookLine 157 = .ok (.iastore, 1) := dk_79 (dk_at dksX5_bookLine_6 15 rfl rfl)
theorem dX5_bookLine_158 : decode cX5_bookLine 158 = .ok (.iload_n 2, 1) := dk_28 (dk_at dksX5_bookLine_6 16 rfl rfl)
theorem dX5_bookLine_159 : decode cX5_bookLine 159 = .ok (.ifCond .ge 61, 3) := dk_156 0 61 (dk_at dksX5_bookLine_6 17 rfl rfl)
theorem dX5_bookLine_162 : decode cX5_bookLine 162 = .ok (.aload_n 0, 1) := dk_42 (dk_at dksX5_bookLine_6 20 rfl rfl)
theorem dX5_bookLine_163 : decode cX5_bookLine 163 = .ok (.ldc2_w 100, 3) := dk_20 0 100 (dk_at dksX5_bookLine_6 21 rfl rfl)
theorem dX5_bookLine_166 : decode cX5_bookLine 166 = .ok (.invokevirtual 202, 3) := dk_182 0 202 (dk_at dksX5_bookLine_7 0 rfl rfl)
theorem dX5_bookLine_169 : decode cX5_bookLine 169 = .ok (.ifCond .ne 9, 3) := dk_154 0 9 (dk_at dksX5_bookLine_7 3 rfl rfl)
theorem dX5_bookLine_172 : decode cX5_bookLine 172 = .ok (.aload_n 0, 1) := dk_42 (dk_at dksX5_bookLine_7 6 rfl rfl)
theorem dX5_bookLine_173 : decode cX5_bookLine 173 = .ok (.iconst 1, 1) := dk_4 (dk_at dksX5_bookLine_7 7 rfl rfl)
theorem dX5_bookLine_174 : decode cX5_bookLine 174 = .ok (.invokevirtual 165, 3) := dk_182 0 165 (dk_at dksX5_bookLine_7 8 rfl rfl)
theorem dX5_bookLine_177 : decode cX5_bookLine 177 = .ok (.ireturn, 1) := dk_172 (dk_at dksX5_bookLine_7 11 rfl rfl)
theorem dX5_bookLine_178 : decode cX5_bookLine 178 = .ok (.aload_n 0, 1) := dk_42 (dk_at dksX5_bookLine_7 12 rfl rfl)
theorem dX5_bookLine_179 : decode cX5_bookLine 179 = .ok (.invokevirtual 168, 3) := dk_182 0 168 (dk_at dksX5_bookLine_7 13 rfl rfl)
theorem dX5_bookLine_182 : decode cX5_bookLine 182 = .ok (.aload_n 0, 1) := dk_42 (dk_at dksX5_bookLine_7 16 rfl rfl)
theorem dX5_bookLine_183 : decode cX5_bookLine 183 = .ok (.getfield 40, 3) := dk_180 0 40 (dk_at dksX5_bookLine_7 17 rfl rfl)
theorem dX5_bookLine_186 : decode cX5_bookLine 186 = .ok (.iload_n 1, 1) := dk_27 (dk_at dksX5_bookLine_7 20 rfl rfl)
theorem dX5_bookLine_187 : decode cX5_bookLine 187 = .ok (.iconst 1, 1) := dk_4 (dk_at dksX5_bookLine_7 21 rfl rfl)
theorem dX5_bookLine_188 : decode cX5_bookLine 188 = .ok (.iastore, 1) := dk_79 (dk_at dksX5_bookLine_7 22 rfl rfl)
theorem dX5_bookLine_189 : decode cX5_bookLine 189 = .ok (.aload_n 0, 1) := dk_42 (dk_at dksX5_bookLine_7 23 rfl rfl)
theorem dX5_bookLine_190 : decode cX5_bookLine 190 = .ok (.bipush 14, 2) := dk_16 14 (dk_at dksX5_bookLine_8 0 rfl rfl)
theorem dX5_bookLine_192 : decode cX5_bookLine 192 = .ok (.aload_n 0, 1) := dk_42 (dk_at dksX5_bookLine_8 2 rfl rfl)
theorem dX5_bookLine_193 : decode cX5_bookLine 193 = .ok (.getfield 33, 3) := dk_180 0 33 (dk_at dksX5_bookLine_8 3 rfl rfl)
theorem dX5_bookLine_196 : decode cX5_bookLine 196 = .ok (.iconst 2, 1) := dk_5 (dk_at dksX5_bookLine_8 6 rfl rfl)
theorem dX5_bookLine_197 : decode cX5_bookLine 197 = .ok (.iaload, 1) := dk_46 (dk_at dksX5_bookLine_8 7 rfl rfl)
theorem dX5_bookLine_198 : decode cX5_bookLine 198 = .ok (.invokevirtual 209, 3) := dk_182 0 209 (dk_at dksX5_bookLine_8 8 rfl rfl)
theorem dX5_bookLine_201 : decode cX5_bookLine 201 = .ok (.ifCond .ne 5, 3) := dk_154 0 5 (dk_at dksX5_bookLine_8 11 rfl rfl)
theorem dX5_bookLine_204 : decode cX5_bookLine 204 = .ok (.iconst 0, 1) := dk_3 (dk_at dksX5_bookLine_8 14 rfl rfl)
theorem dX5_bookLine_205 : decode cX5_bookLine 205 = .ok (.ireturn, 1) := dk_172 (dk_at dksX5_bookLine_8 15 rfl rfl)
theorem dX5_bookLine_206 : decode cX5_bookLine 206 = .ok (.aload_n 0, 1) := dk_42 (dk_at dksX5_bookLine_8 16 rfl rfl)
theorem dX5_bookLine_207 : decode cX5_bookLine 207 = .ok (.getfield 40, 3) := dk_180 0 40 (dk_at dksX5_bookLine_8 17 rfl rfl)
theorem dX5_bookLine_210 : decode cX5_bookLine 210 = .ok (.iload_n 1, 1) := dk_27 (dk_at dksX5_bookLine_8 20 rfl rfl)
theorem dX5_bookLine_211 : decode cX5_bookLine 211 = .ok (.iconst 2, 1) := dk_5 (dk_at dksX5_bookLine_8 21 rfl rfl)
theorem dX5_bookLine_212 : decode cX5_bookLine 212 = .ok (.iadd, 1) := dk_96 (dk_at dksX5_bookLine_8 22 rfl rfl)
theorem dX5_bookLine_213 : decode cX5_bookLine 213 = .ok (.aload_n 0, 1) := dk_42 (dk_at dksX5_bookLine_8 23 rfl rfl)
theorem dX5_bookLine_214 : decode cX5_bookLine 214 = .ok (.getfield 175, 3) := dk_180 0 175 (dk_at dksX5_bookLine_9 0 rfl rfl)
theorem dX5_bookLine_217 : decode cX5_bookLine 217 = .ok (.iastore, 1) := dk_79 (dk_at dksX5_bookLine_9 3 rfl rfl)
theorem dX5_bookLine_218 : decode cX5_bookLine 218 = .ok (.iconst 1, 1) := dk_4 (dk_at dksX5_bookLine_9 4 rfl rfl)
theorem dX5_bookLine_219 : decode cX5_bookLine 219 = .ok (.ireturn, 1) := dk_172 (dk_at dksX5_bookLine_9 5 rfl rfl)
theorem dX5_bookLine_220 : decode cX5_bookLine 220 = .ok (.aload_n 0, 1) := dk_42 (dk_at dksX5_bookLine_9 6 rfl rfl)
theorem dX5_bookLine_221 : decode cX5_bookLine 221 = .ok (.ldc2_w 94, 3) := dk_20 0 94 (dk_at dksX5_bookLine_9 7 rfl rfl)
theorem dX5_bookLine_224 : decode cX5_bookLine 224 = .ok (.invokevirtual 202, 3) := dk_182 0 202 (dk_at dksX5_bookLine_9 10 rfl rfl)
theorem dX5_bookLine_227 : decode cX5_bookLine 227 = .ok (.ifCond .eq 7, 3) := dk_153 0 7 (dk_at dksX5_bookLine_9 13 rfl rfl)
theorem dX5_bookLine_230 : decode cX5_bookLine 230 = .ok (.iconst 0, 1) := dk_3 (dk_at dksX5_bookLine_9 16 rfl rfl)
theorem dX5_bookLine_231 : decode cX5_bookLine 231 = .ok (.goto 32, 3) := dk_167 0 32 (dk_at dksX5_bookLine_9 17 rfl rfl)
theorem dX5_bookLine_234 : decode cX5_bookLine 234 = .ok (.aload_n 0, 1) := dk_42 (dk_at dksX5_bookLine_9 20 rfl rfl)
theorem dX5_bookLine_235 : decode cX5_bookLine 235 = .ok (.ldc2_w 96, 3) := dk_20 0 96 (dk_at dksX5_bookLine_9 21 rfl rfl)
theorem dX5_bookLine_238 : decode cX5_bookLine 238 = .ok (.invokevirtual 202, 3) := dk_182 0 202 (dk_at dksX5_bookLine_10 0 rfl rfl)
theorem dX5_bookLine_241 : decode cX5_bookLine 241 = .ok (.ifCond .eq 7, 3) := dk_153 0 7 (dk_at dksX5_bookLine_10 3 rfl rfl)
theorem dX5_bookLine_244 : decode cX5_bookLine 244 = .ok (.iconst 2, 1) := dk_5 (dk_at dksX5_bookLine_10 6 rfl rfl)
theorem dX5_bookLine_245 : decode cX5_bookLine 245 = .ok (.goto 18, 3) := dk_167 0 18 (dk_at dksX5_bookLine_10 7 rfl rfl)
theorem dX5_bookLine_248 : decode cX5_bookLine 248 = .ok (.aload_n 0, 1) := dk_42 (dk_at dksX5_bookLine_10 10 rfl rfl)
theorem dX5_bookLine_249 : decode cX5_bookLine 249 = .ok (.ldc2_w 98, 3) := dk_20 0 98 (dk_at dksX5_bookLine_10 11 rfl rfl)
theorem dX5_bookLine_252 : decode cX5_bookLine 252 = .ok (.invokevirtual 202, 3) := dk_182 0 202 (dk_at dksX5_bookLine_10 14 rfl rfl)
theorem dX5_bookLine_255 : decode cX5_bookLine 255 = .ok (.ifCond .eq 7, 3) := dk_153 0 7 (dk_at dksX5_bookLine_10 17 rfl rfl)
theorem dX5_bookLine_258 : decode cX5_bookLine 258 = .ok (.iconst 3, 1) := dk_6 (dk_at dksX5_bookLine_10 20 rfl rfl)
theorem dX5_bookLine_259 : decode cX5_bookLine 259 = .ok (.goto 4, 3) := dk_167 0 4 (dk_at dksX5_bookLine_10 21 rfl rfl)
theorem dX5_bookLine_262 : decode cX5_bookLine 262 = .ok (.iconst (-1), 1) := dk_2 (dk_at dksX5_bookLine_11 0 rfl rfl)
theorem dX5_bookLine_263 : decode cX5_bookLine 263 = .ok (.istore 4, 2) := dk_54 4 (dk_at dksX5_bookLine_11 1 rfl rfl)
theorem dX5_bookLine_265 : decode cX5_bookLine 265 = .ok (.iload 4, 2) := dk_21 4 (dk_at dksX5_bookLine_11 3 rfl rfl)
theorem dX5_bookLine_267 : decode cX5_bookLine 267 = .ok (.ifCond .ge 9, 3) := dk_156 0 9 (dk_at dksX5_bookLine_11 5 rfl rfl)
theorem dX5_bookLine_270 : decode cX5_bookLine 270 = .ok (.aload_n 0, 1) := dk_42 (dk_at dksX5_bookLine_11 8 rfl rfl)
theorem dX5_bookLine_271 : decode cX5_bookLine 271 = .ok (.iconst 1, 1) := dk_4 (dk_at dksX5_bookLine_11 9 rfl rfl)
theorem dX5_bookLine_272 : decode cX5_bookLine 272 = .ok (.invokevirtual 165, 3) := dk_182 0 165 (dk_at dksX5_bookLine_11 10 rfl rfl)
theorem dX5_bookLine_275 : decode cX5_bookLine 275 = .ok (.ireturn, 1) := dk_172 (dk_at dksX5_bookLine_11 13 rfl rfl)
theorem dX5_bookLine_276 : decode cX5_bookLine 276 = .ok (.aload_n 0, 1) := dk_42 (dk_at dksX5_bookLine_11 14 rfl rfl)
theorem dX5_bookLine_277 : decode cX5_bookLine 277 = .ok (.getfield 40, 3) := dk_180 0 40 (dk_at dksX5_bookLine_11 15 rfl rfl)
theorem dX5_bookLine_280 : decode cX5_bookLine 280 = .ok (.iload_n 1, 1) := dk_27 (dk_at dksX5_bookLine_11 18 rfl rfl)
theorem dX5_bookLine_281 : decode cX5_bookLine 281 = .ok (.iload 4, 2) := dk_21 4 (dk_at dksX5_bookLine_11 19 rfl rfl)
theorem dX5_bookLine_283 : decode cX5_bookLine 283 = .ok (.iastore, 1) := dk_79 (dk_at dksX5_bookLine_11 21 rfl rfl)
theorem dX5_bookLine_284 : decode cX5_bookLine 284 = .ok (.aload_n 0, 1) := dk_42 (dk_at dksX5_bookLine_11 22 rfl rfl)
theorem dX5_bookLine_285 : decode cX5_bookLine 285 = .ok (.invokevirtual 168, 3) := dk_182 0 168 (dk_at dksX5_bookLine_12 0 rfl rfl)
theorem dX5_bookLine_288 : decode cX5_bookLine 288 = .ok (.iload 4, 2) := dk_21 4 (dk_at dksX5_bookLine_12 3 rfl rfl)
theorem dX5_bookLine_290 : decode cX5_bookLine 290 = .ok (.iconst 3, 1) := dk_6 (dk_at dksX5_bookLine_12 5 rfl rfl)
theorem dX5_bookLine_291 : decode cX5_bookLine 291 = .ok (.if_icmp .ne 5, 3) := dk_160 0 5 (dk_at dksX5_bookLine_12 6 rfl rfl)
theorem dX5_bookLine_294 : decode cX5_bookLine 294 = .ok (.iconst 1, 1) := dk_4 (dk_at dksX5_bookLine_12 9 rfl rfl)
theorem dX5_bookLine_295 : decode cX5_bookLine 295 = .ok (.ireturn, 1) := dk_172 (dk_at dksX5_bookLine_12 10 rfl rfl)
theorem dX5_bookLine_296 : decode cX5_bookLine 296 = .ok (.aload_n 0, 1) := dk_42 (dk_at dksX5_bookLine_12 11 rfl rfl)
theorem dX5_bookLine_297 : decode cX5_bookLine 297 = .ok (.iload 4, 2) := dk_21 4 (dk_at dksX5_bookLine_12 12 rfl rfl)
theorem dX5_bookLine_299 : decode cX5_bookLine 299 = .ok (.ifCond .ne 7, 3) := dk_154 0 7 (dk_at dksX5_bookLine_12 14 rfl rfl)
theorem dX5_bookLine_302 : decode cX5_bookLine 302 = .ok (.iconst 0, 1) := dk_3 (dk_at dksX5_bookLine_12 17 rfl rfl)
theorem dX5_bookLine_303 : decode cX5_bookLine 303 = .ok (.goto 5, 3) := dk_167 0 5 (dk_at dksX5_bookLine_12 18 rfl rfl)
theorem dX5_bookLine_306 : decode cX5_bookLine 306 = .ok (.bipush 8, 2) := dk_16 8 (dk_at dksX5_bookLine_12 21 rfl rfl)
theorem dX5_bookLine_308 : decode cX5_bookLine 308 = .ok (.aload_n 0, 1) := dk_42 (dk_at dksX5_bookLine_12 23 rfl rfl)
theorem dX5_bookLine_309 : decode cX5_bookLine 309 = .ok (.getfield 33, 3) := dk_180 0 33 (dk_at dksX5_bookLine_13 0 rfl rfl)
theorem dX5_bookLine_312 : decode cX5_bookLine 312 = .ok (.iload 4, 2) := dk_21 4 (dk_at dksX5_bookLine_13 3 rfl rfl)
theorem dX5_bookLine_314 : decode cX5_bookLine 314 = .ok (.ifCond .ne 7, 3) := dk_154 0 7 (dk_at dksX5_bookLine_13 5 rfl rfl)
theorem dX5_bookLine_317 : decode cX5_bookLine 317 = .ok (.iconst 0, 1) := dk_3 (dk_at dksX5_bookLine_13 8 rfl rfl)
theorem dX5_bookLine_318 : decode cX5_bookLine 318 = .ok (.goto 4, 3) := dk_167 0 4 (dk_at dksX5_bookLine_13 9 rfl rfl)
theorem dX5_bookLine_321 : decode cX5_bookLine 321 = .ok (.iconst 1, 1) := dk_4 (dk_at dksX5_bookLine_13 12 rfl rfl)
theorem dX5_bookLine_322 : decode cX5_bookLine 322 = .ok (.iaload, 1) := dk_46 (dk_at dksX5_bookLine_13 13 rfl rfl)
theorem dX5_bookLine_323 : decode cX5_bookLine 323 = .ok (.invokevirtual 209, 3) := dk_182 0 209 (dk_at dksX5_bookLine_13 14 rfl rfl)
theorem dX5_bookLine_326 : decode cX5_bookLine 326 = .ok (.ifCond .ne 5, 3) := dk_154 0 5 (dk_at dksX5_bookLine_13 17 rfl rfl)
theorem dX5_bookLine_329 : decode cX5_bookLine 329 = .ok (.iconst 0, 1) := dk_3 (dk_at dksX5_bookLine_13 20 rfl rfl)
theorem dX5_bookLine_330 : decode cX5_bookLine 330 = .ok (.ireturn, 1) := dk_172 (dk_at dksX5_bookLine_13 21 rfl rfl)
theorem dX5_bookLine_331 : decode cX5_bookLine 331 = .ok (.aload_n 0, 1) := dk_42 (dk_at dksX5_bookLine_13 22 rfl rfl)
theorem dX5_bookLine_332 : decode cX5_bookLine 332 = .ok (.getfield 40, 3) := dk_180 0 40 (dk_at dksX5_bookLine_14 0 rfl rfl)
theorem dX5_bookLine_335 : decode cX5_bookLine 335 = .ok (.iload_n 1, 1) := dk_27 (dk_at dksX5_bookLine_14 3 rfl rfl)
theorem dX5_bookLine_336 : decode cX5_bookLine 336 = .ok (.iconst 2, 1) := dk_5 (dk_at dksX5_bookLine_14 4 rfl rfl)
theorem dX5_bookLine_337 : decode cX5_bookLine 337 = .ok (.iadd, 1) := dk_96 (dk_at dksX5_bookLine_14 5 rfl rfl)
theorem dX5_bookLine_338 : decode cX5_bookLine 338 = .ok (.aload_n 0, 1) := dk_42 (dk_at dksX5_bookLine_14 6 rfl rfl)
theorem dX5_bookLine_339 : decode cX5_bookLine 339 = .ok (.getfield 175, 3) := dk_180 0 175 (dk_at dksX5_bookLine_14 7 rfl rfl)
theorem dX5_bookLine_342 : decode cX5_bookLine 342 = .ok (.iastore, 1) := dk_79 (dk_at dksX5_bookLine_14 10 rfl rfl)
theorem dX5_bookLine_343 : decode cX5_bookLine 343 = .ok (.iconst 1, 1) := dk_4 (dk_at dksX5_bookLine_14 11 rfl rfl)
theorem dX5_bookLine_344 : decode cX5_bookLine 344 = .ok (.ireturn, 1) := dk_172 (dk_at dksX5_bookLine_14 12 rfl rfl)
theorem fw_X5_397 : cz_FW "HeldCoatsModel" 397 [(5, 36)] "I" := ⟨"HeldCoatsModel", "toldMany", Or.inl q1954, List.forall_mem_cons.mpr ⟨⟨RX5, TX5, 49, rfl, by decide, rfl, rfl, Or.inl rfl⟩, fun _ h => absurd h List.not_mem_nil⟩, by decide⟩
theorem se_HeldCoatsModel_isWord__J_Z_HeldCoatsModel : ∀ c ∈ ([5] : List Nat), ∃ q : vw_C, cz_cl[c]? = some q ∧ Cond.selects q.1 (⟨"HeldCoatsModel", "isWord", "(J)Z"⟩ : MethodName) (⟨"HeldCoatsModel", "isWord", "(J)Z"⟩ : MethodName) ∈ lw_all := List.forall_mem_cons.mpr ⟨⟨_, cz_cl5, qs50⟩, fun _ h => absurd h List.not_mem_nil⟩
theorem md_X5_isWord : cz_md yX5_isWord 3 (ws_ yX5_isWord cX5_isWord 3 ((Option.some Jvm.ClassFile.FieldType.boolean))) 1 := ⟨cz_ws_code q2097, q123, ⟨by decide, by decide, by decide +kernel⟩, by decide⟩
theorem fw_X5_40 : cz_FW "HeldCoatsModel" 40 [(5, 8)] "[I" := ⟨"HeldCoatsModel", "read", Or.inl q1926, List.forall_mem_cons.mpr ⟨⟨RX5, TX5, 49, rfl, by decide, rfl, rfl, Or.inl rfl⟩, fun _ h => absurd h List.not_mem_nil⟩, by decide⟩
theorem se_HeldCoatsModel_takesName__II_Z_HeldCoatsModel : ∀ c ∈ ([5] : List Nat), ∃ q : vw_C, cz_cl[c]? = some q ∧ Cond.selects q.1 (⟨"HeldCoatsModel", "takesName", "(II)Z"⟩ : MethodName) (⟨"HeldCoatsModel", "takesName", "(II)Z"⟩ : MethodName) ∈ lw_all := List.forall_mem_cons.mpr ⟨⟨_, cz_cl5, qs57⟩, fun _ h => absurd h List.not_mem_nil⟩
theorem md_X5_takesName : cz_md yX5_takesName 3 (ws_ yX5_takesName cX5_takesName 3 ((Option.some Jvm.ClassFile.FieldType.boolean))) 2 := ⟨cz_ws_code q2128, q123, ⟨by decide, by decide, by decide +kernel⟩, by decide⟩
theorem kB_14 : (Int8.ofInt (14)).toInt32 = 14 := by decide
theorem se_HeldCoatsModel_takes__II_Z_HeldCoatsModel : ∀ c ∈ ([5] : List Nat), ∃ q : vw_C, cz_cl[c]? = some q ∧ Cond.selects q.1 (⟨"HeldCoatsModel", "takes", "(II)Z"⟩ : MethodName) (⟨"HeldCoatsModel", "takes", "(II)Z"⟩ : MethodName) ∈ lw_all := List.forall_mem_cons.mpr ⟨⟨_, cz_cl5, qs56⟩, fun _ h => absurd h List.not_mem_nil⟩
theorem md_X5_takes : cz_md yX5_takes 3 (ws_ yX5_takes cX5_takes 3 ((Option.some Jvm.ClassFile.FieldType.boolean))) 2 := ⟨cz_ws_code q2121, q123, ⟨by decide, by decide, by decide +kernel⟩, by decide⟩
set_option maxHeartbeats 4000000 in
set_option maxRecDepth 100000 in
noncomputable def fn_X5_bookLine (l0 : Option Nat) (h : cz_H) : cz_Z := cz_getI h l0 [(5, 36)] (fun x1 => cz_leti ((3 : Int32) * x1) (fun x2 => cz_rc h l0 [5] (cz_cI (fn_X5_isWord l0 6578553 h) (fun x10 h9 => (if x10 = 0 then cz_rc h9 l0 [5] (cz_cI (fn_X5_isName l0 h9) (fun x18 h17 => (if x18 = 0 then cz_rc h17 l0 [5] (cz_cI (fn_X5_bad l0 1 h17) (fun x178 h177 => cz_ckz x178 (some (.inl (some (cz_i x178)), h177)))) else cz_getR h17 l0 [(5, 6)] (fun r19 => cz_iald h17 r19 2 (fun x20 => cz_rc h17 l0 [5] (cz_cI (fn_X5_find l0 14 x20 h17) (fun x28 h27 => cz_getR h27 l0 [(5, 6)] (fun r29 => cz_iald h27 r29 1 (fun x30 => cz_rc h27 l0 [5] (cz_cI (fn_X5_find l0 8 x30 h27) (fun x38 h37 => cz_jn (fun (h39 : cz_H) => cz_getI h39 l0 [(5, 36)] (fun x40 => (if x40 = 40 then cz_rc h39 l0 [5] (cz_cI (fn_X5_bad l0 4 h39) (fun x161 h160 => cz_ckz x161 (some (.inl (some (cz_i x161)), h160)))) else cz_rc h39 l0 [5] (cz_cV (fn_X5_next l0 h39) (fun h47 => cz_getR h47 l0 [(5, 8)] (fun r48 => cz_jn (fun (v49 : Int32) (h50 : cz_H) => cz_iast h50 r48 (x2 + 1) v49 (fun h51 => (if 0 ≤ x28 then cz_rc h51 l0 [5] (cz_cI (fn_X5_isWord l0 1818846579 h51) (fun x59 h58 => cz_jn (fun (v60 : Int32) (h61 : cz_H) => (if 0 ≤ v60 then cz_getR h61 l0 [(5, 8)] (fun r62 => cz_iast h61 r62 x2 v60 (fun h63 => cz_rc h63 l0 [5] (cz_cV (fn_X5_next l0 h63) (fun h70 => (if v60 = 3 then some (.inl (some (cz_i 1)), h70) else cz_jn (fun (v71 : Int32) (h72 : cz_H) => cz_getR h72 l0 [(5, 6)] (fun r73 => cz_jn (fun (v74 : Int32) (h75 : cz_H) => cz_iald h75 r73 v74 (fun x76 => cz_rc h75 l0 [5] (cz_cI (fn_X5_takesName l0 v71 x76 h75) (fun x84 h83 => (if x84 = 0 then some (.inl (some (cz_i 0)), h83) else cz_getR h83 l0 [(5, 8)] (fun r85 => cz_getI h83 l0 [(5, 18)] (fun x86 => cz_iast h83 r85 (x2 + 2) x86 (fun h87 => some (.inl (some (cz_i 1)), h87))))))))) (fun j88 => (if v60 = 0 then j88 0 h72 else j88 1 h72)))) (fun j89 => (if v60 = 0 then j89 0 h70 else j89 8 h70))))))) else cz_rc h61 l0 [5] (cz_cI (fn_X5_bad l0 1 h61) (fun x97 h96 => cz_ckz x97 (some (.inl (some (cz_i x97)), h96)))))) (fun j98 => (if x59 = 0 then cz_rc h58 l0 [5] (cz_cI (fn_X5_isWord l0 1818586740 h58) (fun x106 h105 => (if x106 = 0 then cz_rc h105 l0 [5] (cz_cI (fn_X5_isWord l0 1801810036 h105) (fun x114 h113 => (if x114 = 0 then j98 (-1) h113 else j98 3 h113))) else j98 2 h105))) else j98 0 h58)))) else cz_rc h51 l0 [5] (cz_cI (fn_X5_isWord l0 512801993331 h51) (fun x122 h121 => (if x122 = 0 then cz_rc h121 l0 [5] (cz_cI (fn_X5_bad l0 1 h121) (fun x152 h151 => cz_ckz x152 (some (.inl (some (cz_i x152)), h151)))) else cz_rc h121 l0 [5] (cz_cV (fn_X5_next l0 h121) (fun h129 => cz_getR h129 l0 [(5, 8)] (fun r130 => cz_iast h129 r130 x2 1 (fun h131 => cz_getR h131 l0 [(5, 6)] (fun r132 => cz_iald h131 r132 2 (fun x133 => cz_rc h131 l0 [5] (cz_cI (fn_X5_takesName l0 14 x133 h131) (fun x141 h140 => (if x141 = 0 then some (.inl (some (cz_i 0)), h140) else cz_getR h140 l0 [(5, 8)] (fun r142 => cz_getI h140 l0 [(5, 18)] (fun x143 => cz_iast h140 r142 (x2 + 2) x143 (fun h144 => some (.inl (some (cz_i 1)), h144))))))))))))))))))) (fun j153 => (if 0 ≤ x28 then j153 x28 h47 else j153 x38 h47)))))))) (fun j162 => (if 0 ≤ x28 then j162 h37 else (if 0 ≤ x38 then j162 h37 else cz_rc h37 l0 [5] (cz_cI (fn_X5_bad l0 3 h37) (fun x170 h169 => cz_ckz x170 (some (.inl (some (cz_i x170)), h169)))))))))))))))))) else cz_getI h9 l0 [(5, 36)] (fun x179 => (if x179 = 40 then cz_rc h9 l0 [5] (cz_cI (fn_X5_bad l0 4 h9) (fun x207 h206 => cz_ckz x207 (some (.inl (some (cz_i x207)), h206)))) else cz_rc h9 l0 [5] (cz_cV (fn_X5_next l0 h9) (fun h186 => cz_getR h186 l0 [(5, 8)] (fun r187 => cz_iast h186 r187 x2 4 (fun h188 => cz_rc h188 l0 [5] (cz_cI (fn_X5_takes l0 1 60 h188) (fun x196 h195 => (if x196 = 0 then some (.inl (some (cz_i 0)), h195) else cz_getR h195 l0 [(5, 8)] (fun r197 => cz_getI h195 l0 [(5, 18)] (fun x198 => cz_iast h195 r197 (x2 + 1) x198 (fun h199 => some (.inl (some (cz_i 1)), h199))))))))))))))))))
set_option maxHeartbeats 4000000 in
set_option maxRecDepth 100000 in
theorem wk_X5_bookLine {K : cz_K} {D : cz_D} {h0 : cz_H} {oh : cz_O × cz_H} {l0 : Option Nat} {h : cz_H} (S : cz_S K D h0 cX5_bookLine 5 "HeldCoatsModel" ((Option.some Jvm.ClassFile.FieldType.boolean)) "bookLine" ([])) : cz_T K D 5 h0 oh 5 (fn_X5_bookLine l0 h) h 0 [(0, cz_r l0)] [] := by
  unfold fn_X5_bookLine
  refine ct_iconst (v := 3) S dX5_bookLine_0 kI_3 ?_
  refine ct_aload_n (k := 0) S dX5_bookLine_1 rfl rfl ?_
  refine ct_getI S fw_X5_397 dX5_bookLine_2 (fun x1 => ?_)
  refine ct_imul S dX5_bookLine_5 ?_
  refine ct_leti (fun x2 => ?_)
  refine ct_istore_n (L' := [(1, cz_i x2), (0, cz_r l0)]) S dX5_bookLine_6 rfl (by decide) rfl ?_
  refine ct_aload_n (k := 1) S dX5_bookLine_7 rfl rfl ?_
  refine ct_ldc2 S q1902 dX5_bookLine_8 ?_
  refine ct_rc (fun b3 ci4 V5 hb6 hc7 hi8 => ?_)
  refine ct_cI (st := []) (cg_virtual (av := [cz_j 6578553]) S hb6 hc7 hi8 (fun _ e => mt_X5_isWord e) md_X5_isWord q2094 q2096 se_HeldCoatsModel_isWord__J_Z_HeldCoatsModel (by decide) (Nat.le_of_ble_eq_true rfl) rfl dX5_bookLine_11) (fun x10 h9 => ?_)
  refine ct_if_eq (tgt := 69) S dX5_bookLine_14 (by decide) ?_ ?_
  · refine ct_aload_n (k := 1) S dX5_bookLine_69 rfl rfl ?_
    refine ct_rc (fun b11 ci12 V13 hb14 hc15 hi16 => ?_)
    refine ct_cI (st := []) (cg_virtual (av := []) S hb14 hc15 hi16 (fun _ e => mt_X5_isName e) md_X5_isName q2106 q2108 se_HeldCoatsModel_isName___Z_HeldCoatsModel (by decide) (Nat.le_of_ble_eq_true rfl) rfl dX5_bookLine_70) (fun x18 h17 => ?_)
    refine ct_if_ne (tgt := 82) S dX5_bookLine_73 (by decide) ?_ ?_
    · refine ct_aload_n (k := 1) S dX5_bookLine_82 rfl rfl ?_
      refine ct_bipush (v := 14) S dX5_bookLine_83 kB_14 ?_
      refine ct_aload_n (k := 1) S dX5_bookLine_85 rfl rfl ?_
      refine ct_getR S fw_X5_33 dX5_bookLine_86 (fun r19 => ?_)
      refine ct_iconst (v := 2) S dX5_bookLine_89 kI_2 ?_
      refine ct_iald S dX5_bookLine_90 (fun x20 => ?_)
      refine ct_rc (fun b21 ci22 V23 hb24 hc25 hi26 => ?_)
      refine ct_cI (st := []) (cg_virtual (av := [cz_i 14, cz_i x20]) S hb24 hc25 hi26 (fun _ e => mt_X5_find e) md_X5_find q2110 q2112 se_HeldCoatsModel_find__II_I_HeldCoatsModel (by decide) (Nat.le_of_ble_eq_true rfl) rfl dX5_bookLine_91) (fun x28 h27 => ?_)
      refine ct_istore_n (L' := [(2, cz_i x28), (1, cz_i x2), (0, cz_r l0)]) S dX5_bookLine_94 rfl (by decide) rfl ?_
      refine ct_aload_n (k := 2) S dX5_bookLine_95 rfl rfl ?_
      refine ct_bipush (v := 8) S dX5_bookLine_96 kB_8 ?_
      refine ct_aload_n (k := 2) S dX5_bookLine_98 rfl rfl ?_
      refine ct_getR S fw_X5_33 dX5_bookLine_99 (fun r29 => ?_)
      refine ct_iconst (v := 1) S dX5_bookLine_102 kI_1 ?_
      refine ct_iald S dX5_bookLine_103 (fun x30 => ?_)
      refine ct_rc (fun b31 ci32 V33 hb34 hc35 hi36 => ?_)
      refine ct_cI (st := []) (cg_virtual (av := [cz_i 8, cz_i x30]) S hb34 hc35 hi36 (fun _ e => mt_X5_find e) md_X5_find q2110 q2112 se_HeldCoatsModel_find__II_I_HeldCoatsModel (by decide) (Nat.le_of_ble_eq_true rfl) rfl dX5_bookLine_104) (fun x38 h37 => ?_)
      refine ct_istore_n (L' := [(3, cz_i x38), (2, cz_i x28), (1, cz_i x2), (0, cz_r l0)]) S dX5_bookLine_107 rfl (by decide) rfl ?_
      refine ct_iload_n (k := 1) S dX5_bookLine_108 rfl rfl ?_
      refine ct_jnP (fun j162 => ∀ (h39 : cz_H), cz_T K D 5 h0 oh 5 (j162 h39) h39 122 [(0, cz_r l0), (1, cz_i x2), (2, cz_i x28), (3, cz_i x38)] []) (fun h39 => ?_) (fun j162 Hj162 => ?_)
      · refine ct_aload_n (k := 0) S dX5_bookLine_122 rfl rfl ?_
        refine ct_getI S fw_X5_397 dX5_bookLine_123 (fun x40 => ?_)
        refine ct_bipush (v := 40) S dX5_bookLine_126 kB_40 ?_
        refine ct_icmp_ne (tgt := 137) S dX5_bookLine_128 (by decide) ?_ ?_
        · refine ct_aload_n (k := 0) S dX5_bookLine_137 rfl rfl ?_
          refine ct_rc (fun b41 ci42 V43 hb44 hc45 hi46 => ?_)
          refine ct_cV (st := []) (cg_virtual (av := []) S hb44 hc45 hi46 (fun _ e => mt_X5_next e) md_X5_next q2076 q2078 se_HeldCoatsModel_next___V_HeldCoatsModel (by decide) (Nat.le_of_ble_eq_true rfl) rfl dX5_bookLine_138) (fun h47 => ?_)
          refine ct_aload_n (k := 0) S dX5_bookLine_141 rfl rfl ?_
          refine ct_getR S fw_X5_40 dX5_bookLine_142 (fun r48 => ?_)
          refine ct_iload_n (k := 1) S dX5_bookLine_145 rfl rfl ?_
          refine ct_iconst (v := 1) S dX5_bookLine_146 kI_1 ?_
          refine ct_iadd S dX5_bookLine_147 ?_
          refine ct_iload_n (k := 2) S dX5_bookLine_148 rfl rfl ?_
          refine ct_jnP (fun j153 => ∀ (v49 : Int32) (h50 : cz_H), cz_T K D 5 h0 oh 5 (j153 v49 h50) h50 157 [(0, cz_r l0), (1, cz_i x2), (2, cz_i x28)] [cz_i v49, cz_i (x2 + 1), cz_r r48]) (fun v49 h50 => ?_) (fun j153 Hj153 => ?_)
          · refine ct_iast S dX5_bookLine_157 (fun h51 => ?_)
            refine ct_iload_n (k := 2) S dX5_bookLine_158 rfl rfl ?_
            refine ct_if_ge (tgt := 220) S dX5_bookLine_159 (by decide) ?_ ?_
            · refine ct_aload_n (k := 0) S dX5_bookLine_220 rfl rfl ?_
              refine ct_ldc2 S q1898 dX5_bookLine_221 ?_
              refine ct_rc (fun b52 ci53 V54 hb55 hc56 hi57 => ?_)
              refine ct_cI (st := []) (cg_virtual (av := [cz_j 1818846579]) S hb55 hc56 hi57 (fun _ e => mt_X5_isWord e) md_X5_isWord q2094 q2096 se_HeldCoatsModel_isWord__J_Z_HeldCoatsModel (by decide) (Nat.le_of_ble_eq_true rfl) rfl dX5_bookLine_224) (fun x59 h58 => ?_)
              refine ct_jnP (fun j98 => ∀ (v60 : Int32) (h61 : cz_H), cz_T K D 5 h0 oh 5 (j98 v60 h61) h61 263 [(0, cz_r l0), (1, cz_i x2)] [cz_i v60]) (fun v60 h61 => ?_) (fun j98 Hj98 => ?_)
              · refine ct_istore (L' := [(4, cz_i v60), (0, cz_r l0), (1, cz_i x2)]) S dX5_bookLine_263 (by decide) rfl ?_
                refine ct_iload (k := 0) S dX5_bookLine_265 rfl ?_
                refine ct_if_ge (tgt := 276) S dX5_bookLine_267 (by decide) ?_ ?_
                · refine ct_aload_n (k := 1) S dX5_bookLine_276 rfl rfl ?_
                  refine ct_getR S fw_X5_40 dX5_bookLine_277 (fun r62 => ?_)
                  refine ct_iload_n (k := 2) S dX5_bookLine_280 rfl rfl ?_
                  refine ct_iload (k := 0) S dX5_bookLine_281 rfl ?_
                  refine ct_iast S dX5_bookLine_283 (fun h63 => ?_)
                  refine ct_aload_n (k := 1) S dX5_bookLine_284 rfl rfl ?_
                  refine ct_rc (fun b64 ci65 V66 hb67 hc68 hi69 => ?_)
                  refine ct_cV (st := []) (cg_virtual (av := []) S hb67 hc68 hi69 (fun _ e => mt_X5_next e) md_X5_next q2076 q2078 se_HeldCoatsModel_next___V_HeldCoatsModel (by decide) (Nat.le_of_ble_eq_true rfl) rfl dX5_bookLine_285) (fun h70 => ?_)
                  refine ct_iload (k := 0) S dX5_bookLine_288 rfl ?_
                  refine ct_iconst (v := 3) S dX5_bookLine_290 kI_3 ?_
                  refine ct_icmp_ne (tgt := 296) S dX5_bookLine_291 (by decide) ?_ ?_
                  · refine ct_aload_n (k := 1) S dX5_bookLine_296 rfl rfl ?_
                    refine ct_iload (k := 0) S dX5_bookLine_297 rfl ?_
                    refine ct_jnP (fun j89 => ∀ (v71 : Int32) (h72 : cz_H), cz_T K D 5 h0 oh 5 (j89 v71 h72) h72 308 [(0, cz_r l0), (1, cz_i x2), (4, cz_i v60)] [cz_i v71, cz_r l0]) (fun v71 h72 => ?_) (fun j89 Hj89 => ?_)
                    · refine ct_aload_n (k := 0) S dX5_bookLine_308 rfl rfl ?_
                      refine ct_getR S fw_X5_33 dX5_bookLine_309 (fun r73 => ?_)
                      refine ct_iload (k := 2) S dX5_bookLine_312 rfl ?_
                      refine ct_jnP (fun j88 => ∀ (v74 : Int32) (h75 : cz_H), cz_T K D 5 h0 oh 5 (j88 v74 h75) h75 322 [(0, cz_r l0), (1, cz_i x2)] [cz_i v74, cz_r r73, cz_i v71, cz_r l0]) (fun v74 h75 => ?_) (fun j88 Hj88 => ?_)
                      · refine ct_iald S dX5_bookLine_322 (fun x76 => ?_)
                        refine ct_rc (fun b77 ci78 V79 hb80 hc81 hi82 => ?_)
                        refine ct_cI (st := []) (cg_virtual (av := [cz_i v71, cz_i x76]) S hb80 hc81 hi82 (fun _ e => mt_X5_takesName e) md_X5_takesName q2125 q2127 se_HeldCoatsModel_takesName__II_Z_HeldCoatsModel (by decide) (Nat.le_of_ble_eq_true rfl) rfl dX5_bookLine_323) (fun x84 h83 => ?_)
                        refine ct_if_ne (tgt := 331) S dX5_bookLine_326 (by decide) ?_ ?_
                        · refine ct_aload_n (k := 0) S dX5_bookLine_331 rfl rfl ?_
                          refine ct_getR S fw_X5_40 dX5_bookLine_332 (fun r85 => ?_)
                          refine ct_iload_n (k := 1) S dX5_bookLine_335 rfl rfl ?_
                          refine ct_iconst (v := 2) S dX5_bookLine_336 kI_2 ?_
                          refine ct_iadd S dX5_bookLine_337 ?_
                          refine ct_aload_n (k := 0) S dX5_bookLine_338 rfl rfl ?_
                          refine ct_getI S fw_X5_175 dX5_bookLine_339 (fun x86 => ?_)
                          refine ct_iast S dX5_bookLine_342 (fun h87 => ?_)
                          refine ct_iconst (v := 1) S dX5_bookLine_343 kI_1 ?_
                          exact ct_zr (ty := .boolean) S rfl rfl dX5_bookLine_344
                        · refine ct_iconst (v := 0) S dX5_bookLine_329 kI_0 ?_
                          exact ct_zr (ty := .boolean) S rfl rfl dX5_bookLine_330
                      · refine ct_if_ne (tgt := 321) S dX5_bookLine_314 (by decide) ?_ ?_
                        · refine ct_iconst (v := 1) S dX5_bookLine_321 kI_1 ?_
                          exact ct_sub [0, 1] rfl (Hj88 1 h72)
                        · refine ct_iconst (v := 0) S dX5_bookLine_317 kI_0 ?_
                          refine ct_goto (tgt := 322) S dX5_bookLine_318 (by decide) ?_
                          exact ct_sub [0, 1] rfl (Hj88 0 h72)
                    · refine ct_if_ne (tgt := 306) S dX5_bookLine_299 (by decide) ?_ ?_
                      · refine ct_bipush (v := 8) S dX5_bookLine_306 kB_8 ?_
                        exact ct_sub [1, 2, 0] rfl (Hj89 8 h70)
                      · refine ct_iconst (v := 0) S dX5_bookLine_302 kI_0 ?_
                        refine ct_goto (tgt := 308) S dX5_bookLine_303 (by decide) ?_
                        exact ct_sub [1, 2, 0] rfl (Hj89 0 h70)
                  · refine ct_iconst (v := 1) S dX5_bookLine_294 kI_1 ?_
                    exact ct_zr (ty := .boolean) S rfl rfl dX5_bookLine_295
                · refine ct_aload_n (k := 1) S dX5_bookLine_270 rfl rfl ?_
                  refine ct_iconst (v := 1) S dX5_bookLine_271 kI_1 ?_
                  refine ct_rc (fun b90 ci91 V92 hb93 hc94 hi95 => ?_)
                  refine ct_cI (st := []) (cg_virtual (av := [cz_i 1]) S hb93 hc94 hi95 (fun _ e => mt_X5_bad e) md_X5_bad q2098 q2100 se_HeldCoatsModel_bad__I_Z_HeldCoatsModel (by decide) (Nat.le_of_ble_eq_true rfl) rfl dX5_bookLine_272) (fun x97 h96 => ?_)
                  refine ct_ckz (fun hx => ?_)
                  exact ct_zr (ty := .boolean) S rfl (cz_nz hx) dX5_bookLine_275
              · refine ct_if_eq (tgt := 234) S dX5_bookLine_227 (by decide) ?_ ?_
                · refine ct_aload_n (k := 0) S dX5_bookLine_234 rfl rfl ?_
                  refine ct_ldc2 S q1899 dX5_bookLine_235 ?_
                  refine ct_rc (fun b99 ci100 V101 hb102 hc103 hi104 => ?_)
                  refine ct_cI (st := []) (cg_virtual (av := [cz_j 1818586740]) S hb102 hc103 hi104 (fun _ e => mt_X5_isWord e) md_X5_isWord q2094 q2096 se_HeldCoatsModel_isWord__J_Z_HeldCoatsModel (by decide) (Nat.le_of_ble_eq_true rfl) rfl dX5_bookLine_238) (fun x106 h105 => ?_)
                  refine ct_if_eq (tgt := 248) S dX5_bookLine_241 (by decide) ?_ ?_
                  · refine ct_aload_n (k := 0) S dX5_bookLine_248 rfl rfl ?_
                    refine ct_ldc2 S q1900 dX5_bookLine_249 ?_
                    refine ct_rc (fun b107 ci108 V109 hb110 hc111 hi112 => ?_)
                    refine ct_cI (st := []) (cg_virtual (av := [cz_j 1801810036]) S hb110 hc111 hi112 (fun _ e => mt_X5_isWord e) md_X5_isWord q2094 q2096 se_HeldCoatsModel_isWord__J_Z_HeldCoatsModel (by decide) (Nat.le_of_ble_eq_true rfl) rfl dX5_bookLine_252) (fun x114 h113 => ?_)
                    refine ct_if_eq (tgt := 262) S dX5_bookLine_255 (by decide) ?_ ?_
                    · refine ct_iconst (v := (-1)) S dX5_bookLine_262 kI_m1 ?_
                      exact ct_sub [0, 1] rfl (Hj98 (-1) h113)
                    · refine ct_iconst (v := 3) S dX5_bookLine_258 kI_3 ?_
                      refine ct_goto (tgt := 263) S dX5_bookLine_259 (by decide) ?_
                      exact ct_sub [0, 1] rfl (Hj98 3 h113)
                  · refine ct_iconst (v := 2) S dX5_bookLine_244 kI_2 ?_
                    refine ct_goto (tgt := 263) S dX5_bookLine_245 (by decide) ?_
                    exact ct_sub [0, 1] rfl (Hj98 2 h105)
                · refine ct_iconst (v := 0) S dX5_bookLine_230 kI_0 ?_
                  refine ct_goto (tgt := 263) S dX5_bookLine_231 (by decide) ?_
                  exact ct_sub [0, 1] rfl (Hj98 0 h58)
            · refine ct_aload_n (k := 0) S dX5_bookLine_162 rfl rfl ?_
              refine ct_ldc2 S q1901 dX5_bookLine_163 ?_
              refine ct_rc (fun b115 ci116 V117 hb118 hc119 hi120 => ?_)
              refine ct_cI (st := []) (cg_virtual (av := [cz_j 512801993331]) S hb118 hc119 hi120 (fun _ e => mt_X5_isWord e) md_X5_isWord q2094 q2096 se_HeldCoatsModel_isWord__J_Z_HeldCoatsModel (by decide) (Nat.le_of_ble_eq_true rfl) rfl dX5_bookLine_166) (fun x122 h121 => ?_)
              refine ct_if_ne (tgt := 178) S dX5_bookLine_169 (by decide) ?_ ?_
              · refine ct_aload_n (k := 0) S dX5_bookLine_178 rfl rfl ?_
                refine ct_rc (fun b123 ci124 V125 hb126 hc127 hi128 => ?_)
                refine ct_cV (st := []) (cg_virtual (av := []) S hb126 hc127 hi128 (fun _ e => mt_X5_next e) md_X5_next q2076 q2078 se_HeldCoatsModel_next___V_HeldCoatsModel (by decide) (Nat.le_of_ble_eq_true rfl) rfl dX5_bookLine_179) (fun h129 => ?_)
                refine ct_aload_n (k := 0) S dX5_bookLine_182 rfl rfl ?_
                refine ct_getR S fw_X5_40 dX5_bookLine_183 (fun r130 => ?_)
                refine ct_iload_n (k := 1) S dX5_bookLine_186 rfl rfl ?_
                refine ct_iconst (v := 1) S dX5_bookLine_187 kI_1 ?_
                refine ct_iast S dX5_bookLine_188 (fun h131 => ?_)
                refine ct_aload_n (k := 0) S dX5_bookLine_189 rfl rfl ?_
                refine ct_bipush (v := 14) S dX5_bookLine_190 kB_14 ?_
                refine ct_aload_n (k := 0) S dX5_bookLine_192 rfl rfl ?_
                refine ct_getR S fw_X5_33 dX5_bookLine_193 (fun r132 => ?_)
                refine ct_iconst (v := 2) S dX5_bookLine_196 kI_2 ?_
                refine ct_iald S dX5_bookLine_197 (fun x133 => ?_)
                refine ct_rc (fun b134 ci135 V136 hb137 hc138 hi139 => ?_)
                refine ct_cI (st := []) (cg_virtual (av := [cz_i 14, cz_i x133]) S hb137 hc138 hi139 (fun _ e => mt_X5_takesName e) md_X5_takesName q2125 q2127 se_HeldCoatsModel_takesName__II_Z_HeldCoatsModel (by decide) (Nat.le_of_ble_eq_true rfl) rfl dX5_bookLine_198) (fun x141 h140 => ?_)
                refine ct_if_ne (tgt := 206) S dX5_bookLine_201 (by decide) ?_ ?_
                · refine ct_aload_n (k := 0) S dX5_bookLine_206 rfl rfl ?_
                  refine ct_getR S fw_X5_40 dX5_bookLine_207 (fun r142 => ?_)
                  refine ct_iload_n (k := 1) S dX5_bookLine_210 rfl rfl ?_
                  refine ct_iconst (v := 2) S dX5_bookLine_211 kI_2 ?_
                  refine ct_iadd S dX5_bookLine_212 ?_
                  refine ct_aload_n (k := 0) S dX5_bookLine_213 rfl rfl ?_
                  refine ct_getI S fw_X5_175 dX5_bookLine_214 (fun x143 => ?_)
                  refine ct_iast S dX5_bookLine_217 (fun h144 => ?_)
                  refine ct_iconst (v := 1) S dX5_bookLine_218 kI_1 ?_
                  exact ct_zr (ty := .boolean) S rfl rfl dX5_bookLine_219
                · refine ct_iconst (v := 0) S dX5_bookLine_204 kI_0 ?_
                  exact ct_zr (ty := .boolean) S rfl rfl dX5_bookLine_205
              · refine ct_aload_n (k := 0) S dX5_bookLine_172 rfl rfl ?_
                refine ct_iconst (v := 1) S dX5_bookLine_173 kI_1 ?_
                refine ct_rc (fun b145 ci146 V147 hb148 hc149 hi150 => ?_)
                refine ct_cI (st := []) (cg_virtual (av := [cz_i 1]) S hb148 hc149 hi150 (fun _ e => mt_X5_bad e) md_X5_bad q2098 q2100 se_HeldCoatsModel_bad__I_Z_HeldCoatsModel (by decide) (Nat.le_of_ble_eq_true rfl) rfl dX5_bookLine_174) (fun x152 h151 => ?_)
                refine ct_ckz (fun hx => ?_)
                exact ct_zr (ty := .boolean) S rfl (cz_nz hx) dX5_bookLine_177
          · refine ct_if_ge (tgt := 156) S dX5_bookLine_149 (by decide) ?_ ?_
            · refine ct_iload_n (k := 2) S dX5_bookLine_156 rfl rfl ?_
              exact ct_sub [0, 1, 2] rfl (Hj153 x28 h47)
            · refine ct_iload_n (k := 3) S dX5_bookLine_152 rfl rfl ?_
              refine ct_goto (tgt := 157) S dX5_bookLine_153 (by decide) ?_
              exact ct_sub [0, 1, 2] rfl (Hj153 x38 h47)
        · refine ct_aload_n (k := 0) S dX5_bookLine_131 rfl rfl ?_
          refine ct_iconst (v := 4) S dX5_bookLine_132 kI_4 ?_
          refine ct_rc (fun b154 ci155 V156 hb157 hc158 hi159 => ?_)
          refine ct_cI (st := []) (cg_virtual (av := [cz_i 4]) S hb157 hc158 hi159 (fun _ e => mt_X5_bad e) md_X5_bad q2098 q2100 se_HeldCoatsModel_bad__I_Z_HeldCoatsModel (by decide) (Nat.le_of_ble_eq_true rfl) rfl dX5_bookLine_133) (fun x161 h160 => ?_)
          refine ct_ckz (fun hx => ?_)
          exact ct_zr (ty := .boolean) S rfl (cz_nz hx) dX5_bookLine_136
      · refine ct_if_ge (tgt := 122) S dX5_bookLine_109 (by decide) ?_ ?_
        · exact ct_sub [3, 2, 1, 0] rfl (Hj162 h37)
        · refine ct_iload_n (k := 0) S dX5_bookLine_112 rfl rfl ?_
          refine ct_if_ge (tgt := 122) S dX5_bookLine_113 (by decide) ?_ ?_
          · exact ct_sub [3, 2, 1, 0] rfl (Hj162 h37)
          · refine ct_aload_n (k := 3) S dX5_bookLine_116 rfl rfl ?_
            refine ct_iconst (v := 3) S dX5_bookLine_117 kI_3 ?_
            refine ct_rc (fun b163 ci164 V165 hb166 hc167 hi168 => ?_)
            refine ct_cI (st := []) (cg_virtual (av := [cz_i 3]) S hb166 hc167 hi168 (fun _ e => mt_X5_bad e) md_X5_bad q2098 q2100 se_HeldCoatsModel_bad__I_Z_HeldCoatsModel (by decide) (Nat.le_of_ble_eq_true rfl) rfl dX5_bookLine_118) (fun x170 h169 => ?_)
            refine ct_ckz (fun hx => ?_)
            exact ct_zr (ty := .boolean) S rfl (cz_nz hx) dX5_bookLine_121
    · refine ct_aload_n (k := 1) S dX5_bookLine_76 rfl rfl ?_
      refine ct_iconst (v := 1) S dX5_bookLine_77 kI_1 ?_
      refine ct_rc (fun b171 ci172 V173 hb174 hc175 hi176 => ?_)
      refine ct_cI (st := []) (cg_virtual (av := [cz_i 1]) S hb174 hc175 hi176 (fun _ e => mt_X5_bad e) md_X5_bad q2098 q2100 se_HeldCoatsModel_bad__I_Z_HeldCoatsModel (by decide) (Nat.le_of_ble_eq_true rfl) rfl dX5_bookLine_78) (fun x178 h177 => ?_)
      refine ct_ckz (fun hx => ?_)
      exact ct_zr (ty := .boolean) S rfl (cz_nz hx) dX5_bookLine_81
  · refine ct_aload_n (k := 1) S dX5_bookLine_17 rfl rfl ?_
    refine ct_getI S fw_X5_397 dX5_bookLine_18 (fun x179 => ?_)
    refine ct_bipush (v := 40) S dX5_bookLine_21 kB_40 ?_
    refine ct_icmp_ne (tgt := 32) S dX5_bookLine_23 (by decide) ?_ ?_
    · refine ct_aload_n (k := 1) S dX5_bookLine_32 rfl rfl ?_
      refine ct_rc (fun b180 ci181 V182 hb183 hc184 hi185 => ?_)
      refine ct_cV (st := []) (cg_virtual (av := []) S hb183 hc184 hi185 (fun _ e => mt_X5_next e) md_X5_next q2076 q2078 se_HeldCoatsModel_next___V_HeldCoatsModel (by decide) (Nat.le_of_ble_eq_true rfl) rfl dX5_bookLine_33) (fun h186 => ?_)
      refine ct_aload_n (k := 1) S dX5_bookLine_36 rfl rfl ?_
      refine ct_getR S fw_X5_40 dX5_bookLine_37 (fun r187 => ?_)
      refine ct_iload_n (k := 0) S dX5_bookLine_40 rfl rfl ?_
      refine ct_iconst (v := 4) S dX5_bookLine_41 kI_4 ?_
      refine ct_iast S dX5_bookLine_42 (fun h188 => ?_)
      refine ct_aload_n (k := 1) S dX5_bookLine_43 rfl rfl ?_
      refine ct_iconst (v := 1) S dX5_bookLine_44 kI_1 ?_
      refine ct_bipush (v := 60) S dX5_bookLine_45 kB_60 ?_
      refine ct_rc (fun b189 ci190 V191 hb192 hc193 hi194 => ?_)
      refine ct_cI (st := []) (cg_virtual (av := [cz_i 1, cz_i 60]) S hb192 hc193 hi194 (fun _ e => mt_X5_takes e) md_X5_takes q2118 q2120 se_HeldCoatsModel_takes__II_Z_HeldCoatsModel (by decide) (Nat.le_of_ble_eq_true rfl) rfl dX5_bookLine_47) (fun x196 h195 => ?_)
      refine ct_if_ne (tgt := 55) S dX5_bookLine_50 (by decide) ?_ ?_
      · refine ct_aload_n (k := 1) S dX5_bookLine_55 rfl rfl ?_
        refine ct_getR S fw_X5_40 dX5_bookLine_56 (fun r197 => ?_)
        refine ct_iload_n (k := 0) S dX5_bookLine_59 rfl rfl ?_
        refine ct_iconst (v := 1) S dX5_bookLine_60 kI_1 ?_
        refine ct_iadd S dX5_bookLine_61 ?_
        refine ct_aload_n (k := 1) S dX5_bookLine_62 rfl rfl ?_
        refine ct_getI S fw_X5_175 dX5_bookLine_63 (fun x198 => ?_)
        refine ct_iast S dX5_bookLine_66 (fun h199 => ?_)
        refine ct_iconst (v := 1) S dX5_bookLine_67 kI_1 ?_
        exact ct_zr (ty := .boolean) S rfl rfl dX5_bookLine_68
      · refine ct_iconst (v := 0) S dX5_bookLine_53 kI_0 ?_
        exact ct_zr (ty := .boolean) S rfl rfl dX5_bookLine_54
    · refine ct_aload_n (k := 1) S dX5_bookLine_26 rfl rfl ?_
      refine ct_iconst (v := 4) S dX5_bookLine_27 kI_4 ?_
      refine ct_rc (fun b200 ci201 V202 hb203 hc204 hi205 => ?_)
      refine ct_cI (st := []) (cg_virtual (av := [cz_i 4]) S hb203 hc204 hi205 (fun _ e => mt_X5_bad e) md_X5_bad q2098 q2100 se_HeldCoatsModel_bad__I_Z_HeldCoatsModel (by decide) (Nat.le_of_ble_eq_true rfl) rfl dX5_bookLine_28) (fun x207 h206 => ?_)
      refine ct_ckz (fun hx => ?_)
      exact ct_zr (ty := .boolean) S rfl (cz_nz hx) dX5_bookLine_31
theorem mt_X5_bookLine {l : Launch} {D : cz_D} {l0 : Option Nat} {h : cz_H} {oh : cz_O × cz_H} (hz : fn_X5_bookLine l0 h = some oh) : cz_M l D yX5_bookLine (ws_ yX5_bookLine cX5_bookLine 5 ((Option.some Jvm.ClassFile.FieldType.boolean))) 5 [cz_r l0] h oh := cz_met (plainFor_of_name (by decide)) (Nat.le_of_ble_eq_true rfl) hz (fun K hl S => wk_X5_bookLine S)
/-! HeldCoatsModel.goesOn(I)I -/
def dkwX5_goesOn_1 : List UInt8 := [132, 2, 1, 167, 255, 231, 28, 172]
abbrev dktX5_goesOn_1 : List UInt8 := dkwX5_goesOn_1 ++ []
def dkwX5_goesOn_0 : List UInt8 := [3, 61, 28, 27, 162, 0, 26, 42, 180, 0, 33, 16, 62, 46, 17, 1, 144, 162, 0, 13, 42, 182, 1, 42]
abbrev dktX5_goesOn_0 : List UInt8 := dkwX5_goesOn_0 ++ dktX5_goesOn_1
theorem dksX5_goesOn_0 : cX5_goesOn.data.toList.drop 0 = dktX5_goesOn_0 := by decide +kernel
theorem dksX5_goesOn_1 : cX5_goesOn.data.toList.drop 24 = dktX5_goesOn_1 := dk_seg dksX5_goesOn_0 24 rfl rfl
theorem dX5_goesOn_0 : decode cX5_goesOn 0 = .ok (.iconst 0, 1) := dk_3 (dk_at dksX5_goesOn_0 0 rfl rfl)
theorem dX5_goesOn_1 : decode cX5_goesOn 1 = .ok (.istore_n 2, 1) := dk_61 (dk_at dksX5_goesOn_0 1 rfl rfl)
theorem dX5_goesOn_2 : decode cX5_goesOn 2 = .ok (.iload_n 2, 1) := dk_28 (dk_at dksX5_goesOn_0 2 rfl rfl)
theorem dX5_goesOn_3 : decode cX5_goesOn 3 = .ok (.iload_n 1, 1) := dk_27 (dk_at dksX5_goesOn_0 3 rfl rfl)
theorem dX5_goesOn_4 : decode cX5_goesOn 4 = .ok (.if_icmp .ge 26, 3) := dk_162 0 26 (dk_at dksX5_goesOn_0 4 rfl rfl)
theorem dX5_goesOn_7 : decode cX5_goesOn 7 = .ok (.aload_n 0, 1) := dk_42 (dk_at dksX5_goesOn_0 7 rfl rfl)
theorem dX5_goesOn_8 : decode cX5_goesOn 8 = .ok (.getfield 33, 3) := dk_180 0 33 (dk_at dksX5_goesOn_0 8 rfl rfl)
theorem dX5_goesOn_11 : decode cX5_goesOn 11 = .ok (.bipush 62, 2) := dk_16 62 (dk_at dksX5_goesOn_0 11 rfl rfl)
theorem dX5_goesOn_13 : decode cX5_goesOn 13 = .ok (.iaload, 1) := dk_46 (dk_at dksX5_goesOn_0 13 rfl rfl)
theorem dX5_goesOn_14 : decode cX5_goesOn 14 = .ok (.sipush 400, 3) := dk_17 1 144 (dk_at dksX5_goesOn_0 14 rfl rfl)
theorem dX5_goesOn_17 : decode cX5_goesOn 17 = .ok (.if_icmp .ge 13, 3) := dk_162 0 13 (dk_at dksX5_goesOn_0 17 rfl rfl)
theorem dX5_goesOn_20 : decode cX5_goesOn 20 = .ok (.aload_n 0, 1) := dk_42 (dk_at dksX5_goesOn_0 20 rfl rfl)
theorem dX5_goesOn_21 : decode cX5_goesOn 21 = .ok (.invokevirtual 298, 3) := dk_182 1 42 (dk_at dksX5_goesOn_0 21 rfl rfl)
theorem dX5_goesOn_24 : decode cX5_goesOn 24 = .ok (.iinc 2 1, 3) := dk_132 2 1 (dk_at dksX5_goesOn_1 0 rfl rfl)
theorem dX5_goesOn_27 : decode cX5_goesOn 27 = .ok (.goto (-25), 3) := dk_167 255 231 (dk_at dksX5_goesOn_1 3 rfl rfl)
theorem dX5_goesOn_30 : decode cX5_goesOn 30 = .ok (.iload_n 2, 1) := dk_28 (dk_at dksX5_goesOn_1 6 rfl rfl)
theorem dX5_goesOn_31 : decode cX5_goesOn 31 = .ok (.ireturn, 1) := dk_172 (dk_at dksX5_goesOn_1 7 rfl rfl)
set_option maxHeartbeats 4000000 in
set_option maxRecDepth 100000 in
noncomputable def fn_X5_goesOn_2 (l0 : Option Nat) (l1 : Int32) (k0 : Int32 → cz_H → cz_Z) : Nat → Int32 → cz_H → cz_Z
  | 0, _, _ => none
  | n + 1, l2, h => (if l1 ≤ l2 then k0 l2 h else cz_getR h l0 [(5, 6)] (fun r1 => cz_iald h r1 62 (fun x2 => (if (400 : Int32) ≤ x2 then k0 l2 h else cz_rc h l0 [5] (cz_cV (fn_X5_day l0 h) (fun h9 => cz_leti (l2 + 1) (fun x10 => fn_X5_goesOn_2 l0 l1 k0 n x10 h9)))))))
set_option maxHeartbeats 4000000 in
set_option maxRecDepth 100000 in
theorem wk_X5_goesOn_2 {K : cz_K} {D : cz_D} {h0 : cz_H} {oh : cz_O × cz_H} {l0 : Option Nat} {l1 : Int32} {k0 : Int32 → cz_H → cz_Z} (S : cz_S K D h0 cX5_goesOn 3 "HeldCoatsModel" ((Option.some Jvm.ClassFile.FieldType.int)) "goesOn" ([])) (hk0 : ∀ (e2 : Int32) (h : cz_H), cz_T K D 7 h0 oh 3 (k0 e2 h) h 30 [(2, cz_i e2)] []) : ∀ (n : Nat) (l2 : Int32) (h : cz_H), cz_T K D 7 h0 oh 3 (fn_X5_goesOn_2 l0 l1 k0 n l2 h) h 2 [(0, cz_r l0), (1, cz_i l1), (2, cz_i l2)] [] := by
  intro n
  induction n with
  | zero => intros; exact ct_none
  | succ n ih =>
    intro l2 h
    rw [fn_X5_goesOn_2]
    refine ct_iload_n (k := 2) S dX5_goesOn_2 rfl rfl ?_
    refine ct_iload_n (k := 1) S dX5_goesOn_3 rfl rfl ?_
    refine ct_icmp_ge (tgt := 30) S dX5_goesOn_4 (by decide) ?_ ?_
    · exact ct_sub [2] rfl (hk0 l2 h)
    · refine ct_aload_n (k := 0) S dX5_goesOn_7 rfl rfl ?_
      refine ct_getR S fw_X5_33 dX5_goesOn_8 (fun r1 => ?_)
      refine ct_bipush (v := 62) S dX5_goesOn_11 kB_62 ?_
      refine ct_iald S dX5_goesOn_13 (fun x2 => ?_)
      refine ct_sipush (v := 400) S dX5_goesOn_14 kS_400 ?_
      refine ct_icmp_ge (tgt := 30) S dX5_goesOn_17 (by decide) ?_ ?_
      · exact ct_sub [2] rfl (hk0 l2 h)
      · refine ct_aload_n (k := 0) S dX5_goesOn_20 rfl rfl ?_
        refine ct_rc (fun b3 ci4 V5 hb6 hc7 hi8 => ?_)
        refine ct_cV (st := []) (cg_virtual (av := []) S hb6 hc7 hi8 (fun _ e => mt_X5_day e) md_X5_day q2295 q2297 se_HeldCoatsModel_day___V_HeldCoatsModel (by decide) (Nat.le_of_ble_eq_true rfl) rfl dX5_goesOn_21) (fun h9 => ?_)
        refine ct_iincL (j := 2) (L2 := fun x10 => [(2, cz_i x10), (0, cz_r l0), (1, cz_i l1)]) S dX5_goesOn_24 rfl kI_1 (by decide) (fun _ => rfl) (fun x10 => ?_)
        refine ct_goto (tgt := 2) S dX5_goesOn_27 (by decide) ?_
        exact ct_sub [1, 2, 0] rfl (ih x10 h9)
set_option maxHeartbeats 4000000 in
set_option maxRecDepth 100000 in
noncomputable def fn_X5_goesOn (l0 : Option Nat) (l1 : Int32) (h : cz_H) : cz_Z := fn_X5_goesOn_2 l0 l1 (fun (e11 : Int32) (h12 : cz_H) => some (.inl (some (cz_i e11)), h12)) 1000 0 h
set_option maxHeartbeats 4000000 in
set_option maxRecDepth 100000 in
theorem wk_X5_goesOn {K : cz_K} {D : cz_D} {h0 : cz_H} {oh : cz_O × cz_H} {l0 : Option Nat} {l1 : Int32} {h : cz_H} (S : cz_S K D h0 cX5_goesOn 3 "HeldCoatsModel" ((Option.some Jvm.ClassFile.FieldType.int)) "goesOn" ([])) : cz_T K D 7 h0 oh 3 (fn_X5_goesOn l0 l1 h) h 0 [(0, cz_r l0), (1, cz_i l1)] [] := by
  unfold fn_X5_goesOn
  refine ct_iconst (v := 0) S dX5_goesOn_0 kI_0 ?_
  refine ct_istore_n (L' := [(2, cz_i 0), (0, cz_r l0), (1, cz_i l1)]) S dX5_goesOn_1 rfl (by decide) rfl ?_
  refine ct_sub [1, 2, 0] (L' := [(0, cz_r l0), (1, cz_i l1), (2, cz_i 0)]) rfl (wk_X5_goesOn_2 S ?_ 1000 0 h)
  · intro e11 h12
    refine ct_iload_n (k := 0) S dX5_goesOn_30 rfl rfl ?_
    exact ct_iret S rfl dX5_goesOn_31
theorem mt_X5_goesOn {l : Launch} {D : cz_D} {l0 : Option Nat} {l1 : Int32} {h : cz_H} {oh : cz_O × cz_H} (hz : fn_X5_goesOn l0 l1 h = some oh) : cz_M l D yX5_goesOn (ws_ yX5_goesOn cX5_goesOn 3 ((Option.some Jvm.ClassFile.FieldType.int))) 7 [cz_r l0, cz_i l1] h oh := cz_met (plainFor_of_name (by decide)) (Nat.le_of_ble_eq_true rfl) hz (fun K hl S => wk_X5_goesOn S)
/-! HeldCoatsModel.isWorn(I)Z -/
def dkwX5_isWorn_0 : List UInt8 := [42, 180, 0, 33, 16, 65, 27, 96, 46, 16, 10, 162, 0, 7, 4, 167, 0, 4, 3, 172]
abbrev dktX5_isWorn_0 : List UInt8 := dkwX5_isWorn_0 ++ []
theorem dksX5_isWorn_0 : cX5_isWorn.data.toList.drop 0 = dktX5_isWorn_0 := by decide +kernel
theorem dX5_isWorn_0 : decode cX5_isWorn 0 = .ok (.aload_n 0, 1) := dk_42 (dk_at dksX5_isWorn_0 0 rfl rfl)
theorem dX5_isWorn_1 : decode cX5_isWorn 1 = .ok (.getfield 33, 3) := dk_180 0 33 (dk_at dksX5_isWorn_0 1 rfl rfl)
theorem dX5_isWorn_4 : decode cX5_isWorn 4 = .ok (.bipush 65, 2) := dk_16 65 (dk_at dksX5_isWorn_0 4 rfl rfl)
theorem dX5_isWorn_6 : decode cX5_isWorn 6 = .ok (.iload_n 1, 1) := dk_27 (dk_at dksX5_isWorn_0 6 rfl rfl)
theorem dX5_isWorn_7 : decode cX5_isWorn 7 = .ok (.iadd, 1) := dk_96 (dk_at dksX5_isWorn_0 7 rfl rfl)
theorem dX5_isWorn_8 : decode cX5_isWorn 8 = .ok (.iaload, 1) := dk_46 (dk_at dksX5_isWorn_0 8 rfl rfl)
theorem dX5_isWorn_9 : decode cX5_isWorn 9 = .ok (.bipush 10, 2) := dk_16 10 (dk_at dksX5_isWorn_0 9 rfl rfl)
theorem dX5_isWorn_11 : decode cX5_isWorn 11 = .ok (.if_icmp .ge 7, 3) := dk_162 0 7 (dk_at dksX5_isWorn_0 11 rfl rfl)
theorem dX5_isWorn_14 : decode cX5_isWorn 14 = .ok (.iconst 1, 1) := dk_4 (dk_at dksX5_isWorn_0 14 rfl rfl)
theorem dX5_isWorn_15 : decode cX5_isWorn 15 = .ok (.goto 4, 3) := dk_167 0 4 (dk_at dksX5_isWorn_0 15 rfl rfl)
theorem dX5_isWorn_18 : decode cX5_isWorn 18 = .ok (.iconst 0, 1) := dk_3 (dk_at dksX5_isWorn_0 18 rfl rfl)
theorem dX5_isWorn_19 : decode cX5_isWorn 19 = .ok (.ireturn, 1) := dk_172 (dk_at dksX5_isWorn_0 19 rfl rfl)
set_option maxHeartbeats 4000000 in
set_option maxRecDepth 100000 in
noncomputable def fn_X5_isWorn (l0 : Option Nat) (l1 : Int32) (h : cz_H) : cz_Z := cz_getR h l0 [(5, 6)] (fun r1 => cz_iald h r1 ((65 : Int32) + l1) (fun x2 => (if (10 : Int32) ≤ x2 then some (.inl (some (cz_i 0)), h) else some (.inl (some (cz_i 1)), h))))
set_option maxHeartbeats 4000000 in
set_option maxRecDepth 100000 in
theorem wk_X5_isWorn {K : cz_K} {D : cz_D} {h0 : cz_H} {oh : cz_O × cz_H} {l0 : Option Nat} {l1 : Int32} {h : cz_H} (S : cz_S K D h0 cX5_isWorn 2 "HeldCoatsModel" ((Option.some Jvm.ClassFile.FieldType.boolean)) "isWorn" ([])) : cz_T K D 2 h0 oh 2 (fn_X5_isWorn l0 l1 h) h 0 [(0, cz_r l0), (1, cz_i l1)] [] := by
  unfold fn_X5_isWorn
  refine ct_aload_n (k := 0) S dX5_isWorn_0 rfl rfl ?_
  refine ct_getR S fw_X5_33 dX5_isWorn_1 (fun r1 => ?_)
  refine ct_bipush (v := 65) S dX5_isWorn_4 kB_65 ?_
  refine ct_iload_n (k := 1) S dX5_isWorn_6 rfl rfl ?_
  refine ct_iadd S dX5_isWorn_7 ?_
  refine ct_iald S dX5_isWorn_8 (fun x2 => ?_)
  refine ct_bipush (v := 10) S dX5_isWorn_9 kB_10 ?_
  refine ct_icmp_ge (tgt := 18) S dX5_isWorn_11 (by decide) ?_ ?_
  · refine ct_iconst (v := 0) S dX5_isWorn_18 kI_0 ?_
    exact ct_zr (ty := .boolean) S rfl rfl dX5_isWorn_19
  · refine ct_iconst (v := 1) S dX5_isWorn_14 kI_1 ?_
    refine ct_goto (tgt := 19) S dX5_isWorn_15 (by decide) ?_
    exact ct_zr (ty := .boolean) S rfl rfl dX5_isWorn_19
theorem mt_X5_isWorn {l : Launch} {D : cz_D} {l0 : Option Nat} {l1 : Int32} {h : cz_H} {oh : cz_O × cz_H} (hz : fn_X5_isWorn l0 l1 h = some oh) : cz_M l D yX5_isWorn (ws_ yX5_isWorn cX5_isWorn 2 ((Option.some Jvm.ClassFile.FieldType.boolean))) 2 [cz_r l0, cz_i l1] h oh := cz_met (plainFor_of_name (by decide)) (Nat.le_of_ble_eq_true rfl) hz (fun K hl S => wk_X5_isWorn S)
/-! HeldCoatsModel.lays(II)V -/
def dkwX5_lays_0 : List UInt8 := [42, 180, 0, 33, 16, 65, 27, 96, 16, 10, 28, 96, 79, 42, 180, 0, 33, 16, 89, 27, 96, 3, 79, 177]
abbrev dktX5_lays_0 : List UInt8 := dkwX5_lays_0 ++ []
theorem dksX5_lays_0 : cX5_lays.data.toList.drop 0 = dktX5_lays_0 := by decide +kernel
theorem dX5_lays_0 : decode cX5_lays 0 = .ok (.aload_n 0, 1) := dk_42 (dk_at dksX5_lays_0 0 rfl rfl)
theorem dX5_lays_1 : decode cX5_lays 1 = .ok (.getfield 33, 3) := dk_180 0 33 (dk_at dksX5_lays_0 1 rfl rfl)
theorem dX5_lays_4 : decode cX5_lays 4 = .ok (.bipush 65, 2) := dk_16 65 (dk_at dksX5_lays_0 4 rfl rfl)
theorem dX5_lays_6 : decode cX5_lays 6 = .ok (.iload_n 1, 1) := dk_27 (dk_at dksX5_lays_0 6 rfl rfl)
theorem dX5_lays_7 : decode cX5_lays 7 = .ok (.iadd, 1) := dk_96 (dk_at dksX5_lays_0 7 rfl rfl)
theorem dX5_lays_8 : decode cX5_lays 8 = .ok (.bipush 10, 2) := dk_16 10 (dk_at dksX5_lays_0 8 rfl rfl)
theorem dX5_lays_10 : decode cX5_lays 10 = .ok (.iload_n 2, 1) := dk_28 (dk_at dksX5_lays_0 10 rfl rfl)
theorem dX5_lays_11 : decode cX5_lays 11 = .ok (.iadd, 1) := dk_96 (dk_at dksX5_lays_0 11 rfl rfl)
theorem dX5_lays_12 : decode cX5_lays 12 = .ok (.iastore, 1) := dk_79 (dk_at dksX5_lays_0 12 rfl rfl)
theorem dX5_lays_13 : decode cX5_lays 13 = .ok (.aload_n 0, 1) := dk_42 (dk_at dksX5_lays_0 13 rfl rfl)
theorem dX5_lays_14 : decode cX5_lays 14 = .ok (.getfield 33, 3) := dk_180 0 33 (dk_at dksX5_lays_0 14 rfl rfl)
theorem dX5_lays_17 : decode cX5_lays 17 = .ok (.bipush 89, 2) := dk_16 89 (dk_at dksX5_lays_0 17 rfl rfl)
theorem dX5_lays_19 : decode cX5_lays 19 = .ok (.iload_n 1, 1) := dk_27 (dk_at dksX5_lays_0 19 rfl rfl)
theorem dX5_lays_20 : decode cX5_lays 20 = .ok (.iadd, 1) := dk_96 (dk_at dksX5_lays_0 20 rfl rfl)
theorem dX5_lays_21 : decode cX5_lays 21 = .ok (.iconst 0, 1) := dk_3 (dk_at dksX5_lays_0 21 rfl rfl)
theorem dX5_lays_22 : decode cX5_lays 22 = .ok (.iastore, 1) := dk_79 (dk_at dksX5_lays_0 22 rfl rfl)
theorem dX5_lays_23 : decode cX5_lays 23 = .ok (.return_, 1) := dk_177 (dk_at dksX5_lays_0 23 rfl rfl)
set_option maxHeartbeats 4000000 in
set_option maxRecDepth 100000 in
noncomputable def fn_X5_lays (l0 : Option Nat) (l1 : Int32) (l2 : Int32) (h : cz_H) : cz_Z := cz_getR h l0 [(5, 6)] (fun r1 => cz_iast h r1 ((65 : Int32) + l1) ((10 : Int32) + l2) (fun h2 => cz_getR h2 l0 [(5, 6)] (fun r3 => cz_iast h2 r3 ((89 : Int32) + l1) 0 (fun h4 => some (.inl none, h4)))))
set_option maxHeartbeats 4000000 in
set_option maxRecDepth 100000 in
theorem wk_X5_lays {K : cz_K} {D : cz_D} {h0 : cz_H} {oh : cz_O × cz_H} {l0 : Option Nat} {l1 : Int32} {l2 : Int32} {h : cz_H} (S : cz_S K D h0 cX5_lays 3 "HeldCoatsModel" ((Option.none : Option Jvm.ClassFile.FieldType)) "lays" ([])) : cz_T K D 2 h0 oh 3 (fn_X5_lays l0 l1 l2 h) h 0 [(0, cz_r l0), (1, cz_i l1), (2, cz_i l2)] [] := by
  unfold fn_X5_lays
  refine ct_aload_n (k := 0) S dX5_lays_0 rfl rfl ?_
  refine ct_getR S fw_X5_33 dX5_lays_1 (fun r1 => ?_)
  refine ct_bipush (v := 65) S dX5_lays_4 kB_65 ?_
  refine ct_iload_n (k := 1) S dX5_lays_6 rfl rfl ?_
  refine ct_iadd S dX5_lays_7 ?_
  refine ct_bipush (v := 10) S dX5_lays_8 kB_10 ?_
  refine ct_iload_n (k := 2) S dX5_lays_10 rfl rfl ?_
  refine ct_iadd S dX5_lays_11 ?_
  refine ct_iast S dX5_lays_12 (fun h2 => ?_)
  refine ct_aload_n (k := 0) S dX5_lays_13 rfl rfl ?_
  refine ct_getR S fw_X5_33 dX5_lays_14 (fun r3 => ?_)
  refine ct_bipush (v := 89) S dX5_lays_17 kB_89 ?_
  refine ct_iload_n (k := 1) S dX5_lays_19 rfl rfl ?_
  refine ct_iadd S dX5_lays_20 ?_
  refine ct_iconst (v := 0) S dX5_lays_21 kI_0 ?_
  refine ct_iast S dX5_lays_22 (fun h4 => ?_)
  exact ct_vret S rfl dX5_lays_23
theorem mt_X5_lays {l : Launch} {D : cz_D} {l0 : Option Nat} {l1 : Int32} {l2 : Int32} {h : cz_H} {oh : cz_O × cz_H} (hz : fn_X5_lays l0 l1 l2 h = some oh) : cz_M l D yX5_lays (ws_ yX5_lays cX5_lays 3 ((Option.none : Option Jvm.ClassFile.FieldType))) 2 [cz_r l0, cz_i l1, cz_i l2] h oh := cz_met (plainFor_of_name (by decide)) (Nat.le_of_ble_eq_true rfl) hz (fun K hl S => wk_X5_lays S)
/-! HeldCoatsModel.unqueues(I)V -/
def dkwX5_unqueues_3 : List UInt8 := [28, 96, 3, 79, 177]
abbrev dktX5_unqueues_3 : List UInt8 := dkwX5_unqueues_3 ++ []
def dkwX5_unqueues_2 : List UInt8 := [79, 132, 2, 1, 132, 3, 1, 167, 255, 205, 42, 180, 0, 33, 16, 117, 28, 79, 42, 180, 0, 33, 16, 109]
abbrev dktX5_unqueues_2 : List UInt8 := dkwX5_unqueues_2 ++ dktX5_unqueues_3
def dkwX5_unqueues_1 : List UInt8 := [27, 160, 0, 6, 167, 0, 24, 42, 180, 0, 33, 16, 109, 28, 96, 42, 180, 0, 33, 16, 109, 29, 96, 46]
abbrev dktX5_unqueues_1 : List UInt8 := dkwX5_unqueues_1 ++ dktX5_unqueues_2
def dkwX5_unqueues_0 : List UInt8 := [3, 61, 3, 62, 29, 42, 180, 0, 33, 16, 117, 46, 162, 0, 46, 42, 180, 0, 33, 16, 109, 29, 96, 46]
abbrev dktX5_unqueues_0 : List UInt8 := dkwX5_unqueues_0 ++ dktX5_unqueues_1
theorem dksX5_unqueues_0 : cX5_unqueues.data.toList.drop 0 = dktX5_unqueues_0 := by decide +kernel
theorem dksX5_unqueues_1 : cX5_unqueues.data.toList.drop 24 = dktX5_unqueues_1 := dk_seg dksX5_unqueues_0 24 rfl rfl
theorem dksX5_unqueues_2 : cX5_unqueues.data.toList.drop 48 = dktX5_unqueues_2 := dk_seg dksX5_unqueues_1 24 rfl rfl
theorem dksX5_unqueues_3 : cX5_unqueues.data.toList.drop 72 = dktX5_unqueues_3 := dk_seg dksX5_unqueues_2 24 rfl rfl
theorem dX5_unqueues_0 : decode cX5_unqueues 0 = .ok (.iconst 0, 1) := dk_3 (dk_at dksX5_unqueues_0 0 rfl rfl)
theorem dX5_unqueues_1 : decode cX5_unqueues 1 = .ok (.istore_n 2, 1) := dk_61 (dk_at dksX5_unqueues_0 1 rfl rfl)
theorem dX5_unqueues_2 : decode cX5_unqueues 2 = .ok (.iconst 0, 1) := dk_3 (dk_at dksX5_unqueues_0 2 rfl rfl)
theorem dX5_unqueues_3 : decode cX5_unqueues 3 = .ok (.istore_n 3, 1) := dk_62 (dk_at dksX5_unqueues_0 3 rfl rfl)
theorem dX5_unqueues_4 : decode cX5_unqueues 4 = .ok (.iload_n 3, 1) := dk_29 (dk_at dksX5_unqueues_0 4 rfl rfl)
theorem dX5_unqueues_5 : decode cX5_unqueues 5 = .ok (.aload_n 0, 1) := dk_42 (dk_at dksX5_unqueues_0 5 rfl rfl)
theorem dX5_unqueues_6 : decode cX5_unqueues 6 = .ok (.getfield 33, 3) := dk_180 0 33 (dk_at dksX5_unqueues_0 6 rfl rfl)
theorem dX5_unqueues_9 : decode cX5_unqueues 9 = .ok (.bipush 117, 2) := dk_16 117 (dk_at dksX5_unqueues_0 9 rfl rfl)
theorem dX5_unqueues_11 : decode cX5_unqueues 11 = .ok (.iaload, 1) := dk_46 (dk_at dksX5_unqueues_0 11 rfl rfl)
theorem dX5_unqueues_12 : decode cX5_unqueues 12 = .ok (.if_icmp .ge 46, 3) := dk_162 0 46 (dk_at dksX5_unqueues_0 12 rfl rfl)
theorem dX5_unqueues_15 : decode cX5_unqueues 15 = .ok (.aload_n 0, 1) := dk_42 (dk_at dksX5_unqueues_0 15 rfl rfl)
theorem dX5_unqueues_16 : decode cX5_unqueues 16 = .ok (.getfield 33, 3) := dk_180 0 33 (dk_at dksX5_unqueues_0 16 rfl rfl)
theorem dX5_unqueues_19 : decode cX5_unqueues 19 = .ok (.bipush 109, 2) := dk_16 109 (dk_at dksX5_unqueues_0 19 rfl rfl)
theorem dX5_unqueues_21 : decode cX5_unqueues 21 = .ok (.iload_n 3, 1) := dk_29 (dk_at dksX5_unqueues_0 21 rfl rfl)
theorem dX5_unqueues_22 : decode cX5_unqueues 22 = .ok (.iadd, 1) := dk_96 (dk_at dksX5_unqueues_0 22 rfl rfl)
theorem dX5_unqueues_23 : decode cX5_unqueues 23 = .ok (.iaload, 1) := dk_46 (dk_at dksX5_unqueues_0 23 rfl rfl)
theorem dX5_unqueues_24 : decode cX5_unqueues 24 = .ok (.iload_n 1, 1) := dk_27 (dk_at dksX5_unqueues_1 0 rfl rfl)
theorem dX5_unqueues_25 : decode cX5_unqueues 25 = .ok (.if_icmp .ne 6, 3) := dk_160 0 6 (dk_at dksX5_unqueues_1 1 rfl rfl)
theorem dX5_unqueues_28 : decode cX5_unqueues 28 = .ok (.goto 24, 3) := dk_167 0 24 (dk_at dksX5_unqueues_1 4 rfl rfl)
theorem dX5_unqueues_31 : decode cX5_unqueues 31 = .ok (.aload_n 0, 1) := dk_42 (dk_at dksX5_unqueues_1 7 rfl rfl)
theorem dX5_unqueues_32 : decode cX5_unqueues 32 = .ok (.getfield 33, 3) := dk_180 0 33 (dk_at dksX5_unqueues_1 8 rfl rfl)
theorem dX5_unqueues_35 : decode cX5_unqueues 35 = .ok (.bipush 109, 2) := dk_16 109 (dk_at dksX5_unqueues_1 11 rfl rfl)
theorem dX5_unqueues_37 : decode cX5_unqueues 37 = .ok (.iload_n 2, 1) := dk_28 (dk_at dksX5_unqueues_1 13 rfl rfl)
theorem dX5_unqueues_38 : decode cX5_unqueues 38 = .ok (.iadd, 1) := dk_96 (dk_at dksX5_unqueues_1 14 rfl rfl)
theorem dX5_unqueues_39 : decode cX5_unqueues 39 = .ok (.aload_n 0, 1) := dk_42 (dk_at dksX5_unqueues_1 15 rfl rfl)
theorem dX5_unqueues_40 : decode cX5_unqueues 40 = .ok (.getfield 33, 3) := dk_180 0 33 (dk_at dksX5_unqueues_1 16 rfl rfl)
theorem dX5_unqueues_43 : decode cX5_unqueues 43 = .ok (.bipush 109, 2) := dk_16 109 (dk_at dksX5_unqueues_1 19 rfl rfl)
theorem dX5_unqueues_45 : decode cX5_unqueues 45 = .ok (.iload_n 3, 1) := dk_29 (dk_at dksX5_unqueues_1 21 rfl rfl)
theorem dX5_unqueues_46 : decode cX5_unqueues 46 = .ok (.iadd, 1) := dk_96 (dk_at dksX5_unqueues_1 22 rfl rfl)
theorem dX5_unqueues_47 : decode cX5_unqueues 47 = .ok (.iaload, 1) := dk_46 (dk_at dksX5_unqueues_1 23 rfl rfl)
theorem dX5_unqueues_48 : decode cX5_unqueues 48 = .ok (.iastore, 1) := dk_79 (dk_at dksX5_unqueues_2 0 rfl rfl)
theorem dX5_unqueues_49 : decode cX5_unqueues 49 = .ok (.iinc 2 1, 3) := dk_132 2 1 (dk_at dksX5_unqueues_2 1 rfl rfl)
theorem dX5_unqueues_52 : decode cX5_unqueues 52 = .ok (.iinc 3 1, 3) := dk_132 3 1 (dk_at dksX5_unqueues_2 4 rfl rfl)
theorem dX5_unqueues_55 : decode cX5_unqueues 55 = .ok (.goto (-51), 3) := dk_167 255 205 (dk_at dksX5_unqueues_2 7 rfl rfl)
theorem dX5_unqueues_58 : decode cX5_unqueues 58 = .ok (.aload_n 0, 1) := dk_42 (dk_at dksX5_unqueues_2 10 rfl rfl)
theorem dX5_unqueues_59 : decode cX5_unqueues 59 = .ok (.getfield 33, 3) := dk_180 0 33 (dk_at dksX5_unqueues_2 11 rfl rfl)
theorem dX5_unqueues_62 : decode cX5_unqueues 62 = .ok (.bipush 117, 2) := dk_16 117 (dk_at dksX5_unqueues_2 14 rfl rfl)
theorem dX5_unqueues_64 : decode cX5_unqueues 64 = .ok (.iload_n 2, 1) := dk_28 (dk_at dksX5_unqueues_2 16 rfl rfl)
theorem dX5_unqueues_65 : decode cX5_unqueues 65 = .ok (.iastore, 1) := dk_79 (dk_at dksX5_unqueues_2 17 rfl rfl)
theorem dX5_unqueues_66 : decode cX5_unqueues 66 = .ok (.aload_n 0, 1) := dk_42 (dk_at dksX5_unqueues_2 18 rfl rfl)
theorem dX5_unqueues_67 : decode cX5_unqueues 67 = .ok (.getfield 33, 3) := dk_180 0 33 (dk_at dksX5_unqueues_2 19 rfl rfl)
theorem dX5_unqueues_70 : decode cX5_unqueues 70 = .ok (.bipush 109, 2) := dk_16 109 (dk_at dksX5_unqueues_2 22 rfl rfl)
theorem dX5_unqueues_72 : decode cX5_unqueues 72 = .ok (.iload_n 2, 1) := dk_28 (dk_at dksX5_unqueues_3 0 rfl rfl)
theorem dX5_unqueues_73 : decode cX5_unqueues 73 = .ok (.iadd, 1) := dk_96 (dk_at dksX5_unqueues_3 1 rfl rfl)
theorem dX5_unqueues_74 : decode cX5_unqueues 74 = .ok (.iconst 0, 1) := dk_3 (dk_at dksX5_unqueues_3 2 rfl rfl)
theorem dX5_unqueues_75 : decode cX5_unqueues 75 = .ok (.iastore, 1) := dk_79 (dk_at dksX5_unqueues_3 3 rfl rfl)
theorem dX5_unqueues_76 : decode cX5_unqueues 76 = .ok (.return_, 1) := dk_177 (dk_at dksX5_unqueues_3 4 rfl rfl)
set_option maxHeartbeats 4000000 in
set_option maxRecDepth 100000 in
noncomputable def fn_X5_unqueues_4 (l0 : Option Nat) (l1 : Int32) (k0 : Int32 → cz_H → cz_Z) : Nat → Int32 → Int32 → cz_H → cz_Z
  | 0, _, _, _ => none
  | n + 1, l2, l3, h => cz_getR h l0 [(5, 6)] (fun r1 => cz_iald h r1 117 (fun x2 => (if x2 ≤ l3 then k0 l2 h else cz_getR h l0 [(5, 6)] (fun r3 => cz_iald h r3 ((109 : Int32) + l3) (fun x4 => (if x4 = l1 then cz_leti (l3 + 1) (fun x11 => fn_X5_unqueues_4 l0 l1 k0 n l2 x11 h) else cz_getR h l0 [(5, 6)] (fun r5 => cz_getR h l0 [(5, 6)] (fun r6 => cz_iald h r6 ((109 : Int32) + l3) (fun x7 => cz_iast h r5 ((109 : Int32) + l2) x7 (fun h8 => cz_leti (l2 + 1) (fun x9 => cz_leti (l3 + 1) (fun x10 => fn_X5_unqueues_4 l0 l1 k0 n x9 x10 h8))))))))))))
set_option maxHeartbeats 4000000 in
set_option maxRecDepth 100000 in
theorem wk_X5_unqueues_4 {K : cz_K} {D : cz_D} {h0 : cz_H} {oh : cz_O × cz_H} {l0 : Option Nat} {l1 : Int32} {k0 : Int32 → cz_H → cz_Z} (S : cz_S K D h0 cX5_unqueues 4 "HeldCoatsModel" ((Option.none : Option Jvm.ClassFile.FieldType)) "unqueues" ([])) (hk0 : ∀ (e2 : Int32) (h : cz_H), cz_T K D 2 h0 oh 4 (k0 e2 h) h 58 [(0, cz_r l0), (2, cz_i e2)] []) : ∀ (n : Nat) (l2 : Int32) (l3 : Int32) (h : cz_H), cz_T K D 2 h0 oh 4 (fn_X5_unqueues_4 l0 l1 k0 n l2 l3 h) h 4 [(0, cz_r l0), (1, cz_i l1), (2, cz_i l2), (3, cz_i l3)] [] := by
  intro n
  induction n with
  | zero => intros; exact ct_none
  | succ n ih =>
    intro l2 l3 h
    rw [fn_X5_unqueues_4]
    refine ct_iload_n (k := 3) S dX5_unqueues_4 rfl rfl ?_
    refine ct_aload_n (k := 0) S dX5_unqueues_5 rfl rfl ?_
    refine ct_getR S fw_X5_33 dX5_unqueues_6 (fun r1 => ?_)
    refine ct_bipush (v := 117) S dX5_unqueues_9 kB_117 ?_
    refine ct_iald S dX5_unqueues_11 (fun x2 => ?_)
    refine ct_icmp_ge (tgt := 58) S dX5_unqueues_12 (by decide) ?_ ?_
    · exact ct_sub [0, 2] rfl (hk0 l2 h)
    · refine ct_aload_n (k := 0) S dX5_unqueues_15 rfl rfl ?_
      refine ct_getR S fw_X5_33 dX5_unqueues_16 (fun r3 => ?_)
      refine ct_bipush (v := 109) S dX5_unqueues_19 kB_109 ?_
      refine ct_iload_n (k := 3) S dX5_unqueues_21 rfl rfl ?_
      refine ct_iadd S dX5_unqueues_22 ?_
      refine ct_iald S dX5_unqueues_23 (fun x4 => ?_)
      refine ct_iload_n (k := 1) S dX5_unqueues_24 rfl rfl ?_
      refine ct_icmp_ne (tgt := 31) S dX5_unqueues_25 (by decide) ?_ ?_
      · refine ct_aload_n (k := 0) S dX5_unqueues_31 rfl rfl ?_
        refine ct_getR S fw_X5_33 dX5_unqueues_32 (fun r5 => ?_)
        refine ct_bipush (v := 109) S dX5_unqueues_35 kB_109 ?_
        refine ct_iload_n (k := 2) S dX5_unqueues_37 rfl rfl ?_
        refine ct_iadd S dX5_unqueues_38 ?_
        refine ct_aload_n (k := 0) S dX5_unqueues_39 rfl rfl ?_
        refine ct_getR S fw_X5_33 dX5_unqueues_40 (fun r6 => ?_)
        refine ct_bipush (v := 109) S dX5_unqueues_43 kB_109 ?_
        refine ct_iload_n (k := 3) S dX5_unqueues_45 rfl rfl ?_
        refine ct_iadd S dX5_unqueues_46 ?_
        refine ct_iald S dX5_unqueues_47 (fun x7 => ?_)
        refine ct_iast S dX5_unqueues_48 (fun h8 => ?_)
        refine ct_iincL (j := 2) (L2 := fun x9 => [(2, cz_i x9), (0, cz_r l0), (1, cz_i l1), (3, cz_i l3)]) S dX5_unqueues_49 rfl kI_1 (by decide) (fun _ => rfl) (fun x9 => ?_)
        refine ct_iincL (j := 3) (L2 := fun x10 => [(3, cz_i x10), (2, cz_i x9), (0, cz_r l0), (1, cz_i l1)]) S dX5_unqueues_52 rfl kI_1 (by decide) (fun _ => rfl) (fun x10 => ?_)
        refine ct_goto (tgt := 4) S dX5_unqueues_55 (by decide) ?_
        exact ct_sub [2, 3, 1, 0] rfl (ih x9 x10 h8)
      · refine ct_goto (tgt := 52) S dX5_unqueues_28 (by decide) ?_
        refine ct_iincL (j := 3) (L2 := fun x11 => [(3, cz_i x11), (0, cz_r l0), (1, cz_i l1), (2, cz_i l2)]) S dX5_unqueues_52 rfl kI_1 (by decide) (fun _ => rfl) (fun x11 => ?_)
        refine ct_goto (tgt := 4) S dX5_unqueues_55 (by decide) ?_
        exact ct_sub [1, 2, 3, 0] rfl (ih l2 x11 h)
set_option maxHeartbeats 4000000 in
set_option maxRecDepth 100000 in
noncomputable def fn_X5_unqueues (l0 : Option Nat) (l1 : Int32) (h : cz_H) : cz_Z := fn_X5_unqueues_4 l0 l1 (fun (e12 : Int32) (h13 : cz_H) => cz_getR h13 l0 [(5, 6)] (fun r14 => cz_iast h13 r14 117 e12 (fun h15 => cz_getR h15 l0 [(5, 6)] (fun r16 => cz_iast h15 r16 ((109 : Int32) + e12) 0 (fun h17 => some (.inl none, h17)))))) 1000 0 0 h
set_option maxHeartbeats 4000000 in
set_option maxRecDepth 100000 in
theorem wk_X5_unqueues {K : cz_K} {D : cz_D} {h0 : cz_H} {oh : cz_O × cz_H} {l0 : Option Nat} {l1 : Int32} {h : cz_H} (S : cz_S K D h0 cX5_unqueues 4 "HeldCoatsModel" ((Option.none : Option Jvm.ClassFile.FieldType)) "unqueues" ([])) : cz_T K D 2 h0 oh 4 (fn_X5_unqueues l0 l1 h) h 0 [(0, cz_r l0), (1, cz_i l1)] [] := by
  unfold fn_X5_unqueues
  refine ct_iconst (v := 0) S dX5_unqueues_0 kI_0 ?_
  refine ct_istore_n (L' := [(2, cz_i 0), (0, cz_r l0), (1, cz_i l1)]) S dX5_unqueues_1 rfl (by decide) rfl ?_
  refine ct_iconst (v := 0) S dX5_unqueues_2 kI_0 ?_
  refine ct_istore_n (L' := [(3, cz_i 0), (2, cz_i 0), (0, cz_r l0), (1, cz_i l1)]) S dX5_unqueues_3 rfl (by decide) rfl ?_
  refine ct_sub [2, 3, 1, 0] (L' := [(0, cz_r l0), (1, cz_i l1), (2, cz_i 0), (3, cz_i 0)]) rfl (wk_X5_unqueues_4 S ?_ 1000 0 0 h)
  · intro e12 h13
    refine ct_aload_n (k := 0) S dX5_unqueues_58 rfl rfl ?_
    refine ct_getR S fw_X5_33 dX5_unqueues_59 (fun r14 => ?_)
    refine ct_bipush (v := 117) S dX5_unqueues_62 kB_117 ?_
    refine ct_iload_n (k := 1) S dX5_unqueues_64 rfl rfl ?_
    refine ct_iast S dX5_unqueues_65 (fun h15 => ?_)
    refine ct_aload_n (k := 0) S dX5_unqueues_66 rfl rfl ?_
    refine ct_getR S fw_X5_33 dX5_unqueues_67 (fun r16 => ?_)
    refine ct_bipush (v := 109) S dX5_unqueues_70 kB_109 ?_
    refine ct_iload_n (k := 1) S dX5_unqueues_72 rfl rfl ?_
    refine ct_iadd S dX5_unqueues_73 ?_
    refine ct_iconst (v := 0) S dX5_unqueues_74 kI_0 ?_
    refine ct_iast S dX5_unqueues_75 (fun h17 => ?_)
    exact ct_vret S rfl dX5_unqueues_76
theorem mt_X5_unqueues {l : Launch} {D : cz_D} {l0 : Option Nat} {l1 : Int32} {h : cz_H} {oh : cz_O × cz_H} (hz : fn_X5_unqueues l0 l1 h = some oh) : cz_M l D yX5_unqueues (ws_ yX5_unqueues cX5_unqueues 4 ((Option.none : Option Jvm.ClassFile.FieldType))) 2 [cz_r l0, cz_i l1] h oh := cz_met (plainFor_of_name (by decide)) (Nat.le_of_ble_eq_true rfl) hz (fun K hl S => wk_X5_unqueues S)
/-! HeldCoatsModel.wears(II)V -/
def dkwX5_wears_1 : List UInt8 := [16, 65, 28, 96, 27, 79, 177]
abbrev dktX5_wears_1 : List UInt8 := dkwX5_wears_1 ++ []
def dkwX5_wears_0 : List UInt8 := [42, 180, 0, 33, 16, 65, 28, 96, 46, 16, 20, 160, 0, 8, 42, 28, 182, 1, 33, 42, 180, 0, 33]
abbrev dktX5_wears_0 : List UInt8 := dkwX5_wears_0 ++ dktX5_wears_1
theorem dksX5_wears_0 : cX5_wears.data.toList.drop 0 = dktX5_wears_0 := by decide +kernel
theorem dksX5_wears_1 : cX5_wears.data.toList.drop 23 = dktX5_wears_1 := dk_seg dksX5_wears_0 23 rfl rfl
theorem dX5_wears_0 : decode cX5_wears 0 = .ok (.aload_n 0, 1) := dk_42 (dk_at dksX5_wears_0 0 rfl rfl)
theorem dX5_wears_1 : decode cX5_wears 1 = .ok (.getfield 33, 3) := dk_180 0 33 (dk_at dksX5_wears_0 1 rfl rfl)
theorem dX5_wears_4 : decode cX5_wears 4 = .ok (.bipush 65, 2) := dk_16 65 (dk_at dksX5_wears_0 4 rfl rfl)
theorem dX5_wears_6 : decode cX5_wears 6 = .ok (.iload_n 2, 1) := dk_28 (dk_at dksX5_wears_0 6 rfl rfl)
theorem dX5_wears_7 : decode cX5_wears 7 = .ok (.iadd, 1) := dk_96 (dk_at dksX5_wears_0 7 rfl rfl)
theorem dX5_wears_8 : decode cX5_wears 8 = .ok (.iaload, 1) := dk_46 (dk_at dksX5_wears_0 8 rfl rfl)
theorem dX5_wears_9 : decode cX5_wears 9 = .ok (.bipush 20, 2) := dk_16 20 (dk_at dksX5_wears_0 9 rfl rfl)
theorem dX5_wears_11 : decode cX5_wears 11 = .ok (.if_icmp .ne 8, 3) := dk_160 0 8 (dk_at dksX5_wears_0 11 rfl rfl)
theorem dX5_wears_14 : decode cX5_wears 14 = .ok (.aload_n 0, 1) := dk_42 (dk_at dksX5_wears_0 14 rfl rfl)
theorem dX5_wears_15 : decode cX5_wears 15 = .ok (.iload_n 2, 1) := dk_28 (dk_at dksX5_wears_0 15 rfl rfl)
theorem dX5_wears_16 : decode cX5_wears 16 = .ok (.invokevirtual 289, 3) := dk_182 1 33 (dk_at dksX5_wears_0 16 rfl rfl)
theorem dX5_wears_19 : decode cX5_wears 19 = .ok (.aload_n 0, 1) := dk_42 (dk_at dksX5_wears_0 19 rfl rfl)
theorem dX5_wears_20 : decode cX5_wears 20 = .ok (.getfield 33, 3) := dk_180 0 33 (dk_at dksX5_wears_0 20 rfl rfl)
theorem dX5_wears_23 : decode cX5_wears 23 = .ok (.bipush 65, 2) := dk_16 65 (dk_at dksX5_wears_1 0 rfl rfl)
theorem dX5_wears_25 : decode cX5_wears 25 = .ok (.iload_n 2, 1) := dk_28 (dk_at dksX5_wears_1 2 rfl rfl)
theorem dX5_wears_26 : decode cX5_wears 26 = .ok (.iadd, 1) := dk_96 (dk_at dksX5_wears_1 3 rfl rfl)
theorem dX5_wears_27 : decode cX5_wears 27 = .ok (.iload_n 1, 1) := dk_27 (dk_at dksX5_wears_1 4 rfl rfl)
theorem dX5_wears_28 : decode cX5_wears 28 = .ok (.iastore, 1) := dk_79 (dk_at dksX5_wears_1 5 rfl rfl)
theorem dX5_wears_29 : decode cX5_wears 29 = .ok (.return_, 1) := dk_177 (dk_at dksX5_wears_1 6 rfl rfl)
theorem se_HeldCoatsModel_unqueues__I_V_HeldCoatsModel : ∀ c ∈ ([5] : List Nat), ∃ q : vw_C, cz_cl[c]? = some q ∧ Cond.selects q.1 (⟨"HeldCoatsModel", "unqueues", "(I)V"⟩ : MethodName) (⟨"HeldCoatsModel", "unqueues", "(I)V"⟩ : MethodName) ∈ lw_all := List.forall_mem_cons.mpr ⟨⟨_, cz_cl5, qs84⟩, fun _ h => absurd h List.not_mem_nil⟩
theorem md_X5_unqueues : cz_md yX5_unqueues 4 (ws_ yX5_unqueues cX5_unqueues 4 ((Option.none : Option Jvm.ClassFile.FieldType))) 1 := ⟨cz_ws_code q2270, q123, ⟨by decide, by decide, by decide +kernel⟩, by decide⟩
set_option maxHeartbeats 4000000 in
set_option maxRecDepth 100000 in
noncomputable def fn_X5_wears (l0 : Option Nat) (l1 : Int32) (l2 : Int32) (h : cz_H) : cz_Z := cz_getR h l0 [(5, 6)] (fun r1 => cz_iald h r1 ((65 : Int32) + l2) (fun x2 => cz_jn (fun (h3 : cz_H) => cz_getR h3 l0 [(5, 6)] (fun r4 => cz_iast h3 r4 ((65 : Int32) + l2) l1 (fun h5 => some (.inl none, h5)))) (fun j6 => (if x2 = 20 then cz_rc h l0 [5] (cz_cV (fn_X5_unqueues l0 l2 h) (fun h13 => j6 h13)) else j6 h))))
set_option maxHeartbeats 4000000 in
set_option maxRecDepth 100000 in
theorem wk_X5_wears {K : cz_K} {D : cz_D} {h0 : cz_H} {oh : cz_O × cz_H} {l0 : Option Nat} {l1 : Int32} {l2 : Int32} {h : cz_H} (S : cz_S K D h0 cX5_wears 3 "HeldCoatsModel" ((Option.none : Option Jvm.ClassFile.FieldType)) "wears" ([])) : cz_T K D 3 h0 oh 3 (fn_X5_wears l0 l1 l2 h) h 0 [(0, cz_r l0), (1, cz_i l1), (2, cz_i l2)] [] := by
  unfold fn_X5_wears
  refine ct_aload_n (k := 0) S dX5_wears_0 rfl rfl ?_
  refine ct_getR S fw_X5_33 dX5_wears_1 (fun r1 => ?_)
  refine ct_bipush (v := 65) S dX5_wears_4 kB_65 ?_
  refine ct_iload_n (k := 2) S dX5_wears_6 rfl rfl ?_
  refine ct_iadd S dX5_wears_7 ?_
  refine ct_iald S dX5_wears_8 (fun x2 => ?_)
  refine ct_bipush (v := 20) S dX5_wears_9 kB_20 ?_
  refine ct_jnP (fun j6 => ∀ (h3 : cz_H), cz_T K D 3 h0 oh 3 (j6 h3) h3 19 [(0, cz_r l0), (1, cz_i l1), (2, cz_i l2)] []) (fun h3 => ?_) (fun j6 Hj6 => ?_)
  · refine ct_aload_n (k := 0) S dX5_wears_19 rfl rfl ?_
    refine ct_getR S fw_X5_33 dX5_wears_20 (fun r4 => ?_)
    refine ct_bipush (v := 65) S dX5_wears_23 kB_65 ?_
    refine ct_iload_n (k := 2) S dX5_wears_25 rfl rfl ?_
    refine ct_iadd S dX5_wears_26 ?_
    refine ct_iload_n (k := 1) S dX5_wears_27 rfl rfl ?_
    refine ct_iast S dX5_wears_28 (fun h5 => ?_)
    exact ct_vret S rfl dX5_wears_29
  · refine ct_icmp_ne (tgt := 19) S dX5_wears_11 (by decide) ?_ ?_
    · exact Hj6 h
    · refine ct_aload_n (k := 0) S dX5_wears_14 rfl rfl ?_
      refine ct_iload_n (k := 2) S dX5_wears_15 rfl rfl ?_
      refine ct_rc (fun b7 ci8 V9 hb10 hc11 hi12 => ?_)
      refine ct_cV (st := []) (cg_virtual (av := [cz_i l2]) S hb10 hc11 hi12 (fun _ e => mt_X5_unqueues e) md_X5_unqueues q2267 q2269 se_HeldCoatsModel_unqueues__I_V_HeldCoatsModel (by decide) (Nat.le_of_ble_eq_true rfl) rfl dX5_wears_16) (fun h13 => ?_)
      exact Hj6 h13
theorem mt_X5_wears {l : Launch} {D : cz_D} {l0 : Option Nat} {l1 : Int32} {l2 : Int32} {h : cz_H} {oh : cz_O × cz_H} (hz : fn_X5_wears l0 l1 l2 h = some oh) : cz_M l D yX5_wears (ws_ yX5_wears cX5_wears 3 ((Option.none : Option Jvm.ClassFile.FieldType))) 3 [cz_r l0, cz_i l1, cz_i l2] h oh := cz_met (plainFor_of_name (by decide)) (Nat.le_of_ble_eq_true rfl) hz (fun K hl S => wk_X5_wears S)
/-! HeldCoatsModel.whyLay(II)I -/
def dkwX5_whyLay_1 : List UInt8 := [3, 172]
abbrev dktX5_whyLay_1 : List UInt8 := dkwX5_whyLay_1 ++ []
def dkwX5_whyLay_0 : List UInt8 := [42, 27, 182, 1, 30, 154, 0, 7, 4, 167, 0, 16, 42, 28, 182, 0, 238, 155, 0, 7, 5, 167, 0, 4]
abbrev dktX5_whyLay_0 : List UInt8 := dkwX5_whyLay_0 ++ dktX5_whyLay_1
theorem dksX5_whyLay_0 : cX5_whyLay.data.toList.drop 0 = dktX5_whyLay_0 := by decide +kernel
theorem dksX5_whyLay_1 : cX5_whyLay.data.toList.drop 24 = dktX5_whyLay_1 := dk_seg dksX5_whyLay_0 24 rfl rfl
theorem dX5_whyLay_0 : decode cX5_whyLay 0 = .ok (.aload_n 0, 1) := dk_42 (dk_at dksX5_whyLay_0 0 rfl rfl)
theorem dX5_whyLay_1 : decode cX5_whyLay 1 = .ok (.iload_n 1, 1) := dk_27 (dk_at dksX5_whyLay_0 1 rfl rfl)
theorem dX5_whyLay_2 : decode cX5_whyLay 2 = .ok (.invokevirtual 286, 3) := dk_182 1 30 (dk_at dksX5_whyLay_0 2 rfl rfl)
theorem dX5_whyLay_5 : decode cX5_whyLay 5 = .ok (.ifCond .ne 7, 3) := dk_154 0 7 (dk_at dksX5_whyLay_0 5 rfl rfl)
theorem dX5_whyLay_8 : decode cX5_whyLay 8 = .ok (.iconst 1, 1) := dk_4 (dk_at dksX5_whyLay_0 8 rfl rfl)
theorem dX5_whyLay_9 : decode cX5_whyLay 9 = .ok (.goto 16, 3) := dk_167 0 16 (dk_at dksX5_whyLay_0 9 rfl rfl)
theorem dX5_whyLay_12 : decode cX5_whyLay 12 = .ok (.aload_n 0, 1) := dk_42 (dk_at dksX5_whyLay_0 12 rfl rfl)
theorem dX5_whyLay_13 : decode cX5_whyLay 13 = .ok (.iload_n 2, 1) := dk_28 (dk_at dksX5_whyLay_0 13 rfl rfl)
theorem dX5_whyLay_14 : decode cX5_whyLay 14 = .ok (.invokevirtual 238, 3) := dk_182 0 238 (dk_at dksX5_whyLay_0 14 rfl rfl)
theorem dX5_whyLay_17 : decode cX5_whyLay 17 = .ok (.ifCond .lt 7, 3) := dk_155 0 7 (dk_at dksX5_whyLay_0 17 rfl rfl)
theorem dX5_whyLay_20 : decode cX5_whyLay 20 = .ok (.iconst 2, 1) := dk_5 (dk_at dksX5_whyLay_0 20 rfl rfl)
theorem dX5_whyLay_21 : decode cX5_whyLay 21 = .ok (.goto 4, 3) := dk_167 0 4 (dk_at dksX5_whyLay_0 21 rfl rfl)
theorem dX5_whyLay_24 : decode cX5_whyLay 24 = .ok (.iconst 0, 1) := dk_3 (dk_at dksX5_whyLay_1 0 rfl rfl)
theorem dX5_whyLay_25 : decode cX5_whyLay 25 = .ok (.ireturn, 1) := dk_172 (dk_at dksX5_whyLay_1 1 rfl rfl)
theorem se_HeldCoatsModel_isWorn__I_Z_HeldCoatsModel : ∀ c ∈ ([5] : List Nat), ∃ q : vw_C, cz_cl[c]? = some q ∧ Cond.selects q.1 (⟨"HeldCoatsModel", "isWorn", "(I)Z"⟩ : MethodName) (⟨"HeldCoatsModel", "isWorn", "(I)Z"⟩ : MethodName) ∈ lw_all := List.forall_mem_cons.mpr ⟨⟨_, cz_cl5, qs79⟩, fun _ h => absurd h List.not_mem_nil⟩
theorem md_X5_isWorn : cz_md yX5_isWorn 2 (ws_ yX5_isWorn cX5_isWorn 2 ((Option.some Jvm.ClassFile.FieldType.boolean))) 1 := ⟨cz_ws_code q2246, q123, ⟨by decide, by decide, by decide +kernel⟩, by decide⟩
set_option maxHeartbeats 4000000 in
set_option maxRecDepth 100000 in
noncomputable def fn_X5_whyLay (l0 : Option Nat) (l1 : Int32) (l2 : Int32) (h : cz_H) : cz_Z := cz_rc h l0 [5] (cz_cI (fn_X5_isWorn l0 l1 h) (fun x8 h7 => (if x8 = 0 then some (.inl (some (cz_i 1)), h7) else cz_rc h7 l0 [5] (cz_cI (fn_X5_coatOn l0 l2 h7) (fun x16 h15 => (if x16 < 0 then some (.inl (some (cz_i 0)), h15) else some (.inl (some (cz_i 2)), h15)))))))
set_option maxHeartbeats 4000000 in
set_option maxRecDepth 100000 in
theorem wk_X5_whyLay {K : cz_K} {D : cz_D} {h0 : cz_H} {oh : cz_O × cz_H} {l0 : Option Nat} {l1 : Int32} {l2 : Int32} {h : cz_H} (S : cz_S K D h0 cX5_whyLay 3 "HeldCoatsModel" ((Option.some Jvm.ClassFile.FieldType.int)) "whyLay" ([])) : cz_T K D 3 h0 oh 3 (fn_X5_whyLay l0 l1 l2 h) h 0 [(0, cz_r l0), (1, cz_i l1), (2, cz_i l2)] [] := by
  unfold fn_X5_whyLay
  refine ct_aload_n (k := 0) S dX5_whyLay_0 rfl rfl ?_
  refine ct_iload_n (k := 1) S dX5_whyLay_1 rfl rfl ?_
  refine ct_rc (fun b1 ci2 V3 hb4 hc5 hi6 => ?_)
  refine ct_cI (st := []) (cg_virtual (av := [cz_i l1]) S hb4 hc5 hi6 (fun _ e => mt_X5_isWorn e) md_X5_isWorn q2243 q2245 se_HeldCoatsModel_isWorn__I_Z_HeldCoatsModel (by decide) (Nat.le_of_ble_eq_true rfl) rfl dX5_whyLay_2) (fun x8 h7 => ?_)
  refine ct_if_ne (tgt := 12) S dX5_whyLay_5 (by decide) ?_ ?_
  · refine ct_aload_n (k := 0) S dX5_whyLay_12 rfl rfl ?_
    refine ct_iload_n (k := 2) S dX5_whyLay_13 rfl rfl ?_
    refine ct_rc (fun b9 ci10 V11 hb12 hc13 hi14 => ?_)
    refine ct_cI (st := []) (cg_virtual (av := [cz_i l2]) S hb12 hc13 hi14 (fun _ e => mt_X5_coatOn e) md_X5_coatOn q2164 q2166 se_HeldCoatsModel_coatOn__I_I_HeldCoatsModel (by decide) (Nat.le_of_ble_eq_true rfl) rfl dX5_whyLay_14) (fun x16 h15 => ?_)
    refine ct_if_lt (tgt := 24) S dX5_whyLay_17 (by decide) ?_ ?_
    · refine ct_iconst (v := 0) S dX5_whyLay_24 kI_0 ?_
      exact ct_iret S rfl dX5_whyLay_25
    · refine ct_iconst (v := 2) S dX5_whyLay_20 kI_2 ?_
      refine ct_goto (tgt := 25) S dX5_whyLay_21 (by decide) ?_
      exact ct_iret S rfl dX5_whyLay_25
  · refine ct_iconst (v := 1) S dX5_whyLay_8 kI_1 ?_
    refine ct_goto (tgt := 25) S dX5_whyLay_9 (by decide) ?_
    exact ct_iret S rfl dX5_whyLay_25
theorem mt_X5_whyLay {l : Launch} {D : cz_D} {l0 : Option Nat} {l1 : Int32} {l2 : Int32} {h : cz_H} {oh : cz_O × cz_H} (hz : fn_X5_whyLay l0 l1 l2 h = some oh) : cz_M l D yX5_whyLay (ws_ yX5_whyLay cX5_whyLay 3 ((Option.some Jvm.ClassFile.FieldType.int))) 3 [cz_r l0, cz_i l1, cz_i l2] h oh := cz_met (plainFor_of_name (by decide)) (Nat.le_of_ble_eq_true rfl) hz (fun K hl S => wk_X5_whyLay S)
/-! HeldCoatsModel.whyLend(II)I -/
def dkwX5_whyLend_1 : List UInt8 := [27, 96, 46, 28, 160, 0, 7, 5, 167, 0, 4, 3, 172]
abbrev dktX5_whyLend_1 : List UInt8 := dkwX5_whyLend_1 ++ []
def dkwX5_whyLend_0 : List UInt8 := [42, 180, 0, 33, 16, 65, 27, 96, 46, 16, 30, 160, 0, 7, 4, 167, 0, 21, 42, 180, 0, 33, 16, 73]
abbrev dktX5_whyLend_0 : List UInt8 := dkwX5_whyLend_0 ++ dktX5_whyLend_1
theorem dksX5_whyLend_0 : cX5_whyLend.data.toList.drop 0 = dktX5_whyLend_0 := by decide +kernel
theorem dksX5_whyLend_1 : cX5_whyLend.data.toList.drop 24 = dktX5_whyLend_1 := dk_seg dksX5_whyLend_0 24 rfl rfl
theorem dX5_whyLend_0 : decode cX5_whyLend 0 = .ok (.aload_n 0, 1) := dk_42 (dk_at dksX5_whyLend_0 0 rfl rfl)
theorem dX5_whyLend_1 : decode cX5_whyLend 1 = .ok (.getfield 33, 3) := dk_180 0 33 (dk_at dksX5_whyLend_0 1 rfl rfl)
theorem dX5_whyLend_4 : decode cX5_whyLend 4 = .ok (.bipush 65, 2) := dk_16 65 (dk_at dksX5_whyLend_0 4 rfl rfl)
theorem dX5_whyLend_6 : decode cX5_whyLend 6 = .ok (.iload_n 1, 1) := dk_27 (dk_at dksX5_whyLend_0 6 rfl rfl)
theorem dX5_whyLend_7 : decode cX5_whyLend 7 = .ok (.iadd, 1) := dk_96 (dk_at dksX5_whyLend_0 7 rfl rfl)
theorem dX5_whyLend_8 : decode cX5_whyLend 8 = .ok (.iaload, 1) := dk_46 (dk_at dksX5_whyLend_0 8 rfl rfl)
theorem dX5_whyLend_9 : decode cX5_whyLend 9 = .ok (.bipush 30, 2) := dk_16 30 (dk_at dksX5_whyLend_0 9 rfl rfl)
theorem dX5_whyLend_11 : decode cX5_whyLend 11 = .ok (.if_icmp .ne 7, 3) := dk_160 0 7 (dk_at dksX5_whyLend_0 11 rfl rfl)
theorem dX5_whyLend_14 : decode cX5_whyLend 14 = .ok (.iconst 1, 1) := dk_4 (dk_at dksX5_whyLend_0 14 rfl rfl)
theorem dX5_whyLend_15 : decode cX5_whyLend 15 = .ok (.goto 21, 3) := dk_167 0 21 (dk_at dksX5_whyLend_0 15 rfl rfl)
theorem dX5_whyLend_18 : decode cX5_whyLend 18 = .ok (.aload_n 0, 1) := dk_42 (dk_at dksX5_whyLend_0 18 rfl rfl)
theorem dX5_whyLend_19 : decode cX5_whyLend 19 = .ok (.getfield 33, 3) := dk_180 0 33 (dk_at dksX5_whyLend_0 19 rfl rfl)
theorem dX5_whyLend_22 : decode cX5_whyLend 22 = .ok (.bipush 73, 2) := dk_16 73 (dk_at dksX5_whyLend_0 22 rfl rfl)
theorem dX5_whyLend_24 : decode cX5_whyLend 24 = .ok (.iload_n 1, 1) := dk_27 (dk_at dksX5_whyLend_1 0 rfl rfl)
theorem dX5_whyLend_25 : decode cX5_whyLend 25 = .ok (.iadd, 1) := dk_96 (dk_at dksX5_whyLend_1 1 rfl rfl)
theorem dX5_whyLend_26 : decode cX5_whyLend 26 = .ok (.iaload, 1) := dk_46 (dk_at dksX5_whyLend_1 2 rfl rfl)
theorem dX5_whyLend_27 : decode cX5_whyLend 27 = .ok (.iload_n 2, 1) := dk_28 (dk_at dksX5_whyLend_1 3 rfl rfl)
theorem dX5_whyLend_28 : decode cX5_whyLend 28 = .ok (.if_icmp .ne 7, 3) := dk_160 0 7 (dk_at dksX5_whyLend_1 4 rfl rfl)
theorem dX5_whyLend_31 : decode cX5_whyLend 31 = .ok (.iconst 2, 1) := dk_5 (dk_at dksX5_whyLend_1 7 rfl rfl)
theorem dX5_whyLend_32 : decode cX5_whyLend 32 = .ok (.goto 4, 3) := dk_167 0 4 (dk_at dksX5_whyLend_1 8 rfl rfl)
theorem dX5_whyLend_35 : decode cX5_whyLend 35 = .ok (.iconst 0, 1) := dk_3 (dk_at dksX5_whyLend_1 11 rfl rfl)
theorem dX5_whyLend_36 : decode cX5_whyLend 36 = .ok (.ireturn, 1) := dk_172 (dk_at dksX5_whyLend_1 12 rfl rfl)
theorem kB_73 : (Int8.ofInt (73)).toInt32 = 73 := by decide
set_option maxHeartbeats 4000000 in
set_option maxRecDepth 100000 in
noncomputable def fn_X5_whyLend (l0 : Option Nat) (l1 : Int32) (l2 : Int32) (h : cz_H) : cz_Z := cz_getR h l0 [(5, 6)] (fun r1 => cz_iald h r1 ((65 : Int32) + l1) (fun x2 => (if x2 = 30 then some (.inl (some (cz_i 1)), h) else cz_getR h l0 [(5, 6)] (fun r3 => cz_iald h r3 ((73 : Int32) + l1) (fun x4 => (if x4 = l2 then some (.inl (some (cz_i 2)), h) else some (.inl (some (cz_i 0)), h)))))))
set_option maxHeartbeats 4000000 in
set_option maxRecDepth 100000 in
theorem wk_X5_whyLend {K : cz_K} {D : cz_D} {h0 : cz_H} {oh : cz_O × cz_H} {l0 : Option Nat} {l1 : Int32} {l2 : Int32} {h : cz_H} (S : cz_S K D h0 cX5_whyLend 3 "HeldCoatsModel" ((Option.some Jvm.ClassFile.FieldType.int)) "whyLend" ([])) : cz_T K D 2 h0 oh 3 (fn_X5_whyLend l0 l1 l2 h) h 0 [(0, cz_r l0), (1, cz_i l1), (2, cz_i l2)] [] := by
  unfold fn_X5_whyLend
  refine ct_aload_n (k := 0) S dX5_whyLend_0 rfl rfl ?_
  refine ct_getR S fw_X5_33 dX5_whyLend_1 (fun r1 => ?_)
  refine ct_bipush (v := 65) S dX5_whyLend_4 kB_65 ?_
  refine ct_iload_n (k := 1) S dX5_whyLend_6 rfl rfl ?_
  refine ct_iadd S dX5_whyLend_7 ?_
  refine ct_iald S dX5_whyLend_8 (fun x2 => ?_)
  refine ct_bipush (v := 30) S dX5_whyLend_9 kB_30 ?_
  refine ct_icmp_ne (tgt := 18) S dX5_whyLend_11 (by decide) ?_ ?_
  · refine ct_aload_n (k := 0) S dX5_whyLend_18 rfl rfl ?_
    refine ct_getR S fw_X5_33 dX5_whyLend_19 (fun r3 => ?_)
    refine ct_bipush (v := 73) S dX5_whyLend_22 kB_73 ?_
    refine ct_iload_n (k := 1) S dX5_whyLend_24 rfl rfl ?_
    refine ct_iadd S dX5_whyLend_25 ?_
    refine ct_iald S dX5_whyLend_26 (fun x4 => ?_)
    refine ct_iload_n (k := 2) S dX5_whyLend_27 rfl rfl ?_
    refine ct_icmp_ne (tgt := 35) S dX5_whyLend_28 (by decide) ?_ ?_
    · refine ct_iconst (v := 0) S dX5_whyLend_35 kI_0 ?_
      exact ct_iret S rfl dX5_whyLend_36
    · refine ct_iconst (v := 2) S dX5_whyLend_31 kI_2 ?_
      refine ct_goto (tgt := 36) S dX5_whyLend_32 (by decide) ?_
      exact ct_iret S rfl dX5_whyLend_36
  · refine ct_iconst (v := 1) S dX5_whyLend_14 kI_1 ?_
    refine ct_goto (tgt := 36) S dX5_whyLend_15 (by decide) ?_
    exact ct_iret S rfl dX5_whyLend_36
theorem mt_X5_whyLend {l : Launch} {D : cz_D} {l0 : Option Nat} {l1 : Int32} {l2 : Int32} {h : cz_H} {oh : cz_O × cz_H} (hz : fn_X5_whyLend l0 l1 l2 h = some oh) : cz_M l D yX5_whyLend (ws_ yX5_whyLend cX5_whyLend 3 ((Option.some Jvm.ClassFile.FieldType.int))) 2 [cz_r l0, cz_i l1, cz_i l2] h oh := cz_met (plainFor_of_name (by decide)) (Nat.le_of_ble_eq_true rfl) hz (fun K hl S => wk_X5_whyLend S)
/-! HeldCoatsModel.whyWear(II)I -/
def dkwX5_whyWear_2 : List UInt8 := [160, 0, 7, 3, 167, 0, 4, 5, 172]
abbrev dktX5_whyWear_2 : List UInt8 := dkwX5_whyWear_2 ++ []
def dkwX5_whyWear_1 : List UInt8 := [42, 180, 0, 33, 16, 73, 28, 96, 46, 27, 159, 0, 16, 42, 180, 0, 33, 16, 22, 28, 96, 46, 27]
abbrev dktX5_whyWear_1 : List UInt8 := dkwX5_whyWear_1 ++ dktX5_whyWear_2
def dkwX5_whyWear_0 : List UInt8 := [42, 28, 182, 1, 30, 154, 0, 17, 42, 180, 0, 33, 16, 65, 28, 96, 46, 16, 30, 160, 0, 5, 4, 172]
abbrev dktX5_whyWear_0 : List UInt8 := dkwX5_whyWear_0 ++ dktX5_whyWear_1
theorem dksX5_whyWear_0 : cX5_whyWear.data.toList.drop 0 = dktX5_whyWear_0 := by decide +kernel
theorem dksX5_whyWear_1 : cX5_whyWear.data.toList.drop 24 = dktX5_whyWear_1 := dk_seg dksX5_whyWear_0 24 rfl rfl
theorem dksX5_whyWear_2 : cX5_whyWear.data.toList.drop 47 = dktX5_whyWear_2 := dk_seg dksX5_whyWear_1 23 rfl rfl
theorem dX5_whyWear_0 : decode cX5_whyWear 0 = .ok (.aload_n 0, 1) := dk_42 (dk_at dksX5_whyWear_0 0 rfl rfl)
theorem dX5_whyWear_1 : decode cX5_whyWear 1 = .ok (.iload_n 2, 1) := dk_28 (dk_at dksX5_whyWear_0 1 rfl rfl)
theorem dX5_whyWear_2 : decode cX5_whyWear 2 = .ok (.invokevirtual 286, 3) := dk_182 1 30 (dk_at dksX5_whyWear_0 2 rfl rfl)
theorem dX5_whyWear_5 : decode cX5_whyWear 5 = .ok (.ifCond .ne 17, 3) := dk_154 0 17 (dk_at dksX5_whyWear_0 5 rfl rfl)
theorem dX5_whyWear_8 : decode cX5_whyWear 8 = .ok (.aload_n 0, 1) := dk_42 (dk_at dksX5_whyWear_0 8 rfl rfl)
theorem dX5_whyWear_9 : decode cX5_whyWear 9 = .ok (.getfield 33, 3) := dk_180 0 33 (dk_at dksX5_whyWear_0 9 rfl rfl)
theorem dX5_whyWear_12 : decode cX5_whyWear 12 = .ok (.bipush 65, 2) := dk_16 65 (dk_at dksX5_whyWear_0 12 rfl rfl)
theorem dX5_whyWear_14 : decode cX5_whyWear 14 = .ok (.iload_n 2, 1) := dk_28 (dk_at dksX5_whyWear_0 14 rfl rfl)
theorem dX5_whyWear_15 : decode cX5_whyWear 15 = .ok (.iadd, 1) := dk_96 (dk_at dksX5_whyWear_0 15 rfl rfl)
theorem dX5_whyWear_16 : decode cX5_whyWear 16 = .ok (.iaload, 1) := dk_46 (dk_at dksX5_whyWear_0 16 rfl rfl)
theorem dX5_whyWear_17 : decode cX5_whyWear 17 = .ok (.bipush 30, 2) := dk_16 30 (dk_at dksX5_whyWear_0 17 rfl rfl)
theorem dX5_whyWear_19 : decode cX5_whyWear 19 = .ok (.if_icmp .ne 5, 3) := dk_160 0 5 (dk_at dksX5_whyWear_0 19 rfl rfl)
theorem dX5_whyWear_22 : decode cX5_whyWear 22 = .ok (.iconst 1, 1) := dk_4 (dk_at dksX5_whyWear_0 22 rfl rfl)
theorem dX5_whyWear_23 : decode cX5_whyWear 23 = .ok (.ireturn, 1) := dk_172 (dk_at dksX5_whyWear_0 23 rfl rfl)
theorem dX5_whyWear_24 : decode cX5_whyWear 24 = .ok (.aload_n 0, 1) := dk_42 (dk_at dksX5_whyWear_1 0 rfl rfl)
theorem dX5_whyWear_25 : decode cX5_whyWear 25 = .ok (.getfield 33, 3) := dk_180 0 33 (dk_at dksX5_whyWear_1 1 rfl rfl)
theorem dX5_whyWear_28 : decode cX5_whyWear 28 = .ok (.bipush 73, 2) := dk_16 73 (dk_at dksX5_whyWear_1 4 rfl rfl)
theorem dX5_whyWear_30 : decode cX5_whyWear 30 = .ok (.iload_n 2, 1) := dk_28 (dk_at dksX5_whyWear_1 6 rfl rfl)
theorem dX5_whyWear_31 : decode cX5_whyWear 31 = .ok (.iadd, 1) := dk_96 (dk_at dksX5_whyWear_1 7 rfl rfl)
theorem dX5_whyWear_32 : decode cX5_whyWear 32 = .ok (.iaload, 1) := dk_46 (dk_at dksX5_whyWear_1 8 rfl rfl)
theorem dX5_whyWear_33 : decode cX5_whyWear 33 = .ok (.iload_n 1, 1) := dk_27 (dk_at dksX5_whyWear_1 9 rfl rfl)
theorem dX5_whyWear_34 : decode cX5_whyWear 34 = .ok (.if_icmp .eq 16, 3) := dk_159 0 16 (dk_at dksX5_whyWear_1 10 rfl rfl)
theorem dX5_whyWear_37 : decode cX5_whyWear 37 = .ok (.aload_n 0, 1) := dk_42 (dk_at dksX5_whyWear_1 13 rfl rfl)
theorem dX5_whyWear_38 : decode cX5_whyWear 38 = .ok (.getfield 33, 3) := dk_180 0 33 (dk_at dksX5_whyWear_1 14 rfl rfl)
theorem dX5_whyWear_41 : decode cX5_whyWear 41 = .ok (.bipush 22, 2) := dk_16 22 (dk_at dksX5_whyWear_1 17 rfl rfl)
theorem dX5_whyWear_43 : decode cX5_whyWear 43 = .ok (.iload_n 2, 1) := dk_28 (dk_at dksX5_whyWear_1 19 rfl rfl)
theorem dX5_whyWear_44 : decode cX5_whyWear 44 = .ok (.iadd, 1) := dk_96 (dk_at dksX5_whyWear_1 20 rfl rfl)
theorem dX5_whyWear_45 : decode cX5_whyWear 45 = .ok (.iaload, 1) := dk_46 (dk_at dksX5_whyWear_1 21 rfl rfl)
theorem dX5_whyWear_46 : decode cX5_whyWear 46 = .ok (.iload_n 1, 1) := dk_27 (dk_at dksX5_whyWear_1 22 rfl rfl)
theorem dX5_whyWear_47 : decode cX5_whyWear 47 = .ok (.if_icmp .ne 7, 3) := dk_160 0 7 (dk_at dksX5_whyWear_2 0 rfl rfl)
theorem dX5_whyWear_50 : decode cX5_whyWear 50 = .ok (.iconst 0, 1) := dk_3 (dk_at dksX5_whyWear_2 3 rfl rfl)
theorem dX5_whyWear_51 : decode cX5_whyWear 51 = .ok (.goto 4, 3) := dk_167 0 4 (dk_at dksX5_whyWear_2 4 rfl rfl)
theorem dX5_whyWear_54 : decode cX5_whyWear 54 = .ok (.iconst 2, 1) := dk_5 (dk_at dksX5_whyWear_2 7 rfl rfl)
theorem dX5_whyWear_55 : decode cX5_whyWear 55 = .ok (.ireturn, 1) := dk_172 (dk_at dksX5_whyWear_2 8 rfl rfl)
set_option maxHeartbeats 4000000 in
set_option maxRecDepth 100000 in
noncomputable def fn_X5_whyWear (l0 : Option Nat) (l1 : Int32) (l2 : Int32) (h : cz_H) : cz_Z := cz_rc h l0 [5] (cz_cI (fn_X5_isWorn l0 l2 h) (fun x8 h7 => (if x8 = 0 then cz_getR h7 l0 [(5, 6)] (fun r9 => cz_iald h7 r9 ((65 : Int32) + l2) (fun x10 => (if x10 = 30 then some (.inl (some (cz_i 1)), h7) else cz_getR h7 l0 [(5, 6)] (fun r11 => cz_iald h7 r11 ((73 : Int32) + l2) (fun x12 => (if x12 = l1 then some (.inl (some (cz_i 0)), h7) else cz_getR h7 l0 [(5, 6)] (fun r13 => cz_iald h7 r13 ((22 : Int32) + l2) (fun x14 => (if x14 = l1 then some (.inl (some (cz_i 0)), h7) else some (.inl (some (cz_i 2)), h7)))))))))) else some (.inl (some (cz_i 1)), h7))))
set_option maxHeartbeats 4000000 in
set_option maxRecDepth 100000 in
theorem wk_X5_whyWear {K : cz_K} {D : cz_D} {h0 : cz_H} {oh : cz_O × cz_H} {l0 : Option Nat} {l1 : Int32} {l2 : Int32} {h : cz_H} (S : cz_S K D h0 cX5_whyWear 3 "HeldCoatsModel" ((Option.some Jvm.ClassFile.FieldType.int)) "whyWear" ([])) : cz_T K D 3 h0 oh 3 (fn_X5_whyWear l0 l1 l2 h) h 0 [(0, cz_r l0), (1, cz_i l1), (2, cz_i l2)] [] := by
  unfold fn_X5_whyWear
  refine ct_aload_n (k := 0) S dX5_whyWear_0 rfl rfl ?_
  refine ct_iload_n (k := 2) S dX5_whyWear_1 rfl rfl ?_
  refine ct_rc (fun b1 ci2 V3 hb4 hc5 hi6 => ?_)
  refine ct_cI (st := []) (cg_virtual (av := [cz_i l2]) S hb4 hc5 hi6 (fun _ e => mt_X5_isWorn e) md_X5_isWorn q2243 q2245 se_HeldCoatsModel_isWorn__I_Z_HeldCoatsModel (by decide) (Nat.le_of_ble_eq_true rfl) rfl dX5_whyWear_2) (fun x8 h7 => ?_)
  refine ct_if_ne (tgt := 22) S dX5_whyWear_5 (by decide) ?_ ?_
  · refine ct_iconst (v := 1) S dX5_whyWear_22 kI_1 ?_
    exact ct_iret S rfl dX5_whyWear_23
  · refine ct_aload_n (k := 0) S dX5_whyWear_8 rfl rfl ?_
    refine ct_getR S fw_X5_33 dX5_whyWear_9 (fun r9 => ?_)
    refine ct_bipush (v := 65) S dX5_whyWear_12 kB_65 ?_
    refine ct_iload_n (k := 2) S dX5_whyWear_14 rfl rfl ?_
    refine ct_iadd S dX5_whyWear_15 ?_
    refine ct_iald S dX5_whyWear_16 (fun x10 => ?_)
    refine ct_bipush (v := 30) S dX5_whyWear_17 kB_30 ?_
    refine ct_icmp_ne (tgt := 24) S dX5_whyWear_19 (by decide) ?_ ?_
    · refine ct_aload_n (k := 0) S dX5_whyWear_24 rfl rfl ?_
      refine ct_getR S fw_X5_33 dX5_whyWear_25 (fun r11 => ?_)
      refine ct_bipush (v := 73) S dX5_whyWear_28 kB_73 ?_
      refine ct_iload_n (k := 2) S dX5_whyWear_30 rfl rfl ?_
      refine ct_iadd S dX5_whyWear_31 ?_
      refine ct_iald S dX5_whyWear_32 (fun x12 => ?_)
      refine ct_iload_n (k := 1) S dX5_whyWear_33 rfl rfl ?_
      refine ct_icmp_eq (tgt := 50) S dX5_whyWear_34 (by decide) ?_ ?_
      · refine ct_iconst (v := 0) S dX5_whyWear_50 kI_0 ?_
        refine ct_goto (tgt := 55) S dX5_whyWear_51 (by decide) ?_
        exact ct_iret S rfl dX5_whyWear_55
      · refine ct_aload_n (k := 0) S dX5_whyWear_37 rfl rfl ?_
        refine ct_getR S fw_X5_33 dX5_whyWear_38 (fun r13 => ?_)
        refine ct_bipush (v := 22) S dX5_whyWear_41 kB_22 ?_
        refine ct_iload_n (k := 2) S dX5_whyWear_43 rfl rfl ?_
        refine ct_iadd S dX5_whyWear_44 ?_
        refine ct_iald S dX5_whyWear_45 (fun x14 => ?_)
        refine ct_iload_n (k := 1) S dX5_whyWear_46 rfl rfl ?_
        refine ct_icmp_ne (tgt := 54) S dX5_whyWear_47 (by decide) ?_ ?_
        · refine ct_iconst (v := 2) S dX5_whyWear_54 kI_2 ?_
          exact ct_iret S rfl dX5_whyWear_55
        · refine ct_iconst (v := 0) S dX5_whyWear_50 kI_0 ?_
          refine ct_goto (tgt := 55) S dX5_whyWear_51 (by decide) ?_
          exact ct_iret S rfl dX5_whyWear_55
    · refine ct_iconst (v := 1) S dX5_whyWear_22 kI_1 ?_
      exact ct_iret S rfl dX5_whyWear_23
theorem mt_X5_whyWear {l : Launch} {D : cz_D} {l0 : Option Nat} {l1 : Int32} {l2 : Int32} {h : cz_H} {oh : cz_O × cz_H} (hz : fn_X5_whyWear l0 l1 l2 h = some oh) : cz_M l D yX5_whyWear (ws_ yX5_whyWear cX5_whyWear 3 ((Option.some Jvm.ClassFile.FieldType.int))) 3 [cz_r l0, cz_i l1, cz_i l2] h oh := cz_met (plainFor_of_name (by decide)) (Nat.le_of_ble_eq_true rfl) hz (fun K hl S => wk_X5_whyWear S)
