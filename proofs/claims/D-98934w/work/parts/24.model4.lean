/-! methods of the model, 4 (printed by wip/D-98934w/gen) -/
set_option maxRecDepth 100000
/-! HeldCoatsModel.image(I)Z -/
def dkwX5_image_3 : List UInt8 := [180, 0, 43, 28, 47, 80, 132, 2, 1, 167, 255, 230, 42, 180, 0, 75, 27, 4, 84, 4, 172]
abbrev dktX5_image_3 : List UInt8 := dkwX5_image_3 ++ []
def dkwX5_image_2 : List UInt8 := [167, 255, 228, 3, 61, 28, 16, 22, 162, 0, 26, 42, 180, 0, 72, 16, 22, 27, 104, 28, 96, 42]
abbrev dktX5_image_2 : List UInt8 := dkwX5_image_2 ++ dktX5_image_3
def dkwX5_image_1 : List UInt8 := [162, 0, 27, 42, 180, 0, 69, 17, 1, 43, 27, 104, 28, 96, 42, 180, 0, 33, 28, 46, 79, 132, 2, 1]
abbrev dktX5_image_1 : List UInt8 := dkwX5_image_1 ++ dktX5_image_2
def dkwX5_image_0 : List UInt8 := [42, 3, 181, 0, 1, 27, 3, 4, 184, 0, 171, 154, 0, 5, 3, 172, 3, 61, 28, 17, 1, 43]
abbrev dktX5_image_0 : List UInt8 := dkwX5_image_0 ++ dktX5_image_1
theorem dksX5_image_0 : cX5_image.data.toList.drop 0 = dktX5_image_0 := by decide +kernel
theorem dksX5_image_1 : cX5_image.data.toList.drop 22 = dktX5_image_1 := dk_seg dksX5_image_0 22 rfl rfl
theorem dksX5_image_2 : cX5_image.data.toList.drop 46 = dktX5_image_2 := dk_seg dksX5_image_1 24 rfl rfl
theorem dksX5_image_3 : cX5_image.data.toList.drop 68 = dktX5_image_3 := dk_seg dksX5_image_2 22 rfl rfl
theorem dX5_image_0 : decode cX5_image 0 = .ok (.aload_n 0, 1) := dk_42 (dk_at dksX5_image_0 0 rfl rfl)
theorem dX5_image_1 : decode cX5_image 1 = .ok (.iconst 0, 1) := dk_3 (dk_at dksX5_image_0 1 rfl rfl)
theorem dX5_image_2 : decode cX5_image 2 = .ok (.putfield 1, 3) := dk_181 0 1 (dk_at dksX5_image_0 2 rfl rfl)
theorem dX5_image_5 : decode cX5_image 5 = .ok (.iload_n 1, 1) := dk_27 (dk_at dksX5_image_0 5 rfl rfl)
theorem dX5_image_6 : decode cX5_image 6 = .ok (.iconst 0, 1) := dk_3 (dk_at dksX5_image_0 6 rfl rfl)
theorem dX5_image_7 : decode cX5_image 7 = .ok (.iconst 1, 1) := dk_4 (dk_at dksX5_image_0 7 rfl rfl)
theorem dX5_image_8 : decode cX5_image 8 = .ok (.invokestatic 171, 3) := dk_184 0 171 (dk_at dksX5_image_0 8 rfl rfl)
theorem dX5_image_11 : decode cX5_image 11 = .ok (.ifCond .ne 5, 3) := dk_154 0 5 (dk_at dksX5_image_0 11 rfl rfl)
theorem dX5_image_14 : decode cX5_image 14 = .ok (.iconst 0, 1) := dk_3 (dk_at dksX5_image_0 14 rfl rfl)
theorem dX5_image_15 : decode cX5_image 15 = .ok (.ireturn, 1) := dk_172 (dk_at dksX5_image_0 15 rfl rfl)
theorem dX5_image_16 : decode cX5_image 16 = .ok (.iconst 0, 1) := dk_3 (dk_at dksX5_image_0 16 rfl rfl)
theorem dX5_image_17 : decode cX5_image 17 = .ok (.istore_n 2, 1) := dk_61 (dk_at dksX5_image_0 17 rfl rfl)
theorem dX5_image_18 : decode cX5_image 18 = .ok (.iload_n 2, 1) := dk_28 (dk_at dksX5_image_0 18 rfl rfl)
theorem dX5_image_19 : decode cX5_image 19 = .ok (.sipush 299, 3) := dk_17 1 43 (dk_at dksX5_image_0 19 rfl rfl)
theorem dX5_image_22 : decode cX5_image 22 = .ok (.if_icmp .ge 27, 3) := dk_162 0 27 (dk_at dksX5_image_1 0 rfl rfl)
theorem dX5_image_25 : decode cX5_image 25 = .ok (.aload_n 0, 1) := dk_42 (dk_at dksX5_image_1 3 rfl rfl)
theorem dX5_image_26 : decode cX5_image 26 = .ok (.getfield 69, 3) := dk_180 0 69 (dk_at dksX5_image_1 4 rfl rfl)
theorem dX5_image_29 : decode cX5_image 29 = .ok (.sipush 299, 3) := dk_17 1 43 (dk_at dksX5_image_1 7 rfl rfl)
theorem dX5_image_32 : decode cX5_image 32 = .ok (.iload_n 1, 1) := dk_27 (dk_at dksX5_image_1 10 rfl rfl)
theorem dX5_image_33 : decode cX5_image 33 = .ok (.imul, 1) := dk_104 (dk_at dksX5_image_1 11 rfl rfl)
theorem dX5_image_34 : decode cX5_image 34 = .ok (.iload_n 2, 1) := dk_28 (dk_at dksX5_image_1 12 rfl rfl)
theorem dX5_image_35 : decode cX5_image 35 = .ok (.iadd, 1) := dk_96 (dk_at dksX5_image_1 13 rfl rfl)
theorem dX5_image_36 : decode cX5_image 36 = .ok (.aload_n 0, 1) := dk_42 (dk_at dksX5_image_1 14 rfl rfl)
theorem dX5_image_37 : decode cX5_image 37 = .ok (.getfield 33, 3) := dk_180 0 33 (dk_at dksX5_image_1 15 rfl rfl)
theorem dX5_image_40 : decode cX5_image 40 = .ok (.iload_n 2, 1) := dk_28 (dk_at dksX5_image_1 18 rfl rfl)
theorem dX5_image_41 : decode cX5_image 41 = .ok (.iaload, 1) := dk_46 (dk_at dksX5_image_1 19 rfl rfl)
theorem dX5_image_42 : decode cX5_image 42 = .ok (.iastore, 1) := dk_79 (dk_at dksX5_image_1 20 rfl rfl)
theorem dX5_image_43 : decode cX5_image 43 = .ok (.iinc 2 1, 3) := dk_132 2 1 (dk_at dksX5_image_1 21 rfl rfl)
theorem dX5_image_46 : decode cX5_image 46 = .ok (.goto (-28), 3) := dk_167 255 228 (dk_at dksX5_image_2 0 rfl rfl)
theorem dX5_image_49 : decode cX5_image 49 = .ok (.iconst 0, 1) := dk_3 (dk_at dksX5_image_2 3 rfl rfl)
theorem dX5_image_50 : decode cX5_image 50 = .ok (.istore_n 2, 1) := dk_61 (dk_at dksX5_image_2 4 rfl rfl)
theorem dX5_image_51 : decode cX5_image 51 = .ok (.iload_n 2, 1) := dk_28 (dk_at dksX5_image_2 5 rfl rfl)
theorem dX5_image_52 : decode cX5_image 52 = .ok (.bipush 22, 2) := dk_16 22 (dk_at dksX5_image_2 6 rfl rfl)
theorem dX5_image_54 : decode cX5_image 54 = .ok (.if_icmp .ge 26, 3) := dk_162 0 26 (dk_at dksX5_image_2 8 rfl rfl)
theorem dX5_image_57 : decode cX5_image 57 = .ok (.aload_n 0, 1) := dk_42 (dk_at dksX5_image_2 11 rfl rfl)
theorem dX5_image_58 : decode cX5_image 58 = .ok (.getfield 72, 3) := dk_180 0 72 (dk_at dksX5_image_2 12 rfl rfl)
theorem dX5_image_61 : decode cX5_image 61 = .ok (.bipush 22, 2) := dk_16 22 (dk_at dksX5_image_2 15 rfl rfl)
theorem dX5_image_63 : decode cX5_image 63 = .ok (.iload_n 1, 1) := dk_27 (dk_at dksX5_image_2 17 rfl rfl)
theorem dX5_image_64 : decode cX5_image 64 = .ok (.imul, 1) := dk_104 (dk_at dksX5_image_2 18 rfl rfl)
theorem dX5_image_65 : decode cX5_image 65 = .ok (.iload_n 2, 1) := dk_28 (dk_at dksX5_image_2 19 rfl rfl)
theorem dX5_image_66 : decode cX5_image 66 = .ok (.iadd, 1) := dk_96 (dk_at dksX5_image_2 20 rfl rfl)
theorem dX5_image_67 : decode cX5_image 67 = .ok (.aload_n 0, 1) := dk_42 (dk_at dksX5_image_2 21 rfl rfl)
theorem dX5_image_68 : decode cX5_image 68 = .ok (.getfield 43, 3) := dk_180 0 43 (dk_at dksX5_image_3 0 rfl rfl)
theorem dX5_image_71 : decode cX5_image 71 = .ok (.iload_n 2, 1) := dk_28 (dk_at dksX5_image_3 3 rfl rfl)
theorem dX5_image_72 : decode cX5_image 72 = .ok (.laload, 1) := dk_47 (dk_at dksX5_image_3 4 rfl rfl)
theorem dX5_image_73 : decode cX5_image 73 = .ok (.lastore, 1) := dk_80 (dk_at dksX5_image_3 5 rfl rfl)
theorem dX5_image_74 : decode cX5_image 74 = .ok (.iinc 2 1, 3) := dk_132 2 1 (dk_at dksX5_image_3 6 rfl rfl)
theorem dX5_image_77 : decode cX5_image 77 = .ok (.goto (-26), 3) := dk_167 255 230 (dk_at dksX5_image_3 9 rfl rfl)
theorem dX5_image_80 : decode cX5_image 80 = .ok (.aload_n 0, 1) := dk_42 (dk_at dksX5_image_3 12 rfl rfl)
theorem dX5_image_81 : decode cX5_image 81 = .ok (.getfield 75, 3) := dk_180 0 75 (dk_at dksX5_image_3 13 rfl rfl)
theorem dX5_image_84 : decode cX5_image 84 = .ok (.iload_n 1, 1) := dk_27 (dk_at dksX5_image_3 16 rfl rfl)
theorem dX5_image_85 : decode cX5_image 85 = .ok (.iconst 1, 1) := dk_4 (dk_at dksX5_image_3 17 rfl rfl)
theorem dX5_image_86 : decode cX5_image 86 = .ok (.bastore, 1) := dk_84 (dk_at dksX5_image_3 18 rfl rfl)
theorem dX5_image_87 : decode cX5_image 87 = .ok (.iconst 1, 1) := dk_4 (dk_at dksX5_image_3 19 rfl rfl)
theorem dX5_image_88 : decode cX5_image 88 = .ok (.ireturn, 1) := dk_172 (dk_at dksX5_image_3 20 rfl rfl)
theorem fw_X5_69 : cz_FW "HeldCoatsModel" 69 [(5, 46)] "[I" := ⟨"HeldCoatsModel", "kept", Or.inl q1964, List.forall_mem_cons.mpr ⟨⟨RX5, TX5, 49, rfl, by decide, rfl, rfl, Or.inl rfl⟩, fun _ h => absurd h List.not_mem_nil⟩, by decide⟩
theorem fw_X5_72 : cz_FW "HeldCoatsModel" 72 [(5, 47)] "[J" := ⟨"HeldCoatsModel", "namesKept", Or.inl q1965, List.forall_mem_cons.mpr ⟨⟨RX5, TX5, 49, rfl, by decide, rfl, rfl, Or.inl rfl⟩, fun _ h => absurd h List.not_mem_nil⟩, by decide⟩
theorem fw_X5_75 : cz_FW "HeldCoatsModel" 75 [(5, 48)] "[Z" := ⟨"HeldCoatsModel", "areKept", Or.inl q1966, List.forall_mem_cons.mpr ⟨⟨RX5, TX5, 49, rfl, by decide, rfl, rfl, Or.inl rfl⟩, fun _ h => absurd h List.not_mem_nil⟩, by decide⟩
set_option maxHeartbeats 4000000 in
set_option maxRecDepth 100000 in
noncomputable def fn_X5_image_18 (l0 : Option Nat) (l1 : Int32) (k0 : cz_H → cz_Z) : Nat → Int32 → cz_H → cz_Z
  | 0, _, _ => none
  | n + 1, l2, h => (if (299 : Int32) ≤ l2 then k0 h else cz_getR h l0 [(5, 46)] (fun r4 => cz_getR h l0 [(5, 6)] (fun r5 => cz_iald h r5 l2 (fun x6 => cz_iast h r4 (((299 : Int32) * l1) + l2) x6 (fun h7 => cz_leti (l2 + 1) (fun x8 => fn_X5_image_18 l0 l1 k0 n x8 h7))))))
set_option maxHeartbeats 4000000 in
set_option maxRecDepth 100000 in
theorem wk_X5_image_18 {K : cz_K} {D : cz_D} {h0 : cz_H} {oh : cz_O × cz_H} {l0 : Option Nat} {l1 : Int32} {k0 : cz_H → cz_Z} (S : cz_S K D h0 cX5_image 3 "HeldCoatsModel" ((Option.some Jvm.ClassFile.FieldType.boolean)) "image" ([])) (hk0 : ∀ (h : cz_H), cz_T K D 3 h0 oh 3 (k0 h) h 49 [(0, cz_r l0), (1, cz_i l1)] []) : ∀ (n : Nat) (l2 : Int32) (h : cz_H), cz_T K D 3 h0 oh 3 (fn_X5_image_18 l0 l1 k0 n l2 h) h 18 [(0, cz_r l0), (1, cz_i l1), (2, cz_i l2)] [] := by
  intro n
  induction n with
  | zero => intros; exact ct_none
  | succ n ih =>
    intro l2 h
    rw [fn_X5_image_18]
    refine ct_iload_n (k := 2) S dX5_image_18 rfl rfl ?_
    refine ct_sipush (v := 299) S dX5_image_19 kS_299 ?_
    refine ct_icmp_ge (tgt := 49) S dX5_image_22 (by decide) ?_ ?_
    · exact ct_sub [0, 1] rfl (hk0 h)
    · refine ct_aload_n (k := 0) S dX5_image_25 rfl rfl ?_
      refine ct_getR S fw_X5_69 dX5_image_26 (fun r4 => ?_)
      refine ct_sipush (v := 299) S dX5_image_29 kS_299 ?_
      refine ct_iload_n (k := 1) S dX5_image_32 rfl rfl ?_
      refine ct_imul S dX5_image_33 ?_
      refine ct_iload_n (k := 2) S dX5_image_34 rfl rfl ?_
      refine ct_iadd S dX5_image_35 ?_
      refine ct_aload_n (k := 0) S dX5_image_36 rfl rfl ?_
      refine ct_getR S fw_X5_33 dX5_image_37 (fun r5 => ?_)
      refine ct_iload_n (k := 2) S dX5_image_40 rfl rfl ?_
      refine ct_iald S dX5_image_41 (fun x6 => ?_)
      refine ct_iast S dX5_image_42 (fun h7 => ?_)
      refine ct_iincL (j := 2) (L2 := fun x8 => [(2, cz_i x8), (0, cz_r l0), (1, cz_i l1)]) S dX5_image_43 rfl kI_1 (by decide) (fun _ => rfl) (fun x8 => ?_)
      refine ct_goto (tgt := 18) S dX5_image_46 (by decide) ?_
      exact ct_sub [1, 2, 0] rfl (ih x8 h7)
set_option maxHeartbeats 4000000 in
set_option maxRecDepth 100000 in
noncomputable def fn_X5_image_51 (l0 : Option Nat) (l1 : Int32) (k0 : cz_H → cz_Z) : Nat → Int32 → cz_H → cz_Z
  | 0, _, _ => none
  | n + 1, l2, h => (if (22 : Int32) ≤ l2 then k0 h else cz_getR h l0 [(5, 47)] (fun r10 => cz_getR h l0 [(5, 9)] (fun r11 => cz_lald h r11 l2 (fun y12 => cz_last h r10 (((22 : Int32) * l1) + l2) y12 (fun h13 => cz_leti (l2 + 1) (fun x14 => fn_X5_image_51 l0 l1 k0 n x14 h13))))))
set_option maxHeartbeats 4000000 in
set_option maxRecDepth 100000 in
theorem wk_X5_image_51 {K : cz_K} {D : cz_D} {h0 : cz_H} {oh : cz_O × cz_H} {l0 : Option Nat} {l1 : Int32} {k0 : cz_H → cz_Z} (S : cz_S K D h0 cX5_image 3 "HeldCoatsModel" ((Option.some Jvm.ClassFile.FieldType.boolean)) "image" ([])) (hk0 : ∀ (h : cz_H), cz_T K D 3 h0 oh 3 (k0 h) h 80 [(0, cz_r l0), (1, cz_i l1)] []) : ∀ (n : Nat) (l2 : Int32) (h : cz_H), cz_T K D 3 h0 oh 3 (fn_X5_image_51 l0 l1 k0 n l2 h) h 51 [(0, cz_r l0), (1, cz_i l1), (2, cz_i l2)] [] := by
  intro n
  induction n with
  | zero => intros; exact ct_none
  | succ n ih =>
    intro l2 h
    rw [fn_X5_image_51]
    refine ct_iload_n (k := 2) S dX5_image_51 rfl rfl ?_
    refine ct_bipush (v := 22) S dX5_image_52 kB_22 ?_
    refine ct_icmp_ge (tgt := 80) S dX5_image_54 (by decide) ?_ ?_
    · exact ct_sub [0, 1] rfl (hk0 h)
    · refine ct_aload_n (k := 0) S dX5_image_57 rfl rfl ?_
      refine ct_getR S fw_X5_72 dX5_image_58 (fun r10 => ?_)
      refine ct_bipush (v := 22) S dX5_image_61 kB_22 ?_
      refine ct_iload_n (k := 1) S dX5_image_63 rfl rfl ?_
      refine ct_imul S dX5_image_64 ?_
      refine ct_iload_n (k := 2) S dX5_image_65 rfl rfl ?_
      refine ct_iadd S dX5_image_66 ?_
      refine ct_aload_n (k := 0) S dX5_image_67 rfl rfl ?_
      refine ct_getR S fw_X5_43 dX5_image_68 (fun r11 => ?_)
      refine ct_iload_n (k := 2) S dX5_image_71 rfl rfl ?_
      refine ct_lald S dX5_image_72 (fun y12 => ?_)
      refine ct_last S dX5_image_73 (fun h13 => ?_)
      refine ct_iincL (j := 2) (L2 := fun x14 => [(2, cz_i x14), (0, cz_r l0), (1, cz_i l1)]) S dX5_image_74 rfl kI_1 (by decide) (fun _ => rfl) (fun x14 => ?_)
      refine ct_goto (tgt := 51) S dX5_image_77 (by decide) ?_
      exact ct_sub [1, 2, 0] rfl (ih x14 h13)
set_option maxHeartbeats 4000000 in
set_option maxRecDepth 100000 in
noncomputable def fn_X5_image (l0 : Option Nat) (l1 : Int32) (h : cz_H) : cz_Z := cz_put h l0 [(5, 0)] (cz_i 0) (fun h1 => cz_cI (fn_X5_isIn l1 0 1 h1) (fun x3 h2 => (if x3 = 0 then some (.inl (some (cz_i 0)), h2) else fn_X5_image_18 l0 l1 (fun (h9 : cz_H) => fn_X5_image_51 l0 l1 (fun (h15 : cz_H) => cz_getR h15 l0 [(5, 48)] (fun r16 => cz_bast h15 r16 l1 1 (fun h17 => some (.inl (some (cz_i 1)), h17)))) 1000 0 h9) 1000 0 h2)))
set_option maxHeartbeats 4000000 in
set_option maxRecDepth 100000 in
theorem wk_X5_image {K : cz_K} {D : cz_D} {h0 : cz_H} {oh : cz_O × cz_H} {l0 : Option Nat} {l1 : Int32} {h : cz_H} (S : cz_S K D h0 cX5_image 3 "HeldCoatsModel" ((Option.some Jvm.ClassFile.FieldType.boolean)) "image" ([])) : cz_T K D 3 h0 oh 3 (fn_X5_image l0 l1 h) h 0 [(0, cz_r l0), (1, cz_i l1)] [] := by
  unfold fn_X5_image
  refine ct_aload_n (k := 0) S dX5_image_0 rfl rfl ?_
  refine ct_iconst (v := 0) S dX5_image_1 kI_0 ?_
  refine ct_put S fw_X5_1 fp_X5_m_5_0 (cz_fits_i pd_I) dX5_image_2 (fun h1 => ?_)
  refine ct_iload_n (k := 1) S dX5_image_5 rfl rfl ?_
  refine ct_iconst (v := 0) S dX5_image_6 kI_0 ?_
  refine ct_iconst (v := 1) S dX5_image_7 kI_1 ?_
  refine ct_cI (st := []) (cg_static (av := [cz_i l1, cz_i 0, cz_i 1]) S (fun _ e => mt_X5_isIn e) md_X5_isIn (Or.inl q2122) q2123 (by decide) (Nat.le_of_ble_eq_true rfl) rfl dX5_image_8) (fun x3 h2 => ?_)
  refine ct_if_ne (tgt := 16) S dX5_image_11 (by decide) ?_ ?_
  · refine ct_iconst (v := 0) S dX5_image_16 kI_0 ?_
    refine ct_istore_n (L' := [(2, cz_i 0), (0, cz_r l0), (1, cz_i l1)]) S dX5_image_17 rfl (by decide) rfl ?_
    refine ct_sub [1, 2, 0] (L' := [(0, cz_r l0), (1, cz_i l1), (2, cz_i 0)]) rfl (wk_X5_image_18 S ?_ 1000 0 h2)
    · intro h9
      refine ct_iconst (v := 0) S dX5_image_49 kI_0 ?_
      refine ct_istore_n (L' := [(2, cz_i 0), (0, cz_r l0), (1, cz_i l1)]) S dX5_image_50 rfl (by decide) rfl ?_
      refine ct_sub [1, 2, 0] (L' := [(0, cz_r l0), (1, cz_i l1), (2, cz_i 0)]) rfl (wk_X5_image_51 S ?_ 1000 0 h9)
      · intro h15
        refine ct_aload_n (k := 0) S dX5_image_80 rfl rfl ?_
        refine ct_getR S fw_X5_75 dX5_image_81 (fun r16 => ?_)
        refine ct_iload_n (k := 1) S dX5_image_84 rfl rfl ?_
        refine ct_iconst (v := 1) S dX5_image_85 kI_1 ?_
        refine ct_bast S dX5_image_86 (fun h17 => ?_)
        refine ct_iconst (v := 1) S dX5_image_87 kI_1 ?_
        exact ct_zr (ty := .boolean) S rfl rfl dX5_image_88
  · refine ct_iconst (v := 0) S dX5_image_14 kI_0 ?_
    exact ct_zr (ty := .boolean) S rfl rfl dX5_image_15
theorem mt_X5_image {l : Launch} {D : cz_D} {l0 : Option Nat} {l1 : Int32} {h : cz_H} {oh : cz_O × cz_H} (hz : fn_X5_image l0 l1 h = some oh) : cz_M l D yX5_image (ws_ yX5_image cX5_image 3 ((Option.some Jvm.ClassFile.FieldType.boolean))) 3 [cz_r l0, cz_i l1] h oh := cz_met (plainFor_of_name (by decide)) (Nat.le_of_ble_eq_true rfl) hz (fun K hl S => wk_X5_image S)
/-! HeldCoatsModel.<init>()V -/
def dkwX5_init_16 : List UInt8 := [16, 62, 162, 0, 21, 42, 180, 0, 33, 27, 42, 180, 0, 37, 27, 46, 79, 132, 1, 1, 167, 255, 235, 177]
abbrev dktX5_init_16 : List UInt8 := dkwX5_init_16 ++ []
def dkwX5_init_15 : List UInt8 := [16, 22, 20, 0, 122, 80, 42, 180, 0, 47, 16, 23, 20, 0, 124, 80, 42, 182, 0, 126, 3, 60, 27]
abbrev dktX5_init_15 : List UInt8 := dkwX5_init_15 ++ dktX5_init_16
def dkwX5_init_14 : List UInt8 := [42, 180, 0, 47, 16, 20, 20, 0, 118, 80, 42, 180, 0, 47, 16, 21, 20, 0, 120, 80, 42, 180, 0, 47]
abbrev dktX5_init_14 : List UInt8 := dkwX5_init_14 ++ dktX5_init_15
def dkwX5_init_13 : List UInt8 := [20, 0, 112, 80, 42, 180, 0, 47, 16, 18, 20, 0, 114, 80, 42, 180, 0, 47, 16, 19, 20, 0, 116, 80]
abbrev dktX5_init_13 : List UInt8 := dkwX5_init_13 ++ dktX5_init_14
def dkwX5_init_12 : List UInt8 := [16, 15, 20, 0, 108, 80, 42, 180, 0, 47, 16, 16, 20, 0, 110, 80, 42, 180, 0, 47, 16, 17]
abbrev dktX5_init_12 : List UInt8 := dkwX5_init_12 ++ dktX5_init_13
def dkwX5_init_11 : List UInt8 := [42, 180, 0, 47, 16, 13, 20, 0, 104, 80, 42, 180, 0, 47, 16, 14, 20, 0, 106, 80, 42, 180, 0, 47]
abbrev dktX5_init_11 : List UInt8 := dkwX5_init_11 ++ dktX5_init_12
def dkwX5_init_10 : List UInt8 := [20, 0, 98, 80, 42, 180, 0, 47, 16, 11, 20, 0, 100, 80, 42, 180, 0, 47, 16, 12, 20, 0, 102, 80]
abbrev dktX5_init_10 : List UInt8 := dkwX5_init_10 ++ dktX5_init_11
def dkwX5_init_9 : List UInt8 := [16, 8, 20, 0, 94, 80, 42, 180, 0, 47, 16, 9, 20, 0, 96, 80, 42, 180, 0, 47, 16, 10]
abbrev dktX5_init_9 : List UInt8 := dkwX5_init_9 ++ dktX5_init_10
def dkwX5_init_8 : List UInt8 := [180, 0, 47, 16, 6, 20, 0, 90, 80, 42, 180, 0, 47, 16, 7, 20, 0, 92, 80, 42, 180, 0, 47]
abbrev dktX5_init_8 : List UInt8 := dkwX5_init_8 ++ dktX5_init_9
def dkwX5_init_7 : List UInt8 := [20, 0, 84, 80, 42, 180, 0, 47, 7, 20, 0, 86, 80, 42, 180, 0, 47, 8, 20, 0, 88, 80, 42]
abbrev dktX5_init_7 : List UInt8 := dkwX5_init_7 ++ dktX5_init_8
def dkwX5_init_6 : List UInt8 := [180, 0, 47, 4, 20, 0, 80, 80, 42, 180, 0, 47, 5, 20, 0, 82, 80, 42, 180, 0, 47, 6]
abbrev dktX5_init_6 : List UInt8 := dkwX5_init_6 ++ dktX5_init_7
def dkwX5_init_5 : List UInt8 := [188, 11, 181, 0, 72, 42, 5, 188, 4, 181, 0, 75, 42, 180, 0, 47, 3, 20, 0, 78, 80, 42]
abbrev dktX5_init_5 : List UInt8 := dkwX5_init_5 ++ dktX5_init_6
def dkwX5_init_4 : List UInt8 := [181, 0, 62, 42, 16, 45, 188, 4, 181, 0, 65, 42, 17, 2, 86, 188, 10, 181, 0, 69, 42, 16, 44]
abbrev dktX5_init_4 : List UInt8 := dkwX5_init_4 ++ dktX5_init_5
def dkwX5_init_3 : List UInt8 := [181, 0, 53, 42, 16, 6, 188, 10, 181, 0, 56, 42, 7, 188, 10, 181, 0, 59, 42, 16, 45, 188, 10]
abbrev dktX5_init_3 : List UInt8 := dkwX5_init_3 ++ dktX5_init_4
def dkwX5_init_2 : List UInt8 := [42, 16, 24, 188, 11, 181, 0, 47, 42, 17, 1, 192, 188, 10, 181, 0, 50, 42, 16, 56, 188, 10]
abbrev dktX5_init_2 : List UInt8 := dkwX5_init_2 ++ dktX5_init_3
def dkwX5_init_1 : List UInt8 := [16, 62, 188, 10, 181, 0, 37, 42, 17, 0, 135, 188, 10, 181, 0, 40, 42, 16, 44, 188, 11, 181, 0, 43]
abbrev dktX5_init_1 : List UInt8 := dkwX5_init_1 ++ dktX5_init_2
def dkwX5_init_0 : List UInt8 := [42, 183, 0, 27, 42, 17, 3, 172, 188, 8, 181, 0, 14, 42, 17, 1, 43, 188, 10, 181, 0, 33, 42]
abbrev dktX5_init_0 : List UInt8 := dkwX5_init_0 ++ dktX5_init_1
theorem dksX5_init_0 : cX5_init.data.toList.drop 0 = dktX5_init_0 := by decide +kernel
theorem dksX5_init_1 : cX5_init.data.toList.drop 23 = dktX5_init_1 := dk_seg dksX5_init_0 23 rfl rfl
theorem dksX5_init_2 : cX5_init.data.toList.drop 47 = dktX5_init_2 := dk_seg dksX5_init_1 24 rfl rfl
theorem dksX5_init_3 : cX5_init.data.toList.drop 69 = dktX5_init_3 := dk_seg dksX5_init_2 22 rfl rfl
theorem dksX5_init_4 : cX5_init.data.toList.drop 92 = dktX5_init_4 := dk_seg dksX5_init_3 23 rfl rfl
theorem dksX5_init_5 : cX5_init.data.toList.drop 115 = dktX5_init_5 := dk_seg dksX5_init_4 23 rfl rfl
theorem dksX5_init_6 : cX5_init.data.toList.drop 137 = dktX5_init_6 := dk_seg dksX5_init_5 22 rfl rfl
theorem dksX5_init_7 : cX5_init.data.toList.drop 159 = dktX5_init_7 := dk_seg dksX5_init_6 22 rfl rfl
theorem dksX5_init_8 : cX5_init.data.toList.drop 182 = dktX5_init_8 := dk_seg dksX5_init_7 23 rfl rfl
theorem dksX5_init_9 : cX5_init.data.toList.drop 205 = dktX5_init_9 := dk_seg dksX5_init_8 23 rfl rfl
theorem dksX5_init_10 : cX5_init.data.toList.drop 227 = dktX5_init_10 := dk_seg dksX5_init_9 22 rfl rfl
theorem dksX5_init_11 : cX5_init.data.toList.drop 251 = dktX5_init_11 := dk_seg dksX5_init_10 24 rfl rfl
theorem dksX5_init_12 : cX5_init.data.toList.drop 275 = dktX5_init_12 := dk_seg dksX5_init_11 24 rfl rfl
theorem dksX5_init_13 : cX5_init.data.toList.drop 297 = dktX5_init_13 := dk_seg dksX5_init_12 22 rfl rfl
theorem dksX5_init_14 : cX5_init.data.toList.drop 321 = dktX5_init_14 := dk_seg dksX5_init_13 24 rfl rfl
theorem dksX5_init_15 : cX5_init.data.toList.drop 345 = dktX5_init_15 := dk_seg dksX5_init_14 24 rfl rfl
theorem dksX5_init_16 : cX5_init.data.toList.drop 368 = dktX5_init_16 := dk_seg dksX5_init_15 23 rfl rfl
theorem dX5_init_0 : decode cX5_init 0 = .ok (.aload_n 0, 1) := dk_42 (dk_at dksX5_init_0 0 rfl rfl)
theorem dX5_init_1 : decode cX5_init 1 = .ok (.invokespecial 27, 3) := dk_183 0 27 (dk_at dksX5_init_0 1 rfl rfl)
theorem dX5_init_4 : decode cX5_init 4 = .ok (.aload_n 0, 1) := dk_42 (dk_at dksX5_init_0 4 rfl rfl)
theorem dX5_init_5 : decode cX5_init 5 = .ok (.sipush 940, 3) := dk_17 3 172 (dk_at dksX5_init_0 5 rfl rfl)
theorem dX5_init_8 : decode cX5_init 8 = .ok (.newarray .byte, 2) := dk_188_8 (dk_at dksX5_init_0 8 rfl rfl)
theorem dX5_init_10 : decode cX5_init 10 = .ok (.putfield 14, 3) := dk_181 0 14 (dk_at dksX5_init_0 10 rfl rfl)
theorem dX5_init_13 : decode cX5_init 13 = .ok (.aload_n 0, 1) := dk_42 (dk_at dksX5_init_0 13 rfl rfl)
theorem dX5_init_14 : decode cX5_init 14 = .ok (.sipush 299, 3) := dk_17 1 43 (dk_at dksX5_init_0 14 rfl rfl)
theorem dX5_init_17 : decode cX5_init 17 = .ok (.newarray .int, 2) := dk_188_10 (dk_at dksX5_init_0 17 rfl rfl)
theorem dX5_init_19 : decode cX5_init 19 = .ok (.putfield 33, 3) := dk_181 0 33 (dk_at dksX5_init_0 19 rfl rfl)
theorem dX5_init_22 : decode cX5_init 22 = .ok (.aload_n 0, 1) := dk_42 (dk_at dksX5_init_0 22 rfl rfl)
theorem dX5_init_23 : decode cX5_init 23 = .ok (.bipush 62, 2) := dk_16 62 (dk_at dksX5_init_1 0 rfl rfl)
theorem dX5_init_25 : decode cX5_init 25 = .ok (.newarray .int, 2) := dk_188_10 (dk_at dksX5_init_1 2 rfl rfl)
theorem dX5_init_27 : decode cX5_init 27 = .ok (.putfield 37, 3) := dk_181 0 37 (dk_at dksX5_init_1 4 rfl rfl)
theorem dX5_init_30 : decode cX5_init 30 = .ok (.aload_n 0, 1) := dk_42 (dk_at dksX5_init_1 7 rfl rfl)
theorem dX5_init_31 : decode cX5_init 31 = .ok (.sipush 135, 3) := dk_17 0 135 (dk_at dksX5_init_1 8 rfl rfl)
theorem dX5_init_34 : decode cX5_init 34 = .ok (.newarray .int, 2) := dk_188_10 (dk_at dksX5_init_1 11 rfl rfl)
theorem dX5_init_36 : decode cX5_init 36 = .ok (.putfield 40, 3) := dk_181 0 40 (dk_at dksX5_init_1 13 rfl rfl)
theorem dX5_init_39 : decode cX5_init 39 = .ok (.aload_n 0, 1) := dk_42 (dk_at dksX5_init_1 16 rfl rfl)
theorem dX5_init_40 : decode cX5_init 40 = .ok (.bipush 44, 2) := dk_16 44 (dk_at dksX5_init_1 17 rfl rfl)
theorem dX5_init_42 : decode cX5_init 42 = .ok (.newarray .long, 2) := dk_188_11 (dk_at dksX5_init_1 19 rfl rfl)
theorem dX5_init_44 : decode cX5_init 44 = .ok (.putfield 43, 3) := dk_181 0 43 (dk_at dksX5_init_1 21 rfl rfl)
theorem dX5_init_47 : decode cX5_init 47 = .ok (.aload_n 0, 1) := dk_42 (dk_at dksX5_init_2 0 rfl rfl)
theorem dX5_init_48 : decode cX5_init 48 = .ok (.bipush 24, 2) := dk_16 24 (dk_at dksX5_init_2 1 rfl rfl)
theorem dX5_init_50 : decode cX5_init 50 = .ok (.newarray .long, 2) := dk_188_11 (dk_at dksX5_init_2 3 rfl rfl)
theorem dX5_init_52 : decode cX5_init 52 = .ok (.putfield 47, 3) := dk_181 0 47 (dk_at dksX5_init_2 5 rfl rfl)
theorem dX5_init_55 : decode cX5_init 55 = .ok (.aload_n 0, 1) := dk_42 (dk_at dksX5_init_2 8 rfl rfl)
theorem dX5_init_56 : decode cX5_init 56 = .ok (.sipush 448, 3) := dk_17 1 192 (dk_at dksX5_init_2 9 rfl rfl)
theorem dX5_init_59 : decode cX5_init 59 = .ok (.newarray .int, 2) := dk_188_10 (dk_at dksX5_init_2 12 rfl rfl)
theorem dX5_init_61 : decode cX5_init 61 = .ok (.putfield 50, 3) := dk_181 0 50 (dk_at dksX5_init_2 14 rfl rfl)
theorem dX5_init_64 : decode cX5_init 64 = .ok (.aload_n 0, 1) := dk_42 (dk_at dksX5_init_2 17 rfl rfl)
theorem dX5_init_65 : decode cX5_init 65 = .ok (.bipush 56, 2) := dk_16 56 (dk_at dksX5_init_2 18 rfl rfl)
theorem dX5_init_67 : decode cX5_init 67 = .ok (.newarray .int, 2) := dk_188_10 (dk_at dksX5_init_2 20 rfl rfl)
theorem dX5_init_69 : decode cX5_init 69 = .ok (.putfield 53, 3) := dk_181 0 53 (dk_at dksX5_init_3 0 rfl rfl)
theorem dX5_init_72 : decode cX5_init 72 = .ok (.aload_n 0, 1) := dk_42 (dk_at dksX5_init_3 3 rfl rfl)
theorem dX5_init_73 : decode cX5_init 73 = .ok (.bipush 6, 2) := dk_16 6 (dk_at dksX5_init_3 4 rfl rfl)
theorem dX5_init_75 : decode cX5_init 75 = .ok (.newarray .int, 2) := dk_188_10 (dk_at dksX5_init_3 6 rfl rfl)
theorem dX5_init_77 : decode cX5_init 77 = .ok (.putfield 56, 3) := dk_181 0 56 (dk_at dksX5_init_3 8 rfl rfl)
theorem dX5_init_80 : decode cX5_init 80 = .ok (.aload_n 0, 1) := dk_42 (dk_at dksX5_init_3 11 rfl rfl)
theorem dX5_init_81 : decode cX5_init 81 = .ok (.iconst 4, 1) := dk_7 (dk_at dksX5_init_3 12 rfl rfl)
theorem dX5_init_82 : decode cX5_init 82 = .ok (.newarray .int, 2) := dk_188_10 (dk_at dksX5_init_3 13 rfl rfl)
theorem dX5_init_84 : decode cX5_init 84 = .ok (.putfield 59, 3) := dk_181 0 59 (dk_at dksX5_init_3 15 rfl rfl)
theorem dX5_init_87 : decode cX5_init 87 = .ok (.aload_n 0, 1) := dk_42 (dk_at dksX5_init_3 18 rfl rfl)
theorem dX5_init_88 : decode cX5_init 88 = .ok (.bipush 45, 2) := dk_16 45 (dk_at dksX5_init_3 19 rfl rfl)
theorem dX5_init_90 : decode cX5_init 90 = .ok (.newarray .int, 2) := dk_188_10 (dk_at dksX5_init_3 21 rfl rfl)
theorem dX5_init_92 : decode cX5_init 92 = .ok (.putfield 62, 3) := dk_181 0 62 (dk_at dksX5_init_4 0 rfl rfl)
theorem dX5_init_95 : decode cX5_init 95 = .ok (.aload_n 0, 1) := dk_42 (dk_at dksX5_init_4 3 rfl rfl)
theorem dX5_init_96 : decode cX5_init 96 = .ok (.bipush 45, 2) := dk_16 45 (dk_at dksX5_init_4 4 rfl rfl)
theorem dX5_init_98 : decode cX5_init 98 = .ok (.newarray .boolean, 2) := dk_188_4 (dk_at dksX5_init_4 6 rfl rfl)
theorem dX5_init_100 : decode cX5_init 100 = .ok (.putfield 65, 3) := dk_181 0 65 (dk_at dksX5_init_4 8 rfl rfl)
theorem dX5_init_103 : decode cX5_init 103 = .ok (.aload_n 0, 1) := dk_42 (dk_at dksX5_init_4 11 rfl rfl)
theorem dX5_init_104 : decode cX5_init 104 = .ok (.sipush 598, 3) := dk_17 2 86 (dk_at dksX5_init_4 12 rfl rfl)
theorem dX5_init_107 : decode cX5_init 107 = .ok (.newarray .int, 2) := dk_188_10 (dk_at dksX5_init_4 15 rfl rfl)
theorem dX5_init_109 : decode cX5_init 109 = .ok (.putfield 69, 3) := dk_181 0 69 (dk_at dksX5_init_4 17 rfl rfl)
theorem dX5_init_112 : decode cX5_init 112 = .ok (.aload_n 0, 1) := dk_42 (dk_at dksX5_init_4 20 rfl rfl)
theorem dX5_init_113 : decode cX5_init 113 = .ok (.bipush 44, 2) := dk_16 44 (dk_at dksX5_init_4 21 rfl rfl)
theorem dX5_init_115 : decode cX5_init 115 = .ok (.newarray .long, 2) := dk_188_11 (dk_at dksX5_init_5 0 rfl rfl)
theorem dX5_init_117 : decode cX5_init 117 = .ok (.putfield 72, 3) := dk_181 0 72 (dk_at dksX5_init_5 2 rfl rfl)
theorem dX5_init_120 : decode cX5_init 120 = .ok (.aload_n 0, 1) := dk_42 (dk_at dksX5_init_5 5 rfl rfl)
theorem dX5_init_121 : decode cX5_init 121 = .ok (.iconst 2, 1) := dk_5 (dk_at dksX5_init_5 6 rfl rfl)
theorem dX5_init_122 : decode cX5_init 122 = .ok (.newarray .boolean, 2) := dk_188_4 (dk_at dksX5_init_5 7 rfl rfl)
theorem dX5_init_124 : decode cX5_init 124 = .ok (.putfield 75, 3) := dk_181 0 75 (dk_at dksX5_init_5 9 rfl rfl)
theorem dX5_init_127 : decode cX5_init 127 = .ok (.aload_n 0, 1) := dk_42 (dk_at dksX5_init_5 12 rfl rfl)
theorem dX5_init_128 : decode cX5_init 128 = .ok (.getfield 47, 3) := dk_180 0 47 (dk_at dksX5_init_5 13 rfl rfl)
theorem dX5_init_131 : decode cX5_init 131 = .ok (.iconst 0, 1) := dk_3 (dk_at dksX5_init_5 16 rfl rfl)
theorem dX5_init_132 : decode cX5_init 132 = .ok (.ldc2_w 78, 3) := dk_20 0 78 (dk_at dksX5_init_5 17 rfl rfl)
theorem dX5_init_135 : decode cX5_init 135 = .ok (.lastore, 1) := dk_80 (dk_at dksX5_init_5 20 rfl rfl)
theorem dX5_init_136 : decode cX5_init 136 = .ok (.aload_n 0, 1) := dk_42 (dk_at dksX5_init_5 21 rfl rfl)
theorem dX5_init_137 : decode cX5_init 137 = .ok (.getfield 47, 3) := dk_180 0 47 (dk_at dksX5_init_6 0 rfl rfl)
theorem dX5_init_140 : decode cX5_init 140 = .ok (.iconst 1, 1) := dk_4 (dk_at dksX5_init_6 3 rfl rfl)
theorem dX5_init_141 : decode cX5_init 141 = .ok (.ldc2_w 80, 3) := dk_20 0 80 (dk_at dksX5_init_6 4 rfl rfl)
theorem dX5_init_144 : decode cX5_init 144 = .ok (.lastore, 1) := dk_80 (dk_at dksX5_init_6 7 rfl rfl)
theorem dX5_init_145 : decode cX5_init 145 = .ok (.aload_n 0, 1) := dk_42 (dk_at dksX5_init_6 8 rfl rfl)
theorem dX5_init_146 : decode cX5_init 146 = .ok (.getfield 47, 3) := dk_180 0 47 (dk_at dksX5_init_6 9 rfl rfl)
theorem dX5_init_149 : decode cX5_init 149 = .ok (.iconst 2, 1) := dk_5 (dk_at dksX5_init_6 12 rfl rfl)
theorem dX5_init_150 : decode cX5_init 150 = .ok (.ldc2_w 82, 3) := dk_20 0 82 (dk_at dksX5_init_6 13 rfl rfl)
theorem dX5_init_153 : decode cX5_init 153 = .ok (.lastore, 1) := dk_80 (dk_at dksX5_init_6 16 rfl rfl)
theorem dX5_init_154 : decode cX5_init 154 = .ok (.aload_n 0, 1) := dk_42 (dk_at dksX5_init_6 17 rfl rfl)
theorem dX5_init_155 : decode cX5_init 155 = .ok (.getfield 47, 3) := dk_180 0 47 (dk_at dksX5_init_6 18 rfl rfl)
theorem dX5_init_158 : decode cX5_init 158 = .ok (.iconst 3, 1) := dk_6 (dk_at dksX5_init_6 21 rfl rfl)
theorem dX5_init_159 : decode cX5_init 159 = .ok (.ldc2_w 84, 3) := dk_20 0 84 (dk_at dksX5_init_7 0 rfl rfl)
theorem dX5_init_162 : decode cX5_init 162 = .ok (.lastore, 1) := dk_80 (dk_at dksX5_init_7 3 rfl rfl)
theorem dX5_init_163 : decode cX5_init 163 = .ok (.aload_n 0, 1) := dk_42 (dk_at dksX5_init_7 4 rfl rfl)
theorem dX5_init_164 : decode cX5_init 164 = .ok (.getfield 47, 3) := dk_180 0 47 (dk_at dksX5_init_7 5 rfl rfl)
theorem dX5_init_167 : decode cX5_init 167 = .ok (.iconst 4, 1) := dk_7 (dk_at dksX5_init_7 8 rfl rfl)
theorem dX5_init_168 : decode cX5_init 168 = .ok (.ldc2_w 86, 3) := dk_20 0 86 (dk_at dksX5_init_7 9 rfl rfl)
theorem dX5_init_171 : decode cX5_init 171 = .ok (.lastore, 1) := dk_80 (dk_at dksX5_init_7 12 rfl rfl)
theorem dX5_init_172 : decode cX5_init 172 = .ok (.aload_n 0, 1) := dk_42 (dk_at dksX5_init_7 13 rfl rfl)
theorem dX5_init_173 : decode cX5_init 173 = .ok (.getfield 47, 3) := dk_180 0 47 (dk_at dksX5_init_7 14 rfl rfl)
theorem dX5_init_176 : decode cX5_init 176 = .ok (.iconst 5, 1) := dk_8 (dk_at dksX5_init_7 17 rfl rfl)
theorem dX5_init_177 : decode cX5_init 177 = .ok (.ldc2_w 88, 3) := dk_20 0 88 (dk_at dksX5_init_7 18 rfl rfl)
theorem dX5_init_180 : decode cX5_init 180 = .ok (.lastore, 1) := dk_80 (dk_at dksX5_init_7 21 rfl rfl)
theorem dX5_init_181 : decode cX5_init 181 = .ok (.aload_n 0, 1) := dk_42 (dk_at dksX5_init_7 22 rfl rfl)
theorem dX5_init_182 : decode cX5_init 182 = .ok (.getfield 47, 3) := dk_180 0 47 (dk_at dksX5_init_8 0 rfl rfl)
theorem dX5_init_185 : decode cX5_init 185 = .ok (.bipush 6, 2) := dk_16 6 (dk_at dksX5_init_8 3 rfl rfl)
theorem dX5_init_187 : decode cX5_init 187 = .ok (.ldc2_w 90, 3) := dk_20 0 90 (dk_at dksX5_init_8 5 rfl rfl)
theorem dX5_init_190 : decode cX5_init 190 = .ok (.lastore, 1) := dk_80 (dk_at dksX5_init_8 8 rfl rfl)
theorem dX5_init_191 : decode cX5_init 191 = .ok (.aload_n 0, 1) := dk_42 (dk_at dksX5_init_8 9 rfl rfl)
theorem dX5_init_192 : decode cX5_init 192 = .ok (.getfield 47, 3) := dk_180 0 47 (dk_at dksX5_init_8 10 rfl rfl)
theorem dX5_init_195 : decode cX5_init 195 = .ok (.bipush 7, 2) := dk_16 7 (dk_at dksX5_init_8 13 rfl rfl)
theorem dX5_init_197 : decode cX5_init 197 = .ok (.ldc2_w 92, 3) := dk_20 0 92 (dk_at dksX5_init_8 15 rfl rfl)
theorem dX5_init_200 : decode cX5_init 200 = .ok (.lastore, 1) := dk_80 (dk_at dksX5_init_8 18 rfl rfl)
theorem dX5_init_201 : decode cX5_init 201 = .ok (.aload_n 0, 1) := dk_42 (dk_at dksX5_init_8 19 rfl rfl)
theorem dX5_init_202 : decode cX5_init 202 = .ok (.getfield 47, 3) := dk_180 0 47 (dk_at dksX5_init_8 20 rfl rfl)
theorem dX5_init_205 : decode cX5_init 205 = .ok (.bipush 8, 2) := dk_16 8 (dk_at dksX5_init_9 0 rfl rfl)
theorem dX5_init_207 : decode cX5_init 207 = .ok (.ldc2_w 94, 3) := dk_20 0 94 (dk_at dksX5_init_9 2 rfl rfl)
theorem dX5_init_210 : decode cX5_init 210 = .ok (.lastore, 1) := dk_80 (dk_at dksX5_init_9 5 rfl rfl)
theorem dX5_init_211 : decode cX5_init 211 = .ok (.aload_n 0, 1) := dk_42 (dk_at dksX5_init_9 6 rfl rfl)
theorem dX5_init_212 : decode cX5_init 212 = .ok (.getfield 47, 3) := dk_180 0 47 (dk_at dksX5_init_9 7 rfl rfl)
theorem dX5_init_215 : decode cX5_init 215 = .ok (.bipush 9, 2) := dk_16 9 (dk_at dksX5_init_9 10 rfl rfl)
theorem dX5_init_217 : decode cX5_init 217 = .ok (.ldc2_w 96, 3) := dk_20 0 96 (dk_at dksX5_init_9 12 rfl rfl)
theorem dX5_init_220 : decode cX5_init 220 = .ok (.lastore, 1) := dk_80 (dk_at dksX5_init_9 15 rfl rfl)
theorem dX5_init_221 : decode cX5_init 221 = .ok (.aload_n 0, 1) := dk_42 (dk_at dksX5_init_9 16 rfl rfl)
theorem dX5_init_222 : decode cX5_init 222 = .ok (.getfield 47, 3) := dk_180 0 47 (dk_at dksX5_init_9 17 rfl rfl)
theorem dX5_init_225 : decode cX5_init 225 = .ok (.bipush 10, 2) := dk_16 10 (dk_at dksX5_init_9 20 rfl rfl)
theorem dX5_init_227 : decode cX5_init 227 = .ok (.ldc2_w 98, 3) := dk_20 0 98 (dk_at dksX5_init_10 0 rfl rfl)
theorem dX5_init_230 : decode cX5_init 230 = .ok (.lastore, 1) := dk_80 (dk_at dksX5_init_10 3 rfl rfl)
theorem dX5_init_231 : decode cX5_init 231 = .ok (.aload_n 0, 1) := dk_42 (dk_at dksX5_init_10 4 rfl rfl)
theorem dX5_init_232 : decode cX5_init 232 = .ok (.getfield 47, 3) := dk_180 0 47 (dk_at dksX5_init_10 5 rfl rfl)
theorem dX5_init_235 : decode cX5_init 235 = .ok (.bipush 11, 2) := dk_16 11 (dk_at dksX5_init_10 8 rfl rfl)
theorem dX5_init_237 : decode cX5_init 237 = .ok (.ldc2_w 100, 3) := dk_20 0 100 (dk_at dksX5_init_10 10 rfl rfl)
theorem dX5_init_240 : decode cX5_init 240 = .ok (.lastore, 1) := dk_80 (dk_at dksX5_init_10 13 rfl rfl)
theorem dX5_init_241 : decode cX5_init 241 = .ok (.aload_n 0, 1) := dk_42 (dk_at dksX5_init_10 14 rfl rfl)
theorem dX5_init_242 : decode cX5_init 242 = .ok (.getfield 47, 3) := dk_180 0 47 (dk_at dksX5_init_10 15 rfl rfl)
theorem dX5_init_245 : decode cX5_init 245 = .ok (.bipush 12, 2) := dk_16 12 (dk_at dksX5_init_10 18 rfl rfl)
theorem dX5_init_247 : decode cX5_init 247 = .ok (.ldc2_w 102, 3) := dk_20 0 102 (dk_at dksX5_init_10 20 rfl rfl)
theorem dX5_init_250 : decode cX5_init 250 = .ok (.lastore, 1) := dk_80 (dk_at dksX5_init_10 23 rfl rfl)
theorem dX5_init_251 : decode cX5_init 251 = .ok (.aload_n 0, 1) := dk_42 (dk_at dksX5_init_11 0 rfl rfl)
theorem dX5_init_252 : decode cX5_init 252 = .ok (.getfield 47, 3) := dk_180 0 47 (dk_at dksX5_init_11 1 rfl rfl)
theorem dX5_init_255 : decode cX5_init 255 = .ok (.bipush 13, 2) := dk_16 13 (dk_at dksX5_init_11 4 rfl rfl)
theorem dX5_init_257 : decode cX5_init 257 = .ok (.ldc2_w 104, 3) := dk_20 0 104 (dk_at dksX5_init_11 6 rfl rfl)
theorem dX5_init_260 : decode cX5_init 260 = .ok (.lastore, 1) := dk_80 (dk_at dksX5_init_11 9 rfl rfl)
theorem dX5_init_261 : decode cX5_init 261 = .ok (.aload_n 0, 1) := dk_42 (dk_at dksX5_init_11 10 rfl rfl)
theorem dX5_init_262 : decode cX5_init 262 = .ok (.getfield 47, 3) := dk_180 0 47 (dk_at dksX5_init_11 11 rfl rfl)
theorem dX5_init_265 : decode cX5_init 265 = .ok (.bipush 14, 2) := dk_16 14 (dk_at dksX5_init_11 14 rfl rfl)
theorem dX5_init_267 : decode cX5_init 267 = .ok (.ldc2_w 106, 3) := dk_20 0 106 (dk_at dksX5_init_11 16 rfl rfl)
theorem dX5_init_270 : decode cX5_init 270 = .ok (.lastore, 1) := dk_80 (dk_at dksX5_init_11 19 rfl rfl)
theorem dX5_init_271 : decode cX5_init 271 = .ok (.aload_n 0, 1) := dk_42 (dk_at dksX5_init_11 20 rfl rfl)
theorem dX5_init_272 : decode cX5_init 272 = .ok (.getfield 47, 3) := dk_180 0 47 (dk_at dksX5_init_11 21 rfl rfl)
theorem dX5_init_275 : decode cX5_init 275 = .ok (.bipush 15, 2) := dk_16 15 (dk_at dksX5_init_12 0 rfl rfl)
theorem dX5_init_277 : decode cX5_init 277 = .ok (.ldc2_w 108, 3) := dk_20 0 108 (dk_at dksX5_init_12 2 rfl rfl)
theorem dX5_init_280 : decode cX5_init 280 = .ok (.lastore, 1) := dk_80 (dk_at dksX5_init_12 5 rfl rfl)
theorem dX5_init_281 : decode cX5_init 281 = .ok (.aload_n 0, 1) := dk_42 (dk_at dksX5_init_12 6 rfl rfl)
theorem dX5_init_282 : decode cX5_init 282 = .ok (.getfield 47, 3) := dk_180 0 47 (dk_at dksX5_init_12 7 rfl rfl)
theorem dX5_init_285 : decode cX5_init 285 = .ok (.bipush 16, 2) := dk_16 16 (dk_at dksX5_init_12 10 rfl rfl)
theorem dX5_init_287 : decode cX5_init 287 = .ok (.ldc2_w 110, 3) := dk_20 0 110 (dk_at dksX5_init_12 12 rfl rfl)
theorem dX5_init_290 : decode cX5_init 290 = .ok (.lastore, 1) := dk_80 (dk_at dksX5_init_12 15 rfl rfl)
theorem dX5_init_291 : decode cX5_init 291 = .ok (.aload_n 0, 1) := dk_42 (dk_at dksX5_init_12 16 rfl rfl)
theorem dX5_init_292 : decode cX5_init 292 = .ok (.getfield 47, 3) := dk_180 0 47 (dk_at dksX5_init_12 17 rfl rfl)
theorem dX5_init_295 : decode cX5_init 295 = .ok (.bipush 17, 2) := dk_16 17 (dk_at dksX5_init_12 20 rfl rfl)
theorem dX5_init_297 : decode cX5_init 297 = .ok (.ldc2_w 112, 3) := dk_20 0 112 (dk_at dksX5_init_13 0 rfl rfl)
theorem dX5_init_300 : decode cX5_init 300 = .ok (.lastore, 1) := dk_80 (dk_at dksX5_init_13 3 rfl rfl)
theorem dX5_init_301 : decode cX5_init 301 = .ok (.aload_n 0, 1) := dk_42 (dk_at dksX5_init_13 4 rfl rfl)
theorem dX5_init_302 : decode cX5_init 302 = .ok (.getfield 47, 3) := dk_180 0 47 (dk_at dksX5_init_13 5 rfl rfl)
theorem dX5_init_305 : decode cX5_init 305 = .ok (.bipush 18, 2) := dk_16 18 (dk_at dksX5_init_13 8 rfl rfl)
theorem dX5_init_307 : decode cX5_init 307 = .ok (.ldc2_w 114, 3) := dk_20 0 114 (dk_at dksX5_init_13 10 rfl rfl)
theorem dX5_init_310 : decode cX5_init 310 = .ok (.lastore, 1) := dk_80 (dk_at dksX5_init_13 13 rfl rfl)
theorem dX5_init_311 : decode cX5_init 311 = .ok (.aload_n 0, 1) := dk_42 (dk_at dksX5_init_13 14 rfl rfl)
theorem dX5_init_312 : decode cX5_init 312 = .ok (.getfield 47, 3) := dk_180 0 47 (dk_at dksX5_init_13 15 rfl rfl)
theorem dX5_init_315 : decode cX5_init 315 = .ok (.bipush 19, 2) := dk_16 19 (dk_at dksX5_init_13 18 rfl rfl)
theorem dX5_init_317 : decode cX5_init 317 = .ok (.ldc2_w 116, 3) := dk_20 0 116 (dk_at dksX5_init_13 20 rfl rfl)
theorem dX5_init_320 : decode cX5_init 320 = .ok (.lastore, 1) := dk_80 (dk_at dksX5_init_13 23 rfl rfl)
theorem dX5_init_321 : decode cX5_init 321 = .ok (.aload_n 0, 1) := dk_42 (dk_at dksX5_init_14 0 rfl rfl)
theorem dX5_init_322 : decode cX5_init 322 = .ok (.getfield 47, 3) := dk_180 0 47 (dk_at dksX5_init_14 1 rfl rfl)
theorem dX5_init_325 : decode cX5_init 325 = .ok (.bipush 20, 2) := dk_16 20 (dk_at dksX5_init_14 4 rfl rfl)
theorem dX5_init_327 : decode cX5_init 327 = .ok (.ldc2_w 118, 3) := dk_20 0 118 (dk_at dksX5_init_14 6 rfl rfl)
theorem dX5_init_330 : decode cX5_init 330 = .ok (.lastore, 1) := dk_80 (dk_at dksX5_init_14 9 rfl rfl)
theorem dX5_init_331 : decode cX5_init 331 = .ok (.aload_n 0, 1) := dk_42 (dk_at dksX5_init_14 10 rfl rfl)
theorem dX5_init_332 : decode cX5_init 332 = .ok (.getfield 47, 3) := dk_180 0 47 (dk_at dksX5_init_14 11 rfl rfl)
theorem dX5_init_335 : decode cX5_init 335 = .ok (.bipush 21, 2) := dk_16 21 (dk_at dksX5_init_14 14 rfl rfl)
theorem dX5_init_337 : decode cX5_init 337 = .ok (.ldc2_w 120, 3) := dk_20 0 120 (dk_at dksX5_init_14 16 rfl rfl)
theorem dX5_init_340 : decode cX5_init 340 = .ok (.lastore, 1) := dk_80 (dk_at dksX5_init_14 19 rfl rfl)
theorem dX5_init_341 : decode cX5_init 341 = .ok (.aload_n 0, 1) := dk_42 (dk_at dksX5_init_14 20 rfl rfl)
theorem dX5_init_342 : decode cX5_init 342 = .ok (.getfield 47, 3) := dk_180 0 47 (dk_at dksX5_init_14 21 rfl rfl)
theorem dX5_init_345 : decode cX5_init 345 = .ok (.bipush 22, 2) := dk_16 22 (dk_at dksX5_init_15 0 rfl rfl)
theorem dX5_init_347 : decode cX5_init 347 = .ok (.ldc2_w 122, 3) := dk_20 0 122 (dk_at dksX5_init_15 2 rfl rfl)
theorem dX5_init_350 : decode cX5_init 350 = .ok (.lastore, 1) := dk_80 (dk_at dksX5_init_15 5 rfl rfl)
theorem dX5_init_351 : decode cX5_init 351 = .ok (.aload_n 0, 1) := dk_42 (dk_at dksX5_init_15 6 rfl rfl)
theorem dX5_init_352 : decode cX5_init 352 = .ok (.getfield 47, 3) := dk_180 0 47 (dk_at dksX5_init_15 7 rfl rfl)
theorem dX5_init_355 : decode cX5_init 355 = .ok (.bipush 23, 2) := dk_16 23 (dk_at dksX5_init_15 10 rfl rfl)
theorem dX5_init_357 : decode cX5_init 357 = .ok (.ldc2_w 124, 3) := dk_20 0 124 (dk_at dksX5_init_15 12 rfl rfl)
theorem dX5_init_360 : decode cX5_init 360 = .ok (.lastore, 1) := dk_80 (dk_at dksX5_init_15 15 rfl rfl)
theorem dX5_init_361 : decode cX5_init 361 = .ok (.aload_n 0, 1) := dk_42 (dk_at dksX5_init_15 16 rfl rfl)
theorem dX5_init_362 : decode cX5_init 362 = .ok (.invokevirtual 126, 3) := dk_182 0 126 (dk_at dksX5_init_15 17 rfl rfl)
theorem dX5_init_365 : decode cX5_init 365 = .ok (.iconst 0, 1) := dk_3 (dk_at dksX5_init_15 20 rfl rfl)
theorem dX5_init_366 : decode cX5_init 366 = .ok (.istore_n 1, 1) := dk_60 (dk_at dksX5_init_15 21 rfl rfl)
theorem dX5_init_367 : decode cX5_init 367 = .ok (.iload_n 1, 1) := dk_27 (dk_at dksX5_init_15 22 rfl rfl)
theorem dX5_init_368 : decode cX5_init 368 = .ok (.bipush 62, 2) := dk_16 62 (dk_at dksX5_init_16 0 rfl rfl)
theorem dX5_init_370 : decode cX5_init 370 = .ok (.if_icmp .ge 21, 3) := dk_162 0 21 (dk_at dksX5_init_16 2 rfl rfl)
theorem dX5_init_373 : decode cX5_init 373 = .ok (.aload_n 0, 1) := dk_42 (dk_at dksX5_init_16 5 rfl rfl)
theorem dX5_init_374 : decode cX5_init 374 = .ok (.getfield 33, 3) := dk_180 0 33 (dk_at dksX5_init_16 6 rfl rfl)
theorem dX5_init_377 : decode cX5_init 377 = .ok (.iload_n 1, 1) := dk_27 (dk_at dksX5_init_16 9 rfl rfl)
theorem dX5_init_378 : decode cX5_init 378 = .ok (.aload_n 0, 1) := dk_42 (dk_at dksX5_init_16 10 rfl rfl)
theorem dX5_init_379 : decode cX5_init 379 = .ok (.getfield 37, 3) := dk_180 0 37 (dk_at dksX5_init_16 11 rfl rfl)
theorem dX5_init_382 : decode cX5_init 382 = .ok (.iload_n 1, 1) := dk_27 (dk_at dksX5_init_16 14 rfl rfl)
theorem dX5_init_383 : decode cX5_init 383 = .ok (.iaload, 1) := dk_46 (dk_at dksX5_init_16 15 rfl rfl)
theorem dX5_init_384 : decode cX5_init 384 = .ok (.iastore, 1) := dk_79 (dk_at dksX5_init_16 16 rfl rfl)
theorem dX5_init_385 : decode cX5_init 385 = .ok (.iinc 1 1, 3) := dk_132 1 1 (dk_at dksX5_init_16 17 rfl rfl)
theorem dX5_init_388 : decode cX5_init 388 = .ok (.goto (-21), 3) := dk_167 255 235 (dk_at dksX5_init_16 20 rfl rfl)
theorem dX5_init_391 : decode cX5_init 391 = .ok (.return_, 1) := dk_177 (dk_at dksX5_init_16 23 rfl rfl)
theorem fp_X5_i_5_1 : cz_FP "HeldCoatsModel" "<init>" [(5, 1)] := List.forall_mem_cons.mpr ⟨⟨RX5, TX5, 49, rfl, Or.inr ⟨rfl, rfl, rfl⟩⟩, fun _ h => absurd h List.not_mem_nil⟩
theorem pd__B : parseFieldDescriptor "[B" = some (.array .byte) := by decide +kernel
theorem fp_X5_i_5_6 : cz_FP "HeldCoatsModel" "<init>" [(5, 6)] := List.forall_mem_cons.mpr ⟨⟨RX5, TX5, 49, rfl, Or.inr ⟨rfl, rfl, rfl⟩⟩, fun _ h => absurd h List.not_mem_nil⟩
theorem pd__I : parseFieldDescriptor "[I" = some (.array .int) := by decide +kernel
theorem fp_X5_i_5_7 : cz_FP "HeldCoatsModel" "<init>" [(5, 7)] := List.forall_mem_cons.mpr ⟨⟨RX5, TX5, 49, rfl, Or.inr ⟨rfl, rfl, rfl⟩⟩, fun _ h => absurd h List.not_mem_nil⟩
theorem fp_X5_i_5_8 : cz_FP "HeldCoatsModel" "<init>" [(5, 8)] := List.forall_mem_cons.mpr ⟨⟨RX5, TX5, 49, rfl, Or.inr ⟨rfl, rfl, rfl⟩⟩, fun _ h => absurd h List.not_mem_nil⟩
theorem fp_X5_i_5_9 : cz_FP "HeldCoatsModel" "<init>" [(5, 9)] := List.forall_mem_cons.mpr ⟨⟨RX5, TX5, 49, rfl, Or.inr ⟨rfl, rfl, rfl⟩⟩, fun _ h => absurd h List.not_mem_nil⟩
theorem pd__J : parseFieldDescriptor "[J" = some (.array .long) := by decide +kernel
theorem fp_X5_i_5_10 : cz_FP "HeldCoatsModel" "<init>" [(5, 10)] := List.forall_mem_cons.mpr ⟨⟨RX5, TX5, 49, rfl, Or.inr ⟨rfl, rfl, rfl⟩⟩, fun _ h => absurd h List.not_mem_nil⟩
theorem fp_X5_i_5_21 : cz_FP "HeldCoatsModel" "<init>" [(5, 21)] := List.forall_mem_cons.mpr ⟨⟨RX5, TX5, 49, rfl, Or.inr ⟨rfl, rfl, rfl⟩⟩, fun _ h => absurd h List.not_mem_nil⟩
theorem fp_X5_i_5_22 : cz_FP "HeldCoatsModel" "<init>" [(5, 22)] := List.forall_mem_cons.mpr ⟨⟨RX5, TX5, 49, rfl, Or.inr ⟨rfl, rfl, rfl⟩⟩, fun _ h => absurd h List.not_mem_nil⟩
theorem fp_X5_i_5_32 : cz_FP "HeldCoatsModel" "<init>" [(5, 32)] := List.forall_mem_cons.mpr ⟨⟨RX5, TX5, 49, rfl, Or.inr ⟨rfl, rfl, rfl⟩⟩, fun _ h => absurd h List.not_mem_nil⟩
theorem fp_X5_i_5_37 : cz_FP "HeldCoatsModel" "<init>" [(5, 37)] := List.forall_mem_cons.mpr ⟨⟨RX5, TX5, 49, rfl, Or.inr ⟨rfl, rfl, rfl⟩⟩, fun _ h => absurd h List.not_mem_nil⟩
theorem fw_X5_62 : cz_FW "HeldCoatsModel" 62 [(5, 39)] "[I" := ⟨"HeldCoatsModel", "stack", Or.inl q1957, List.forall_mem_cons.mpr ⟨⟨RX5, TX5, 49, rfl, by decide, rfl, rfl, Or.inl rfl⟩, fun _ h => absurd h List.not_mem_nil⟩, by decide⟩
theorem fp_X5_i_5_39 : cz_FP "HeldCoatsModel" "<init>" [(5, 39)] := List.forall_mem_cons.mpr ⟨⟨RX5, TX5, 49, rfl, Or.inr ⟨rfl, rfl, rfl⟩⟩, fun _ h => absurd h List.not_mem_nil⟩
theorem fw_X5_65 : cz_FW "HeldCoatsModel" 65 [(5, 45)] "[Z" := ⟨"HeldCoatsModel", "truths", Or.inl q1963, List.forall_mem_cons.mpr ⟨⟨RX5, TX5, 49, rfl, by decide, rfl, rfl, Or.inl rfl⟩, fun _ h => absurd h List.not_mem_nil⟩, by decide⟩
theorem fp_X5_i_5_45 : cz_FP "HeldCoatsModel" "<init>" [(5, 45)] := List.forall_mem_cons.mpr ⟨⟨RX5, TX5, 49, rfl, Or.inr ⟨rfl, rfl, rfl⟩⟩, fun _ h => absurd h List.not_mem_nil⟩
theorem pd__Z : parseFieldDescriptor "[Z" = some (.array .boolean) := by decide +kernel
theorem fp_X5_i_5_46 : cz_FP "HeldCoatsModel" "<init>" [(5, 46)] := List.forall_mem_cons.mpr ⟨⟨RX5, TX5, 49, rfl, Or.inr ⟨rfl, rfl, rfl⟩⟩, fun _ h => absurd h List.not_mem_nil⟩
theorem fp_X5_i_5_47 : cz_FP "HeldCoatsModel" "<init>" [(5, 47)] := List.forall_mem_cons.mpr ⟨⟨RX5, TX5, 49, rfl, Or.inr ⟨rfl, rfl, rfl⟩⟩, fun _ h => absurd h List.not_mem_nil⟩
theorem fp_X5_i_5_48 : cz_FP "HeldCoatsModel" "<init>" [(5, 48)] := List.forall_mem_cons.mpr ⟨⟨RX5, TX5, 49, rfl, Or.inr ⟨rfl, rfl, rfl⟩⟩, fun _ h => absurd h List.not_mem_nil⟩
theorem kB_23 : (Int8.ofInt (23)).toInt32 = 23 := by decide
theorem kB_21 : (Int8.ofInt (21)).toInt32 = 21 := by decide
theorem kB_19 : (Int8.ofInt (19)).toInt32 = 19 := by decide
theorem kB_18 : (Int8.ofInt (18)).toInt32 = 18 := by decide
theorem kB_15 : (Int8.ofInt (15)).toInt32 = 15 := by decide
theorem kB_13 : (Int8.ofInt (13)).toInt32 = 13 := by decide
theorem kB_12 : (Int8.ofInt (12)).toInt32 = 12 := by decide
theorem kB_11 : (Int8.ofInt (11)).toInt32 = 11 := by decide
theorem kB_44 : (Int8.ofInt (44)).toInt32 = 44 := by decide
theorem kS_598 : (Int16.ofInt (598)).toInt32 = 598 := by decide
theorem kB_45 : (Int8.ofInt (45)).toInt32 = 45 := by decide
theorem kS_448 : (Int16.ofInt (448)).toInt32 = 448 := by decide
theorem kS_135 : (Int16.ofInt (135)).toInt32 = 135 := by decide
set_option maxHeartbeats 4000000 in
set_option maxRecDepth 100000 in
noncomputable def fn_X5_init_367 (l0 : Option Nat) (k0 : cz_H → cz_Z) : Nat → Int32 → cz_H → cz_Z
  | 0, _, _ => none
  | n + 1, l1, h => (if (62 : Int32) ≤ l1 then k0 h else cz_getR h l0 [(5, 6)] (fun r101 => cz_getR h l0 [(5, 7)] (fun r102 => cz_iald h r102 l1 (fun x103 => cz_iast h r101 l1 x103 (fun h104 => cz_leti (l1 + 1) (fun x105 => fn_X5_init_367 l0 k0 n x105 h104))))))
set_option maxHeartbeats 4000000 in
set_option maxRecDepth 100000 in
theorem wk_X5_init_367 {K : cz_K} {D : cz_D} {h0 : cz_H} {oh : cz_O × cz_H} {l0 : Option Nat} {k0 : cz_H → cz_Z} (S : cz_S K D h0 cX5_init 2 "HeldCoatsModel" ((Option.none : Option Jvm.ClassFile.FieldType)) "<init>" ([])) (hk0 : ∀ (h : cz_H), cz_T K D 3 h0 oh 2 (k0 h) h 391 [] []) : ∀ (n : Nat) (l1 : Int32) (h : cz_H), cz_T K D 3 h0 oh 2 (fn_X5_init_367 l0 k0 n l1 h) h 367 [(0, cz_r l0), (1, cz_i l1)] [] := by
  intro n
  induction n with
  | zero => intros; exact ct_none
  | succ n ih =>
    intro l1 h
    rw [fn_X5_init_367]
    refine ct_iload_n (k := 1) S dX5_init_367 rfl rfl ?_
    refine ct_bipush (v := 62) S dX5_init_368 kB_62 ?_
    refine ct_icmp_ge (tgt := 391) S dX5_init_370 (by decide) ?_ ?_
    · exact ct_sub [] rfl (hk0 h)
    · refine ct_aload_n (k := 0) S dX5_init_373 rfl rfl ?_
      refine ct_getR S fw_X5_33 dX5_init_374 (fun r101 => ?_)
      refine ct_iload_n (k := 1) S dX5_init_377 rfl rfl ?_
      refine ct_aload_n (k := 0) S dX5_init_378 rfl rfl ?_
      refine ct_getR S fw_X5_37 dX5_init_379 (fun r102 => ?_)
      refine ct_iload_n (k := 1) S dX5_init_382 rfl rfl ?_
      refine ct_iald S dX5_init_383 (fun x103 => ?_)
      refine ct_iast S dX5_init_384 (fun h104 => ?_)
      refine ct_iincL (j := 1) (L2 := fun x105 => [(1, cz_i x105), (0, cz_r l0)]) S dX5_init_385 rfl kI_1 (by decide) (fun _ => rfl) (fun x105 => ?_)
      refine ct_goto (tgt := 367) S dX5_init_388 (by decide) ?_
      exact ct_sub [1, 0] rfl (ih x105 h104)
set_option maxHeartbeats 4000000 in
set_option maxRecDepth 100000 in
noncomputable def fn_X5_init (l0 : Option Nat) (h : cz_H) : cz_Z := cz_nn' l0 (cz_newi h 1 940 (fun r1 h2 => cz_put h2 l0 [(5, 1)] (cz_r r1) (fun h3 => cz_newi h3 0 299 (fun r4 h5 => cz_put h5 l0 [(5, 6)] (cz_r r4) (fun h6 => cz_newi h6 0 62 (fun r7 h8 => cz_put h8 l0 [(5, 7)] (cz_r r7) (fun h9 => cz_newi h9 0 135 (fun r10 h11 => cz_put h11 l0 [(5, 8)] (cz_r r10) (fun h12 => cz_newj h12 44 (fun r13 h14 => cz_put h14 l0 [(5, 9)] (cz_r r13) (fun h15 => cz_newj h15 24 (fun r16 h17 => cz_put h17 l0 [(5, 10)] (cz_r r16) (fun h18 => cz_newi h18 0 448 (fun r19 h20 => cz_put h20 l0 [(5, 21)] (cz_r r19) (fun h21 => cz_newi h21 0 56 (fun r22 h23 => cz_put h23 l0 [(5, 22)] (cz_r r22) (fun h24 => cz_newi h24 0 6 (fun r25 h26 => cz_put h26 l0 [(5, 32)] (cz_r r25) (fun h27 => cz_newi h27 0 4 (fun r28 h29 => cz_put h29 l0 [(5, 37)] (cz_r r28) (fun h30 => cz_newi h30 0 45 (fun r31 h32 => cz_put h32 l0 [(5, 39)] (cz_r r31) (fun h33 => cz_newi h33 2 45 (fun r34 h35 => cz_put h35 l0 [(5, 45)] (cz_r r34) (fun h36 => cz_newi h36 0 598 (fun r37 h38 => cz_put h38 l0 [(5, 46)] (cz_r r37) (fun h39 => cz_newj h39 44 (fun r40 h41 => cz_put h41 l0 [(5, 47)] (cz_r r40) (fun h42 => cz_newi h42 2 2 (fun r43 h44 => cz_put h44 l0 [(5, 48)] (cz_r r43) (fun h45 => cz_getR h45 l0 [(5, 10)] (fun r46 => cz_last h45 r46 0 1936023924 (fun h47 => cz_getR h47 l0 [(5, 10)] (fun r48 => cz_last h47 r48 1 7168366 (fun h49 => cz_getR h49 l0 [(5, 10)] (fun r50 => cz_last h49 r50 2 1668243828 (fun h51 => cz_getR h51 l0 [(5, 10)] (fun r52 => cz_last h51 r52 3 1668246628 (fun h53 => cz_getR h53 l0 [(5, 10)] (fun r54 => cz_last h53 r54 4 126948184253810 (fun h55 => cz_getR h55 l0 [(5, 10)] (fun r56 => cz_last h55 r56 5 448545973363 (fun h57 => cz_getR h57 l0 [(5, 10)] (fun r58 => cz_last h57 r58 6 470021335155 (fun h59 => cz_getR h59 l0 [(5, 10)] (fun r60 => cz_last h59 r60 7 465625246068 (fun h61 => cz_getR h61 l0 [(5, 10)] (fun r62 => cz_last h61 r62 8 1818846579 (fun h63 => cz_getR h63 l0 [(5, 10)] (fun r64 => cz_last h63 r64 9 1818586740 (fun h65 => cz_getR h65 l0 [(5, 10)] (fun r66 => cz_last h65 r66 10 1801810036 (fun h67 => cz_getR h67 l0 [(5, 10)] (fun r68 => cz_last h67 r68 11 512801993331 (fun h69 => cz_getR h69 l0 [(5, 10)] (fun r70 => cz_last h69 r70 12 6578553 (fun h71 => cz_getR h71 l0 [(5, 10)] (fun r72 => cz_last h71 r72 13 28530 (fun h73 => cz_getR h73 l0 [(5, 10)] (fun r74 => cz_last h73 r74 14 6385252 (fun h75 => cz_getR h75 l0 [(5, 10)] (fun r76 => cz_last h75 r76 15 7237492 (fun h77 => cz_getR h77 l0 [(5, 10)] (fun r78 => cz_last h77 r78 16 1650553445 (fun h79 => cz_getR h79 l0 [(5, 10)] (fun r80 => cz_last h79 r80 17 1751477348 (fun h81 => cz_getR h81 l0 [(5, 10)] (fun r82 => cz_last h81 r82 18 28518 (fun h83 => cz_getR h83 l0 [(5, 10)] (fun r84 => cz_last h83 r84 19 504363246962 (fun h85 => cz_getR h85 l0 [(5, 10)] (fun r86 => cz_last h85 r86 20 512970880104 (fun h87 => cz_getR h87 l0 [(5, 10)] (fun r88 => cz_last h87 r88 21 1684109683 (fun h89 => cz_getR h89 l0 [(5, 10)] (fun r90 => cz_last h89 r90 22 427021005928 (fun h91 => cz_getR h91 l0 [(5, 10)] (fun r92 => cz_last h91 r92 23 121450625394034 (fun h93 => cz_rc h93 l0 [5] (cz_cV (fn_X5_clears l0 h93) (fun h100 => fn_X5_init_367 l0 (fun (h106 : cz_H) => some (.inl none, h106)) 1000 0 h100)))))))))))))))))))))))))))))))))))))))))))))))))))))))))))))))))))))))))))))))))
set_option maxHeartbeats 4000000 in
set_option maxRecDepth 100000 in
theorem wk_X5_init {K : cz_K} {D : cz_D} {h0 : cz_H} {oh : cz_O × cz_H} {l0 : Option Nat} {h : cz_H} (S : cz_S K D h0 cX5_init 2 "HeldCoatsModel" ((Option.none : Option Jvm.ClassFile.FieldType)) "<init>" ([])) : cz_T K D 3 h0 oh 2 (fn_X5_init l0 h) h 0 [(0, cz_r l0)] [] := by
  unfold fn_X5_init
  refine ct_aload_n (k := 0) S dX5_init_0 rfl rfl ?_
  refine ct_oinit S q1889 q165 q166 (by decide) (Nat.le_of_ble_eq_true rfl) dX5_init_1 ?_
  refine ct_aload_n (k := 0) S dX5_init_4 rfl rfl ?_
  refine ct_sipush (v := 940) S dX5_init_5 kS_940 ?_
  refine ct_newi_byte S dX5_init_8 (fun r1 h2 => ?_)
  refine ct_put S fw_X5_14 fp_X5_i_5_1 (cz_fits_a pd__B) dX5_init_10 (fun h3 => ?_)
  refine ct_aload_n (k := 0) S dX5_init_13 rfl rfl ?_
  refine ct_sipush (v := 299) S dX5_init_14 kS_299 ?_
  refine ct_newi_int S dX5_init_17 (fun r4 h5 => ?_)
  refine ct_put S fw_X5_33 fp_X5_i_5_6 (cz_fits_a pd__I) dX5_init_19 (fun h6 => ?_)
  refine ct_aload_n (k := 0) S dX5_init_22 rfl rfl ?_
  refine ct_bipush (v := 62) S dX5_init_23 kB_62 ?_
  refine ct_newi_int S dX5_init_25 (fun r7 h8 => ?_)
  refine ct_put S fw_X5_37 fp_X5_i_5_7 (cz_fits_a pd__I) dX5_init_27 (fun h9 => ?_)
  refine ct_aload_n (k := 0) S dX5_init_30 rfl rfl ?_
  refine ct_sipush (v := 135) S dX5_init_31 kS_135 ?_
  refine ct_newi_int S dX5_init_34 (fun r10 h11 => ?_)
  refine ct_put S fw_X5_40 fp_X5_i_5_8 (cz_fits_a pd__I) dX5_init_36 (fun h12 => ?_)
  refine ct_aload_n (k := 0) S dX5_init_39 rfl rfl ?_
  refine ct_bipush (v := 44) S dX5_init_40 kB_44 ?_
  refine ct_newj S dX5_init_42 (fun r13 h14 => ?_)
  refine ct_put S fw_X5_43 fp_X5_i_5_9 (cz_fits_a pd__J) dX5_init_44 (fun h15 => ?_)
  refine ct_aload_n (k := 0) S dX5_init_47 rfl rfl ?_
  refine ct_bipush (v := 24) S dX5_init_48 kB_24 ?_
  refine ct_newj S dX5_init_50 (fun r16 h17 => ?_)
  refine ct_put S fw_X5_47 fp_X5_i_5_10 (cz_fits_a pd__J) dX5_init_52 (fun h18 => ?_)
  refine ct_aload_n (k := 0) S dX5_init_55 rfl rfl ?_
  refine ct_sipush (v := 448) S dX5_init_56 kS_448 ?_
  refine ct_newi_int S dX5_init_59 (fun r19 h20 => ?_)
  refine ct_put S fw_X5_50 fp_X5_i_5_21 (cz_fits_a pd__I) dX5_init_61 (fun h21 => ?_)
  refine ct_aload_n (k := 0) S dX5_init_64 rfl rfl ?_
  refine ct_bipush (v := 56) S dX5_init_65 kB_56 ?_
  refine ct_newi_int S dX5_init_67 (fun r22 h23 => ?_)
  refine ct_put S fw_X5_53 fp_X5_i_5_22 (cz_fits_a pd__I) dX5_init_69 (fun h24 => ?_)
  refine ct_aload_n (k := 0) S dX5_init_72 rfl rfl ?_
  refine ct_bipush (v := 6) S dX5_init_73 kB_6 ?_
  refine ct_newi_int S dX5_init_75 (fun r25 h26 => ?_)
  refine ct_put S fw_X5_56 fp_X5_i_5_32 (cz_fits_a pd__I) dX5_init_77 (fun h27 => ?_)
  refine ct_aload_n (k := 0) S dX5_init_80 rfl rfl ?_
  refine ct_iconst (v := 4) S dX5_init_81 kI_4 ?_
  refine ct_newi_int S dX5_init_82 (fun r28 h29 => ?_)
  refine ct_put S fw_X5_59 fp_X5_i_5_37 (cz_fits_a pd__I) dX5_init_84 (fun h30 => ?_)
  refine ct_aload_n (k := 0) S dX5_init_87 rfl rfl ?_
  refine ct_bipush (v := 45) S dX5_init_88 kB_45 ?_
  refine ct_newi_int S dX5_init_90 (fun r31 h32 => ?_)
  refine ct_put S fw_X5_62 fp_X5_i_5_39 (cz_fits_a pd__I) dX5_init_92 (fun h33 => ?_)
  refine ct_aload_n (k := 0) S dX5_init_95 rfl rfl ?_
  refine ct_bipush (v := 45) S dX5_init_96 kB_45 ?_
  refine ct_newi_bool S dX5_init_98 (fun r34 h35 => ?_)
  refine ct_put S fw_X5_65 fp_X5_i_5_45 (cz_fits_a pd__Z) dX5_init_100 (fun h36 => ?_)
  refine ct_aload_n (k := 0) S dX5_init_103 rfl rfl ?_
  refine ct_sipush (v := 598) S dX5_init_104 kS_598 ?_
  refine ct_newi_int S dX5_init_107 (fun r37 h38 => ?_)
  refine ct_put S fw_X5_69 fp_X5_i_5_46 (cz_fits_a pd__I) dX5_init_109 (fun h39 => ?_)
  refine ct_aload_n (k := 0) S dX5_init_112 rfl rfl ?_
  refine ct_bipush (v := 44) S dX5_init_113 kB_44 ?_
  refine ct_newj S dX5_init_115 (fun r40 h41 => ?_)
  refine ct_put S fw_X5_72 fp_X5_i_5_47 (cz_fits_a pd__J) dX5_init_117 (fun h42 => ?_)
  refine ct_aload_n (k := 0) S dX5_init_120 rfl rfl ?_
  refine ct_iconst (v := 2) S dX5_init_121 kI_2 ?_
  refine ct_newi_bool S dX5_init_122 (fun r43 h44 => ?_)
  refine ct_put S fw_X5_75 fp_X5_i_5_48 (cz_fits_a pd__Z) dX5_init_124 (fun h45 => ?_)
  refine ct_aload_n (k := 0) S dX5_init_127 rfl rfl ?_
  refine ct_getR S fw_X5_47 dX5_init_128 (fun r46 => ?_)
  refine ct_iconst (v := 0) S dX5_init_131 kI_0 ?_
  refine ct_ldc2 S q1890 dX5_init_132 ?_
  refine ct_last S dX5_init_135 (fun h47 => ?_)
  refine ct_aload_n (k := 0) S dX5_init_136 rfl rfl ?_
  refine ct_getR S fw_X5_47 dX5_init_137 (fun r48 => ?_)
  refine ct_iconst (v := 1) S dX5_init_140 kI_1 ?_
  refine ct_ldc2 S q1891 dX5_init_141 ?_
  refine ct_last S dX5_init_144 (fun h49 => ?_)
  refine ct_aload_n (k := 0) S dX5_init_145 rfl rfl ?_
  refine ct_getR S fw_X5_47 dX5_init_146 (fun r50 => ?_)
  refine ct_iconst (v := 2) S dX5_init_149 kI_2 ?_
  refine ct_ldc2 S q1892 dX5_init_150 ?_
  refine ct_last S dX5_init_153 (fun h51 => ?_)
  refine ct_aload_n (k := 0) S dX5_init_154 rfl rfl ?_
  refine ct_getR S fw_X5_47 dX5_init_155 (fun r52 => ?_)
  refine ct_iconst (v := 3) S dX5_init_158 kI_3 ?_
  refine ct_ldc2 S q1893 dX5_init_159 ?_
  refine ct_last S dX5_init_162 (fun h53 => ?_)
  refine ct_aload_n (k := 0) S dX5_init_163 rfl rfl ?_
  refine ct_getR S fw_X5_47 dX5_init_164 (fun r54 => ?_)
  refine ct_iconst (v := 4) S dX5_init_167 kI_4 ?_
  refine ct_ldc2 S q1894 dX5_init_168 ?_
  refine ct_last S dX5_init_171 (fun h55 => ?_)
  refine ct_aload_n (k := 0) S dX5_init_172 rfl rfl ?_
  refine ct_getR S fw_X5_47 dX5_init_173 (fun r56 => ?_)
  refine ct_iconst (v := 5) S dX5_init_176 kI_5 ?_
  refine ct_ldc2 S q1895 dX5_init_177 ?_
  refine ct_last S dX5_init_180 (fun h57 => ?_)
  refine ct_aload_n (k := 0) S dX5_init_181 rfl rfl ?_
  refine ct_getR S fw_X5_47 dX5_init_182 (fun r58 => ?_)
  refine ct_bipush (v := 6) S dX5_init_185 kB_6 ?_
  refine ct_ldc2 S q1896 dX5_init_187 ?_
  refine ct_last S dX5_init_190 (fun h59 => ?_)
  refine ct_aload_n (k := 0) S dX5_init_191 rfl rfl ?_
  refine ct_getR S fw_X5_47 dX5_init_192 (fun r60 => ?_)
  refine ct_bipush (v := 7) S dX5_init_195 kB_7 ?_
  refine ct_ldc2 S q1897 dX5_init_197 ?_
  refine ct_last S dX5_init_200 (fun h61 => ?_)
  refine ct_aload_n (k := 0) S dX5_init_201 rfl rfl ?_
  refine ct_getR S fw_X5_47 dX5_init_202 (fun r62 => ?_)
  refine ct_bipush (v := 8) S dX5_init_205 kB_8 ?_
  refine ct_ldc2 S q1898 dX5_init_207 ?_
  refine ct_last S dX5_init_210 (fun h63 => ?_)
  refine ct_aload_n (k := 0) S dX5_init_211 rfl rfl ?_
  refine ct_getR S fw_X5_47 dX5_init_212 (fun r64 => ?_)
  refine ct_bipush (v := 9) S dX5_init_215 kB_9 ?_
  refine ct_ldc2 S q1899 dX5_init_217 ?_
  refine ct_last S dX5_init_220 (fun h65 => ?_)
  refine ct_aload_n (k := 0) S dX5_init_221 rfl rfl ?_
  refine ct_getR S fw_X5_47 dX5_init_222 (fun r66 => ?_)
  refine ct_bipush (v := 10) S dX5_init_225 kB_10 ?_
  refine ct_ldc2 S q1900 dX5_init_227 ?_
  refine ct_last S dX5_init_230 (fun h67 => ?_)
  refine ct_aload_n (k := 0) S dX5_init_231 rfl rfl ?_
  refine ct_getR S fw_X5_47 dX5_init_232 (fun r68 => ?_)
  refine ct_bipush (v := 11) S dX5_init_235 kB_11 ?_
  refine ct_ldc2 S q1901 dX5_init_237 ?_
  refine ct_last S dX5_init_240 (fun h69 => ?_)
  refine ct_aload_n (k := 0) S dX5_init_241 rfl rfl ?_
  refine ct_getR S fw_X5_47 dX5_init_242 (fun r70 => ?_)
  refine ct_bipush (v := 12) S dX5_init_245 kB_12 ?_
  refine ct_ldc2 S q1902 dX5_init_247 ?_
  refine ct_last S dX5_init_250 (fun h71 => ?_)
  refine ct_aload_n (k := 0) S dX5_init_251 rfl rfl ?_
  refine ct_getR S fw_X5_47 dX5_init_252 (fun r72 => ?_)
  refine ct_bipush (v := 13) S dX5_init_255 kB_13 ?_
  refine ct_ldc2 S q1903 dX5_init_257 ?_
  refine ct_last S dX5_init_260 (fun h73 => ?_)
  refine ct_aload_n (k := 0) S dX5_init_261 rfl rfl ?_
  refine ct_getR S fw_X5_47 dX5_init_262 (fun r74 => ?_)
  refine ct_bipush (v := 14) S dX5_init_265 kB_14 ?_
  refine ct_ldc2 S q1904 dX5_init_267 ?_
  refine ct_last S dX5_init_270 (fun h75 => ?_)
  refine ct_aload_n (k := 0) S dX5_init_271 rfl rfl ?_
  refine ct_getR S fw_X5_47 dX5_init_272 (fun r76 => ?_)
  refine ct_bipush (v := 15) S dX5_init_275 kB_15 ?_
  refine ct_ldc2 S q1905 dX5_init_277 ?_
  refine ct_last S dX5_init_280 (fun h77 => ?_)
  refine ct_aload_n (k := 0) S dX5_init_281 rfl rfl ?_
  refine ct_getR S fw_X5_47 dX5_init_282 (fun r78 => ?_)
  refine ct_bipush (v := 16) S dX5_init_285 kB_16 ?_
  refine ct_ldc2 S q1906 dX5_init_287 ?_
  refine ct_last S dX5_init_290 (fun h79 => ?_)
  refine ct_aload_n (k := 0) S dX5_init_291 rfl rfl ?_
  refine ct_getR S fw_X5_47 dX5_init_292 (fun r80 => ?_)
  refine ct_bipush (v := 17) S dX5_init_295 kB_17 ?_
  refine ct_ldc2 S q1907 dX5_init_297 ?_
  refine ct_last S dX5_init_300 (fun h81 => ?_)
  refine ct_aload_n (k := 0) S dX5_init_301 rfl rfl ?_
  refine ct_getR S fw_X5_47 dX5_init_302 (fun r82 => ?_)
  refine ct_bipush (v := 18) S dX5_init_305 kB_18 ?_
  refine ct_ldc2 S q1908 dX5_init_307 ?_
  refine ct_last S dX5_init_310 (fun h83 => ?_)
  refine ct_aload_n (k := 0) S dX5_init_311 rfl rfl ?_
  refine ct_getR S fw_X5_47 dX5_init_312 (fun r84 => ?_)
  refine ct_bipush (v := 19) S dX5_init_315 kB_19 ?_
  refine ct_ldc2 S q1909 dX5_init_317 ?_
  refine ct_last S dX5_init_320 (fun h85 => ?_)
  refine ct_aload_n (k := 0) S dX5_init_321 rfl rfl ?_
  refine ct_getR S fw_X5_47 dX5_init_322 (fun r86 => ?_)
  refine ct_bipush (v := 20) S dX5_init_325 kB_20 ?_
  refine ct_ldc2 S q1910 dX5_init_327 ?_
  refine ct_last S dX5_init_330 (fun h87 => ?_)
  refine ct_aload_n (k := 0) S dX5_init_331 rfl rfl ?_
  refine ct_getR S fw_X5_47 dX5_init_332 (fun r88 => ?_)
  refine ct_bipush (v := 21) S dX5_init_335 kB_21 ?_
  refine ct_ldc2 S q1911 dX5_init_337 ?_
  refine ct_last S dX5_init_340 (fun h89 => ?_)
  refine ct_aload_n (k := 0) S dX5_init_341 rfl rfl ?_
  refine ct_getR S fw_X5_47 dX5_init_342 (fun r90 => ?_)
  refine ct_bipush (v := 22) S dX5_init_345 kB_22 ?_
  refine ct_ldc2 S q1912 dX5_init_347 ?_
  refine ct_last S dX5_init_350 (fun h91 => ?_)
  refine ct_aload_n (k := 0) S dX5_init_351 rfl rfl ?_
  refine ct_getR S fw_X5_47 dX5_init_352 (fun r92 => ?_)
  refine ct_bipush (v := 23) S dX5_init_355 kB_23 ?_
  refine ct_ldc2 S q1913 dX5_init_357 ?_
  refine ct_last S dX5_init_360 (fun h93 => ?_)
  refine ct_aload_n (k := 0) S dX5_init_361 rfl rfl ?_
  refine ct_rc (fun b94 ci95 V96 hb97 hc98 hi99 => ?_)
  refine ct_cV (st := []) (cg_virtual (av := []) S hb97 hc98 hi99 (fun _ e => mt_X5_clears e) md_X5_clears q1914 q1916 se_HeldCoatsModel_clears___V_HeldCoatsModel (by decide) (Nat.le_of_ble_eq_true rfl) rfl dX5_init_362) (fun h100 => ?_)
  refine ct_iconst (v := 0) S dX5_init_365 kI_0 ?_
  refine ct_istore_n (L' := [(1, cz_i 0), (0, cz_r l0)]) S dX5_init_366 rfl (by decide) rfl ?_
  refine ct_sub [1, 0] (L' := [(0, cz_r l0), (1, cz_i 0)]) rfl (wk_X5_init_367 S ?_ 1000 0 h100)
  · intro h106
    exact ct_vret S rfl dX5_init_391
theorem mt_X5_init {l : Launch} {D : cz_D} {l0 : Option Nat} {h : cz_H} {oh : cz_O × cz_H} (hz : fn_X5_init l0 h = some oh) : cz_M l D yX5_init (ws_ yX5_init cX5_init 2 ((Option.none : Option Jvm.ClassFile.FieldType))) 3 [cz_r l0] h oh := cz_met (plainFor_of_name (by decide)) (Nat.le_of_ble_eq_true rfl) hz (fun K hl S => wk_X5_init S)
/-! HeldCoatsModel.keep(I)I -/
def dkwX5_keep_1 : List UInt8 := [172, 42, 182, 1, 48, 42, 27, 182, 1, 36, 3, 172]
abbrev dktX5_keep_1 : List UInt8 := dkwX5_keep_1 ++ []
def dkwX5_keep_0 : List UInt8 := [42, 3, 181, 0, 1, 42, 27, 182, 1, 24, 154, 0, 5, 2, 172, 42, 27, 182, 1, 30, 154, 0, 5, 4]
abbrev dktX5_keep_0 : List UInt8 := dkwX5_keep_0 ++ dktX5_keep_1
theorem dksX5_keep_0 : cX5_keep.data.toList.drop 0 = dktX5_keep_0 := by decide +kernel
theorem dksX5_keep_1 : cX5_keep.data.toList.drop 24 = dktX5_keep_1 := dk_seg dksX5_keep_0 24 rfl rfl
theorem dX5_keep_0 : decode cX5_keep 0 = .ok (.aload_n 0, 1) := dk_42 (dk_at dksX5_keep_0 0 rfl rfl)
theorem dX5_keep_1 : decode cX5_keep 1 = .ok (.iconst 0, 1) := dk_3 (dk_at dksX5_keep_0 1 rfl rfl)
theorem dX5_keep_2 : decode cX5_keep 2 = .ok (.putfield 1, 3) := dk_181 0 1 (dk_at dksX5_keep_0 2 rfl rfl)
theorem dX5_keep_5 : decode cX5_keep 5 = .ok (.aload_n 0, 1) := dk_42 (dk_at dksX5_keep_0 5 rfl rfl)
theorem dX5_keep_6 : decode cX5_keep 6 = .ok (.iload_n 1, 1) := dk_27 (dk_at dksX5_keep_0 6 rfl rfl)
theorem dX5_keep_7 : decode cX5_keep 7 = .ok (.invokevirtual 280, 3) := dk_182 1 24 (dk_at dksX5_keep_0 7 rfl rfl)
theorem dX5_keep_10 : decode cX5_keep 10 = .ok (.ifCond .ne 5, 3) := dk_154 0 5 (dk_at dksX5_keep_0 10 rfl rfl)
theorem dX5_keep_13 : decode cX5_keep 13 = .ok (.iconst (-1), 1) := dk_2 (dk_at dksX5_keep_0 13 rfl rfl)
theorem dX5_keep_14 : decode cX5_keep 14 = .ok (.ireturn, 1) := dk_172 (dk_at dksX5_keep_0 14 rfl rfl)
theorem dX5_keep_15 : decode cX5_keep 15 = .ok (.aload_n 0, 1) := dk_42 (dk_at dksX5_keep_0 15 rfl rfl)
theorem dX5_keep_16 : decode cX5_keep 16 = .ok (.iload_n 1, 1) := dk_27 (dk_at dksX5_keep_0 16 rfl rfl)
theorem dX5_keep_17 : decode cX5_keep 17 = .ok (.invokevirtual 286, 3) := dk_182 1 30 (dk_at dksX5_keep_0 17 rfl rfl)
theorem dX5_keep_20 : decode cX5_keep 20 = .ok (.ifCond .ne 5, 3) := dk_154 0 5 (dk_at dksX5_keep_0 20 rfl rfl)
theorem dX5_keep_23 : decode cX5_keep 23 = .ok (.iconst 1, 1) := dk_4 (dk_at dksX5_keep_0 23 rfl rfl)
theorem dX5_keep_24 : decode cX5_keep 24 = .ok (.ireturn, 1) := dk_172 (dk_at dksX5_keep_1 0 rfl rfl)
theorem dX5_keep_25 : decode cX5_keep 25 = .ok (.aload_n 0, 1) := dk_42 (dk_at dksX5_keep_1 1 rfl rfl)
theorem dX5_keep_26 : decode cX5_keep 26 = .ok (.invokevirtual 304, 3) := dk_182 1 48 (dk_at dksX5_keep_1 2 rfl rfl)
theorem dX5_keep_29 : decode cX5_keep 29 = .ok (.aload_n 0, 1) := dk_42 (dk_at dksX5_keep_1 5 rfl rfl)
theorem dX5_keep_30 : decode cX5_keep 30 = .ok (.iload_n 1, 1) := dk_27 (dk_at dksX5_keep_1 6 rfl rfl)
theorem dX5_keep_31 : decode cX5_keep 31 = .ok (.invokevirtual 292, 3) := dk_182 1 36 (dk_at dksX5_keep_1 7 rfl rfl)
theorem dX5_keep_34 : decode cX5_keep 34 = .ok (.iconst 0, 1) := dk_3 (dk_at dksX5_keep_1 10 rfl rfl)
theorem dX5_keep_35 : decode cX5_keep 35 = .ok (.ireturn, 1) := dk_172 (dk_at dksX5_keep_1 11 rfl rfl)
set_option maxHeartbeats 4000000 in
set_option maxRecDepth 100000 in
noncomputable def fn_X5_keep (l0 : Option Nat) (l1 : Int32) (h : cz_H) : cz_Z := cz_put h l0 [(5, 0)] (cz_i 0) (fun h1 => cz_rc h1 l0 [5] (cz_cI (fn_X5_isCoat l0 l1 h1) (fun x9 h8 => (if x9 = 0 then some (.inl (some (cz_i (-1))), h8) else cz_rc h8 l0 [5] (cz_cI (fn_X5_isWorn l0 l1 h8) (fun x17 h16 => (if x17 = 0 then some (.inl (some (cz_i 1)), h16) else cz_rc h16 l0 [5] (cz_cV (fn_X5_keepsAll l0 h16) (fun h24 => cz_rc h24 l0 [5] (cz_cV (fn_X5_keeps l0 l1 h24) (fun h31 => some (.inl (some (cz_i 0)), h31))))))))))))
set_option maxHeartbeats 4000000 in
set_option maxRecDepth 100000 in
theorem wk_X5_keep {K : cz_K} {D : cz_D} {h0 : cz_H} {oh : cz_O × cz_H} {l0 : Option Nat} {l1 : Int32} {h : cz_H} (S : cz_S K D h0 cX5_keep 2 "HeldCoatsModel" ((Option.some Jvm.ClassFile.FieldType.int)) "keep" ([])) : cz_T K D 4 h0 oh 2 (fn_X5_keep l0 l1 h) h 0 [(0, cz_r l0), (1, cz_i l1)] [] := by
  unfold fn_X5_keep
  refine ct_aload_n (k := 0) S dX5_keep_0 rfl rfl ?_
  refine ct_iconst (v := 0) S dX5_keep_1 kI_0 ?_
  refine ct_put S fw_X5_1 fp_X5_m_5_0 (cz_fits_i pd_I) dX5_keep_2 (fun h1 => ?_)
  refine ct_aload_n (k := 0) S dX5_keep_5 rfl rfl ?_
  refine ct_iload_n (k := 1) S dX5_keep_6 rfl rfl ?_
  refine ct_rc (fun b2 ci3 V4 hb5 hc6 hi7 => ?_)
  refine ct_cI (st := []) (cg_virtual (av := [cz_i l1]) S hb5 hc6 hi7 (fun _ e => mt_X5_isCoat e) md_X5_isCoat q2219 q2221 se_HeldCoatsModel_isCoat__I_Z_HeldCoatsModel (by decide) (Nat.le_of_ble_eq_true rfl) rfl dX5_keep_7) (fun x9 h8 => ?_)
  refine ct_if_ne (tgt := 15) S dX5_keep_10 (by decide) ?_ ?_
  · refine ct_aload_n (k := 0) S dX5_keep_15 rfl rfl ?_
    refine ct_iload_n (k := 1) S dX5_keep_16 rfl rfl ?_
    refine ct_rc (fun b10 ci11 V12 hb13 hc14 hi15 => ?_)
    refine ct_cI (st := []) (cg_virtual (av := [cz_i l1]) S hb13 hc14 hi15 (fun _ e => mt_X5_isWorn e) md_X5_isWorn q2243 q2245 se_HeldCoatsModel_isWorn__I_Z_HeldCoatsModel (by decide) (Nat.le_of_ble_eq_true rfl) rfl dX5_keep_17) (fun x17 h16 => ?_)
    refine ct_if_ne (tgt := 25) S dX5_keep_20 (by decide) ?_ ?_
    · refine ct_aload_n (k := 0) S dX5_keep_25 rfl rfl ?_
      refine ct_rc (fun b18 ci19 V20 hb21 hc22 hi23 => ?_)
      refine ct_cV (st := []) (cg_virtual (av := []) S hb21 hc22 hi23 (fun _ e => mt_X5_keepsAll e) md_X5_keepsAll q2247 q2249 se_HeldCoatsModel_keepsAll___V_HeldCoatsModel (by decide) (Nat.le_of_ble_eq_true rfl) rfl dX5_keep_26) (fun h24 => ?_)
      refine ct_aload_n (k := 0) S dX5_keep_29 rfl rfl ?_
      refine ct_iload_n (k := 1) S dX5_keep_30 rfl rfl ?_
      refine ct_rc (fun b25 ci26 V27 hb28 hc29 hi30 => ?_)
      refine ct_cV (st := []) (cg_virtual (av := [cz_i l1]) S hb28 hc29 hi30 (fun _ e => mt_X5_keeps e) md_X5_keeps q2283 q2285 se_HeldCoatsModel_keeps__I_V_HeldCoatsModel (by decide) (Nat.le_of_ble_eq_true rfl) rfl dX5_keep_31) (fun h31 => ?_)
      refine ct_iconst (v := 0) S dX5_keep_34 kI_0 ?_
      exact ct_iret S rfl dX5_keep_35
    · refine ct_iconst (v := 1) S dX5_keep_23 kI_1 ?_
      exact ct_iret S rfl dX5_keep_24
  · refine ct_iconst (v := (-1)) S dX5_keep_13 kI_m1 ?_
    exact ct_iret S rfl dX5_keep_14
theorem mt_X5_keep {l : Launch} {D : cz_D} {l0 : Option Nat} {l1 : Int32} {h : cz_H} {oh : cz_O × cz_H} (hz : fn_X5_keep l0 l1 h = some oh) : cz_M l D yX5_keep (ws_ yX5_keep cX5_keep 2 ((Option.some Jvm.ClassFile.FieldType.int))) 4 [cz_r l0, cz_i l1] h oh := cz_met (plainFor_of_name (by decide)) (Nat.le_of_ble_eq_true rfl) hz (fun K hl S => wk_X5_keep S)
/-! HeldCoatsModel.laid()I -/
def dkwX5_laid_0 : List UInt8 := [42, 3, 181, 0, 1, 42, 180, 1, 76, 153, 0, 10, 42, 180, 1, 73, 167, 0, 4, 2, 172]
abbrev dktX5_laid_0 : List UInt8 := dkwX5_laid_0 ++ []
theorem dksX5_laid_0 : cX5_laid.data.toList.drop 0 = dktX5_laid_0 := by decide +kernel
theorem dX5_laid_0 : decode cX5_laid 0 = .ok (.aload_n 0, 1) := dk_42 (dk_at dksX5_laid_0 0 rfl rfl)
theorem dX5_laid_1 : decode cX5_laid 1 = .ok (.iconst 0, 1) := dk_3 (dk_at dksX5_laid_0 1 rfl rfl)
theorem dX5_laid_2 : decode cX5_laid 2 = .ok (.putfield 1, 3) := dk_181 0 1 (dk_at dksX5_laid_0 2 rfl rfl)
theorem dX5_laid_5 : decode cX5_laid 5 = .ok (.aload_n 0, 1) := dk_42 (dk_at dksX5_laid_0 5 rfl rfl)
theorem dX5_laid_6 : decode cX5_laid 6 = .ok (.getfield 332, 3) := dk_180 1 76 (dk_at dksX5_laid_0 6 rfl rfl)
theorem dX5_laid_9 : decode cX5_laid 9 = .ok (.ifCond .eq 10, 3) := dk_153 0 10 (dk_at dksX5_laid_0 9 rfl rfl)
theorem dX5_laid_12 : decode cX5_laid 12 = .ok (.aload_n 0, 1) := dk_42 (dk_at dksX5_laid_0 12 rfl rfl)
theorem dX5_laid_13 : decode cX5_laid 13 = .ok (.getfield 329, 3) := dk_180 1 73 (dk_at dksX5_laid_0 13 rfl rfl)
theorem dX5_laid_16 : decode cX5_laid 16 = .ok (.goto 4, 3) := dk_167 0 4 (dk_at dksX5_laid_0 16 rfl rfl)
theorem dX5_laid_19 : decode cX5_laid 19 = .ok (.iconst (-1), 1) := dk_2 (dk_at dksX5_laid_0 19 rfl rfl)
theorem dX5_laid_20 : decode cX5_laid 20 = .ok (.ireturn, 1) := dk_172 (dk_at dksX5_laid_0 20 rfl rfl)
set_option maxHeartbeats 4000000 in
set_option maxRecDepth 100000 in
noncomputable def fn_X5_laid (l0 : Option Nat) (h : cz_H) : cz_Z := cz_put h l0 [(5, 0)] (cz_i 0) (fun h1 => cz_getI h1 l0 [(5, 25)] (fun x2 => (if x2 = 0 then some (.inl (some (cz_i (-1))), h1) else cz_getI h1 l0 [(5, 24)] (fun x3 => some (.inl (some (cz_i x3)), h1)))))
set_option maxHeartbeats 4000000 in
set_option maxRecDepth 100000 in
theorem wk_X5_laid {K : cz_K} {D : cz_D} {h0 : cz_H} {oh : cz_O × cz_H} {l0 : Option Nat} {h : cz_H} (S : cz_S K D h0 cX5_laid 1 "HeldCoatsModel" ((Option.some Jvm.ClassFile.FieldType.int)) "laid" ([])) : cz_T K D 2 h0 oh 1 (fn_X5_laid l0 h) h 0 [(0, cz_r l0)] [] := by
  unfold fn_X5_laid
  refine ct_aload_n (k := 0) S dX5_laid_0 rfl rfl ?_
  refine ct_iconst (v := 0) S dX5_laid_1 kI_0 ?_
  refine ct_put S fw_X5_1 fp_X5_m_5_0 (cz_fits_i pd_I) dX5_laid_2 (fun h1 => ?_)
  refine ct_aload_n (k := 0) S dX5_laid_5 rfl rfl ?_
  refine ct_getI S fw_X5_332 dX5_laid_6 (fun x2 => ?_)
  refine ct_if_eq (tgt := 19) S dX5_laid_9 (by decide) ?_ ?_
  · refine ct_iconst (v := (-1)) S dX5_laid_19 kI_m1 ?_
    exact ct_iret S rfl dX5_laid_20
  · refine ct_aload_n (k := 0) S dX5_laid_12 rfl rfl ?_
    refine ct_getI S fw_X5_329 dX5_laid_13 (fun x3 => ?_)
    refine ct_goto (tgt := 20) S dX5_laid_16 (by decide) ?_
    exact ct_iret S rfl dX5_laid_20
theorem mt_X5_laid {l : Launch} {D : cz_D} {l0 : Option Nat} {h : cz_H} {oh : cz_O × cz_H} (hz : fn_X5_laid l0 h = some oh) : cz_M l D yX5_laid (ws_ yX5_laid cX5_laid 1 ((Option.some Jvm.ClassFile.FieldType.int))) 2 [cz_r l0] h oh := cz_met (plainFor_of_name (by decide)) (Nat.le_of_ble_eq_true rfl) hz (fun K hl S => wk_X5_laid S)
/-! HeldCoatsModel.isSeat(I)Z -/
def dkwX5_isSeat_0 : List UInt8 := [27, 3, 42, 180, 0, 33, 3, 46, 4, 100, 184, 0, 171, 172]
abbrev dktX5_isSeat_0 : List UInt8 := dkwX5_isSeat_0 ++ []
theorem dksX5_isSeat_0 : cX5_isSeat.data.toList.drop 0 = dktX5_isSeat_0 := by decide +kernel
theorem dX5_isSeat_0 : decode cX5_isSeat 0 = .ok (.iload_n 1, 1) := dk_27 (dk_at dksX5_isSeat_0 0 rfl rfl)
theorem dX5_isSeat_1 : decode cX5_isSeat 1 = .ok (.iconst 0, 1) := dk_3 (dk_at dksX5_isSeat_0 1 rfl rfl)
theorem dX5_isSeat_2 : decode cX5_isSeat 2 = .ok (.aload_n 0, 1) := dk_42 (dk_at dksX5_isSeat_0 2 rfl rfl)
theorem dX5_isSeat_3 : decode cX5_isSeat 3 = .ok (.getfield 33, 3) := dk_180 0 33 (dk_at dksX5_isSeat_0 3 rfl rfl)
theorem dX5_isSeat_6 : decode cX5_isSeat 6 = .ok (.iconst 0, 1) := dk_3 (dk_at dksX5_isSeat_0 6 rfl rfl)
theorem dX5_isSeat_7 : decode cX5_isSeat 7 = .ok (.iaload, 1) := dk_46 (dk_at dksX5_isSeat_0 7 rfl rfl)
theorem dX5_isSeat_8 : decode cX5_isSeat 8 = .ok (.iconst 1, 1) := dk_4 (dk_at dksX5_isSeat_0 8 rfl rfl)
theorem dX5_isSeat_9 : decode cX5_isSeat 9 = .ok (.isub, 1) := dk_100 (dk_at dksX5_isSeat_0 9 rfl rfl)
theorem dX5_isSeat_10 : decode cX5_isSeat 10 = .ok (.invokestatic 171, 3) := dk_184 0 171 (dk_at dksX5_isSeat_0 10 rfl rfl)
theorem dX5_isSeat_13 : decode cX5_isSeat 13 = .ok (.ireturn, 1) := dk_172 (dk_at dksX5_isSeat_0 13 rfl rfl)
set_option maxHeartbeats 4000000 in
set_option maxRecDepth 100000 in
noncomputable def fn_X5_isSeat (l0 : Option Nat) (l1 : Int32) (h : cz_H) : cz_Z := cz_getR h l0 [(5, 6)] (fun r1 => cz_iald h r1 0 (fun x2 => cz_cI (fn_X5_isIn l1 0 (x2 - 1) h) (fun x4 h3 => cz_ckz x4 (some (.inl (some (cz_i x4)), h3)))))
set_option maxHeartbeats 4000000 in
set_option maxRecDepth 100000 in
theorem wk_X5_isSeat {K : cz_K} {D : cz_D} {h0 : cz_H} {oh : cz_O × cz_H} {l0 : Option Nat} {l1 : Int32} {h : cz_H} (S : cz_S K D h0 cX5_isSeat 2 "HeldCoatsModel" ((Option.some Jvm.ClassFile.FieldType.boolean)) "isSeat" ([])) : cz_T K D 3 h0 oh 2 (fn_X5_isSeat l0 l1 h) h 0 [(0, cz_r l0), (1, cz_i l1)] [] := by
  unfold fn_X5_isSeat
  refine ct_iload_n (k := 1) S dX5_isSeat_0 rfl rfl ?_
  refine ct_iconst (v := 0) S dX5_isSeat_1 kI_0 ?_
  refine ct_aload_n (k := 0) S dX5_isSeat_2 rfl rfl ?_
  refine ct_getR S fw_X5_33 dX5_isSeat_3 (fun r1 => ?_)
  refine ct_iconst (v := 0) S dX5_isSeat_6 kI_0 ?_
  refine ct_iald S dX5_isSeat_7 (fun x2 => ?_)
  refine ct_iconst (v := 1) S dX5_isSeat_8 kI_1 ?_
  refine ct_isub S dX5_isSeat_9 ?_
  refine ct_cI (st := []) (cg_static (av := [cz_i l1, cz_i 0, cz_i (x2 - 1)]) S (fun _ e => mt_X5_isIn e) md_X5_isIn (Or.inl q2122) q2123 (by decide) (Nat.le_of_ble_eq_true rfl) rfl dX5_isSeat_10) (fun x4 h3 => ?_)
  refine ct_ckz (fun hx => ?_)
  exact ct_zr (ty := .boolean) S rfl (cz_nz hx) dX5_isSeat_13
theorem mt_X5_isSeat {l : Launch} {D : cz_D} {l0 : Option Nat} {l1 : Int32} {h : cz_H} {oh : cz_O × cz_H} (hz : fn_X5_isSeat l0 l1 h = some oh) : cz_M l D yX5_isSeat (ws_ yX5_isSeat cX5_isSeat 2 ((Option.some Jvm.ClassFile.FieldType.boolean))) 3 [cz_r l0, cz_i l1] h oh := cz_met (plainFor_of_name (by decide)) (Nat.le_of_ble_eq_true rfl) hz (fun K hl S => wk_X5_isSeat S)
/-! HeldCoatsModel.lay(II)I -/
def dkwX5_lay_1 : List UInt8 := [27, 28, 182, 1, 45, 62, 29, 158, 0, 5, 29, 172, 42, 182, 1, 48, 42, 27, 28, 182, 1, 51, 3, 172]
abbrev dktX5_lay_1 : List UInt8 := dkwX5_lay_1 ++ []
def dkwX5_lay_0 : List UInt8 := [42, 3, 181, 0, 1, 42, 27, 182, 1, 24, 153, 0, 11, 42, 28, 182, 1, 8, 154, 0, 5, 2, 172, 42]
abbrev dktX5_lay_0 : List UInt8 := dkwX5_lay_0 ++ dktX5_lay_1
theorem dksX5_lay_0 : cX5_lay.data.toList.drop 0 = dktX5_lay_0 := by decide +kernel
theorem dksX5_lay_1 : cX5_lay.data.toList.drop 24 = dktX5_lay_1 := dk_seg dksX5_lay_0 24 rfl rfl
theorem dX5_lay_0 : decode cX5_lay 0 = .ok (.aload_n 0, 1) := dk_42 (dk_at dksX5_lay_0 0 rfl rfl)
theorem dX5_lay_1 : decode cX5_lay 1 = .ok (.iconst 0, 1) := dk_3 (dk_at dksX5_lay_0 1 rfl rfl)
theorem dX5_lay_2 : decode cX5_lay 2 = .ok (.putfield 1, 3) := dk_181 0 1 (dk_at dksX5_lay_0 2 rfl rfl)
theorem dX5_lay_5 : decode cX5_lay 5 = .ok (.aload_n 0, 1) := dk_42 (dk_at dksX5_lay_0 5 rfl rfl)
theorem dX5_lay_6 : decode cX5_lay 6 = .ok (.iload_n 1, 1) := dk_27 (dk_at dksX5_lay_0 6 rfl rfl)
theorem dX5_lay_7 : decode cX5_lay 7 = .ok (.invokevirtual 280, 3) := dk_182 1 24 (dk_at dksX5_lay_0 7 rfl rfl)
theorem dX5_lay_10 : decode cX5_lay 10 = .ok (.ifCond .eq 11, 3) := dk_153 0 11 (dk_at dksX5_lay_0 10 rfl rfl)
theorem dX5_lay_13 : decode cX5_lay 13 = .ok (.aload_n 0, 1) := dk_42 (dk_at dksX5_lay_0 13 rfl rfl)
theorem dX5_lay_14 : decode cX5_lay 14 = .ok (.iload_n 2, 1) := dk_28 (dk_at dksX5_lay_0 14 rfl rfl)
theorem dX5_lay_15 : decode cX5_lay 15 = .ok (.invokevirtual 264, 3) := dk_182 1 8 (dk_at dksX5_lay_0 15 rfl rfl)
theorem dX5_lay_18 : decode cX5_lay 18 = .ok (.ifCond .ne 5, 3) := dk_154 0 5 (dk_at dksX5_lay_0 18 rfl rfl)
theorem dX5_lay_21 : decode cX5_lay 21 = .ok (.iconst (-1), 1) := dk_2 (dk_at dksX5_lay_0 21 rfl rfl)
theorem dX5_lay_22 : decode cX5_lay 22 = .ok (.ireturn, 1) := dk_172 (dk_at dksX5_lay_0 22 rfl rfl)
theorem dX5_lay_23 : decode cX5_lay 23 = .ok (.aload_n 0, 1) := dk_42 (dk_at dksX5_lay_0 23 rfl rfl)
theorem dX5_lay_24 : decode cX5_lay 24 = .ok (.iload_n 1, 1) := dk_27 (dk_at dksX5_lay_1 0 rfl rfl)
theorem dX5_lay_25 : decode cX5_lay 25 = .ok (.iload_n 2, 1) := dk_28 (dk_at dksX5_lay_1 1 rfl rfl)
theorem dX5_lay_26 : decode cX5_lay 26 = .ok (.invokevirtual 301, 3) := dk_182 1 45 (dk_at dksX5_lay_1 2 rfl rfl)
theorem dX5_lay_29 : decode cX5_lay 29 = .ok (.istore_n 3, 1) := dk_62 (dk_at dksX5_lay_1 5 rfl rfl)
theorem dX5_lay_30 : decode cX5_lay 30 = .ok (.iload_n 3, 1) := dk_29 (dk_at dksX5_lay_1 6 rfl rfl)
theorem dX5_lay_31 : decode cX5_lay 31 = .ok (.ifCond .le 5, 3) := dk_158 0 5 (dk_at dksX5_lay_1 7 rfl rfl)
theorem dX5_lay_34 : decode cX5_lay 34 = .ok (.iload_n 3, 1) := dk_29 (dk_at dksX5_lay_1 10 rfl rfl)
theorem dX5_lay_35 : decode cX5_lay 35 = .ok (.ireturn, 1) := dk_172 (dk_at dksX5_lay_1 11 rfl rfl)
theorem dX5_lay_36 : decode cX5_lay 36 = .ok (.aload_n 0, 1) := dk_42 (dk_at dksX5_lay_1 12 rfl rfl)
theorem dX5_lay_37 : decode cX5_lay 37 = .ok (.invokevirtual 304, 3) := dk_182 1 48 (dk_at dksX5_lay_1 13 rfl rfl)
theorem dX5_lay_40 : decode cX5_lay 40 = .ok (.aload_n 0, 1) := dk_42 (dk_at dksX5_lay_1 16 rfl rfl)
theorem dX5_lay_41 : decode cX5_lay 41 = .ok (.iload_n 1, 1) := dk_27 (dk_at dksX5_lay_1 17 rfl rfl)
theorem dX5_lay_42 : decode cX5_lay 42 = .ok (.iload_n 2, 1) := dk_28 (dk_at dksX5_lay_1 18 rfl rfl)
theorem dX5_lay_43 : decode cX5_lay 43 = .ok (.invokevirtual 307, 3) := dk_182 1 51 (dk_at dksX5_lay_1 19 rfl rfl)
theorem dX5_lay_46 : decode cX5_lay 46 = .ok (.iconst 0, 1) := dk_3 (dk_at dksX5_lay_1 22 rfl rfl)
theorem dX5_lay_47 : decode cX5_lay 47 = .ok (.ireturn, 1) := dk_172 (dk_at dksX5_lay_1 23 rfl rfl)
theorem se_HeldCoatsModel_isSeat__I_Z_HeldCoatsModel : ∀ c ∈ ([5] : List Nat), ∃ q : vw_C, cz_cl[c]? = some q ∧ Cond.selects q.1 (⟨"HeldCoatsModel", "isSeat", "(I)Z"⟩ : MethodName) (⟨"HeldCoatsModel", "isSeat", "(I)Z"⟩ : MethodName) ∈ lw_all := List.forall_mem_cons.mpr ⟨⟨_, cz_cl5, qs63⟩, fun _ h => absurd h List.not_mem_nil⟩
theorem md_X5_isSeat : cz_md yX5_isSeat 2 (ws_ yX5_isSeat cX5_isSeat 2 ((Option.some Jvm.ClassFile.FieldType.boolean))) 1 := ⟨cz_ws_code q2163, q123, ⟨by decide, by decide, by decide +kernel⟩, by decide⟩
set_option maxHeartbeats 4000000 in
set_option maxRecDepth 100000 in
noncomputable def fn_X5_lay (l0 : Option Nat) (l1 : Int32) (l2 : Int32) (h : cz_H) : cz_Z := cz_put h l0 [(5, 0)] (cz_i 0) (fun h1 => cz_rc h1 l0 [5] (cz_cI (fn_X5_isCoat l0 l1 h1) (fun x9 h8 => (if x9 = 0 then some (.inl (some (cz_i (-1))), h8) else cz_rc h8 l0 [5] (cz_cI (fn_X5_isSeat l0 l2 h8) (fun x17 h16 => (if x17 = 0 then some (.inl (some (cz_i (-1))), h16) else cz_rc h16 l0 [5] (cz_cI (fn_X5_whyLay l0 l1 l2 h16) (fun x25 h24 => (if x25 ≤ 0 then cz_rc h24 l0 [5] (cz_cV (fn_X5_keepsAll l0 h24) (fun h32 => cz_rc h32 l0 [5] (cz_cV (fn_X5_lays l0 l1 l2 h32) (fun h39 => some (.inl (some (cz_i 0)), h39))))) else some (.inl (some (cz_i x25)), h24)))))))))))
set_option maxHeartbeats 4000000 in
set_option maxRecDepth 100000 in
theorem wk_X5_lay {K : cz_K} {D : cz_D} {h0 : cz_H} {oh : cz_O × cz_H} {l0 : Option Nat} {l1 : Int32} {l2 : Int32} {h : cz_H} (S : cz_S K D h0 cX5_lay 4 "HeldCoatsModel" ((Option.some Jvm.ClassFile.FieldType.int)) "lay" ([])) : cz_T K D 4 h0 oh 4 (fn_X5_lay l0 l1 l2 h) h 0 [(0, cz_r l0), (1, cz_i l1), (2, cz_i l2)] [] := by
  unfold fn_X5_lay
  refine ct_aload_n (k := 0) S dX5_lay_0 rfl rfl ?_
  refine ct_iconst (v := 0) S dX5_lay_1 kI_0 ?_
  refine ct_put S fw_X5_1 fp_X5_m_5_0 (cz_fits_i pd_I) dX5_lay_2 (fun h1 => ?_)
  refine ct_aload_n (k := 0) S dX5_lay_5 rfl rfl ?_
  refine ct_iload_n (k := 1) S dX5_lay_6 rfl rfl ?_
  refine ct_rc (fun b2 ci3 V4 hb5 hc6 hi7 => ?_)
  refine ct_cI (st := []) (cg_virtual (av := [cz_i l1]) S hb5 hc6 hi7 (fun _ e => mt_X5_isCoat e) md_X5_isCoat q2219 q2221 se_HeldCoatsModel_isCoat__I_Z_HeldCoatsModel (by decide) (Nat.le_of_ble_eq_true rfl) rfl dX5_lay_7) (fun x9 h8 => ?_)
  refine ct_if_eq (tgt := 21) S dX5_lay_10 (by decide) ?_ ?_
  · refine ct_iconst (v := (-1)) S dX5_lay_21 kI_m1 ?_
    exact ct_iret S rfl dX5_lay_22
  · refine ct_aload_n (k := 0) S dX5_lay_13 rfl rfl ?_
    refine ct_iload_n (k := 2) S dX5_lay_14 rfl rfl ?_
    refine ct_rc (fun b10 ci11 V12 hb13 hc14 hi15 => ?_)
    refine ct_cI (st := []) (cg_virtual (av := [cz_i l2]) S hb13 hc14 hi15 (fun _ e => mt_X5_isSeat e) md_X5_isSeat q2160 q2162 se_HeldCoatsModel_isSeat__I_Z_HeldCoatsModel (by decide) (Nat.le_of_ble_eq_true rfl) rfl dX5_lay_15) (fun x17 h16 => ?_)
    refine ct_if_ne (tgt := 23) S dX5_lay_18 (by decide) ?_ ?_
    · refine ct_aload_n (k := 0) S dX5_lay_23 rfl rfl ?_
      refine ct_iload_n (k := 1) S dX5_lay_24 rfl rfl ?_
      refine ct_iload_n (k := 2) S dX5_lay_25 rfl rfl ?_
      refine ct_rc (fun b18 ci19 V20 hb21 hc22 hi23 => ?_)
      refine ct_cI (st := []) (cg_virtual (av := [cz_i l1, cz_i l2]) S hb21 hc22 hi23 (fun _ e => mt_X5_whyLay e) md_X5_whyLay q2239 q2241 se_HeldCoatsModel_whyLay__II_I_HeldCoatsModel (by decide) (Nat.le_of_ble_eq_true rfl) rfl dX5_lay_26) (fun x25 h24 => ?_)
      refine ct_istore_n (L' := [(3, cz_i x25), (0, cz_r l0), (1, cz_i l1), (2, cz_i l2)]) S dX5_lay_29 rfl (by decide) rfl ?_
      refine ct_iload_n (k := 0) S dX5_lay_30 rfl rfl ?_
      refine ct_if_le (tgt := 36) S dX5_lay_31 (by decide) ?_ ?_
      · refine ct_aload_n (k := 1) S dX5_lay_36 rfl rfl ?_
        refine ct_rc (fun b26 ci27 V28 hb29 hc30 hi31 => ?_)
        refine ct_cV (st := []) (cg_virtual (av := []) S hb29 hc30 hi31 (fun _ e => mt_X5_keepsAll e) md_X5_keepsAll q2247 q2249 se_HeldCoatsModel_keepsAll___V_HeldCoatsModel (by decide) (Nat.le_of_ble_eq_true rfl) rfl dX5_lay_37) (fun h32 => ?_)
        refine ct_aload_n (k := 1) S dX5_lay_40 rfl rfl ?_
        refine ct_iload_n (k := 2) S dX5_lay_41 rfl rfl ?_
        refine ct_iload_n (k := 3) S dX5_lay_42 rfl rfl ?_
        refine ct_rc (fun b33 ci34 V35 hb36 hc37 hi38 => ?_)
        refine ct_cV (st := []) (cg_virtual (av := [cz_i l1, cz_i l2]) S hb36 hc37 hi38 (fun _ e => mt_X5_lays e) md_X5_lays q2251 q2253 se_HeldCoatsModel_lays__II_V_HeldCoatsModel (by decide) (Nat.le_of_ble_eq_true rfl) rfl dX5_lay_43) (fun h39 => ?_)
        refine ct_iconst (v := 0) S dX5_lay_46 kI_0 ?_
        exact ct_iret S rfl dX5_lay_47
      · refine ct_iload_n (k := 0) S dX5_lay_34 rfl rfl ?_
        exact ct_iret S rfl dX5_lay_35
    · refine ct_iconst (v := (-1)) S dX5_lay_21 kI_m1 ?_
      exact ct_iret S rfl dX5_lay_22
theorem mt_X5_lay {l : Launch} {D : cz_D} {l0 : Option Nat} {l1 : Int32} {l2 : Int32} {h : cz_H} {oh : cz_O × cz_H} (hz : fn_X5_lay l0 l1 l2 h = some oh) : cz_M l D yX5_lay (ws_ yX5_lay cX5_lay 4 ((Option.some Jvm.ClassFile.FieldType.int))) 4 [cz_r l0, cz_i l1, cz_i l2] h oh := cz_met (plainFor_of_name (by decide)) (Nat.le_of_ble_eq_true rfl) hz (fun K hl S => wk_X5_lay S)
/-! HeldCoatsModel.lend(II)I -/
def dkwX5_lend_2 : List UInt8 := [28, 79, 3, 172]
abbrev dktX5_lend_2 : List UInt8 := dkwX5_lend_2 ++ []
def dkwX5_lend_1 : List UInt8 := [27, 28, 182, 1, 61, 62, 29, 158, 0, 5, 29, 172, 42, 182, 1, 48, 42, 180, 0, 33, 16, 73, 27, 96]
abbrev dktX5_lend_1 : List UInt8 := dkwX5_lend_1 ++ dktX5_lend_2
def dkwX5_lend_0 : List UInt8 := [42, 3, 181, 0, 1, 42, 27, 182, 1, 24, 153, 0, 11, 42, 28, 182, 1, 14, 154, 0, 5, 2, 172, 42]
abbrev dktX5_lend_0 : List UInt8 := dkwX5_lend_0 ++ dktX5_lend_1
theorem dksX5_lend_0 : cX5_lend.data.toList.drop 0 = dktX5_lend_0 := by decide +kernel
theorem dksX5_lend_1 : cX5_lend.data.toList.drop 24 = dktX5_lend_1 := dk_seg dksX5_lend_0 24 rfl rfl
theorem dksX5_lend_2 : cX5_lend.data.toList.drop 48 = dktX5_lend_2 := dk_seg dksX5_lend_1 24 rfl rfl
theorem dX5_lend_0 : decode cX5_lend 0 = .ok (.aload_n 0, 1) := dk_42 (dk_at dksX5_lend_0 0 rfl rfl)
theorem dX5_lend_1 : decode cX5_lend 1 = .ok (.iconst 0, 1) := dk_3 (dk_at dksX5_lend_0 1 rfl rfl)
theorem dX5_lend_2 : decode cX5_lend 2 = .ok (.putfield 1, 3) := dk_181 0 1 (dk_at dksX5_lend_0 2 rfl rfl)
theorem dX5_lend_5 : decode cX5_lend 5 = .ok (.aload_n 0, 1) := dk_42 (dk_at dksX5_lend_0 5 rfl rfl)
theorem dX5_lend_6 : decode cX5_lend 6 = .ok (.iload_n 1, 1) := dk_27 (dk_at dksX5_lend_0 6 rfl rfl)
theorem dX5_lend_7 : decode cX5_lend 7 = .ok (.invokevirtual 280, 3) := dk_182 1 24 (dk_at dksX5_lend_0 7 rfl rfl)
theorem dX5_lend_10 : decode cX5_lend 10 = .ok (.ifCond .eq 11, 3) := dk_153 0 11 (dk_at dksX5_lend_0 10 rfl rfl)
theorem dX5_lend_13 : decode cX5_lend 13 = .ok (.aload_n 0, 1) := dk_42 (dk_at dksX5_lend_0 13 rfl rfl)
theorem dX5_lend_14 : decode cX5_lend 14 = .ok (.iload_n 2, 1) := dk_28 (dk_at dksX5_lend_0 14 rfl rfl)
theorem dX5_lend_15 : decode cX5_lend 15 = .ok (.invokevirtual 270, 3) := dk_182 1 14 (dk_at dksX5_lend_0 15 rfl rfl)
theorem dX5_lend_18 : decode cX5_lend 18 = .ok (.ifCond .ne 5, 3) := dk_154 0 5 (dk_at dksX5_lend_0 18 rfl rfl)
theorem dX5_lend_21 : decode cX5_lend 21 = .ok (.iconst (-1), 1) := dk_2 (dk_at dksX5_lend_0 21 rfl rfl)
theorem dX5_lend_22 : decode cX5_lend 22 = .ok (.ireturn, 1) := dk_172 (dk_at dksX5_lend_0 22 rfl rfl)
theorem dX5_lend_23 : decode cX5_lend 23 = .ok (.aload_n 0, 1) := dk_42 (dk_at dksX5_lend_0 23 rfl rfl)
theorem dX5_lend_24 : decode cX5_lend 24 = .ok (.iload_n 1, 1) := dk_27 (dk_at dksX5_lend_1 0 rfl rfl)
theorem dX5_lend_25 : decode cX5_lend 25 = .ok (.iload_n 2, 1) := dk_28 (dk_at dksX5_lend_1 1 rfl rfl)
theorem dX5_lend_26 : decode cX5_lend 26 = .ok (.invokevirtual 317, 3) := dk_182 1 61 (dk_at dksX5_lend_1 2 rfl rfl)
theorem dX5_lend_29 : decode cX5_lend 29 = .ok (.istore_n 3, 1) := dk_62 (dk_at dksX5_lend_1 5 rfl rfl)
theorem dX5_lend_30 : decode cX5_lend 30 = .ok (.iload_n 3, 1) := dk_29 (dk_at dksX5_lend_1 6 rfl rfl)
theorem dX5_lend_31 : decode cX5_lend 31 = .ok (.ifCond .le 5, 3) := dk_158 0 5 (dk_at dksX5_lend_1 7 rfl rfl)
theorem dX5_lend_34 : decode cX5_lend 34 = .ok (.iload_n 3, 1) := dk_29 (dk_at dksX5_lend_1 10 rfl rfl)
theorem dX5_lend_35 : decode cX5_lend 35 = .ok (.ireturn, 1) := dk_172 (dk_at dksX5_lend_1 11 rfl rfl)
theorem dX5_lend_36 : decode cX5_lend 36 = .ok (.aload_n 0, 1) := dk_42 (dk_at dksX5_lend_1 12 rfl rfl)
theorem dX5_lend_37 : decode cX5_lend 37 = .ok (.invokevirtual 304, 3) := dk_182 1 48 (dk_at dksX5_lend_1 13 rfl rfl)
theorem dX5_lend_40 : decode cX5_lend 40 = .ok (.aload_n 0, 1) := dk_42 (dk_at dksX5_lend_1 16 rfl rfl)
theorem dX5_lend_41 : decode cX5_lend 41 = .ok (.getfield 33, 3) := dk_180 0 33 (dk_at dksX5_lend_1 17 rfl rfl)
theorem dX5_lend_44 : decode cX5_lend 44 = .ok (.bipush 73, 2) := dk_16 73 (dk_at dksX5_lend_1 20 rfl rfl)
theorem dX5_lend_46 : decode cX5_lend 46 = .ok (.iload_n 1, 1) := dk_27 (dk_at dksX5_lend_1 22 rfl rfl)
theorem dX5_lend_47 : decode cX5_lend 47 = .ok (.iadd, 1) := dk_96 (dk_at dksX5_lend_1 23 rfl rfl)
theorem dX5_lend_48 : decode cX5_lend 48 = .ok (.iload_n 2, 1) := dk_28 (dk_at dksX5_lend_2 0 rfl rfl)
theorem dX5_lend_49 : decode cX5_lend 49 = .ok (.iastore, 1) := dk_79 (dk_at dksX5_lend_2 1 rfl rfl)
theorem dX5_lend_50 : decode cX5_lend 50 = .ok (.iconst 0, 1) := dk_3 (dk_at dksX5_lend_2 2 rfl rfl)
theorem dX5_lend_51 : decode cX5_lend 51 = .ok (.ireturn, 1) := dk_172 (dk_at dksX5_lend_2 3 rfl rfl)
set_option maxHeartbeats 4000000 in
set_option maxRecDepth 100000 in
noncomputable def fn_X5_lend (l0 : Option Nat) (l1 : Int32) (l2 : Int32) (h : cz_H) : cz_Z := cz_put h l0 [(5, 0)] (cz_i 0) (fun h1 => cz_rc h1 l0 [5] (cz_cI (fn_X5_isCoat l0 l1 h1) (fun x9 h8 => (if x9 = 0 then some (.inl (some (cz_i (-1))), h8) else cz_rc h8 l0 [5] (cz_cI (fn_X5_isMan l0 l2 h8) (fun x17 h16 => (if x17 = 0 then some (.inl (some (cz_i (-1))), h16) else cz_rc h16 l0 [5] (cz_cI (fn_X5_whyLend l0 l1 l2 h16) (fun x25 h24 => (if x25 ≤ 0 then cz_rc h24 l0 [5] (cz_cV (fn_X5_keepsAll l0 h24) (fun h32 => cz_getR h32 l0 [(5, 6)] (fun r33 => cz_iast h32 r33 ((73 : Int32) + l1) l2 (fun h34 => some (.inl (some (cz_i 0)), h34))))) else some (.inl (some (cz_i x25)), h24)))))))))))
set_option maxHeartbeats 4000000 in
set_option maxRecDepth 100000 in
theorem wk_X5_lend {K : cz_K} {D : cz_D} {h0 : cz_H} {oh : cz_O × cz_H} {l0 : Option Nat} {l1 : Int32} {l2 : Int32} {h : cz_H} (S : cz_S K D h0 cX5_lend 4 "HeldCoatsModel" ((Option.some Jvm.ClassFile.FieldType.int)) "lend" ([])) : cz_T K D 4 h0 oh 4 (fn_X5_lend l0 l1 l2 h) h 0 [(0, cz_r l0), (1, cz_i l1), (2, cz_i l2)] [] := by
  unfold fn_X5_lend
  refine ct_aload_n (k := 0) S dX5_lend_0 rfl rfl ?_
  refine ct_iconst (v := 0) S dX5_lend_1 kI_0 ?_
  refine ct_put S fw_X5_1 fp_X5_m_5_0 (cz_fits_i pd_I) dX5_lend_2 (fun h1 => ?_)
  refine ct_aload_n (k := 0) S dX5_lend_5 rfl rfl ?_
  refine ct_iload_n (k := 1) S dX5_lend_6 rfl rfl ?_
  refine ct_rc (fun b2 ci3 V4 hb5 hc6 hi7 => ?_)
  refine ct_cI (st := []) (cg_virtual (av := [cz_i l1]) S hb5 hc6 hi7 (fun _ e => mt_X5_isCoat e) md_X5_isCoat q2219 q2221 se_HeldCoatsModel_isCoat__I_Z_HeldCoatsModel (by decide) (Nat.le_of_ble_eq_true rfl) rfl dX5_lend_7) (fun x9 h8 => ?_)
  refine ct_if_eq (tgt := 21) S dX5_lend_10 (by decide) ?_ ?_
  · refine ct_iconst (v := (-1)) S dX5_lend_21 kI_m1 ?_
    exact ct_iret S rfl dX5_lend_22
  · refine ct_aload_n (k := 0) S dX5_lend_13 rfl rfl ?_
    refine ct_iload_n (k := 2) S dX5_lend_14 rfl rfl ?_
    refine ct_rc (fun b10 ci11 V12 hb13 hc14 hi15 => ?_)
    refine ct_cI (st := []) (cg_virtual (av := [cz_i l2]) S hb13 hc14 hi15 (fun _ e => mt_X5_isMan e) md_X5_isMan q2188 q2190 se_HeldCoatsModel_isMan__I_Z_HeldCoatsModel (by decide) (Nat.le_of_ble_eq_true rfl) rfl dX5_lend_15) (fun x17 h16 => ?_)
    refine ct_if_ne (tgt := 23) S dX5_lend_18 (by decide) ?_ ?_
    · refine ct_aload_n (k := 0) S dX5_lend_23 rfl rfl ?_
      refine ct_iload_n (k := 1) S dX5_lend_24 rfl rfl ?_
      refine ct_iload_n (k := 2) S dX5_lend_25 rfl rfl ?_
      refine ct_rc (fun b18 ci19 V20 hb21 hc22 hi23 => ?_)
      refine ct_cI (st := []) (cg_virtual (av := [cz_i l1, cz_i l2]) S hb21 hc22 hi23 (fun _ e => mt_X5_whyLend e) md_X5_whyLend q2275 q2277 se_HeldCoatsModel_whyLend__II_I_HeldCoatsModel (by decide) (Nat.le_of_ble_eq_true rfl) rfl dX5_lend_26) (fun x25 h24 => ?_)
      refine ct_istore_n (L' := [(3, cz_i x25), (0, cz_r l0), (1, cz_i l1), (2, cz_i l2)]) S dX5_lend_29 rfl (by decide) rfl ?_
      refine ct_iload_n (k := 0) S dX5_lend_30 rfl rfl ?_
      refine ct_if_le (tgt := 36) S dX5_lend_31 (by decide) ?_ ?_
      · refine ct_aload_n (k := 1) S dX5_lend_36 rfl rfl ?_
        refine ct_rc (fun b26 ci27 V28 hb29 hc30 hi31 => ?_)
        refine ct_cV (st := []) (cg_virtual (av := []) S hb29 hc30 hi31 (fun _ e => mt_X5_keepsAll e) md_X5_keepsAll q2247 q2249 se_HeldCoatsModel_keepsAll___V_HeldCoatsModel (by decide) (Nat.le_of_ble_eq_true rfl) rfl dX5_lend_37) (fun h32 => ?_)
        refine ct_aload_n (k := 1) S dX5_lend_40 rfl rfl ?_
        refine ct_getR S fw_X5_33 dX5_lend_41 (fun r33 => ?_)
        refine ct_bipush (v := 73) S dX5_lend_44 kB_73 ?_
        refine ct_iload_n (k := 2) S dX5_lend_46 rfl rfl ?_
        refine ct_iadd S dX5_lend_47 ?_
        refine ct_iload_n (k := 3) S dX5_lend_48 rfl rfl ?_
        refine ct_iast S dX5_lend_49 (fun h34 => ?_)
        refine ct_iconst (v := 0) S dX5_lend_50 kI_0 ?_
        exact ct_iret S rfl dX5_lend_51
      · refine ct_iload_n (k := 0) S dX5_lend_34 rfl rfl ?_
        exact ct_iret S rfl dX5_lend_35
    · refine ct_iconst (v := (-1)) S dX5_lend_21 kI_m1 ?_
      exact ct_iret S rfl dX5_lend_22
theorem mt_X5_lend {l : Launch} {D : cz_D} {l0 : Option Nat} {l1 : Int32} {l2 : Int32} {h : cz_H} {oh : cz_O × cz_H} (hz : fn_X5_lend l0 l1 l2 h = some oh) : cz_M l D yX5_lend (ws_ yX5_lend cX5_lend 4 ((Option.some Jvm.ClassFile.FieldType.int))) 4 [cz_r l0, cz_i l1, cz_i l2] h oh := cz_met (plainFor_of_name (by decide)) (Nat.le_of_ble_eq_true rfl) hz (fun K hl S => wk_X5_lend S)
/-! HeldCoatsModel.holder(I)I -/
def dkwX5_holder_0 : List UInt8 := [42, 182, 0, 241, 153, 0, 7, 2, 167, 0, 8, 42, 27, 182, 0, 244, 172]
abbrev dktX5_holder_0 : List UInt8 := dkwX5_holder_0 ++ []
theorem dksX5_holder_0 : cX5_holder.data.toList.drop 0 = dktX5_holder_0 := by decide +kernel
theorem dX5_holder_0 : decode cX5_holder 0 = .ok (.aload_n 0, 1) := dk_42 (dk_at dksX5_holder_0 0 rfl rfl)
theorem dX5_holder_1 : decode cX5_holder 1 = .ok (.invokevirtual 241, 3) := dk_182 0 241 (dk_at dksX5_holder_0 1 rfl rfl)
theorem dX5_holder_4 : decode cX5_holder 4 = .ok (.ifCond .eq 7, 3) := dk_153 0 7 (dk_at dksX5_holder_0 4 rfl rfl)
theorem dX5_holder_7 : decode cX5_holder 7 = .ok (.iconst (-1), 1) := dk_2 (dk_at dksX5_holder_0 7 rfl rfl)
theorem dX5_holder_8 : decode cX5_holder 8 = .ok (.goto 8, 3) := dk_167 0 8 (dk_at dksX5_holder_0 8 rfl rfl)
theorem dX5_holder_11 : decode cX5_holder 11 = .ok (.aload_n 0, 1) := dk_42 (dk_at dksX5_holder_0 11 rfl rfl)
theorem dX5_holder_12 : decode cX5_holder 12 = .ok (.iload_n 1, 1) := dk_27 (dk_at dksX5_holder_0 12 rfl rfl)
theorem dX5_holder_13 : decode cX5_holder 13 = .ok (.invokevirtual 244, 3) := dk_182 0 244 (dk_at dksX5_holder_0 13 rfl rfl)
theorem dX5_holder_16 : decode cX5_holder 16 = .ok (.ireturn, 1) := dk_172 (dk_at dksX5_holder_0 16 rfl rfl)
set_option maxHeartbeats 4000000 in
set_option maxRecDepth 100000 in
noncomputable def fn_X5_holder (l0 : Option Nat) (l1 : Int32) (h : cz_H) : cz_Z := cz_rc h l0 [5] (cz_cI (fn_X5_isSummer l0 h) (fun x8 h7 => (if x8 = 0 then cz_rc h7 l0 [5] (cz_cI (fn_X5_whoseOn l0 l1 h7) (fun x16 h15 => some (.inl (some (cz_i x16)), h15))) else some (.inl (some (cz_i (-1))), h7))))
set_option maxHeartbeats 4000000 in
set_option maxRecDepth 100000 in
theorem wk_X5_holder {K : cz_K} {D : cz_D} {h0 : cz_H} {oh : cz_O × cz_H} {l0 : Option Nat} {l1 : Int32} {h : cz_H} (S : cz_S K D h0 cX5_holder 2 "HeldCoatsModel" ((Option.some Jvm.ClassFile.FieldType.int)) "holder" ([])) : cz_T K D 4 h0 oh 2 (fn_X5_holder l0 l1 h) h 0 [(0, cz_r l0), (1, cz_i l1)] [] := by
  unfold fn_X5_holder
  refine ct_aload_n (k := 0) S dX5_holder_0 rfl rfl ?_
  refine ct_rc (fun b1 ci2 V3 hb4 hc5 hi6 => ?_)
  refine ct_cI (st := []) (cg_virtual (av := []) S hb4 hc5 hi6 (fun _ e => mt_X5_isSummer e) md_X5_isSummer q2172 q2174 se_HeldCoatsModel_isSummer___Z_HeldCoatsModel (by decide) (Nat.le_of_ble_eq_true rfl) rfl dX5_holder_1) (fun x8 h7 => ?_)
  refine ct_if_eq (tgt := 11) S dX5_holder_4 (by decide) ?_ ?_
  · refine ct_aload_n (k := 0) S dX5_holder_11 rfl rfl ?_
    refine ct_iload_n (k := 1) S dX5_holder_12 rfl rfl ?_
    refine ct_rc (fun b9 ci10 V11 hb12 hc13 hi14 => ?_)
    refine ct_cI (st := []) (cg_virtual (av := [cz_i l1]) S hb12 hc13 hi14 (fun _ e => mt_X5_whoseOn e) md_X5_whoseOn q2180 q2182 se_HeldCoatsModel_whoseOn__I_I_HeldCoatsModel (by decide) (Nat.le_of_ble_eq_true rfl) rfl dX5_holder_13) (fun x16 h15 => ?_)
    exact ct_iret S rfl dX5_holder_16
  · refine ct_iconst (v := (-1)) S dX5_holder_7 kI_m1 ?_
    refine ct_goto (tgt := 16) S dX5_holder_8 (by decide) ?_
    exact ct_iret S rfl dX5_holder_16
theorem mt_X5_holder {l : Launch} {D : cz_D} {l0 : Option Nat} {l1 : Int32} {h : cz_H} {oh : cz_O × cz_H} (hz : fn_X5_holder l0 l1 h = some oh) : cz_M l D yX5_holder (ws_ yX5_holder cX5_holder 2 ((Option.some Jvm.ClassFile.FieldType.int))) 4 [cz_r l0, cz_i l1] h oh := cz_met (plainFor_of_name (by decide)) (Nat.le_of_ble_eq_true rfl) hz (fun K hl S => wk_X5_holder S)
/-! HeldCoatsModel.man(II)I -/
def dkwX5_man_10 : List UInt8 := [21, 5, 172]
abbrev dktX5_man_10 : List UInt8 := dkwX5_man_10 ++ []
def dkwX5_man_9 : List UInt8 := [46, 172, 42, 27, 182, 0, 253, 172, 29, 172, 21, 4, 172, 42, 180, 0, 33, 16, 103, 27, 96, 46, 172]
abbrev dktX5_man_9 : List UInt8 := dkwX5_man_9 ++ dktX5_man_10
def dkwX5_man_8 : List UInt8 := [42, 180, 0, 33, 16, 16, 27, 96, 46, 172, 42, 27, 182, 1, 21, 172, 42, 180, 0, 33, 16, 97, 27, 96]
abbrev dktX5_man_8 : List UInt8 := dkwX5_man_8 ++ dktX5_man_9
def dkwX5_man_7 : List UInt8 := [170, 0, 0, 0, 0, 89, 0, 0, 0, 0, 0, 0, 0, 6, 0, 0, 0, 42, 0, 0, 0, 52, 0, 0, 0, 58, 0, 0, 0, 68, 0, 0, 0, 74, 0, 0, 0, 76, 0, 0, 0, 79]
abbrev dktX5_man_7 : List UInt8 := dkwX5_man_7 ++ dktX5_man_8
def dkwX5_man_6 : List UInt8 := [159, 0, 10, 4, 21, 6, 120, 167, 0, 4, 3, 128, 54, 5, 132, 6, 1, 167, 255, 200, 28]
abbrev dktX5_man_6 : List UInt8 := dkwX5_man_6 ++ dktX5_man_7
def dkwX5_man_5 : List UInt8 := [16, 22, 21, 6, 96, 46, 27, 160, 0, 25, 42, 180, 0, 33, 16, 65, 21, 6, 96, 46, 16, 30]
abbrev dktX5_man_5 : List UInt8 := dkwX5_man_5 ++ dktX5_man_6
def dkwX5_man_4 : List UInt8 := [167, 255, 207, 3, 54, 6, 21, 6, 42, 180, 0, 33, 5, 46, 162, 0, 51, 21, 5, 42, 180, 0, 33]
abbrev dktX5_man_4 : List UInt8 := dkwX5_man_4 ++ dktX5_man_5
def dkwX5_man_3 : List UInt8 := [21, 6, 120, 128, 62, 21, 4, 42, 180, 0, 33, 16, 8, 21, 6, 96, 46, 96, 54, 4, 132, 6, 1]
abbrev dktX5_man_3 : List UInt8 := dkwX5_man_3 ++ dktX5_man_4
def dkwX5_man_2 : List UInt8 := [180, 0, 33, 3, 46, 162, 0, 44, 42, 21, 6, 182, 1, 11, 27, 159, 0, 6, 167, 0, 25, 29, 4]
abbrev dktX5_man_2 : List UInt8 := dkwX5_man_2 ++ dktX5_man_3
def dkwX5_man_1 : List UInt8 := [182, 1, 17, 153, 0, 5, 3, 172, 3, 62, 3, 54, 4, 3, 54, 5, 3, 54, 6, 21, 6, 42]
abbrev dktX5_man_1 : List UInt8 := dkwX5_man_1 ++ dktX5_man_2
def dkwX5_man_0 : List UInt8 := [42, 42, 27, 182, 1, 14, 153, 0, 13, 28, 3, 16, 7, 184, 0, 171, 154, 0, 7, 4, 167, 0, 4, 3]
abbrev dktX5_man_0 : List UInt8 := dkwX5_man_0 ++ dktX5_man_1
theorem dksX5_man_0 : cX5_man.data.toList.drop 0 = dktX5_man_0 := by decide +kernel
theorem dksX5_man_1 : cX5_man.data.toList.drop 24 = dktX5_man_1 := dk_seg dksX5_man_0 24 rfl rfl
theorem dksX5_man_2 : cX5_man.data.toList.drop 46 = dktX5_man_2 := dk_seg dksX5_man_1 22 rfl rfl
theorem dksX5_man_3 : cX5_man.data.toList.drop 69 = dktX5_man_3 := dk_seg dksX5_man_2 23 rfl rfl
theorem dksX5_man_4 : cX5_man.data.toList.drop 92 = dktX5_man_4 := dk_seg dksX5_man_3 23 rfl rfl
theorem dksX5_man_5 : cX5_man.data.toList.drop 115 = dktX5_man_5 := dk_seg dksX5_man_4 23 rfl rfl
theorem dksX5_man_6 : cX5_man.data.toList.drop 137 = dktX5_man_6 := dk_seg dksX5_man_5 22 rfl rfl
theorem dksX5_man_7 : cX5_man.data.toList.drop 158 = dktX5_man_7 := dk_seg dksX5_man_6 21 rfl rfl
theorem dksX5_man_8 : cX5_man.data.toList.drop 200 = dktX5_man_8 := dk_seg dksX5_man_7 42 rfl rfl
theorem dksX5_man_9 : cX5_man.data.toList.drop 224 = dktX5_man_9 := dk_seg dksX5_man_8 24 rfl rfl
theorem dksX5_man_10 : cX5_man.data.toList.drop 247 = dktX5_man_10 := dk_seg dksX5_man_9 23 rfl rfl
theorem dX5_man_0 : decode cX5_man 0 = .ok (.aload_n 0, 1) := dk_42 (dk_at dksX5_man_0 0 rfl rfl)
theorem dX5_man_1 : decode cX5_man 1 = .ok (.aload_n 0, 1) := dk_42 (dk_at dksX5_man_0 1 rfl rfl)
theorem dX5_man_2 : decode cX5_man 2 = .ok (.iload_n 1, 1) := dk_27 (dk_at dksX5_man_0 2 rfl rfl)
theorem dX5_man_3 : decode cX5_man 3 = .ok (.invokevirtual 270, 3) := dk_182 1 14 (dk_at dksX5_man_0 3 rfl rfl)
theorem dX5_man_6 : decode cX5_man 6 = .ok (.ifCond .eq 13, 3) := dk_153 0 13 (dk_at dksX5_man_0 6 rfl rfl)
theorem dX5_man_9 : decode cX5_man 9 = .ok (.iload_n 2, 1) := dk_28 (dk_at dksX5_man_0 9 rfl rfl)
theorem dX5_man_10 : decode cX5_man 10 = .ok (.iconst 0, 1) := dk_3 (dk_at dksX5_man_0 10 rfl rfl)
theorem dX5_man_11 : decode cX5_man 11 = .ok (.bipush 7, 2) := dk_16 7 (dk_at dksX5_man_0 11 rfl rfl)
theorem dX5_man_13 : decode cX5_man 13 = .ok (.invokestatic 171, 3) := dk_184 0 171 (dk_at dksX5_man_0 13 rfl rfl)
theorem dX5_man_16 : decode cX5_man 16 = .ok (.ifCond .ne 7, 3) := dk_154 0 7 (dk_at dksX5_man_0 16 rfl rfl)
theorem dX5_man_19 : decode cX5_man 19 = .ok (.iconst 1, 1) := dk_4 (dk_at dksX5_man_0 19 rfl rfl)
theorem dX5_man_20 : decode cX5_man 20 = .ok (.goto 4, 3) := dk_167 0 4 (dk_at dksX5_man_0 20 rfl rfl)
theorem dX5_man_23 : decode cX5_man 23 = .ok (.iconst 0, 1) := dk_3 (dk_at dksX5_man_0 23 rfl rfl)
theorem dX5_man_24 : decode cX5_man 24 = .ok (.invokevirtual 273, 3) := dk_182 1 17 (dk_at dksX5_man_1 0 rfl rfl)
theorem dX5_man_27 : decode cX5_man 27 = .ok (.ifCond .eq 5, 3) := dk_153 0 5 (dk_at dksX5_man_1 3 rfl rfl)
theorem dX5_man_30 : decode cX5_man 30 = .ok (.iconst 0, 1) := dk_3 (dk_at dksX5_man_1 6 rfl rfl)
theorem dX5_man_31 : decode cX5_man 31 = .ok (.ireturn, 1) := dk_172 (dk_at dksX5_man_1 7 rfl rfl)
theorem dX5_man_32 : decode cX5_man 32 = .ok (.iconst 0, 1) := dk_3 (dk_at dksX5_man_1 8 rfl rfl)
theorem dX5_man_33 : decode cX5_man 33 = .ok (.istore_n 3, 1) := dk_62 (dk_at dksX5_man_1 9 rfl rfl)
theorem dX5_man_34 : decode cX5_man 34 = .ok (.iconst 0, 1) := dk_3 (dk_at dksX5_man_1 10 rfl rfl)
theorem dX5_man_35 : decode cX5_man 35 = .ok (.istore 4, 2) := dk_54 4 (dk_at dksX5_man_1 11 rfl rfl)
theorem dX5_man_37 : decode cX5_man 37 = .ok (.iconst 0, 1) := dk_3 (dk_at dksX5_man_1 13 rfl rfl)
theorem dX5_man_38 : decode cX5_man 38 = .ok (.istore 5, 2) := dk_54 5 (dk_at dksX5_man_1 14 rfl rfl)
theorem dX5_man_40 : decode cX5_man 40 = .ok (.iconst 0, 1) := dk_3 (dk_at dksX5_man_1 16 rfl rfl)
theorem dX5_man_41 : decode cX5_man 41 = .ok (.istore 6, 2) := dk_54 6 (dk_at dksX5_man_1 17 rfl rfl)
theorem dX5_man_43 : decode cX5_man 43 = .ok (.iload 6, 2) := dk_21 6 (dk_at dksX5_man_1 19 rfl rfl)
theorem dX5_man_45 : decode cX5_man 45 = .ok (.aload_n 0, 1) := dk_42 (dk_at dksX5_man_1 21 rfl rfl)
theorem dX5_man_46 : decode cX5_man 46 = .ok (.getfield 33, 3) := dk_180 0 33 (dk_at dksX5_man_2 0 rfl rfl)
theorem dX5_man_49 : decode cX5_man 49 = .ok (.iconst 0, 1) := dk_3 (dk_at dksX5_man_2 3 rfl rfl)
theorem dX5_man_50 : decode cX5_man 50 = .ok (.iaload, 1) := dk_46 (dk_at dksX5_man_2 4 rfl rfl)
theorem dX5_man_51 : decode cX5_man 51 = .ok (.if_icmp .ge 44, 3) := dk_162 0 44 (dk_at dksX5_man_2 5 rfl rfl)
theorem dX5_man_54 : decode cX5_man 54 = .ok (.aload_n 0, 1) := dk_42 (dk_at dksX5_man_2 8 rfl rfl)
theorem dX5_man_55 : decode cX5_man 55 = .ok (.iload 6, 2) := dk_21 6 (dk_at dksX5_man_2 9 rfl rfl)
theorem dX5_man_57 : decode cX5_man 57 = .ok (.invokevirtual 267, 3) := dk_182 1 11 (dk_at dksX5_man_2 11 rfl rfl)
theorem dX5_man_60 : decode cX5_man 60 = .ok (.iload_n 1, 1) := dk_27 (dk_at dksX5_man_2 14 rfl rfl)
theorem dX5_man_61 : decode cX5_man 61 = .ok (.if_icmp .eq 6, 3) := dk_159 0 6 (dk_at dksX5_man_2 15 rfl rfl)
theorem dX5_man_64 : decode cX5_man 64 = .ok (.goto 25, 3) := dk_167 0 25 (dk_at dksX5_man_2 18 rfl rfl)
theorem dX5_man_67 : decode cX5_man 67 = .ok (.iload_n 3, 1) := dk_29 (dk_at dksX5_man_2 21 rfl rfl)
theorem dX5_man_68 : decode cX5_man 68 = .ok (.iconst 1, 1) := dk_4 (dk_at dksX5_man_2 22 rfl rfl)
theorem dX5_man_69 : decode cX5_man 69 = .ok (.iload 6, 2) := dk_21 6 (dk_at dksX5_man_3 0 rfl rfl)
theorem dX5_man_71 : decode cX5_man 71 = .ok (.ishl, 1) := dk_120 (dk_at dksX5_man_3 2 rfl rfl)
theorem dX5_man_72 : decode cX5_man 72 = .ok (.ior, 1) := dk_128 (dk_at dksX5_man_3 3 rfl rfl)
theorem dX5_man_73 : decode cX5_man 73 = .ok (.istore_n 3, 1) := dk_62 (dk_at dksX5_man_3 4 rfl rfl)
theorem dX5_man_74 : decode cX5_man 74 = .ok (.iload 4, 2) := dk_21 4 (dk_at dksX5_man_3 5 rfl rfl)
theorem dX5_man_76 : decode cX5_man 76 = .ok (.aload_n 0, 1) := dk_42 (dk_at dksX5_man_3 7 rfl rfl)
theorem dX5_man_77 : decode cX5_man 77 = .ok (.getfield 33, 3) := dk_180 0 33 (dk_at dksX5_man_3 8 rfl rfl)
theorem dX5_man_80 : decode cX5_man 80 = .ok (.bipush 8, 2) := dk_16 8 (dk_at dksX5_man_3 11 rfl rfl)
theorem dX5_man_82 : decode cX5_man 82 = .ok (.iload 6, 2) := dk_21 6 (dk_at dksX5_man_3 13 rfl rfl)
theorem dX5_man_84 : decode cX5_man 84 = .ok (.iadd, 1) := dk_96 (dk_at dksX5_man_3 15 rfl rfl)
theorem dX5_man_85 : decode cX5_man 85 = .ok (.iaload, 1) := dk_46 (dk_at dksX5_man_3 16 rfl rfl)
theorem dX5_man_86 : decode cX5_man 86 = .ok (.iadd, 1) := dk_96 (dk_at dksX5_man_3 17 rfl rfl)
theorem dX5_man_87 : decode cX5_man 87 = .ok (.istore 4, 2) := dk_54 4 (dk_at dksX5_man_3 18 rfl rfl)
theorem dX5_man_89 : decode cX5_man 89 = .ok (.iinc 6 1, 3) := dk_132 6 1 (dk_at dksX5_man_3 20 rfl rfl)
theorem dX5_man_92 : decode cX5_man 92 = .ok (.goto (-49), 3) := dk_167 255 207 (dk_at dksX5_man_4 0 rfl rfl)
theorem dX5_man_95 : decode cX5_man 95 = .ok (.iconst 0, 1) := dk_3 (dk_at dksX5_man_4 3 rfl rfl)
theorem dX5_man_96 : decode cX5_man 96 = .ok (.istore 6, 2) := dk_54 6 (dk_at dksX5_man_4 4 rfl rfl)
theorem dX5_man_98 : decode cX5_man 98 = .ok (.iload 6, 2) := dk_21 6 (dk_at dksX5_man_4 6 rfl rfl)
theorem dX5_man_100 : decode cX5_man 100 = .ok (.aload_n 0, 1) := dk_42 (dk_at dksX5_man_4 8 rfl rfl)
theorem dX5_man_101 : decode cX5_man 101 = .ok (.getfield 33, 3) := dk_180 0 33 (dk_at dksX5_man_4 9 rfl rfl)
theorem dX5_man_104 : decode cX5_man 104 = .ok (.iconst 2, 1) := dk_5 (dk_at dksX5_man_4 12 rfl rfl)
theorem dX5_man_105 : decode cX5_man 105 = .ok (.iaload, 1) := dk_46 (dk_at dksX5_man_4 13 rfl rfl)
theorem dX5_man_106 : decode cX5_man 106 = .ok (.if_icmp .ge 51, 3) := dk_162 0 51 (dk_at dksX5_man_4 14 rfl rfl)
theorem dX5_man_109 : decode cX5_man 109 = .ok (.iload 5, 2) := dk_21 5 (dk_at dksX5_man_4 17 rfl rfl)
theorem dX5_man_111 : decode cX5_man 111 = .ok (.aload_n 0, 1) := dk_42 (dk_at dksX5_man_4 19 rfl rfl)
theorem dX5_man_112 : decode cX5_man 112 = .ok (.getfield 33, 3) := dk_180 0 33 (dk_at dksX5_man_4 20 rfl rfl)
theorem dX5_man_115 : decode cX5_man 115 = .ok (.bipush 22, 2) := dk_16 22 (dk_at dksX5_man_5 0 rfl rfl)
theorem dX5_man_117 : decode cX5_man 117 = .ok (.iload 6, 2) := dk_21 6 (dk_at dksX5_man_5 2 rfl rfl)
theorem dX5_man_119 : decode cX5_man 119 = .ok (.iadd, 1) := dk_96 (dk_at dksX5_man_5 4 rfl rfl)
theorem dX5_man_120 : decode cX5_man 120 = .ok (.iaload, 1) := dk_46 (dk_at dksX5_man_5 5 rfl rfl)
theorem dX5_man_121 : decode cX5_man 121 = .ok (.iload_n 1, 1) := dk_27 (dk_at dksX5_man_5 6 rfl rfl)
theorem dX5_man_122 : decode cX5_man 122 = .ok (.if_icmp .ne 25, 3) := dk_160 0 25 (dk_at dksX5_man_5 7 rfl rfl)
theorem dX5_man_125 : decode cX5_man 125 = .ok (.aload_n 0, 1) := dk_42 (dk_at dksX5_man_5 10 rfl rfl)
theorem dX5_man_126 : decode cX5_man 126 = .ok (.getfield 33, 3) := dk_180 0 33 (dk_at dksX5_man_5 11 rfl rfl)
theorem dX5_man_129 : decode cX5_man 129 = .ok (.bipush 65, 2) := dk_16 65 (dk_at dksX5_man_5 14 rfl rfl)
theorem dX5_man_131 : decode cX5_man 131 = .ok (.iload 6, 2) := dk_21 6 (dk_at dksX5_man_5 16 rfl rfl)
theorem dX5_man_133 : decode cX5_man 133 = .ok (.iadd, 1) := dk_96 (dk_at dksX5_man_5 18 rfl rfl)
theorem dX5_man_134 : decode cX5_man 134 = .ok (.iaload, 1) := dk_46 (dk_at dksX5_man_5 19 rfl rfl)
theorem dX5_man_135 : decode cX5_man 135 = .ok (.bipush 30, 2) := dk_16 30 (dk_at dksX5_man_5 20 rfl rfl)
theorem dX5_man_137 : decode cX5_man 137 = .ok (.if_icmp .eq 10, 3) := dk_159 0 10 (dk_at dksX5_man_6 0 rfl rfl)
theorem dX5_man_140 : decode cX5_man 140 = .ok (.iconst 1, 1) := dk_4 (dk_at dksX5_man_6 3 rfl rfl)
theorem dX5_man_141 : decode cX5_man 141 = .ok (.iload 6, 2) := dk_21 6 (dk_at dksX5_man_6 4 rfl rfl)
theorem dX5_man_143 : decode cX5_man 143 = .ok (.ishl, 1) := dk_120 (dk_at dksX5_man_6 6 rfl rfl)
theorem dX5_man_144 : decode cX5_man 144 = .ok (.goto 4, 3) := dk_167 0 4 (dk_at dksX5_man_6 7 rfl rfl)
theorem dX5_man_147 : decode cX5_man 147 = .ok (.iconst 0, 1) := dk_3 (dk_at dksX5_man_6 10 rfl rfl)
theorem dX5_man_148 : decode cX5_man 148 = .ok (.ior, 1) := dk_128 (dk_at dksX5_man_6 11 rfl rfl)
theorem dX5_man_149 : decode cX5_man 149 = .ok (.istore 5, 2) := dk_54 5 (dk_at dksX5_man_6 12 rfl rfl)
theorem dX5_man_151 : decode cX5_man 151 = .ok (.iinc 6 1, 3) := dk_132 6 1 (dk_at dksX5_man_6 14 rfl rfl)
theorem dX5_man_154 : decode cX5_man 154 = .ok (.goto (-56), 3) := dk_167 255 200 (dk_at dksX5_man_6 17 rfl rfl)
theorem dX5_man_157 : decode cX5_man 157 = .ok (.iload_n 2, 1) := dk_28 (dk_at dksX5_man_6 20 rfl rfl)
theorem dX5_man_158 : decode cX5_man 158 = .ok (.tableswitch 89 0 6 #[42, 52, 58, 68, 74, 76, 79], 42) := by decide +kernel
theorem dX5_man_200 : decode cX5_man 200 = .ok (.aload_n 0, 1) := dk_42 (dk_at dksX5_man_8 0 rfl rfl)
theorem dX5_man_201 : decode cX5_man 201 = .ok (.getfield 33, 3) := dk_180 0 33 (dk_at dksX5_man_8 1 rfl rfl)
theorem dX5_man_204 : decode cX5_man 204 = .ok (.bipush 16, 2) := dk_16 16 (dk_at dksX5_man_8 4 rfl rfl)
theorem dX5_man_206 : decode cX5_man 206 = .ok (.iload_n 1, 1) := dk_27 (dk_at dksX5_man_8 6 rfl rfl)
theorem dX5_man_207 : decode cX5_man 207 = .ok (.iadd, 1) := dk_96 (dk_at dksX5_man_8 7 rfl rfl)
theorem dX5_man_208 : decode cX5_man 208 = .ok (.iaload, 1) := dk_46 (dk_at dksX5_man_8 8 rfl rfl)
theorem dX5_man_209 : decode cX5_man 209 = .ok (.ireturn, 1) := dk_172 (dk_at dksX5_man_8 9 rfl rfl)
theorem dX5_man_210 : decode cX5_man 210 = .ok (.aload_n 0, 1) := dk_42 (dk_at dksX5_man_8 10 rfl rfl)
theorem dX5_man_211 : decode cX5_man 211 = .ok (.iload_n 1, 1) := dk_27 (dk_at dksX5_man_8 11 rfl rfl)
theorem dX5_man_212 : decode cX5_man 212 = .ok (.invokevirtual 277, 3) := dk_182 1 21 (dk_at dksX5_man_8 12 rfl rfl)
theorem dX5_man_215 : decode cX5_man 215 = .ok (.ireturn, 1) := dk_172 (dk_at dksX5_man_8 15 rfl rfl)
theorem dX5_man_216 : decode cX5_man 216 = .ok (.aload_n 0, 1) := dk_42 (dk_at dksX5_man_8 16 rfl rfl)
theorem dX5_man_217 : decode cX5_man 217 = .ok (.getfield 33, 3) := dk_180 0 33 (dk_at dksX5_man_8 17 rfl rfl)
theorem dX5_man_220 : decode cX5_man 220 = .ok (.bipush 97, 2) := dk_16 97 (dk_at dksX5_man_8 20 rfl rfl)
theorem dX5_man_222 : decode cX5_man 222 = .ok (.iload_n 1, 1) := dk_27 (dk_at dksX5_man_8 22 rfl rfl)
theorem dX5_man_223 : decode cX5_man 223 = .ok (.iadd, 1) := dk_96 (dk_at dksX5_man_8 23 rfl rfl)
theorem dX5_man_224 : decode cX5_man 224 = .ok (.iaload, 1) := dk_46 (dk_at dksX5_man_9 0 rfl rfl)
theorem dX5_man_225 : decode cX5_man 225 = .ok (.ireturn, 1) := dk_172 (dk_at dksX5_man_9 1 rfl rfl)
theorem dX5_man_226 : decode cX5_man 226 = .ok (.aload_n 0, 1) := dk_42 (dk_at dksX5_man_9 2 rfl rfl)
theorem dX5_man_227 : decode cX5_man 227 = .ok (.iload_n 1, 1) := dk_27 (dk_at dksX5_man_9 3 rfl rfl)
theorem dX5_man_228 : decode cX5_man 228 = .ok (.invokevirtual 253, 3) := dk_182 0 253 (dk_at dksX5_man_9 4 rfl rfl)
theorem dX5_man_231 : decode cX5_man 231 = .ok (.ireturn, 1) := dk_172 (dk_at dksX5_man_9 7 rfl rfl)
theorem dX5_man_232 : decode cX5_man 232 = .ok (.iload_n 3, 1) := dk_29 (dk_at dksX5_man_9 8 rfl rfl)
theorem dX5_man_233 : decode cX5_man 233 = .ok (.ireturn, 1) := dk_172 (dk_at dksX5_man_9 9 rfl rfl)
theorem dX5_man_234 : decode cX5_man 234 = .ok (.iload 4, 2) := dk_21 4 (dk_at dksX5_man_9 10 rfl rfl)
theorem dX5_man_236 : decode cX5_man 236 = .ok (.ireturn, 1) := dk_172 (dk_at dksX5_man_9 12 rfl rfl)
theorem dX5_man_237 : decode cX5_man 237 = .ok (.aload_n 0, 1) := dk_42 (dk_at dksX5_man_9 13 rfl rfl)
theorem dX5_man_238 : decode cX5_man 238 = .ok (.getfield 33, 3) := dk_180 0 33 (dk_at dksX5_man_9 14 rfl rfl)
theorem dX5_man_241 : decode cX5_man 241 = .ok (.bipush 103, 2) := dk_16 103 (dk_at dksX5_man_9 17 rfl rfl)
theorem dX5_man_243 : decode cX5_man 243 = .ok (.iload_n 1, 1) := dk_27 (dk_at dksX5_man_9 19 rfl rfl)
theorem dX5_man_244 : decode cX5_man 244 = .ok (.iadd, 1) := dk_96 (dk_at dksX5_man_9 20 rfl rfl)
theorem dX5_man_245 : decode cX5_man 245 = .ok (.iaload, 1) := dk_46 (dk_at dksX5_man_9 21 rfl rfl)
theorem dX5_man_246 : decode cX5_man 246 = .ok (.ireturn, 1) := dk_172 (dk_at dksX5_man_9 22 rfl rfl)
theorem dX5_man_247 : decode cX5_man 247 = .ok (.iload 5, 2) := dk_21 5 (dk_at dksX5_man_10 0 rfl rfl)
theorem dX5_man_249 : decode cX5_man 249 = .ok (.ireturn, 1) := dk_172 (dk_at dksX5_man_10 2 rfl rfl)
theorem se_HeldCoatsModel_holder__I_I_HeldCoatsModel : ∀ c ∈ ([5] : List Nat), ∃ q : vw_C, cz_cl[c]? = some q ∧ Cond.selects q.1 (⟨"HeldCoatsModel", "holder", "(I)I"⟩ : MethodName) (⟨"HeldCoatsModel", "holder", "(I)I"⟩ : MethodName) ∈ lw_all := List.forall_mem_cons.mpr ⟨⟨_, cz_cl5, qs65⟩, fun _ h => absurd h List.not_mem_nil⟩
theorem md_X5_holder : cz_md yX5_holder 2 (ws_ yX5_holder cX5_holder 2 ((Option.some Jvm.ClassFile.FieldType.int))) 1 := ⟨cz_ws_code q2171, q123, ⟨by decide, by decide, by decide +kernel⟩, by decide⟩
set_option maxHeartbeats 4000000 in
set_option maxRecDepth 100000 in
noncomputable def fn_X5_man_43 (l0 : Option Nat) (l1 : Int32) (k0 : Int32 → Int32 → cz_H → cz_Z) : Nat → Int32 → Int32 → Int32 → cz_H → cz_Z
  | 0, _, _, _, _ => none
  | n + 1, l3, l4, l6, h => cz_getR h l0 [(5, 6)] (fun r19 => cz_iald h r19 0 (fun x20 => (if x20 ≤ l6 then k0 l3 l4 h else cz_rc h l0 [5] (cz_cI (fn_X5_holder l0 l6 h) (fun x28 h27 => (if x28 = l1 then cz_leti (l3 ||| ((1 : Int32) <<< (l6 &&& 31))) (fun x29 => cz_getR h27 l0 [(5, 6)] (fun r30 => cz_iald h27 r30 ((8 : Int32) + l6) (fun x31 => cz_leti (l4 + x31) (fun x32 => cz_leti (l6 + 1) (fun x33 => fn_X5_man_43 l0 l1 k0 n x29 x32 x33 h27))))) else cz_leti (l6 + 1) (fun x34 => fn_X5_man_43 l0 l1 k0 n l3 l4 x34 h27)))))))
set_option maxHeartbeats 4000000 in
set_option maxRecDepth 100000 in
theorem wk_X5_man_43 {K : cz_K} {D : cz_D} {h0 : cz_H} {oh : cz_O × cz_H} {l0 : Option Nat} {l1 : Int32} {l2 : Int32} {l5 : Int32} {k0 : Int32 → Int32 → cz_H → cz_Z} (S : cz_S K D h0 cX5_man 7 "HeldCoatsModel" ((Option.some Jvm.ClassFile.FieldType.int)) "man" ([])) (hk0 : ∀ (e3 : Int32) (e4 : Int32) (h : cz_H), cz_T K D 6 h0 oh 7 (k0 e3 e4 h) h 95 [(0, cz_r l0), (1, cz_i l1), (2, cz_i l2), (3, cz_i e3), (4, cz_i e4), (5, cz_i l5)] []) : ∀ (n : Nat) (l3 : Int32) (l4 : Int32) (l6 : Int32) (h : cz_H), cz_T K D 6 h0 oh 7 (fn_X5_man_43 l0 l1 k0 n l3 l4 l6 h) h 43 [(0, cz_r l0), (1, cz_i l1), (2, cz_i l2), (3, cz_i l3), (4, cz_i l4), (5, cz_i l5), (6, cz_i l6)] [] := by
  intro n
  induction n with
  | zero => intros; exact ct_none
  | succ n ih =>
    intro l3 l4 l6 h
    rw [fn_X5_man_43]
    refine ct_iload (k := 6) S dX5_man_43 rfl ?_
    refine ct_aload_n (k := 0) S dX5_man_45 rfl rfl ?_
    refine ct_getR S fw_X5_33 dX5_man_46 (fun r19 => ?_)
    refine ct_iconst (v := 0) S dX5_man_49 kI_0 ?_
    refine ct_iald S dX5_man_50 (fun x20 => ?_)
    refine ct_icmp_ge (tgt := 95) S dX5_man_51 (by decide) ?_ ?_
    · exact ct_sub [0, 1, 2, 3, 4, 5] rfl (hk0 l3 l4 h)
    · refine ct_aload_n (k := 0) S dX5_man_54 rfl rfl ?_
      refine ct_iload (k := 6) S dX5_man_55 rfl ?_
      refine ct_rc (fun b21 ci22 V23 hb24 hc25 hi26 => ?_)
      refine ct_cI (st := []) (cg_virtual (av := [cz_i l6]) S hb24 hc25 hi26 (fun _ e => mt_X5_holder e) md_X5_holder q2168 q2170 se_HeldCoatsModel_holder__I_I_HeldCoatsModel (by decide) (Nat.le_of_ble_eq_true rfl) rfl dX5_man_57) (fun x28 h27 => ?_)
      refine ct_iload_n (k := 1) S dX5_man_60 rfl rfl ?_
      refine ct_icmp_eq (tgt := 67) S dX5_man_61 (by decide) ?_ ?_
      · refine ct_iload_n (k := 3) S dX5_man_67 rfl rfl ?_
        refine ct_iconst (v := 1) S dX5_man_68 kI_1 ?_
        refine ct_iload (k := 6) S dX5_man_69 rfl ?_
        refine ct_ishl S dX5_man_71 ?_
        refine ct_ior S dX5_man_72 ?_
        refine ct_leti (fun x29 => ?_)
        refine ct_istore_n (L' := [(3, cz_i x29), (0, cz_r l0), (1, cz_i l1), (2, cz_i l2), (4, cz_i l4), (5, cz_i l5), (6, cz_i l6)]) S dX5_man_73 rfl (by decide) rfl ?_
        refine ct_iload (k := 4) S dX5_man_74 rfl ?_
        refine ct_aload_n (k := 1) S dX5_man_76 rfl rfl ?_
        refine ct_getR S fw_X5_33 dX5_man_77 (fun r30 => ?_)
        refine ct_bipush (v := 8) S dX5_man_80 kB_8 ?_
        refine ct_iload (k := 6) S dX5_man_82 rfl ?_
        refine ct_iadd S dX5_man_84 ?_
        refine ct_iald S dX5_man_85 (fun x31 => ?_)
        refine ct_iadd S dX5_man_86 ?_
        refine ct_leti (fun x32 => ?_)
        refine ct_istore (L' := [(4, cz_i x32), (3, cz_i x29), (0, cz_r l0), (1, cz_i l1), (2, cz_i l2), (5, cz_i l5), (6, cz_i l6)]) S dX5_man_87 (by decide) rfl ?_
        refine ct_iincL (j := 6) (L2 := fun x33 => [(6, cz_i x33), (4, cz_i x32), (3, cz_i x29), (0, cz_r l0), (1, cz_i l1), (2, cz_i l2), (5, cz_i l5)]) S dX5_man_89 rfl kI_1 (by decide) (fun _ => rfl) (fun x33 => ?_)
        refine ct_goto (tgt := 43) S dX5_man_92 (by decide) ?_
        exact ct_sub [3, 4, 5, 2, 1, 6, 0] rfl (ih x29 x32 x33 h27)
      · refine ct_goto (tgt := 89) S dX5_man_64 (by decide) ?_
        refine ct_iincL (j := 6) (L2 := fun x34 => [(6, cz_i x34), (0, cz_r l0), (1, cz_i l1), (2, cz_i l2), (3, cz_i l3), (4, cz_i l4), (5, cz_i l5)]) S dX5_man_89 rfl kI_1 (by decide) (fun _ => rfl) (fun x34 => ?_)
        refine ct_goto (tgt := 43) S dX5_man_92 (by decide) ?_
        exact ct_sub [1, 2, 3, 4, 5, 6, 0] rfl (ih l3 l4 x34 h27)
set_option maxHeartbeats 4000000 in
set_option maxRecDepth 100000 in
noncomputable def fn_X5_man_98 (l0 : Option Nat) (l1 : Int32) (k0 : Int32 → cz_H → cz_Z) : Nat → Int32 → Int32 → cz_H → cz_Z
  | 0, _, _, _ => none
  | n + 1, l5, l6, h => cz_getR h l0 [(5, 6)] (fun r38 => cz_iald h r38 2 (fun x39 => (if x39 ≤ l6 then k0 l5 h else cz_getR h l0 [(5, 6)] (fun r40 => cz_iald h r40 ((22 : Int32) + l6) (fun x41 => (if x41 = l1 then cz_getR h l0 [(5, 6)] (fun r44 => cz_iald h r44 ((65 : Int32) + l6) (fun x45 => (if x45 = 30 then cz_leti (l5 ||| 0) (fun x46 => cz_leti (l6 + 1) (fun x47 => fn_X5_man_98 l0 l1 k0 n x46 x47 h)) else cz_leti (l5 ||| ((1 : Int32) <<< (l6 &&& 31))) (fun x48 => cz_leti (l6 + 1) (fun x49 => fn_X5_man_98 l0 l1 k0 n x48 x49 h))))) else cz_leti (l5 ||| 0) (fun x42 => cz_leti (l6 + 1) (fun x43 => fn_X5_man_98 l0 l1 k0 n x42 x43 h))))))))
set_option maxHeartbeats 4000000 in
set_option maxRecDepth 100000 in
theorem wk_X5_man_98 {K : cz_K} {D : cz_D} {h0 : cz_H} {oh : cz_O × cz_H} {l0 : Option Nat} {l1 : Int32} {l2 : Int32} {l3 : Int32} {l4 : Int32} {k0 : Int32 → cz_H → cz_Z} (S : cz_S K D h0 cX5_man 7 "HeldCoatsModel" ((Option.some Jvm.ClassFile.FieldType.int)) "man" ([])) (hk0 : ∀ (e5 : Int32) (h : cz_H), cz_T K D 6 h0 oh 7 (k0 e5 h) h 157 [(0, cz_r l0), (1, cz_i l1), (2, cz_i l2), (3, cz_i l3), (4, cz_i l4), (5, cz_i e5)] []) : ∀ (n : Nat) (l5 : Int32) (l6 : Int32) (h : cz_H), cz_T K D 6 h0 oh 7 (fn_X5_man_98 l0 l1 k0 n l5 l6 h) h 98 [(0, cz_r l0), (1, cz_i l1), (2, cz_i l2), (3, cz_i l3), (4, cz_i l4), (5, cz_i l5), (6, cz_i l6)] [] := by
  intro n
  induction n with
  | zero => intros; exact ct_none
  | succ n ih =>
    intro l5 l6 h
    rw [fn_X5_man_98]
    refine ct_iload (k := 6) S dX5_man_98 rfl ?_
    refine ct_aload_n (k := 0) S dX5_man_100 rfl rfl ?_
    refine ct_getR S fw_X5_33 dX5_man_101 (fun r38 => ?_)
    refine ct_iconst (v := 2) S dX5_man_104 kI_2 ?_
    refine ct_iald S dX5_man_105 (fun x39 => ?_)
    refine ct_icmp_ge (tgt := 157) S dX5_man_106 (by decide) ?_ ?_
    · exact ct_sub [0, 1, 2, 3, 4, 5] rfl (hk0 l5 h)
    · refine ct_iload (k := 5) S dX5_man_109 rfl ?_
      refine ct_aload_n (k := 0) S dX5_man_111 rfl rfl ?_
      refine ct_getR S fw_X5_33 dX5_man_112 (fun r40 => ?_)
      refine ct_bipush (v := 22) S dX5_man_115 kB_22 ?_
      refine ct_iload (k := 6) S dX5_man_117 rfl ?_
      refine ct_iadd S dX5_man_119 ?_
      refine ct_iald S dX5_man_120 (fun x41 => ?_)
      refine ct_iload_n (k := 1) S dX5_man_121 rfl rfl ?_
      refine ct_icmp_ne (tgt := 147) S dX5_man_122 (by decide) ?_ ?_
      · refine ct_iconst (v := 0) S dX5_man_147 kI_0 ?_
        refine ct_ior S dX5_man_148 ?_
        refine ct_leti (fun x42 => ?_)
        refine ct_istore (L' := [(5, cz_i x42), (0, cz_r l0), (1, cz_i l1), (2, cz_i l2), (3, cz_i l3), (4, cz_i l4), (6, cz_i l6)]) S dX5_man_149 (by decide) rfl ?_
        refine ct_iincL (j := 6) (L2 := fun x43 => [(6, cz_i x43), (5, cz_i x42), (0, cz_r l0), (1, cz_i l1), (2, cz_i l2), (3, cz_i l3), (4, cz_i l4)]) S dX5_man_151 rfl kI_1 (by decide) (fun _ => rfl) (fun x43 => ?_)
        refine ct_goto (tgt := 98) S dX5_man_154 (by decide) ?_
        exact ct_sub [2, 3, 4, 5, 6, 1, 0] rfl (ih x42 x43 h)
      · refine ct_aload_n (k := 0) S dX5_man_125 rfl rfl ?_
        refine ct_getR S fw_X5_33 dX5_man_126 (fun r44 => ?_)
        refine ct_bipush (v := 65) S dX5_man_129 kB_65 ?_
        refine ct_iload (k := 6) S dX5_man_131 rfl ?_
        refine ct_iadd S dX5_man_133 ?_
        refine ct_iald S dX5_man_134 (fun x45 => ?_)
        refine ct_bipush (v := 30) S dX5_man_135 kB_30 ?_
        refine ct_icmp_eq (tgt := 147) S dX5_man_137 (by decide) ?_ ?_
        · refine ct_iconst (v := 0) S dX5_man_147 kI_0 ?_
          refine ct_ior S dX5_man_148 ?_
          refine ct_leti (fun x46 => ?_)
          refine ct_istore (L' := [(5, cz_i x46), (0, cz_r l0), (1, cz_i l1), (2, cz_i l2), (3, cz_i l3), (4, cz_i l4), (6, cz_i l6)]) S dX5_man_149 (by decide) rfl ?_
          refine ct_iincL (j := 6) (L2 := fun x47 => [(6, cz_i x47), (5, cz_i x46), (0, cz_r l0), (1, cz_i l1), (2, cz_i l2), (3, cz_i l3), (4, cz_i l4)]) S dX5_man_151 rfl kI_1 (by decide) (fun _ => rfl) (fun x47 => ?_)
          refine ct_goto (tgt := 98) S dX5_man_154 (by decide) ?_
          exact ct_sub [2, 3, 4, 5, 6, 1, 0] rfl (ih x46 x47 h)
        · refine ct_iconst (v := 1) S dX5_man_140 kI_1 ?_
          refine ct_iload (k := 6) S dX5_man_141 rfl ?_
          refine ct_ishl S dX5_man_143 ?_
          refine ct_goto (tgt := 148) S dX5_man_144 (by decide) ?_
          refine ct_ior S dX5_man_148 ?_
          refine ct_leti (fun x48 => ?_)
          refine ct_istore (L' := [(5, cz_i x48), (0, cz_r l0), (1, cz_i l1), (2, cz_i l2), (3, cz_i l3), (4, cz_i l4), (6, cz_i l6)]) S dX5_man_149 (by decide) rfl ?_
          refine ct_iincL (j := 6) (L2 := fun x49 => [(6, cz_i x49), (5, cz_i x48), (0, cz_r l0), (1, cz_i l1), (2, cz_i l2), (3, cz_i l3), (4, cz_i l4)]) S dX5_man_151 rfl kI_1 (by decide) (fun _ => rfl) (fun x49 => ?_)
          refine ct_goto (tgt := 98) S dX5_man_154 (by decide) ?_
          exact ct_sub [2, 3, 4, 5, 6, 1, 0] rfl (ih x48 x49 h)
set_option maxHeartbeats 4000000 in
set_option maxRecDepth 100000 in
noncomputable def fn_X5_man (l0 : Option Nat) (l1 : Int32) (l2 : Int32) (h : cz_H) : cz_Z := cz_rc h l0 [5] (cz_cI (fn_X5_isMan l0 l1 h) (fun x8 h7 => cz_jn (fun (v9 : Int32) (h10 : cz_H) => cz_rc h10 l0 [5] (cz_cI (fn_X5_throwsIf l0 v9 h10) (fun x18 h17 => (if x18 = 0 then fn_X5_man_43 l0 l1 (fun (e35 : Int32) (e36 : Int32) (h37 : cz_H) => fn_X5_man_98 l0 l1 (fun (e50 : Int32) (h51 : cz_H) => (if l2 = 0 then cz_getR h51 l0 [(5, 6)] (fun r72 => cz_iald h51 r72 ((16 : Int32) + l1) (fun x73 => some (.inl (some (cz_i x73)), h51))) else if l2 = 1 then cz_rc h51 l0 [5] (cz_cI (fn_X5_chill l0 l1 h51) (fun x71 h70 => some (.inl (some (cz_i x71)), h70))) else if l2 = 2 then cz_getR h51 l0 [(5, 6)] (fun r62 => cz_iald h51 r62 ((97 : Int32) + l1) (fun x63 => some (.inl (some (cz_i x63)), h51))) else if l2 = 3 then cz_rc h51 l0 [5] (cz_cI (fn_X5_coatsAt l0 l1 h51) (fun x61 h60 => some (.inl (some (cz_i x61)), h60))) else if l2 = 4 then some (.inl (some (cz_i e35)), h51) else if l2 = 5 then some (.inl (some (cz_i e36)), h51) else if l2 = 6 then cz_getR h51 l0 [(5, 6)] (fun r52 => cz_iald h51 r52 ((103 : Int32) + l1) (fun x53 => some (.inl (some (cz_i x53)), h51))) else some (.inl (some (cz_i e50)), h51))) 1000 0 0 h37) 1000 0 0 0 h17 else some (.inl (some (cz_i 0)), h17))))) (fun j74 => cz_jn (fun (h75 : cz_H) => j74 1 h75) (fun j76 => (if x8 = 0 then j76 h7 else cz_cI (fn_X5_isIn l2 0 7 h7) (fun x78 h77 => (if x78 = 0 then j76 h77 else j74 0 h77)))))))
set_option maxHeartbeats 4000000 in
set_option maxRecDepth 100000 in
theorem wk_X5_man {K : cz_K} {D : cz_D} {h0 : cz_H} {oh : cz_O × cz_H} {l0 : Option Nat} {l1 : Int32} {l2 : Int32} {h : cz_H} (S : cz_S K D h0 cX5_man 7 "HeldCoatsModel" ((Option.some Jvm.ClassFile.FieldType.int)) "man" ([])) : cz_T K D 6 h0 oh 7 (fn_X5_man l0 l1 l2 h) h 0 [(0, cz_r l0), (1, cz_i l1), (2, cz_i l2)] [] := by
  unfold fn_X5_man
  refine ct_aload_n (k := 0) S dX5_man_0 rfl rfl ?_
  refine ct_aload_n (k := 0) S dX5_man_1 rfl rfl ?_
  refine ct_iload_n (k := 1) S dX5_man_2 rfl rfl ?_
  refine ct_rc (fun b1 ci2 V3 hb4 hc5 hi6 => ?_)
  refine ct_cI (st := [cz_r l0]) (cg_virtual (av := [cz_i l1]) S hb4 hc5 hi6 (fun _ e => mt_X5_isMan e) md_X5_isMan q2188 q2190 se_HeldCoatsModel_isMan__I_Z_HeldCoatsModel (by decide) (Nat.le_of_ble_eq_true rfl) rfl dX5_man_3) (fun x8 h7 => ?_)
  refine ct_jnP (fun j74 => ∀ (v9 : Int32) (h10 : cz_H), cz_T K D 6 h0 oh 7 (j74 v9 h10) h10 24 [(0, cz_r l0), (1, cz_i l1), (2, cz_i l2)] [cz_i v9, cz_r l0]) (fun v9 h10 => ?_) (fun j74 Hj74 => ?_)
  · refine ct_rc (fun b11 ci12 V13 hb14 hc15 hi16 => ?_)
    refine ct_cI (st := []) (cg_virtual (av := [cz_i v9]) S hb14 hc15 hi16 (fun _ e => mt_X5_throwsIf e) md_X5_throwsIf q2192 q2194 se_HeldCoatsModel_throwsIf__Z_Z_HeldCoatsModel (by decide) (Nat.le_of_ble_eq_true rfl) rfl dX5_man_24) (fun x18 h17 => ?_)
    refine ct_if_eq (tgt := 32) S dX5_man_27 (by decide) ?_ ?_
    · refine ct_iconst (v := 0) S dX5_man_32 kI_0 ?_
      refine ct_istore_n (L' := [(3, cz_i 0), (0, cz_r l0), (1, cz_i l1), (2, cz_i l2)]) S dX5_man_33 rfl (by decide) rfl ?_
      refine ct_iconst (v := 0) S dX5_man_34 kI_0 ?_
      refine ct_istore (L' := [(4, cz_i 0), (3, cz_i 0), (0, cz_r l0), (1, cz_i l1), (2, cz_i l2)]) S dX5_man_35 (by decide) rfl ?_
      refine ct_iconst (v := 0) S dX5_man_37 kI_0 ?_
      refine ct_istore (L' := [(5, cz_i 0), (4, cz_i 0), (3, cz_i 0), (0, cz_r l0), (1, cz_i l1), (2, cz_i l2)]) S dX5_man_38 (by decide) rfl ?_
      refine ct_iconst (v := 0) S dX5_man_40 kI_0 ?_
      refine ct_istore (L' := [(6, cz_i 0), (5, cz_i 0), (4, cz_i 0), (3, cz_i 0), (0, cz_r l0), (1, cz_i l1), (2, cz_i l2)]) S dX5_man_41 (by decide) rfl ?_
      refine ct_sub [4, 5, 6, 3, 2, 1, 0] (L' := [(0, cz_r l0), (1, cz_i l1), (2, cz_i l2), (3, cz_i 0), (4, cz_i 0), (5, cz_i 0), (6, cz_i 0)]) rfl (wk_X5_man_43 S ?_ 1000 0 0 0 h17)
      · intro e35 e36 h37
        refine ct_iconst (v := 0) S dX5_man_95 kI_0 ?_
        refine ct_istore (L' := [(6, cz_i 0), (0, cz_r l0), (1, cz_i l1), (2, cz_i l2), (3, cz_i e35), (4, cz_i e36), (5, cz_i 0)]) S dX5_man_96 (by decide) rfl ?_
        refine ct_sub [1, 2, 3, 4, 5, 6, 0] (L' := [(0, cz_r l0), (1, cz_i l1), (2, cz_i l2), (3, cz_i e35), (4, cz_i e36), (5, cz_i 0), (6, cz_i 0)]) rfl (wk_X5_man_98 S ?_ 1000 0 0 h37)
        · intro e50 h51
          refine ct_iload_n (k := 2) S dX5_man_157 rfl rfl ?_
          refine ct_case ?_ (fun c0_ => ?_)
          · refine ct_tableIn (tgt := 200) S dX5_man_158 (by decide) (by decide) rfl (by decide) ?_
            refine ct_aload_n (k := 0) S dX5_man_200 rfl rfl ?_
            refine ct_getR S fw_X5_33 dX5_man_201 (fun r72 => ?_)
            refine ct_bipush (v := 16) S dX5_man_204 kB_16 ?_
            refine ct_iload_n (k := 1) S dX5_man_206 rfl rfl ?_
            refine ct_iadd S dX5_man_207 ?_
            refine ct_iald S dX5_man_208 (fun x73 => ?_)
            exact ct_iret S rfl dX5_man_209
          · refine ct_case ?_ (fun c1_ => ?_)
            · refine ct_tableIn (tgt := 210) S dX5_man_158 (by decide) (by decide) rfl (by decide) ?_
              refine ct_aload_n (k := 0) S dX5_man_210 rfl rfl ?_
              refine ct_iload_n (k := 1) S dX5_man_211 rfl rfl ?_
              refine ct_rc (fun b64 ci65 V66 hb67 hc68 hi69 => ?_)
              refine ct_cI (st := []) (cg_virtual (av := [cz_i l1]) S hb67 hc68 hi69 (fun _ e => mt_X5_chill e) md_X5_chill q2196 q2198 se_HeldCoatsModel_chill__I_I_HeldCoatsModel (by decide) (Nat.le_of_ble_eq_true rfl) rfl dX5_man_212) (fun x71 h70 => ?_)
              exact ct_iret S rfl dX5_man_215
            · refine ct_case ?_ (fun c2_ => ?_)
              · refine ct_tableIn (tgt := 216) S dX5_man_158 (by decide) (by decide) rfl (by decide) ?_
                refine ct_aload_n (k := 0) S dX5_man_216 rfl rfl ?_
                refine ct_getR S fw_X5_33 dX5_man_217 (fun r62 => ?_)
                refine ct_bipush (v := 97) S dX5_man_220 kB_97 ?_
                refine ct_iload_n (k := 1) S dX5_man_222 rfl rfl ?_
                refine ct_iadd S dX5_man_223 ?_
                refine ct_iald S dX5_man_224 (fun x63 => ?_)
                exact ct_iret S rfl dX5_man_225
              · refine ct_case ?_ (fun c3_ => ?_)
                · refine ct_tableIn (tgt := 226) S dX5_man_158 (by decide) (by decide) rfl (by decide) ?_
                  refine ct_aload_n (k := 0) S dX5_man_226 rfl rfl ?_
                  refine ct_iload_n (k := 1) S dX5_man_227 rfl rfl ?_
                  refine ct_rc (fun b54 ci55 V56 hb57 hc58 hi59 => ?_)
                  refine ct_cI (st := []) (cg_virtual (av := [cz_i l1]) S hb57 hc58 hi59 (fun _ e => mt_X5_coatsAt e) md_X5_coatsAt q2200 q2202 se_HeldCoatsModel_coatsAt__I_I_HeldCoatsModel (by decide) (Nat.le_of_ble_eq_true rfl) rfl dX5_man_228) (fun x61 h60 => ?_)
                  exact ct_iret S rfl dX5_man_231
                · refine ct_case ?_ (fun c4_ => ?_)
                  · refine ct_tableIn (tgt := 232) S dX5_man_158 (by decide) (by decide) rfl (by decide) ?_
                    refine ct_iload_n (k := 3) S dX5_man_232 rfl rfl ?_
                    exact ct_iret S rfl dX5_man_233
                  · refine ct_case ?_ (fun c5_ => ?_)
                    · refine ct_tableIn (tgt := 234) S dX5_man_158 (by decide) (by decide) rfl (by decide) ?_
                      refine ct_iload (k := 4) S dX5_man_234 rfl ?_
                      exact ct_iret S rfl dX5_man_236
                    · refine ct_case ?_ (fun c6_ => ?_)
                      · refine ct_tableIn (tgt := 237) S dX5_man_158 (by decide) (by decide) rfl (by decide) ?_
                        refine ct_aload_n (k := 0) S dX5_man_237 rfl rfl ?_
                        refine ct_getR S fw_X5_33 dX5_man_238 (fun r52 => ?_)
                        refine ct_bipush (v := 103) S dX5_man_241 kB_103 ?_
                        refine ct_iload_n (k := 1) S dX5_man_243 rfl rfl ?_
                        refine ct_iadd S dX5_man_244 ?_
                        refine ct_iald S dX5_man_245 (fun x53 => ?_)
                        exact ct_iret S rfl dX5_man_246
                      · refine ct_tableOut (tgt := 247) S dX5_man_158 (by have := lv_neT c0_ (show (0 : Int32).toInt = 0 by decide); have := lv_neT c1_ (show (1 : Int32).toInt = 1 by decide); have := lv_neT c2_ (show (2 : Int32).toInt = 2 by decide); have := lv_neT c3_ (show (3 : Int32).toInt = 3 by decide); have := lv_neT c4_ (show (4 : Int32).toInt = 4 by decide); have := lv_neT c5_ (show (5 : Int32).toInt = 5 by decide); have := lv_neT c6_ (show (6 : Int32).toInt = 6 by decide); omega) (by decide) ?_
                        refine ct_iload (k := 5) S dX5_man_247 rfl ?_
                        exact ct_iret S rfl dX5_man_249
    · refine ct_iconst (v := 0) S dX5_man_30 kI_0 ?_
      exact ct_iret S rfl dX5_man_31
  · refine ct_jnP (fun j76 => ∀ (h75 : cz_H), cz_T K D 6 h0 oh 7 (j76 h75) h75 19 [(0, cz_r l0), (1, cz_i l1), (2, cz_i l2)] [cz_r l0]) (fun h75 => ?_) (fun j76 Hj76 => ?_)
    · refine ct_iconst (v := 1) S dX5_man_19 kI_1 ?_
      refine ct_goto (tgt := 24) S dX5_man_20 (by decide) ?_
      exact Hj74 1 h75
    · refine ct_if_eq (tgt := 19) S dX5_man_6 (by decide) ?_ ?_
      · exact Hj76 h7
      · refine ct_iload_n (k := 2) S dX5_man_9 rfl rfl ?_
        refine ct_iconst (v := 0) S dX5_man_10 kI_0 ?_
        refine ct_bipush (v := 7) S dX5_man_11 kB_7 ?_
        refine ct_cI (st := [cz_r l0]) (cg_static (av := [cz_i l2, cz_i 0, cz_i 7]) S (fun _ e => mt_X5_isIn e) md_X5_isIn (Or.inl q2122) q2123 (by decide) (Nat.le_of_ble_eq_true rfl) rfl dX5_man_13) (fun x78 h77 => ?_)
        refine ct_if_ne (tgt := 23) S dX5_man_16 (by decide) ?_ ?_
        · refine ct_iconst (v := 0) S dX5_man_23 kI_0 ?_
          exact Hj74 0 h77
        · exact Hj76 h77
theorem mt_X5_man {l : Launch} {D : cz_D} {l0 : Option Nat} {l1 : Int32} {l2 : Int32} {h : cz_H} {oh : cz_O × cz_H} (hz : fn_X5_man l0 l1 l2 h = some oh) : cz_M l D yX5_man (ws_ yX5_man cX5_man 7 ((Option.some Jvm.ClassFile.FieldType.int))) 6 [cz_r l0, cz_i l1, cz_i l2] h oh := cz_met (plainFor_of_name (by decide)) (Nat.le_of_ble_eq_true rfl) hz (fun K hl S => wk_X5_man S)
/-! HeldCoatsModel.never()I -/
def dkwX5_never_0 : List UInt8 := [42, 3, 181, 0, 1, 42, 180, 1, 113, 153, 0, 10, 42, 180, 1, 119, 167, 0, 4, 2, 172]
abbrev dktX5_never_0 : List UInt8 := dkwX5_never_0 ++ []
theorem dksX5_never_0 : cX5_never.data.toList.drop 0 = dktX5_never_0 := by decide +kernel
theorem dX5_never_0 : decode cX5_never 0 = .ok (.aload_n 0, 1) := dk_42 (dk_at dksX5_never_0 0 rfl rfl)
theorem dX5_never_1 : decode cX5_never 1 = .ok (.iconst 0, 1) := dk_3 (dk_at dksX5_never_0 1 rfl rfl)
theorem dX5_never_2 : decode cX5_never 2 = .ok (.putfield 1, 3) := dk_181 0 1 (dk_at dksX5_never_0 2 rfl rfl)
theorem dX5_never_5 : decode cX5_never 5 = .ok (.aload_n 0, 1) := dk_42 (dk_at dksX5_never_0 5 rfl rfl)
theorem dX5_never_6 : decode cX5_never 6 = .ok (.getfield 369, 3) := dk_180 1 113 (dk_at dksX5_never_0 6 rfl rfl)
theorem dX5_never_9 : decode cX5_never 9 = .ok (.ifCond .eq 10, 3) := dk_153 0 10 (dk_at dksX5_never_0 9 rfl rfl)
theorem dX5_never_12 : decode cX5_never 12 = .ok (.aload_n 0, 1) := dk_42 (dk_at dksX5_never_0 12 rfl rfl)
theorem dX5_never_13 : decode cX5_never 13 = .ok (.getfield 375, 3) := dk_180 1 119 (dk_at dksX5_never_0 13 rfl rfl)
theorem dX5_never_16 : decode cX5_never 16 = .ok (.goto 4, 3) := dk_167 0 4 (dk_at dksX5_never_0 16 rfl rfl)
theorem dX5_never_19 : decode cX5_never 19 = .ok (.iconst (-1), 1) := dk_2 (dk_at dksX5_never_0 19 rfl rfl)
theorem dX5_never_20 : decode cX5_never 20 = .ok (.ireturn, 1) := dk_172 (dk_at dksX5_never_0 20 rfl rfl)
set_option maxHeartbeats 4000000 in
set_option maxRecDepth 100000 in
noncomputable def fn_X5_never (l0 : Option Nat) (h : cz_H) : cz_Z := cz_put h l0 [(5, 0)] (cz_i 0) (fun h1 => cz_getI h1 l0 [(5, 31)] (fun x2 => (if x2 = 0 then some (.inl (some (cz_i (-1))), h1) else cz_getI h1 l0 [(5, 30)] (fun x3 => some (.inl (some (cz_i x3)), h1)))))
set_option maxHeartbeats 4000000 in
set_option maxRecDepth 100000 in
theorem wk_X5_never {K : cz_K} {D : cz_D} {h0 : cz_H} {oh : cz_O × cz_H} {l0 : Option Nat} {h : cz_H} (S : cz_S K D h0 cX5_never 1 "HeldCoatsModel" ((Option.some Jvm.ClassFile.FieldType.int)) "never" ([])) : cz_T K D 2 h0 oh 1 (fn_X5_never l0 h) h 0 [(0, cz_r l0)] [] := by
  unfold fn_X5_never
  refine ct_aload_n (k := 0) S dX5_never_0 rfl rfl ?_
  refine ct_iconst (v := 0) S dX5_never_1 kI_0 ?_
  refine ct_put S fw_X5_1 fp_X5_m_5_0 (cz_fits_i pd_I) dX5_never_2 (fun h1 => ?_)
  refine ct_aload_n (k := 0) S dX5_never_5 rfl rfl ?_
  refine ct_getI S fw_X5_369 dX5_never_6 (fun x2 => ?_)
  refine ct_if_eq (tgt := 19) S dX5_never_9 (by decide) ?_ ?_
  · refine ct_iconst (v := (-1)) S dX5_never_19 kI_m1 ?_
    exact ct_iret S rfl dX5_never_20
  · refine ct_aload_n (k := 0) S dX5_never_12 rfl rfl ?_
    refine ct_getI S fw_X5_375 dX5_never_13 (fun x3 => ?_)
    refine ct_goto (tgt := 20) S dX5_never_16 (by decide) ?_
    exact ct_iret S rfl dX5_never_20
theorem mt_X5_never {l : Launch} {D : cz_D} {l0 : Option Nat} {h : cz_H} {oh : cz_O × cz_H} (hz : fn_X5_never l0 h = some oh) : cz_M l D yX5_never (ws_ yX5_never cX5_never 1 ((Option.some Jvm.ClassFile.FieldType.int))) 2 [cz_r l0] h oh := cz_met (plainFor_of_name (by decide)) (Nat.le_of_ble_eq_true rfl) hz (fun K hl S => wk_X5_never S)
/-! HeldCoatsModel.now(I)I -/
def dkwX5_now_5 : List UInt8 := [2, 172]
abbrev dktX5_now_5 : List UInt8 := dkwX5_now_5 ++ []
def dkwX5_now_4 : List UInt8 := [180, 0, 33, 16, 64, 46, 4, 100, 172, 42, 180, 0, 33, 16, 117, 46, 172, 42, 16, 30, 182, 0, 253, 172]
abbrev dktX5_now_4 : List UInt8 := dkwX5_now_4 ++ dktX5_now_5
def dkwX5_now_3 : List UInt8 := [153, 0, 7, 4, 167, 0, 4, 3, 172, 42, 182, 1, 27, 172, 42, 180, 0, 33, 16, 63, 46, 172, 42]
abbrev dktX5_now_3 : List UInt8 := dkwX5_now_3 ++ dktX5_now_4
def dkwX5_now_2 : List UInt8 := [42, 180, 0, 33, 16, 62, 46, 172, 42, 42, 180, 0, 33, 16, 62, 46, 182, 0, 234, 172, 42, 182, 0, 241]
abbrev dktX5_now_2 : List UInt8 := dkwX5_now_2 ++ dktX5_now_3
def dkwX5_now_1 : List UInt8 := [170, 0, 0, 0, 0, 117, 0, 0, 0, 0, 0, 0, 0, 7, 0, 0, 0, 46, 0, 0, 0, 54, 0, 0, 0, 66, 0, 0, 0, 79, 0, 0, 0, 84, 0, 0, 0, 92, 0, 0, 0, 102, 0, 0, 0, 110]
abbrev dktX5_now_1 : List UInt8 := dkwX5_now_1 ++ dktX5_now_2
def dkwX5_now_0 : List UInt8 := [42, 3, 181, 0, 1, 27]
abbrev dktX5_now_0 : List UInt8 := dkwX5_now_0 ++ dktX5_now_1
theorem dksX5_now_0 : cX5_now.data.toList.drop 0 = dktX5_now_0 := by decide +kernel
theorem dksX5_now_1 : cX5_now.data.toList.drop 6 = dktX5_now_1 := dk_seg dksX5_now_0 6 rfl rfl
theorem dksX5_now_2 : cX5_now.data.toList.drop 52 = dktX5_now_2 := dk_seg dksX5_now_1 46 rfl rfl
theorem dksX5_now_3 : cX5_now.data.toList.drop 76 = dktX5_now_3 := dk_seg dksX5_now_2 24 rfl rfl
theorem dksX5_now_4 : cX5_now.data.toList.drop 99 = dktX5_now_4 := dk_seg dksX5_now_3 23 rfl rfl
theorem dksX5_now_5 : cX5_now.data.toList.drop 123 = dktX5_now_5 := dk_seg dksX5_now_4 24 rfl rfl
theorem dX5_now_0 : decode cX5_now 0 = .ok (.aload_n 0, 1) := dk_42 (dk_at dksX5_now_0 0 rfl rfl)
theorem dX5_now_1 : decode cX5_now 1 = .ok (.iconst 0, 1) := dk_3 (dk_at dksX5_now_0 1 rfl rfl)
theorem dX5_now_2 : decode cX5_now 2 = .ok (.putfield 1, 3) := dk_181 0 1 (dk_at dksX5_now_0 2 rfl rfl)
theorem dX5_now_5 : decode cX5_now 5 = .ok (.iload_n 1, 1) := dk_27 (dk_at dksX5_now_0 5 rfl rfl)
theorem dX5_now_6 : decode cX5_now 6 = .ok (.tableswitch 117 0 7 #[46, 54, 66, 79, 84, 92, 102, 110], 46) := by decide +kernel
theorem dX5_now_52 : decode cX5_now 52 = .ok (.aload_n 0, 1) := dk_42 (dk_at dksX5_now_2 0 rfl rfl)
theorem dX5_now_53 : decode cX5_now 53 = .ok (.getfield 33, 3) := dk_180 0 33 (dk_at dksX5_now_2 1 rfl rfl)
theorem dX5_now_56 : decode cX5_now 56 = .ok (.bipush 62, 2) := dk_16 62 (dk_at dksX5_now_2 4 rfl rfl)
theorem dX5_now_58 : decode cX5_now 58 = .ok (.iaload, 1) := dk_46 (dk_at dksX5_now_2 6 rfl rfl)
theorem dX5_now_59 : decode cX5_now 59 = .ok (.ireturn, 1) := dk_172 (dk_at dksX5_now_2 7 rfl rfl)
theorem dX5_now_60 : decode cX5_now 60 = .ok (.aload_n 0, 1) := dk_42 (dk_at dksX5_now_2 8 rfl rfl)
theorem dX5_now_61 : decode cX5_now 61 = .ok (.aload_n 0, 1) := dk_42 (dk_at dksX5_now_2 9 rfl rfl)
theorem dX5_now_62 : decode cX5_now 62 = .ok (.getfield 33, 3) := dk_180 0 33 (dk_at dksX5_now_2 10 rfl rfl)
theorem dX5_now_65 : decode cX5_now 65 = .ok (.bipush 62, 2) := dk_16 62 (dk_at dksX5_now_2 13 rfl rfl)
theorem dX5_now_67 : decode cX5_now 67 = .ok (.iaload, 1) := dk_46 (dk_at dksX5_now_2 15 rfl rfl)
theorem dX5_now_68 : decode cX5_now 68 = .ok (.invokevirtual 234, 3) := dk_182 0 234 (dk_at dksX5_now_2 16 rfl rfl)
theorem dX5_now_71 : decode cX5_now 71 = .ok (.ireturn, 1) := dk_172 (dk_at dksX5_now_2 19 rfl rfl)
theorem dX5_now_72 : decode cX5_now 72 = .ok (.aload_n 0, 1) := dk_42 (dk_at dksX5_now_2 20 rfl rfl)
theorem dX5_now_73 : decode cX5_now 73 = .ok (.invokevirtual 241, 3) := dk_182 0 241 (dk_at dksX5_now_2 21 rfl rfl)
theorem dX5_now_76 : decode cX5_now 76 = .ok (.ifCond .eq 7, 3) := dk_153 0 7 (dk_at dksX5_now_3 0 rfl rfl)
theorem dX5_now_79 : decode cX5_now 79 = .ok (.iconst 1, 1) := dk_4 (dk_at dksX5_now_3 3 rfl rfl)
theorem dX5_now_80 : decode cX5_now 80 = .ok (.goto 4, 3) := dk_167 0 4 (dk_at dksX5_now_3 4 rfl rfl)
theorem dX5_now_83 : decode cX5_now 83 = .ok (.iconst 0, 1) := dk_3 (dk_at dksX5_now_3 7 rfl rfl)
theorem dX5_now_84 : decode cX5_now 84 = .ok (.ireturn, 1) := dk_172 (dk_at dksX5_now_3 8 rfl rfl)
theorem dX5_now_85 : decode cX5_now 85 = .ok (.aload_n 0, 1) := dk_42 (dk_at dksX5_now_3 9 rfl rfl)
theorem dX5_now_86 : decode cX5_now 86 = .ok (.invokevirtual 283, 3) := dk_182 1 27 (dk_at dksX5_now_3 10 rfl rfl)
theorem dX5_now_89 : decode cX5_now 89 = .ok (.ireturn, 1) := dk_172 (dk_at dksX5_now_3 13 rfl rfl)
theorem dX5_now_90 : decode cX5_now 90 = .ok (.aload_n 0, 1) := dk_42 (dk_at dksX5_now_3 14 rfl rfl)
theorem dX5_now_91 : decode cX5_now 91 = .ok (.getfield 33, 3) := dk_180 0 33 (dk_at dksX5_now_3 15 rfl rfl)
theorem dX5_now_94 : decode cX5_now 94 = .ok (.bipush 63, 2) := dk_16 63 (dk_at dksX5_now_3 18 rfl rfl)
theorem dX5_now_96 : decode cX5_now 96 = .ok (.iaload, 1) := dk_46 (dk_at dksX5_now_3 20 rfl rfl)
theorem dX5_now_97 : decode cX5_now 97 = .ok (.ireturn, 1) := dk_172 (dk_at dksX5_now_3 21 rfl rfl)
theorem dX5_now_98 : decode cX5_now 98 = .ok (.aload_n 0, 1) := dk_42 (dk_at dksX5_now_3 22 rfl rfl)
theorem dX5_now_99 : decode cX5_now 99 = .ok (.getfield 33, 3) := dk_180 0 33 (dk_at dksX5_now_4 0 rfl rfl)
theorem dX5_now_102 : decode cX5_now 102 = .ok (.bipush 64, 2) := dk_16 64 (dk_at dksX5_now_4 3 rfl rfl)
theorem dX5_now_104 : decode cX5_now 104 = .ok (.iaload, 1) := dk_46 (dk_at dksX5_now_4 5 rfl rfl)
theorem dX5_now_105 : decode cX5_now 105 = .ok (.iconst 1, 1) := dk_4 (dk_at dksX5_now_4 6 rfl rfl)
theorem dX5_now_106 : decode cX5_now 106 = .ok (.isub, 1) := dk_100 (dk_at dksX5_now_4 7 rfl rfl)
theorem dX5_now_107 : decode cX5_now 107 = .ok (.ireturn, 1) := dk_172 (dk_at dksX5_now_4 8 rfl rfl)
theorem dX5_now_108 : decode cX5_now 108 = .ok (.aload_n 0, 1) := dk_42 (dk_at dksX5_now_4 9 rfl rfl)
theorem dX5_now_109 : decode cX5_now 109 = .ok (.getfield 33, 3) := dk_180 0 33 (dk_at dksX5_now_4 10 rfl rfl)
theorem dX5_now_112 : decode cX5_now 112 = .ok (.bipush 117, 2) := dk_16 117 (dk_at dksX5_now_4 13 rfl rfl)
theorem dX5_now_114 : decode cX5_now 114 = .ok (.iaload, 1) := dk_46 (dk_at dksX5_now_4 15 rfl rfl)
theorem dX5_now_115 : decode cX5_now 115 = .ok (.ireturn, 1) := dk_172 (dk_at dksX5_now_4 16 rfl rfl)
theorem dX5_now_116 : decode cX5_now 116 = .ok (.aload_n 0, 1) := dk_42 (dk_at dksX5_now_4 17 rfl rfl)
theorem dX5_now_117 : decode cX5_now 117 = .ok (.bipush 30, 2) := dk_16 30 (dk_at dksX5_now_4 18 rfl rfl)
theorem dX5_now_119 : decode cX5_now 119 = .ok (.invokevirtual 253, 3) := dk_182 0 253 (dk_at dksX5_now_4 20 rfl rfl)
theorem dX5_now_122 : decode cX5_now 122 = .ok (.ireturn, 1) := dk_172 (dk_at dksX5_now_4 23 rfl rfl)
theorem dX5_now_123 : decode cX5_now 123 = .ok (.iconst (-1), 1) := dk_2 (dk_at dksX5_now_5 0 rfl rfl)
theorem dX5_now_124 : decode cX5_now 124 = .ok (.ireturn, 1) := dk_172 (dk_at dksX5_now_5 1 rfl rfl)
set_option maxHeartbeats 4000000 in
set_option maxRecDepth 100000 in
noncomputable def fn_X5_now (l0 : Option Nat) (l1 : Int32) (h : cz_H) : cz_Z := cz_put h l0 [(5, 0)] (cz_i 0) (fun h1 => (if l1 = 0 then cz_getR h1 l0 [(5, 6)] (fun r42 => cz_iald h1 r42 62 (fun x43 => some (.inl (some (cz_i x43)), h1))) else if l1 = 1 then cz_getR h1 l0 [(5, 6)] (fun r32 => cz_iald h1 r32 62 (fun x33 => cz_rc h1 l0 [5] (cz_cI (fn_X5_coldOn l0 x33 h1) (fun x41 h40 => some (.inl (some (cz_i x41)), h40))))) else if l1 = 2 then cz_rc h1 l0 [5] (cz_cI (fn_X5_isSummer l0 h1) (fun x31 h30 => (if x31 = 0 then some (.inl (some (cz_i 0)), h30) else some (.inl (some (cz_i 1)), h30)))) else if l1 = 3 then cz_rc h1 l0 [5] (cz_cI (fn_X5_ruler l0 h1) (fun x23 h22 => some (.inl (some (cz_i x23)), h22))) else if l1 = 4 then cz_getR h1 l0 [(5, 6)] (fun r14 => cz_iald h1 r14 63 (fun x15 => some (.inl (some (cz_i x15)), h1))) else if l1 = 5 then cz_getR h1 l0 [(5, 6)] (fun r12 => cz_iald h1 r12 64 (fun x13 => some (.inl (some (cz_i (x13 - 1))), h1))) else if l1 = 6 then cz_getR h1 l0 [(5, 6)] (fun r10 => cz_iald h1 r10 117 (fun x11 => some (.inl (some (cz_i x11)), h1))) else if l1 = 7 then cz_rc h1 l0 [5] (cz_cI (fn_X5_coatsAt l0 30 h1) (fun x9 h8 => some (.inl (some (cz_i x9)), h8))) else some (.inl (some (cz_i (-1))), h1)))
set_option maxHeartbeats 4000000 in
set_option maxRecDepth 100000 in
theorem wk_X5_now {K : cz_K} {D : cz_D} {h0 : cz_H} {oh : cz_O × cz_H} {l0 : Option Nat} {l1 : Int32} {h : cz_H} (S : cz_S K D h0 cX5_now 2 "HeldCoatsModel" ((Option.some Jvm.ClassFile.FieldType.int)) "now" ([])) : cz_T K D 6 h0 oh 2 (fn_X5_now l0 l1 h) h 0 [(0, cz_r l0), (1, cz_i l1)] [] := by
  unfold fn_X5_now
  refine ct_aload_n (k := 0) S dX5_now_0 rfl rfl ?_
  refine ct_iconst (v := 0) S dX5_now_1 kI_0 ?_
  refine ct_put S fw_X5_1 fp_X5_m_5_0 (cz_fits_i pd_I) dX5_now_2 (fun h1 => ?_)
  refine ct_iload_n (k := 1) S dX5_now_5 rfl rfl ?_
  refine ct_case ?_ (fun c0_ => ?_)
  · refine ct_tableIn (tgt := 52) S dX5_now_6 (by decide) (by decide) rfl (by decide) ?_
    refine ct_aload_n (k := 0) S dX5_now_52 rfl rfl ?_
    refine ct_getR S fw_X5_33 dX5_now_53 (fun r42 => ?_)
    refine ct_bipush (v := 62) S dX5_now_56 kB_62 ?_
    refine ct_iald S dX5_now_58 (fun x43 => ?_)
    exact ct_iret S rfl dX5_now_59
  · refine ct_case ?_ (fun c1_ => ?_)
    · refine ct_tableIn (tgt := 60) S dX5_now_6 (by decide) (by decide) rfl (by decide) ?_
      refine ct_aload_n (k := 0) S dX5_now_60 rfl rfl ?_
      refine ct_aload_n (k := 0) S dX5_now_61 rfl rfl ?_
      refine ct_getR S fw_X5_33 dX5_now_62 (fun r32 => ?_)
      refine ct_bipush (v := 62) S dX5_now_65 kB_62 ?_
      refine ct_iald S dX5_now_67 (fun x33 => ?_)
      refine ct_rc (fun b34 ci35 V36 hb37 hc38 hi39 => ?_)
      refine ct_cI (st := []) (cg_virtual (av := [cz_i x33]) S hb37 hc38 hi39 (fun _ e => mt_X5_coldOn e) md_X5_coldOn q2176 q2178 se_HeldCoatsModel_coldOn__I_I_HeldCoatsModel (by decide) (Nat.le_of_ble_eq_true rfl) rfl dX5_now_68) (fun x41 h40 => ?_)
      exact ct_iret S rfl dX5_now_71
    · refine ct_case ?_ (fun c2_ => ?_)
      · refine ct_tableIn (tgt := 72) S dX5_now_6 (by decide) (by decide) rfl (by decide) ?_
        refine ct_aload_n (k := 0) S dX5_now_72 rfl rfl ?_
        refine ct_rc (fun b24 ci25 V26 hb27 hc28 hi29 => ?_)
        refine ct_cI (st := []) (cg_virtual (av := []) S hb27 hc28 hi29 (fun _ e => mt_X5_isSummer e) md_X5_isSummer q2172 q2174 se_HeldCoatsModel_isSummer___Z_HeldCoatsModel (by decide) (Nat.le_of_ble_eq_true rfl) rfl dX5_now_73) (fun x31 h30 => ?_)
        refine ct_if_eq (tgt := 83) S dX5_now_76 (by decide) ?_ ?_
        · refine ct_iconst (v := 0) S dX5_now_83 kI_0 ?_
          exact ct_iret S rfl dX5_now_84
        · refine ct_iconst (v := 1) S dX5_now_79 kI_1 ?_
          refine ct_goto (tgt := 84) S dX5_now_80 (by decide) ?_
          exact ct_iret S rfl dX5_now_84
      · refine ct_case ?_ (fun c3_ => ?_)
        · refine ct_tableIn (tgt := 85) S dX5_now_6 (by decide) (by decide) rfl (by decide) ?_
          refine ct_aload_n (k := 0) S dX5_now_85 rfl rfl ?_
          refine ct_rc (fun b16 ci17 V18 hb19 hc20 hi21 => ?_)
          refine ct_cI (st := []) (cg_virtual (av := []) S hb19 hc20 hi21 (fun _ e => mt_X5_ruler e) md_X5_ruler q2227 q2229 se_HeldCoatsModel_ruler___I_HeldCoatsModel (by decide) (Nat.le_of_ble_eq_true rfl) rfl dX5_now_86) (fun x23 h22 => ?_)
          exact ct_iret S rfl dX5_now_89
        · refine ct_case ?_ (fun c4_ => ?_)
          · refine ct_tableIn (tgt := 90) S dX5_now_6 (by decide) (by decide) rfl (by decide) ?_
            refine ct_aload_n (k := 0) S dX5_now_90 rfl rfl ?_
            refine ct_getR S fw_X5_33 dX5_now_91 (fun r14 => ?_)
            refine ct_bipush (v := 63) S dX5_now_94 kB_63 ?_
            refine ct_iald S dX5_now_96 (fun x15 => ?_)
            exact ct_iret S rfl dX5_now_97
          · refine ct_case ?_ (fun c5_ => ?_)
            · refine ct_tableIn (tgt := 98) S dX5_now_6 (by decide) (by decide) rfl (by decide) ?_
              refine ct_aload_n (k := 0) S dX5_now_98 rfl rfl ?_
              refine ct_getR S fw_X5_33 dX5_now_99 (fun r12 => ?_)
              refine ct_bipush (v := 64) S dX5_now_102 kB_64 ?_
              refine ct_iald S dX5_now_104 (fun x13 => ?_)
              refine ct_iconst (v := 1) S dX5_now_105 kI_1 ?_
              refine ct_isub S dX5_now_106 ?_
              exact ct_iret S rfl dX5_now_107
            · refine ct_case ?_ (fun c6_ => ?_)
              · refine ct_tableIn (tgt := 108) S dX5_now_6 (by decide) (by decide) rfl (by decide) ?_
                refine ct_aload_n (k := 0) S dX5_now_108 rfl rfl ?_
                refine ct_getR S fw_X5_33 dX5_now_109 (fun r10 => ?_)
                refine ct_bipush (v := 117) S dX5_now_112 kB_117 ?_
                refine ct_iald S dX5_now_114 (fun x11 => ?_)
                exact ct_iret S rfl dX5_now_115
              · refine ct_case ?_ (fun c7_ => ?_)
                · refine ct_tableIn (tgt := 116) S dX5_now_6 (by decide) (by decide) rfl (by decide) ?_
                  refine ct_aload_n (k := 0) S dX5_now_116 rfl rfl ?_
                  refine ct_bipush (v := 30) S dX5_now_117 kB_30 ?_
                  refine ct_rc (fun b2 ci3 V4 hb5 hc6 hi7 => ?_)
                  refine ct_cI (st := []) (cg_virtual (av := [cz_i 30]) S hb5 hc6 hi7 (fun _ e => mt_X5_coatsAt e) md_X5_coatsAt q2200 q2202 se_HeldCoatsModel_coatsAt__I_I_HeldCoatsModel (by decide) (Nat.le_of_ble_eq_true rfl) rfl dX5_now_119) (fun x9 h8 => ?_)
                  exact ct_iret S rfl dX5_now_122
                · refine ct_tableOut (tgt := 123) S dX5_now_6 (by have := lv_neT c0_ (show (0 : Int32).toInt = 0 by decide); have := lv_neT c1_ (show (1 : Int32).toInt = 1 by decide); have := lv_neT c2_ (show (2 : Int32).toInt = 2 by decide); have := lv_neT c3_ (show (3 : Int32).toInt = 3 by decide); have := lv_neT c4_ (show (4 : Int32).toInt = 4 by decide); have := lv_neT c5_ (show (5 : Int32).toInt = 5 by decide); have := lv_neT c6_ (show (6 : Int32).toInt = 6 by decide); have := lv_neT c7_ (show (7 : Int32).toInt = 7 by decide); omega) (by decide) ?_
                  refine ct_iconst (v := (-1)) S dX5_now_123 kI_m1 ?_
                  exact ct_iret S rfl dX5_now_124
theorem mt_X5_now {l : Launch} {D : cz_D} {l0 : Option Nat} {l1 : Int32} {h : cz_H} {oh : cz_O × cz_H} (hz : fn_X5_now l0 l1 h = some oh) : cz_M l D yX5_now (ws_ yX5_now cX5_now 2 ((Option.some Jvm.ClassFile.FieldType.int))) 6 [cz_r l0, cz_i l1] h oh := cz_met (plainFor_of_name (by decide)) (Nat.le_of_ble_eq_true rfl) hz (fun K hl S => wk_X5_now S)
/-! HeldCoatsModel.odds(III)I -/
def dkwX5_odds_4 : List UInt8 := [54, 4, 42, 182, 1, 104, 132, 5, 1, 167, 255, 197, 21, 4, 172]
abbrev dktX5_odds_4 : List UInt8 := dkwX5_odds_4 ++ []
def dkwX5_odds_3 : List UInt8 := [87, 21, 4, 42, 180, 0, 33, 16, 103, 27, 96, 46, 21, 6, 164, 0, 7, 4, 167, 0, 4, 3, 96]
abbrev dktX5_odds_3 : List UInt8 := dkwX5_odds_3 ++ dktX5_odds_4
def dkwX5_odds_2 : List UInt8 := [162, 0, 59, 42, 180, 0, 33, 16, 103, 27, 96, 46, 54, 6, 42, 16, 20, 29, 21, 5, 96, 182, 1, 138]
abbrev dktX5_odds_2 : List UInt8 := dkwX5_odds_2 ++ dktX5_odds_3
def dkwX5_odds_1 : List UInt8 := [180, 0, 33, 5, 46, 154, 0, 5, 2, 172, 42, 182, 1, 101, 3, 54, 4, 3, 54, 5, 21, 5, 28]
abbrev dktX5_odds_1 : List UInt8 := dkwX5_odds_1 ++ dktX5_odds_2
def dkwX5_odds_0 : List UInt8 := [42, 3, 181, 0, 1, 42, 27, 182, 1, 14, 153, 0, 22, 28, 4, 16, 30, 184, 0, 171, 153, 0, 12, 42]
abbrev dktX5_odds_0 : List UInt8 := dkwX5_odds_0 ++ dktX5_odds_1
theorem dksX5_odds_0 : cX5_odds.data.toList.drop 0 = dktX5_odds_0 := by decide +kernel
theorem dksX5_odds_1 : cX5_odds.data.toList.drop 24 = dktX5_odds_1 := dk_seg dksX5_odds_0 24 rfl rfl
theorem dksX5_odds_2 : cX5_odds.data.toList.drop 47 = dktX5_odds_2 := dk_seg dksX5_odds_1 23 rfl rfl
theorem dksX5_odds_3 : cX5_odds.data.toList.drop 71 = dktX5_odds_3 := dk_seg dksX5_odds_2 24 rfl rfl
theorem dksX5_odds_4 : cX5_odds.data.toList.drop 94 = dktX5_odds_4 := dk_seg dksX5_odds_3 23 rfl rfl
theorem dX5_odds_0 : decode cX5_odds 0 = .ok (.aload_n 0, 1) := dk_42 (dk_at dksX5_odds_0 0 rfl rfl)
theorem dX5_odds_1 : decode cX5_odds 1 = .ok (.iconst 0, 1) := dk_3 (dk_at dksX5_odds_0 1 rfl rfl)
theorem dX5_odds_2 : decode cX5_odds 2 = .ok (.putfield 1, 3) := dk_181 0 1 (dk_at dksX5_odds_0 2 rfl rfl)
theorem dX5_odds_5 : decode cX5_odds 5 = .ok (.aload_n 0, 1) := dk_42 (dk_at dksX5_odds_0 5 rfl rfl)
theorem dX5_odds_6 : decode cX5_odds 6 = .ok (.iload_n 1, 1) := dk_27 (dk_at dksX5_odds_0 6 rfl rfl)
theorem dX5_odds_7 : decode cX5_odds 7 = .ok (.invokevirtual 270, 3) := dk_182 1 14 (dk_at dksX5_odds_0 7 rfl rfl)
theorem dX5_odds_10 : decode cX5_odds 10 = .ok (.ifCond .eq 22, 3) := dk_153 0 22 (dk_at dksX5_odds_0 10 rfl rfl)
theorem dX5_odds_13 : decode cX5_odds 13 = .ok (.iload_n 2, 1) := dk_28 (dk_at dksX5_odds_0 13 rfl rfl)
theorem dX5_odds_14 : decode cX5_odds 14 = .ok (.iconst 1, 1) := dk_4 (dk_at dksX5_odds_0 14 rfl rfl)
theorem dX5_odds_15 : decode cX5_odds 15 = .ok (.bipush 30, 2) := dk_16 30 (dk_at dksX5_odds_0 15 rfl rfl)
theorem dX5_odds_17 : decode cX5_odds 17 = .ok (.invokestatic 171, 3) := dk_184 0 171 (dk_at dksX5_odds_0 17 rfl rfl)
theorem dX5_odds_20 : decode cX5_odds 20 = .ok (.ifCond .eq 12, 3) := dk_153 0 12 (dk_at dksX5_odds_0 20 rfl rfl)
theorem dX5_odds_23 : decode cX5_odds 23 = .ok (.aload_n 0, 1) := dk_42 (dk_at dksX5_odds_0 23 rfl rfl)
theorem dX5_odds_24 : decode cX5_odds 24 = .ok (.getfield 33, 3) := dk_180 0 33 (dk_at dksX5_odds_1 0 rfl rfl)
theorem dX5_odds_27 : decode cX5_odds 27 = .ok (.iconst 2, 1) := dk_5 (dk_at dksX5_odds_1 3 rfl rfl)
theorem dX5_odds_28 : decode cX5_odds 28 = .ok (.iaload, 1) := dk_46 (dk_at dksX5_odds_1 4 rfl rfl)
theorem dX5_odds_29 : decode cX5_odds 29 = .ok (.ifCond .ne 5, 3) := dk_154 0 5 (dk_at dksX5_odds_1 5 rfl rfl)
theorem dX5_odds_32 : decode cX5_odds 32 = .ok (.iconst (-1), 1) := dk_2 (dk_at dksX5_odds_1 8 rfl rfl)
theorem dX5_odds_33 : decode cX5_odds 33 = .ok (.ireturn, 1) := dk_172 (dk_at dksX5_odds_1 9 rfl rfl)
theorem dX5_odds_34 : decode cX5_odds 34 = .ok (.aload_n 0, 1) := dk_42 (dk_at dksX5_odds_1 10 rfl rfl)
theorem dX5_odds_35 : decode cX5_odds 35 = .ok (.invokevirtual 357, 3) := dk_182 1 101 (dk_at dksX5_odds_1 11 rfl rfl)
theorem dX5_odds_38 : decode cX5_odds 38 = .ok (.iconst 0, 1) := dk_3 (dk_at dksX5_odds_1 14 rfl rfl)
theorem dX5_odds_39 : decode cX5_odds 39 = .ok (.istore 4, 2) := dk_54 4 (dk_at dksX5_odds_1 15 rfl rfl)
theorem dX5_odds_41 : decode cX5_odds 41 = .ok (.iconst 0, 1) := dk_3 (dk_at dksX5_odds_1 17 rfl rfl)
theorem dX5_odds_42 : decode cX5_odds 42 = .ok (.istore 5, 2) := dk_54 5 (dk_at dksX5_odds_1 18 rfl rfl)
theorem dX5_odds_44 : decode cX5_odds 44 = .ok (.iload 5, 2) := dk_21 5 (dk_at dksX5_odds_1 20 rfl rfl)
theorem dX5_odds_46 : decode cX5_odds 46 = .ok (.iload_n 2, 1) := dk_28 (dk_at dksX5_odds_1 22 rfl rfl)
theorem dX5_odds_47 : decode cX5_odds 47 = .ok (.if_icmp .ge 59, 3) := dk_162 0 59 (dk_at dksX5_odds_2 0 rfl rfl)
theorem dX5_odds_50 : decode cX5_odds 50 = .ok (.aload_n 0, 1) := dk_42 (dk_at dksX5_odds_2 3 rfl rfl)
theorem dX5_odds_51 : decode cX5_odds 51 = .ok (.getfield 33, 3) := dk_180 0 33 (dk_at dksX5_odds_2 4 rfl rfl)
theorem dX5_odds_54 : decode cX5_odds 54 = .ok (.bipush 103, 2) := dk_16 103 (dk_at dksX5_odds_2 7 rfl rfl)
theorem dX5_odds_56 : decode cX5_odds 56 = .ok (.iload_n 1, 1) := dk_27 (dk_at dksX5_odds_2 9 rfl rfl)
theorem dX5_odds_57 : decode cX5_odds 57 = .ok (.iadd, 1) := dk_96 (dk_at dksX5_odds_2 10 rfl rfl)
theorem dX5_odds_58 : decode cX5_odds 58 = .ok (.iaload, 1) := dk_46 (dk_at dksX5_odds_2 11 rfl rfl)
theorem dX5_odds_59 : decode cX5_odds 59 = .ok (.istore 6, 2) := dk_54 6 (dk_at dksX5_odds_2 12 rfl rfl)
theorem dX5_odds_61 : decode cX5_odds 61 = .ok (.aload_n 0, 1) := dk_42 (dk_at dksX5_odds_2 14 rfl rfl)
theorem dX5_odds_62 : decode cX5_odds 62 = .ok (.bipush 20, 2) := dk_16 20 (dk_at dksX5_odds_2 15 rfl rfl)
theorem dX5_odds_64 : decode cX5_odds 64 = .ok (.iload_n 3, 1) := dk_29 (dk_at dksX5_odds_2 17 rfl rfl)
theorem dX5_odds_65 : decode cX5_odds 65 = .ok (.iload 5, 2) := dk_21 5 (dk_at dksX5_odds_2 18 rfl rfl)
theorem dX5_odds_67 : decode cX5_odds 67 = .ok (.iadd, 1) := dk_96 (dk_at dksX5_odds_2 20 rfl rfl)
theorem dX5_odds_68 : decode cX5_odds 68 = .ok (.invokevirtual 394, 3) := dk_182 1 138 (dk_at dksX5_odds_2 21 rfl rfl)
theorem dX5_odds_71 : decode cX5_odds 71 = .ok (.pop, 1) := dk_87 (dk_at dksX5_odds_3 0 rfl rfl)
theorem dX5_odds_72 : decode cX5_odds 72 = .ok (.iload 4, 2) := dk_21 4 (dk_at dksX5_odds_3 1 rfl rfl)
theorem dX5_odds_74 : decode cX5_odds 74 = .ok (.aload_n 0, 1) := dk_42 (dk_at dksX5_odds_3 3 rfl rfl)
theorem dX5_odds_75 : decode cX5_odds 75 = .ok (.getfield 33, 3) := dk_180 0 33 (dk_at dksX5_odds_3 4 rfl rfl)
theorem dX5_odds_78 : decode cX5_odds 78 = .ok (.bipush 103, 2) := dk_16 103 (dk_at dksX5_odds_3 7 rfl rfl)
theorem dX5_odds_80 : decode cX5_odds 80 = .ok (.iload_n 1, 1) := dk_27 (dk_at dksX5_odds_3 9 rfl rfl)
theorem dX5_odds_81 : decode cX5_odds 81 = .ok (.iadd, 1) := dk_96 (dk_at dksX5_odds_3 10 rfl rfl)
theorem dX5_odds_82 : decode cX5_odds 82 = .ok (.iaload, 1) := dk_46 (dk_at dksX5_odds_3 11 rfl rfl)
theorem dX5_odds_83 : decode cX5_odds 83 = .ok (.iload 6, 2) := dk_21 6 (dk_at dksX5_odds_3 12 rfl rfl)
theorem dX5_odds_85 : decode cX5_odds 85 = .ok (.if_icmp .le 7, 3) := dk_164 0 7 (dk_at dksX5_odds_3 14 rfl rfl)
theorem dX5_odds_88 : decode cX5_odds 88 = .ok (.iconst 1, 1) := dk_4 (dk_at dksX5_odds_3 17 rfl rfl)
theorem dX5_odds_89 : decode cX5_odds 89 = .ok (.goto 4, 3) := dk_167 0 4 (dk_at dksX5_odds_3 18 rfl rfl)
theorem dX5_odds_92 : decode cX5_odds 92 = .ok (.iconst 0, 1) := dk_3 (dk_at dksX5_odds_3 21 rfl rfl)
theorem dX5_odds_93 : decode cX5_odds 93 = .ok (.iadd, 1) := dk_96 (dk_at dksX5_odds_3 22 rfl rfl)
theorem dX5_odds_94 : decode cX5_odds 94 = .ok (.istore 4, 2) := dk_54 4 (dk_at dksX5_odds_4 0 rfl rfl)
theorem dX5_odds_96 : decode cX5_odds 96 = .ok (.aload_n 0, 1) := dk_42 (dk_at dksX5_odds_4 2 rfl rfl)
theorem dX5_odds_97 : decode cX5_odds 97 = .ok (.invokevirtual 360, 3) := dk_182 1 104 (dk_at dksX5_odds_4 3 rfl rfl)
theorem dX5_odds_100 : decode cX5_odds 100 = .ok (.iinc 5 1, 3) := dk_132 5 1 (dk_at dksX5_odds_4 6 rfl rfl)
theorem dX5_odds_103 : decode cX5_odds 103 = .ok (.goto (-59), 3) := dk_167 255 197 (dk_at dksX5_odds_4 9 rfl rfl)
theorem dX5_odds_106 : decode cX5_odds 106 = .ok (.iload 4, 2) := dk_21 4 (dk_at dksX5_odds_4 12 rfl rfl)
theorem dX5_odds_108 : decode cX5_odds 108 = .ok (.ireturn, 1) := dk_172 (dk_at dksX5_odds_4 14 rfl rfl)
set_option maxHeartbeats 4000000 in
set_option maxRecDepth 100000 in
noncomputable def fn_X5_odds_44 (l0 : Option Nat) (l1 : Int32) (l2 : Int32) (l3 : Int32) (k0 : Int32 → cz_H → cz_Z) : Nat → Int32 → Int32 → cz_H → cz_Z
  | 0, _, _, _ => none
  | n + 1, l4, l5, h => (if l2 ≤ l5 then k0 l4 h else cz_getR h l0 [(5, 6)] (fun r21 => cz_iald h r21 ((103 : Int32) + l1) (fun x22 => cz_rc h l0 [5] (cz_cI (fn_X5_draws l0 20 (l3 + l5) h) (fun x30 h29 => cz_getR h29 l0 [(5, 6)] (fun r31 => cz_iald h29 r31 ((103 : Int32) + l1) (fun x32 => (if x32 ≤ x22 then cz_leti (l4 + 0) (fun x33 => cz_rc h29 l0 [5] (cz_cV (fn_X5_back l0 h29) (fun h40 => cz_leti (l5 + 1) (fun x41 => fn_X5_odds_44 l0 l1 l2 l3 k0 n x33 x41 h40)))) else cz_leti (l4 + 1) (fun x42 => cz_rc h29 l0 [5] (cz_cV (fn_X5_back l0 h29) (fun h49 => cz_leti (l5 + 1) (fun x50 => fn_X5_odds_44 l0 l1 l2 l3 k0 n x42 x50 h49))))))))))))
set_option maxHeartbeats 4000000 in
set_option maxRecDepth 100000 in
theorem wk_X5_odds_44 {K : cz_K} {D : cz_D} {h0 : cz_H} {oh : cz_O × cz_H} {l0 : Option Nat} {l1 : Int32} {l2 : Int32} {l3 : Int32} {k0 : Int32 → cz_H → cz_Z} (S : cz_S K D h0 cX5_odds 7 "HeldCoatsModel" ((Option.some Jvm.ClassFile.FieldType.int)) "odds" ([])) (hk0 : ∀ (e4 : Int32) (h : cz_H), cz_T K D 8 h0 oh 7 (k0 e4 h) h 106 [(4, cz_i e4)] []) : ∀ (n : Nat) (l4 : Int32) (l5 : Int32) (h : cz_H), cz_T K D 8 h0 oh 7 (fn_X5_odds_44 l0 l1 l2 l3 k0 n l4 l5 h) h 44 [(0, cz_r l0), (1, cz_i l1), (2, cz_i l2), (3, cz_i l3), (4, cz_i l4), (5, cz_i l5)] [] := by
  intro n
  induction n with
  | zero => intros; exact ct_none
  | succ n ih =>
    intro l4 l5 h
    rw [fn_X5_odds_44]
    refine ct_iload (k := 5) S dX5_odds_44 rfl ?_
    refine ct_iload_n (k := 2) S dX5_odds_46 rfl rfl ?_
    refine ct_icmp_ge (tgt := 106) S dX5_odds_47 (by decide) ?_ ?_
    · exact ct_sub [4] rfl (hk0 l4 h)
    · refine ct_aload_n (k := 0) S dX5_odds_50 rfl rfl ?_
      refine ct_getR S fw_X5_33 dX5_odds_51 (fun r21 => ?_)
      refine ct_bipush (v := 103) S dX5_odds_54 kB_103 ?_
      refine ct_iload_n (k := 1) S dX5_odds_56 rfl rfl ?_
      refine ct_iadd S dX5_odds_57 ?_
      refine ct_iald S dX5_odds_58 (fun x22 => ?_)
      refine ct_istore (L' := [(6, cz_i x22), (0, cz_r l0), (1, cz_i l1), (2, cz_i l2), (3, cz_i l3), (4, cz_i l4), (5, cz_i l5)]) S dX5_odds_59 (by decide) rfl ?_
      refine ct_aload_n (k := 1) S dX5_odds_61 rfl rfl ?_
      refine ct_bipush (v := 20) S dX5_odds_62 kB_20 ?_
      refine ct_iload_n (k := 4) S dX5_odds_64 rfl rfl ?_
      refine ct_iload (k := 6) S dX5_odds_65 rfl ?_
      refine ct_iadd S dX5_odds_67 ?_
      refine ct_rc (fun b23 ci24 V25 hb26 hc27 hi28 => ?_)
      refine ct_cI (st := []) (cg_virtual (av := [cz_i 20, cz_i (l3 + l5)]) S hb26 hc27 hi28 (fun _ e => mt_X5_draws e) md_X5_draws q2422 q2424 se_HeldCoatsModel_draws__II_I_HeldCoatsModel (by decide) (Nat.le_of_ble_eq_true rfl) rfl dX5_odds_68) (fun x30 h29 => ?_)
      refine ct_pop S dX5_odds_71 rfl ?_
      refine ct_iload (k := 5) S dX5_odds_72 rfl ?_
      refine ct_aload_n (k := 1) S dX5_odds_74 rfl rfl ?_
      refine ct_getR S fw_X5_33 dX5_odds_75 (fun r31 => ?_)
      refine ct_bipush (v := 103) S dX5_odds_78 kB_103 ?_
      refine ct_iload_n (k := 2) S dX5_odds_80 rfl rfl ?_
      refine ct_iadd S dX5_odds_81 ?_
      refine ct_iald S dX5_odds_82 (fun x32 => ?_)
      refine ct_iload (k := 0) S dX5_odds_83 rfl ?_
      refine ct_icmp_le (tgt := 92) S dX5_odds_85 (by decide) ?_ ?_
      · refine ct_iconst (v := 0) S dX5_odds_92 kI_0 ?_
        refine ct_iadd S dX5_odds_93 ?_
        refine ct_leti (fun x33 => ?_)
        refine ct_istore (L' := [(4, cz_i x33), (6, cz_i x22), (0, cz_r l0), (1, cz_i l1), (2, cz_i l2), (3, cz_i l3), (5, cz_i l5)]) S dX5_odds_94 (by decide) rfl ?_
        refine ct_aload_n (k := 2) S dX5_odds_96 rfl rfl ?_
        refine ct_rc (fun b34 ci35 V36 hb37 hc38 hi39 => ?_)
        refine ct_cV (st := []) (cg_virtual (av := []) S hb37 hc38 hi39 (fun _ e => mt_X5_back e) md_X5_back q2374 q2376 se_HeldCoatsModel_back___V_HeldCoatsModel (by decide) (Nat.le_of_ble_eq_true rfl) rfl dX5_odds_97) (fun h40 => ?_)
        refine ct_iincL (j := 6) (L2 := fun x41 => [(5, cz_i x41), (4, cz_i x33), (6, cz_i x22), (0, cz_r l0), (1, cz_i l1), (2, cz_i l2), (3, cz_i l3)]) S dX5_odds_100 rfl kI_1 (by decide) (fun _ => rfl) (fun x41 => ?_)
        refine ct_goto (tgt := 44) S dX5_odds_103 (by decide) ?_
        exact ct_sub [3, 4, 5, 6, 1, 0] rfl (ih x33 x41 h40)
      · refine ct_iconst (v := 1) S dX5_odds_88 kI_1 ?_
        refine ct_goto (tgt := 93) S dX5_odds_89 (by decide) ?_
        refine ct_iadd S dX5_odds_93 ?_
        refine ct_leti (fun x42 => ?_)
        refine ct_istore (L' := [(4, cz_i x42), (6, cz_i x22), (0, cz_r l0), (1, cz_i l1), (2, cz_i l2), (3, cz_i l3), (5, cz_i l5)]) S dX5_odds_94 (by decide) rfl ?_
        refine ct_aload_n (k := 2) S dX5_odds_96 rfl rfl ?_
        refine ct_rc (fun b43 ci44 V45 hb46 hc47 hi48 => ?_)
        refine ct_cV (st := []) (cg_virtual (av := []) S hb46 hc47 hi48 (fun _ e => mt_X5_back e) md_X5_back q2374 q2376 se_HeldCoatsModel_back___V_HeldCoatsModel (by decide) (Nat.le_of_ble_eq_true rfl) rfl dX5_odds_97) (fun h49 => ?_)
        refine ct_iincL (j := 6) (L2 := fun x50 => [(5, cz_i x50), (4, cz_i x42), (6, cz_i x22), (0, cz_r l0), (1, cz_i l1), (2, cz_i l2), (3, cz_i l3)]) S dX5_odds_100 rfl kI_1 (by decide) (fun _ => rfl) (fun x50 => ?_)
        refine ct_goto (tgt := 44) S dX5_odds_103 (by decide) ?_
        exact ct_sub [3, 4, 5, 6, 1, 0] rfl (ih x42 x50 h49)
set_option maxHeartbeats 4000000 in
set_option maxRecDepth 100000 in
noncomputable def fn_X5_odds (l0 : Option Nat) (l1 : Int32) (l2 : Int32) (l3 : Int32) (h : cz_H) : cz_Z := cz_put h l0 [(5, 0)] (cz_i 0) (fun h1 => cz_rc h1 l0 [5] (cz_cI (fn_X5_isMan l0 l1 h1) (fun x9 h8 => (if x9 = 0 then some (.inl (some (cz_i (-1))), h8) else cz_cI (fn_X5_isIn l2 1 30 h8) (fun x11 h10 => (if x11 = 0 then some (.inl (some (cz_i (-1))), h10) else cz_getR h10 l0 [(5, 6)] (fun r12 => cz_iald h10 r12 2 (fun x13 => (if x13 = 0 then some (.inl (some (cz_i (-1))), h10) else cz_rc h10 l0 [5] (cz_cV (fn_X5_tries l0 h10) (fun h20 => fn_X5_odds_44 l0 l1 l2 l3 (fun (e51 : Int32) (h52 : cz_H) => some (.inl (some (cz_i e51)), h52)) 1000 0 0 h20)))))))))))
set_option maxHeartbeats 4000000 in
set_option maxRecDepth 100000 in
theorem wk_X5_odds {K : cz_K} {D : cz_D} {h0 : cz_H} {oh : cz_O × cz_H} {l0 : Option Nat} {l1 : Int32} {l2 : Int32} {l3 : Int32} {h : cz_H} (S : cz_S K D h0 cX5_odds 7 "HeldCoatsModel" ((Option.some Jvm.ClassFile.FieldType.int)) "odds" ([])) : cz_T K D 8 h0 oh 7 (fn_X5_odds l0 l1 l2 l3 h) h 0 [(0, cz_r l0), (1, cz_i l1), (2, cz_i l2), (3, cz_i l3)] [] := by
  unfold fn_X5_odds
  refine ct_aload_n (k := 0) S dX5_odds_0 rfl rfl ?_
  refine ct_iconst (v := 0) S dX5_odds_1 kI_0 ?_
  refine ct_put S fw_X5_1 fp_X5_m_5_0 (cz_fits_i pd_I) dX5_odds_2 (fun h1 => ?_)
  refine ct_aload_n (k := 0) S dX5_odds_5 rfl rfl ?_
  refine ct_iload_n (k := 1) S dX5_odds_6 rfl rfl ?_
  refine ct_rc (fun b2 ci3 V4 hb5 hc6 hi7 => ?_)
  refine ct_cI (st := []) (cg_virtual (av := [cz_i l1]) S hb5 hc6 hi7 (fun _ e => mt_X5_isMan e) md_X5_isMan q2188 q2190 se_HeldCoatsModel_isMan__I_Z_HeldCoatsModel (by decide) (Nat.le_of_ble_eq_true rfl) rfl dX5_odds_7) (fun x9 h8 => ?_)
  refine ct_if_eq (tgt := 32) S dX5_odds_10 (by decide) ?_ ?_
  · refine ct_iconst (v := (-1)) S dX5_odds_32 kI_m1 ?_
    exact ct_iret S rfl dX5_odds_33
  · refine ct_iload_n (k := 2) S dX5_odds_13 rfl rfl ?_
    refine ct_iconst (v := 1) S dX5_odds_14 kI_1 ?_
    refine ct_bipush (v := 30) S dX5_odds_15 kB_30 ?_
    refine ct_cI (st := []) (cg_static (av := [cz_i l2, cz_i 1, cz_i 30]) S (fun _ e => mt_X5_isIn e) md_X5_isIn (Or.inl q2122) q2123 (by decide) (Nat.le_of_ble_eq_true rfl) rfl dX5_odds_17) (fun x11 h10 => ?_)
    refine ct_if_eq (tgt := 32) S dX5_odds_20 (by decide) ?_ ?_
    · refine ct_iconst (v := (-1)) S dX5_odds_32 kI_m1 ?_
      exact ct_iret S rfl dX5_odds_33
    · refine ct_aload_n (k := 0) S dX5_odds_23 rfl rfl ?_
      refine ct_getR S fw_X5_33 dX5_odds_24 (fun r12 => ?_)
      refine ct_iconst (v := 2) S dX5_odds_27 kI_2 ?_
      refine ct_iald S dX5_odds_28 (fun x13 => ?_)
      refine ct_if_ne (tgt := 34) S dX5_odds_29 (by decide) ?_ ?_
      · refine ct_aload_n (k := 0) S dX5_odds_34 rfl rfl ?_
        refine ct_rc (fun b14 ci15 V16 hb17 hc18 hi19 => ?_)
        refine ct_cV (st := []) (cg_virtual (av := []) S hb17 hc18 hi19 (fun _ e => mt_X5_tries e) md_X5_tries q2370 q2372 se_HeldCoatsModel_tries___V_HeldCoatsModel (by decide) (Nat.le_of_ble_eq_true rfl) rfl dX5_odds_35) (fun h20 => ?_)
        refine ct_iconst (v := 0) S dX5_odds_38 kI_0 ?_
        refine ct_istore (L' := [(4, cz_i 0), (0, cz_r l0), (1, cz_i l1), (2, cz_i l2), (3, cz_i l3)]) S dX5_odds_39 (by decide) rfl ?_
        refine ct_iconst (v := 0) S dX5_odds_41 kI_0 ?_
        refine ct_istore (L' := [(5, cz_i 0), (4, cz_i 0), (0, cz_r l0), (1, cz_i l1), (2, cz_i l2), (3, cz_i l3)]) S dX5_odds_42 (by decide) rfl ?_
        refine ct_sub [2, 3, 4, 5, 1, 0] (L' := [(0, cz_r l0), (1, cz_i l1), (2, cz_i l2), (3, cz_i l3), (4, cz_i 0), (5, cz_i 0)]) rfl (wk_X5_odds_44 S ?_ 1000 0 0 h20)
        · intro e51 h52
          refine ct_iload (k := 0) S dX5_odds_106 rfl ?_
          exact ct_iret S rfl dX5_odds_108
      · refine ct_iconst (v := (-1)) S dX5_odds_32 kI_m1 ?_
        exact ct_iret S rfl dX5_odds_33
theorem mt_X5_odds {l : Launch} {D : cz_D} {l0 : Option Nat} {l1 : Int32} {l2 : Int32} {l3 : Int32} {h : cz_H} {oh : cz_O × cz_H} (hz : fn_X5_odds l0 l1 l2 l3 h = some oh) : cz_M l D yX5_odds (ws_ yX5_odds cX5_odds 7 ((Option.some Jvm.ClassFile.FieldType.int))) 8 [cz_r l0, cz_i l1, cz_i l2, cz_i l3] h oh := cz_met (plainFor_of_name (by decide)) (Nat.le_of_ble_eq_true rfl) hz (fun K hl S => wk_X5_odds S)
/-! HeldCoatsModel.price()I -/
def dkwX5_price_0 : List UInt8 := [42, 3, 181, 0, 1, 42, 180, 1, 125, 153, 0, 10, 42, 180, 1, 122, 167, 0, 4, 2, 172]
abbrev dktX5_price_0 : List UInt8 := dkwX5_price_0 ++ []
theorem dksX5_price_0 : cX5_price.data.toList.drop 0 = dktX5_price_0 := by decide +kernel
theorem dX5_price_0 : decode cX5_price 0 = .ok (.aload_n 0, 1) := dk_42 (dk_at dksX5_price_0 0 rfl rfl)
theorem dX5_price_1 : decode cX5_price 1 = .ok (.iconst 0, 1) := dk_3 (dk_at dksX5_price_0 1 rfl rfl)
theorem dX5_price_2 : decode cX5_price 2 = .ok (.putfield 1, 3) := dk_181 0 1 (dk_at dksX5_price_0 2 rfl rfl)
theorem dX5_price_5 : decode cX5_price 5 = .ok (.aload_n 0, 1) := dk_42 (dk_at dksX5_price_0 5 rfl rfl)
theorem dX5_price_6 : decode cX5_price 6 = .ok (.getfield 381, 3) := dk_180 1 125 (dk_at dksX5_price_0 6 rfl rfl)
theorem dX5_price_9 : decode cX5_price 9 = .ok (.ifCond .eq 10, 3) := dk_153 0 10 (dk_at dksX5_price_0 9 rfl rfl)
theorem dX5_price_12 : decode cX5_price 12 = .ok (.aload_n 0, 1) := dk_42 (dk_at dksX5_price_0 12 rfl rfl)
theorem dX5_price_13 : decode cX5_price 13 = .ok (.getfield 378, 3) := dk_180 1 122 (dk_at dksX5_price_0 13 rfl rfl)
theorem dX5_price_16 : decode cX5_price 16 = .ok (.goto 4, 3) := dk_167 0 4 (dk_at dksX5_price_0 16 rfl rfl)
theorem dX5_price_19 : decode cX5_price 19 = .ok (.iconst (-1), 1) := dk_2 (dk_at dksX5_price_0 19 rfl rfl)
theorem dX5_price_20 : decode cX5_price 20 = .ok (.ireturn, 1) := dk_172 (dk_at dksX5_price_0 20 rfl rfl)
theorem fw_X5_381 : cz_FW "HeldCoatsModel" 381 [(5, 34)] "Z" := ⟨"HeldCoatsModel", "hasPrice", Or.inl q1952, List.forall_mem_cons.mpr ⟨⟨RX5, TX5, 49, rfl, by decide, rfl, rfl, Or.inl rfl⟩, fun _ h => absurd h List.not_mem_nil⟩, by decide⟩
theorem fw_X5_378 : cz_FW "HeldCoatsModel" 378 [(5, 33)] "I" := ⟨"HeldCoatsModel", "priceNow", Or.inl q1951, List.forall_mem_cons.mpr ⟨⟨RX5, TX5, 49, rfl, by decide, rfl, rfl, Or.inl rfl⟩, fun _ h => absurd h List.not_mem_nil⟩, by decide⟩
set_option maxHeartbeats 4000000 in
set_option maxRecDepth 100000 in
noncomputable def fn_X5_price (l0 : Option Nat) (h : cz_H) : cz_Z := cz_put h l0 [(5, 0)] (cz_i 0) (fun h1 => cz_getI h1 l0 [(5, 34)] (fun x2 => (if x2 = 0 then some (.inl (some (cz_i (-1))), h1) else cz_getI h1 l0 [(5, 33)] (fun x3 => some (.inl (some (cz_i x3)), h1)))))
set_option maxHeartbeats 4000000 in
set_option maxRecDepth 100000 in
theorem wk_X5_price {K : cz_K} {D : cz_D} {h0 : cz_H} {oh : cz_O × cz_H} {l0 : Option Nat} {h : cz_H} (S : cz_S K D h0 cX5_price 1 "HeldCoatsModel" ((Option.some Jvm.ClassFile.FieldType.int)) "price" ([])) : cz_T K D 2 h0 oh 1 (fn_X5_price l0 h) h 0 [(0, cz_r l0)] [] := by
  unfold fn_X5_price
  refine ct_aload_n (k := 0) S dX5_price_0 rfl rfl ?_
  refine ct_iconst (v := 0) S dX5_price_1 kI_0 ?_
  refine ct_put S fw_X5_1 fp_X5_m_5_0 (cz_fits_i pd_I) dX5_price_2 (fun h1 => ?_)
  refine ct_aload_n (k := 0) S dX5_price_5 rfl rfl ?_
  refine ct_getI S fw_X5_381 dX5_price_6 (fun x2 => ?_)
  refine ct_if_eq (tgt := 19) S dX5_price_9 (by decide) ?_ ?_
  · refine ct_iconst (v := (-1)) S dX5_price_19 kI_m1 ?_
    exact ct_iret S rfl dX5_price_20
  · refine ct_aload_n (k := 0) S dX5_price_12 rfl rfl ?_
    refine ct_getI S fw_X5_378 dX5_price_13 (fun x3 => ?_)
    refine ct_goto (tgt := 20) S dX5_price_16 (by decide) ?_
    exact ct_iret S rfl dX5_price_20
theorem mt_X5_price {l : Launch} {D : cz_D} {l0 : Option Nat} {h : cz_H} {oh : cz_O × cz_H} (hz : fn_X5_price l0 h = some oh) : cz_M l D yX5_price (ws_ yX5_price cX5_price 1 ((Option.some Jvm.ClassFile.FieldType.int))) 2 [cz_r l0] h oh := cz_met (plainFor_of_name (by decide)) (Nat.le_of_ble_eq_true rfl) hz (fun K hl S => wk_X5_price S)
/-! HeldCoatsModel.queue(I)I -/
def dkwX5_queue_1 : List UInt8 := [180, 0, 33, 16, 109, 27, 96, 46, 167, 0, 4, 2, 172]
abbrev dktX5_queue_1 : List UInt8 := dkwX5_queue_1 ++ []
def dkwX5_queue_0 : List UInt8 := [42, 3, 181, 0, 1, 27, 3, 42, 180, 0, 33, 16, 117, 46, 4, 100, 184, 0, 171, 153, 0, 15, 42]
abbrev dktX5_queue_0 : List UInt8 := dkwX5_queue_0 ++ dktX5_queue_1
theorem dksX5_queue_0 : cX5_queue.data.toList.drop 0 = dktX5_queue_0 := by decide +kernel
theorem dksX5_queue_1 : cX5_queue.data.toList.drop 23 = dktX5_queue_1 := dk_seg dksX5_queue_0 23 rfl rfl
theorem dX5_queue_0 : decode cX5_queue 0 = .ok (.aload_n 0, 1) := dk_42 (dk_at dksX5_queue_0 0 rfl rfl)
theorem dX5_queue_1 : decode cX5_queue 1 = .ok (.iconst 0, 1) := dk_3 (dk_at dksX5_queue_0 1 rfl rfl)
theorem dX5_queue_2 : decode cX5_queue 2 = .ok (.putfield 1, 3) := dk_181 0 1 (dk_at dksX5_queue_0 2 rfl rfl)
theorem dX5_queue_5 : decode cX5_queue 5 = .ok (.iload_n 1, 1) := dk_27 (dk_at dksX5_queue_0 5 rfl rfl)
theorem dX5_queue_6 : decode cX5_queue 6 = .ok (.iconst 0, 1) := dk_3 (dk_at dksX5_queue_0 6 rfl rfl)
theorem dX5_queue_7 : decode cX5_queue 7 = .ok (.aload_n 0, 1) := dk_42 (dk_at dksX5_queue_0 7 rfl rfl)
theorem dX5_queue_8 : decode cX5_queue 8 = .ok (.getfield 33, 3) := dk_180 0 33 (dk_at dksX5_queue_0 8 rfl rfl)
theorem dX5_queue_11 : decode cX5_queue 11 = .ok (.bipush 117, 2) := dk_16 117 (dk_at dksX5_queue_0 11 rfl rfl)
theorem dX5_queue_13 : decode cX5_queue 13 = .ok (.iaload, 1) := dk_46 (dk_at dksX5_queue_0 13 rfl rfl)
theorem dX5_queue_14 : decode cX5_queue 14 = .ok (.iconst 1, 1) := dk_4 (dk_at dksX5_queue_0 14 rfl rfl)
theorem dX5_queue_15 : decode cX5_queue 15 = .ok (.isub, 1) := dk_100 (dk_at dksX5_queue_0 15 rfl rfl)
theorem dX5_queue_16 : decode cX5_queue 16 = .ok (.invokestatic 171, 3) := dk_184 0 171 (dk_at dksX5_queue_0 16 rfl rfl)
theorem dX5_queue_19 : decode cX5_queue 19 = .ok (.ifCond .eq 15, 3) := dk_153 0 15 (dk_at dksX5_queue_0 19 rfl rfl)
theorem dX5_queue_22 : decode cX5_queue 22 = .ok (.aload_n 0, 1) := dk_42 (dk_at dksX5_queue_0 22 rfl rfl)
theorem dX5_queue_23 : decode cX5_queue 23 = .ok (.getfield 33, 3) := dk_180 0 33 (dk_at dksX5_queue_1 0 rfl rfl)
theorem dX5_queue_26 : decode cX5_queue 26 = .ok (.bipush 109, 2) := dk_16 109 (dk_at dksX5_queue_1 3 rfl rfl)
theorem dX5_queue_28 : decode cX5_queue 28 = .ok (.iload_n 1, 1) := dk_27 (dk_at dksX5_queue_1 5 rfl rfl)
theorem dX5_queue_29 : decode cX5_queue 29 = .ok (.iadd, 1) := dk_96 (dk_at dksX5_queue_1 6 rfl rfl)
theorem dX5_queue_30 : decode cX5_queue 30 = .ok (.iaload, 1) := dk_46 (dk_at dksX5_queue_1 7 rfl rfl)
theorem dX5_queue_31 : decode cX5_queue 31 = .ok (.goto 4, 3) := dk_167 0 4 (dk_at dksX5_queue_1 8 rfl rfl)
theorem dX5_queue_34 : decode cX5_queue 34 = .ok (.iconst (-1), 1) := dk_2 (dk_at dksX5_queue_1 11 rfl rfl)
theorem dX5_queue_35 : decode cX5_queue 35 = .ok (.ireturn, 1) := dk_172 (dk_at dksX5_queue_1 12 rfl rfl)
set_option maxHeartbeats 4000000 in
set_option maxRecDepth 100000 in
noncomputable def fn_X5_queue (l0 : Option Nat) (l1 : Int32) (h : cz_H) : cz_Z := cz_put h l0 [(5, 0)] (cz_i 0) (fun h1 => cz_getR h1 l0 [(5, 6)] (fun r2 => cz_iald h1 r2 117 (fun x3 => cz_cI (fn_X5_isIn l1 0 (x3 - 1) h1) (fun x5 h4 => (if x5 = 0 then some (.inl (some (cz_i (-1))), h4) else cz_getR h4 l0 [(5, 6)] (fun r6 => cz_iald h4 r6 ((109 : Int32) + l1) (fun x7 => some (.inl (some (cz_i x7)), h4))))))))
set_option maxHeartbeats 4000000 in
set_option maxRecDepth 100000 in
theorem wk_X5_queue {K : cz_K} {D : cz_D} {h0 : cz_H} {oh : cz_O × cz_H} {l0 : Option Nat} {l1 : Int32} {h : cz_H} (S : cz_S K D h0 cX5_queue 2 "HeldCoatsModel" ((Option.some Jvm.ClassFile.FieldType.int)) "queue" ([])) : cz_T K D 3 h0 oh 2 (fn_X5_queue l0 l1 h) h 0 [(0, cz_r l0), (1, cz_i l1)] [] := by
  unfold fn_X5_queue
  refine ct_aload_n (k := 0) S dX5_queue_0 rfl rfl ?_
  refine ct_iconst (v := 0) S dX5_queue_1 kI_0 ?_
  refine ct_put S fw_X5_1 fp_X5_m_5_0 (cz_fits_i pd_I) dX5_queue_2 (fun h1 => ?_)
  refine ct_iload_n (k := 1) S dX5_queue_5 rfl rfl ?_
  refine ct_iconst (v := 0) S dX5_queue_6 kI_0 ?_
  refine ct_aload_n (k := 0) S dX5_queue_7 rfl rfl ?_
  refine ct_getR S fw_X5_33 dX5_queue_8 (fun r2 => ?_)
  refine ct_bipush (v := 117) S dX5_queue_11 kB_117 ?_
  refine ct_iald S dX5_queue_13 (fun x3 => ?_)
  refine ct_iconst (v := 1) S dX5_queue_14 kI_1 ?_
  refine ct_isub S dX5_queue_15 ?_
  refine ct_cI (st := []) (cg_static (av := [cz_i l1, cz_i 0, cz_i (x3 - 1)]) S (fun _ e => mt_X5_isIn e) md_X5_isIn (Or.inl q2122) q2123 (by decide) (Nat.le_of_ble_eq_true rfl) rfl dX5_queue_16) (fun x5 h4 => ?_)
  refine ct_if_eq (tgt := 34) S dX5_queue_19 (by decide) ?_ ?_
  · refine ct_iconst (v := (-1)) S dX5_queue_34 kI_m1 ?_
    exact ct_iret S rfl dX5_queue_35
  · refine ct_aload_n (k := 0) S dX5_queue_22 rfl rfl ?_
    refine ct_getR S fw_X5_33 dX5_queue_23 (fun r6 => ?_)
    refine ct_bipush (v := 109) S dX5_queue_26 kB_109 ?_
    refine ct_iload_n (k := 1) S dX5_queue_28 rfl rfl ?_
    refine ct_iadd S dX5_queue_29 ?_
    refine ct_iald S dX5_queue_30 (fun x7 => ?_)
    refine ct_goto (tgt := 35) S dX5_queue_31 (by decide) ?_
    exact ct_iret S rfl dX5_queue_35
theorem mt_X5_queue {l : Launch} {D : cz_D} {l0 : Option Nat} {l1 : Int32} {h : cz_H} {oh : cz_O × cz_H} (hz : fn_X5_queue l0 l1 h = some oh) : cz_M l D yX5_queue (ws_ yX5_queue cX5_queue 2 ((Option.some Jvm.ClassFile.FieldType.int))) 3 [cz_r l0, cz_i l1] h oh := cz_met (plainFor_of_name (by decide)) (Nat.le_of_ble_eq_true rfl) hz (fun K hl S => wk_X5_queue S)
/-! HeldCoatsModel.restore(I)Z -/
def dkwX5_restore_3 : List UInt8 := [180, 0, 72, 16, 22, 27, 104, 28, 96, 47, 80, 132, 2, 1, 167, 255, 230, 42, 3, 181, 0, 231, 4, 172]
abbrev dktX5_restore_3 : List UInt8 := dkwX5_restore_3 ++ []
def dkwX5_restore_2 : List UInt8 := [28, 96, 46, 79, 132, 2, 1, 167, 255, 228, 3, 61, 28, 16, 22, 162, 0, 26, 42, 180, 0, 43, 28, 42]
abbrev dktX5_restore_2 : List UInt8 := dkwX5_restore_2 ++ dktX5_restore_3
def dkwX5_restore_1 : List UInt8 := [172, 3, 61, 28, 17, 1, 43, 162, 0, 27, 42, 180, 0, 33, 28, 42, 180, 0, 69, 17, 1, 43, 27, 104]
abbrev dktX5_restore_1 : List UInt8 := dkwX5_restore_1 ++ dktX5_restore_2
def dkwX5_restore_0 : List UInt8 := [42, 3, 181, 0, 1, 27, 3, 4, 184, 0, 171, 153, 0, 12, 42, 180, 0, 75, 27, 51, 154, 0, 5, 3]
abbrev dktX5_restore_0 : List UInt8 := dkwX5_restore_0 ++ dktX5_restore_1
theorem dksX5_restore_0 : cX5_restore.data.toList.drop 0 = dktX5_restore_0 := by decide +kernel
theorem dksX5_restore_1 : cX5_restore.data.toList.drop 24 = dktX5_restore_1 := dk_seg dksX5_restore_0 24 rfl rfl
theorem dksX5_restore_2 : cX5_restore.data.toList.drop 48 = dktX5_restore_2 := dk_seg dksX5_restore_1 24 rfl rfl
theorem dksX5_restore_3 : cX5_restore.data.toList.drop 72 = dktX5_restore_3 := dk_seg dksX5_restore_2 24 rfl rfl
theorem dX5_restore_0 : decode cX5_restore 0 = .ok (.aload_n 0, 1) := dk_42 (dk_at dksX5_restore_0 0 rfl rfl)
theorem dX5_restore_1 : decode cX5_restore 1 = .ok (.iconst 0, 1) := dk_3 (dk_at dksX5_restore_0 1 rfl rfl)
theorem dX5_restore_2 : decode cX5_restore 2 = .ok (.putfield 1, 3) := dk_181 0 1 (dk_at dksX5_restore_0 2 rfl rfl)
theorem dX5_restore_5 : decode cX5_restore 5 = .ok (.iload_n 1, 1) := dk_27 (dk_at dksX5_restore_0 5 rfl rfl)
theorem dX5_restore_6 : decode cX5_restore 6 = .ok (.iconst 0, 1) := dk_3 (dk_at dksX5_restore_0 6 rfl rfl)
theorem dX5_restore_7 : decode cX5_restore 7 = .ok (.iconst 1, 1) := dk_4 (dk_at dksX5_restore_0 7 rfl rfl)
theorem dX5_restore_8 : decode cX5_restore 8 = .ok (.invokestatic 171, 3) := dk_184 0 171 (dk_at dksX5_restore_0 8 rfl rfl)
theorem dX5_restore_11 : decode cX5_restore 11 = .ok (.ifCond .eq 12, 3) := dk_153 0 12 (dk_at dksX5_restore_0 11 rfl rfl)
theorem dX5_restore_14 : decode cX5_restore 14 = .ok (.aload_n 0, 1) := dk_42 (dk_at dksX5_restore_0 14 rfl rfl)
theorem dX5_restore_15 : decode cX5_restore 15 = .ok (.getfield 75, 3) := dk_180 0 75 (dk_at dksX5_restore_0 15 rfl rfl)
theorem dX5_restore_18 : decode cX5_restore 18 = .ok (.iload_n 1, 1) := dk_27 (dk_at dksX5_restore_0 18 rfl rfl)
theorem dX5_restore_19 : decode cX5_restore 19 = .ok (.baload, 1) := dk_51 (dk_at dksX5_restore_0 19 rfl rfl)
theorem dX5_restore_20 : decode cX5_restore 20 = .ok (.ifCond .ne 5, 3) := dk_154 0 5 (dk_at dksX5_restore_0 20 rfl rfl)
theorem dX5_restore_23 : decode cX5_restore 23 = .ok (.iconst 0, 1) := dk_3 (dk_at dksX5_restore_0 23 rfl rfl)
theorem dX5_restore_24 : decode cX5_restore 24 = .ok (.ireturn, 1) := dk_172 (dk_at dksX5_restore_1 0 rfl rfl)
theorem dX5_restore_25 : decode cX5_restore 25 = .ok (.iconst 0, 1) := dk_3 (dk_at dksX5_restore_1 1 rfl rfl)
theorem dX5_restore_26 : decode cX5_restore 26 = .ok (.istore_n 2, 1) := dk_61 (dk_at dksX5_restore_1 2 rfl rfl)
theorem dX5_restore_27 : decode cX5_restore 27 = .ok (.iload_n 2, 1) := dk_28 (dk_at dksX5_restore_1 3 rfl rfl)
theorem dX5_restore_28 : decode cX5_restore 28 = .ok (.sipush 299, 3) := dk_17 1 43 (dk_at dksX5_restore_1 4 rfl rfl)
theorem dX5_restore_31 : decode cX5_restore 31 = .ok (.if_icmp .ge 27, 3) := dk_162 0 27 (dk_at dksX5_restore_1 7 rfl rfl)
theorem dX5_restore_34 : decode cX5_restore 34 = .ok (.aload_n 0, 1) := dk_42 (dk_at dksX5_restore_1 10 rfl rfl)
theorem dX5_restore_35 : decode cX5_restore 35 = .ok (.getfield 33, 3) := dk_180 0 33 (dk_at dksX5_restore_1 11 rfl rfl)
theorem dX5_restore_38 : decode cX5_restore 38 = .ok (.iload_n 2, 1) := dk_28 (dk_at dksX5_restore_1 14 rfl rfl)
theorem dX5_restore_39 : decode cX5_restore 39 = .ok (.aload_n 0, 1) := dk_42 (dk_at dksX5_restore_1 15 rfl rfl)
theorem dX5_restore_40 : decode cX5_restore 40 = .ok (.getfield 69, 3) := dk_180 0 69 (dk_at dksX5_restore_1 16 rfl rfl)
theorem dX5_restore_43 : decode cX5_restore 43 = .ok (.sipush 299, 3) := dk_17 1 43 (dk_at dksX5_restore_1 19 rfl rfl)
theorem dX5_restore_46 : decode cX5_restore 46 = .ok (.iload_n 1, 1) := dk_27 (dk_at dksX5_restore_1 22 rfl rfl)
theorem dX5_restore_47 : decode cX5_restore 47 = .ok (.imul, 1) := dk_104 (dk_at dksX5_restore_1 23 rfl rfl)
theorem dX5_restore_48 : decode cX5_restore 48 = .ok (.iload_n 2, 1) := dk_28 (dk_at dksX5_restore_2 0 rfl rfl)
theorem dX5_restore_49 : decode cX5_restore 49 = .ok (.iadd, 1) := dk_96 (dk_at dksX5_restore_2 1 rfl rfl)
theorem dX5_restore_50 : decode cX5_restore 50 = .ok (.iaload, 1) := dk_46 (dk_at dksX5_restore_2 2 rfl rfl)
theorem dX5_restore_51 : decode cX5_restore 51 = .ok (.iastore, 1) := dk_79 (dk_at dksX5_restore_2 3 rfl rfl)
theorem dX5_restore_52 : decode cX5_restore 52 = .ok (.iinc 2 1, 3) := dk_132 2 1 (dk_at dksX5_restore_2 4 rfl rfl)
theorem dX5_restore_55 : decode cX5_restore 55 = .ok (.goto (-28), 3) := dk_167 255 228 (dk_at dksX5_restore_2 7 rfl rfl)
theorem dX5_restore_58 : decode cX5_restore 58 = .ok (.iconst 0, 1) := dk_3 (dk_at dksX5_restore_2 10 rfl rfl)
theorem dX5_restore_59 : decode cX5_restore 59 = .ok (.istore_n 2, 1) := dk_61 (dk_at dksX5_restore_2 11 rfl rfl)
theorem dX5_restore_60 : decode cX5_restore 60 = .ok (.iload_n 2, 1) := dk_28 (dk_at dksX5_restore_2 12 rfl rfl)
theorem dX5_restore_61 : decode cX5_restore 61 = .ok (.bipush 22, 2) := dk_16 22 (dk_at dksX5_restore_2 13 rfl rfl)
theorem dX5_restore_63 : decode cX5_restore 63 = .ok (.if_icmp .ge 26, 3) := dk_162 0 26 (dk_at dksX5_restore_2 15 rfl rfl)
theorem dX5_restore_66 : decode cX5_restore 66 = .ok (.aload_n 0, 1) := dk_42 (dk_at dksX5_restore_2 18 rfl rfl)
theorem dX5_restore_67 : decode cX5_restore 67 = .ok (.getfield 43, 3) := dk_180 0 43 (dk_at dksX5_restore_2 19 rfl rfl)
theorem dX5_restore_70 : decode cX5_restore 70 = .ok (.iload_n 2, 1) := dk_28 (dk_at dksX5_restore_2 22 rfl rfl)
theorem dX5_restore_71 : decode cX5_restore 71 = .ok (.aload_n 0, 1) := dk_42 (dk_at dksX5_restore_2 23 rfl rfl)
theorem dX5_restore_72 : decode cX5_restore 72 = .ok (.getfield 72, 3) := dk_180 0 72 (dk_at dksX5_restore_3 0 rfl rfl)
theorem dX5_restore_75 : decode cX5_restore 75 = .ok (.bipush 22, 2) := dk_16 22 (dk_at dksX5_restore_3 3 rfl rfl)
theorem dX5_restore_77 : decode cX5_restore 77 = .ok (.iload_n 1, 1) := dk_27 (dk_at dksX5_restore_3 5 rfl rfl)
theorem dX5_restore_78 : decode cX5_restore 78 = .ok (.imul, 1) := dk_104 (dk_at dksX5_restore_3 6 rfl rfl)
theorem dX5_restore_79 : decode cX5_restore 79 = .ok (.iload_n 2, 1) := dk_28 (dk_at dksX5_restore_3 7 rfl rfl)
theorem dX5_restore_80 : decode cX5_restore 80 = .ok (.iadd, 1) := dk_96 (dk_at dksX5_restore_3 8 rfl rfl)
theorem dX5_restore_81 : decode cX5_restore 81 = .ok (.laload, 1) := dk_47 (dk_at dksX5_restore_3 9 rfl rfl)
theorem dX5_restore_82 : decode cX5_restore 82 = .ok (.lastore, 1) := dk_80 (dk_at dksX5_restore_3 10 rfl rfl)
theorem dX5_restore_83 : decode cX5_restore 83 = .ok (.iinc 2 1, 3) := dk_132 2 1 (dk_at dksX5_restore_3 11 rfl rfl)
theorem dX5_restore_86 : decode cX5_restore 86 = .ok (.goto (-26), 3) := dk_167 255 230 (dk_at dksX5_restore_3 14 rfl rfl)
theorem dX5_restore_89 : decode cX5_restore 89 = .ok (.aload_n 0, 1) := dk_42 (dk_at dksX5_restore_3 17 rfl rfl)
theorem dX5_restore_90 : decode cX5_restore 90 = .ok (.iconst 0, 1) := dk_3 (dk_at dksX5_restore_3 18 rfl rfl)
theorem dX5_restore_91 : decode cX5_restore 91 = .ok (.putfield 231, 3) := dk_181 0 231 (dk_at dksX5_restore_3 19 rfl rfl)
theorem dX5_restore_94 : decode cX5_restore 94 = .ok (.iconst 1, 1) := dk_4 (dk_at dksX5_restore_3 22 rfl rfl)
theorem dX5_restore_95 : decode cX5_restore 95 = .ok (.ireturn, 1) := dk_172 (dk_at dksX5_restore_3 23 rfl rfl)
set_option maxHeartbeats 4000000 in
set_option maxRecDepth 100000 in
noncomputable def fn_X5_restore_27 (l0 : Option Nat) (l1 : Int32) (k0 : cz_H → cz_Z) : Nat → Int32 → cz_H → cz_Z
  | 0, _, _ => none
  | n + 1, l2, h => (if (299 : Int32) ≤ l2 then k0 h else cz_getR h l0 [(5, 6)] (fun r6 => cz_getR h l0 [(5, 46)] (fun r7 => cz_iald h r7 (((299 : Int32) * l1) + l2) (fun x8 => cz_iast h r6 l2 x8 (fun h9 => cz_leti (l2 + 1) (fun x10 => fn_X5_restore_27 l0 l1 k0 n x10 h9))))))
set_option maxHeartbeats 4000000 in
set_option maxRecDepth 100000 in
theorem wk_X5_restore_27 {K : cz_K} {D : cz_D} {h0 : cz_H} {oh : cz_O × cz_H} {l0 : Option Nat} {l1 : Int32} {k0 : cz_H → cz_Z} (S : cz_S K D h0 cX5_restore 3 "HeldCoatsModel" ((Option.some Jvm.ClassFile.FieldType.boolean)) "restore" ([])) (hk0 : ∀ (h : cz_H), cz_T K D 3 h0 oh 3 (k0 h) h 58 [(0, cz_r l0), (1, cz_i l1)] []) : ∀ (n : Nat) (l2 : Int32) (h : cz_H), cz_T K D 3 h0 oh 3 (fn_X5_restore_27 l0 l1 k0 n l2 h) h 27 [(0, cz_r l0), (1, cz_i l1), (2, cz_i l2)] [] := by
  intro n
  induction n with
  | zero => intros; exact ct_none
  | succ n ih =>
    intro l2 h
    rw [fn_X5_restore_27]
    refine ct_iload_n (k := 2) S dX5_restore_27 rfl rfl ?_
    refine ct_sipush (v := 299) S dX5_restore_28 kS_299 ?_
    refine ct_icmp_ge (tgt := 58) S dX5_restore_31 (by decide) ?_ ?_
    · exact ct_sub [0, 1] rfl (hk0 h)
    · refine ct_aload_n (k := 0) S dX5_restore_34 rfl rfl ?_
      refine ct_getR S fw_X5_33 dX5_restore_35 (fun r6 => ?_)
      refine ct_iload_n (k := 2) S dX5_restore_38 rfl rfl ?_
      refine ct_aload_n (k := 0) S dX5_restore_39 rfl rfl ?_
      refine ct_getR S fw_X5_69 dX5_restore_40 (fun r7 => ?_)
      refine ct_sipush (v := 299) S dX5_restore_43 kS_299 ?_
      refine ct_iload_n (k := 1) S dX5_restore_46 rfl rfl ?_
      refine ct_imul S dX5_restore_47 ?_
      refine ct_iload_n (k := 2) S dX5_restore_48 rfl rfl ?_
      refine ct_iadd S dX5_restore_49 ?_
      refine ct_iald S dX5_restore_50 (fun x8 => ?_)
      refine ct_iast S dX5_restore_51 (fun h9 => ?_)
      refine ct_iincL (j := 2) (L2 := fun x10 => [(2, cz_i x10), (0, cz_r l0), (1, cz_i l1)]) S dX5_restore_52 rfl kI_1 (by decide) (fun _ => rfl) (fun x10 => ?_)
      refine ct_goto (tgt := 27) S dX5_restore_55 (by decide) ?_
      exact ct_sub [1, 2, 0] rfl (ih x10 h9)
set_option maxHeartbeats 4000000 in
set_option maxRecDepth 100000 in
noncomputable def fn_X5_restore_60 (l0 : Option Nat) (l1 : Int32) (k0 : cz_H → cz_Z) : Nat → Int32 → cz_H → cz_Z
  | 0, _, _ => none
  | n + 1, l2, h => (if (22 : Int32) ≤ l2 then k0 h else cz_getR h l0 [(5, 9)] (fun r12 => cz_getR h l0 [(5, 47)] (fun r13 => cz_lald h r13 (((22 : Int32) * l1) + l2) (fun y14 => cz_last h r12 l2 y14 (fun h15 => cz_leti (l2 + 1) (fun x16 => fn_X5_restore_60 l0 l1 k0 n x16 h15))))))
set_option maxHeartbeats 4000000 in
set_option maxRecDepth 100000 in
theorem wk_X5_restore_60 {K : cz_K} {D : cz_D} {h0 : cz_H} {oh : cz_O × cz_H} {l0 : Option Nat} {l1 : Int32} {k0 : cz_H → cz_Z} (S : cz_S K D h0 cX5_restore 3 "HeldCoatsModel" ((Option.some Jvm.ClassFile.FieldType.boolean)) "restore" ([])) (hk0 : ∀ (h : cz_H), cz_T K D 3 h0 oh 3 (k0 h) h 89 [(0, cz_r l0)] []) : ∀ (n : Nat) (l2 : Int32) (h : cz_H), cz_T K D 3 h0 oh 3 (fn_X5_restore_60 l0 l1 k0 n l2 h) h 60 [(0, cz_r l0), (1, cz_i l1), (2, cz_i l2)] [] := by
  intro n
  induction n with
  | zero => intros; exact ct_none
  | succ n ih =>
    intro l2 h
    rw [fn_X5_restore_60]
    refine ct_iload_n (k := 2) S dX5_restore_60 rfl rfl ?_
    refine ct_bipush (v := 22) S dX5_restore_61 kB_22 ?_
    refine ct_icmp_ge (tgt := 89) S dX5_restore_63 (by decide) ?_ ?_
    · exact ct_sub [0] rfl (hk0 h)
    · refine ct_aload_n (k := 0) S dX5_restore_66 rfl rfl ?_
      refine ct_getR S fw_X5_43 dX5_restore_67 (fun r12 => ?_)
      refine ct_iload_n (k := 2) S dX5_restore_70 rfl rfl ?_
      refine ct_aload_n (k := 0) S dX5_restore_71 rfl rfl ?_
      refine ct_getR S fw_X5_72 dX5_restore_72 (fun r13 => ?_)
      refine ct_bipush (v := 22) S dX5_restore_75 kB_22 ?_
      refine ct_iload_n (k := 1) S dX5_restore_77 rfl rfl ?_
      refine ct_imul S dX5_restore_78 ?_
      refine ct_iload_n (k := 2) S dX5_restore_79 rfl rfl ?_
      refine ct_iadd S dX5_restore_80 ?_
      refine ct_lald S dX5_restore_81 (fun y14 => ?_)
      refine ct_last S dX5_restore_82 (fun h15 => ?_)
      refine ct_iincL (j := 2) (L2 := fun x16 => [(2, cz_i x16), (0, cz_r l0), (1, cz_i l1)]) S dX5_restore_83 rfl kI_1 (by decide) (fun _ => rfl) (fun x16 => ?_)
      refine ct_goto (tgt := 60) S dX5_restore_86 (by decide) ?_
      exact ct_sub [1, 2, 0] rfl (ih x16 h15)
set_option maxHeartbeats 4000000 in
set_option maxRecDepth 100000 in
noncomputable def fn_X5_restore (l0 : Option Nat) (l1 : Int32) (h : cz_H) : cz_Z := cz_put h l0 [(5, 0)] (cz_i 0) (fun h1 => cz_cI (fn_X5_isIn l1 0 1 h1) (fun x3 h2 => (if x3 = 0 then some (.inl (some (cz_i 0)), h2) else cz_getR h2 l0 [(5, 48)] (fun r4 => cz_bald h2 r4 l1 (fun x5 => (if x5 = 0 then some (.inl (some (cz_i 0)), h2) else fn_X5_restore_27 l0 l1 (fun (h11 : cz_H) => fn_X5_restore_60 l0 l1 (fun (h17 : cz_H) => cz_put h17 l0 [(5, 23)] (cz_i 0) (fun h18 => some (.inl (some (cz_i 1)), h18))) 1000 0 h11) 1000 0 h2))))))
set_option maxHeartbeats 4000000 in
set_option maxRecDepth 100000 in
theorem wk_X5_restore {K : cz_K} {D : cz_D} {h0 : cz_H} {oh : cz_O × cz_H} {l0 : Option Nat} {l1 : Int32} {h : cz_H} (S : cz_S K D h0 cX5_restore 3 "HeldCoatsModel" ((Option.some Jvm.ClassFile.FieldType.boolean)) "restore" ([])) : cz_T K D 3 h0 oh 3 (fn_X5_restore l0 l1 h) h 0 [(0, cz_r l0), (1, cz_i l1)] [] := by
  unfold fn_X5_restore
  refine ct_aload_n (k := 0) S dX5_restore_0 rfl rfl ?_
  refine ct_iconst (v := 0) S dX5_restore_1 kI_0 ?_
  refine ct_put S fw_X5_1 fp_X5_m_5_0 (cz_fits_i pd_I) dX5_restore_2 (fun h1 => ?_)
  refine ct_iload_n (k := 1) S dX5_restore_5 rfl rfl ?_
  refine ct_iconst (v := 0) S dX5_restore_6 kI_0 ?_
  refine ct_iconst (v := 1) S dX5_restore_7 kI_1 ?_
  refine ct_cI (st := []) (cg_static (av := [cz_i l1, cz_i 0, cz_i 1]) S (fun _ e => mt_X5_isIn e) md_X5_isIn (Or.inl q2122) q2123 (by decide) (Nat.le_of_ble_eq_true rfl) rfl dX5_restore_8) (fun x3 h2 => ?_)
  refine ct_if_eq (tgt := 23) S dX5_restore_11 (by decide) ?_ ?_
  · refine ct_iconst (v := 0) S dX5_restore_23 kI_0 ?_
    exact ct_zr (ty := .boolean) S rfl rfl dX5_restore_24
  · refine ct_aload_n (k := 0) S dX5_restore_14 rfl rfl ?_
    refine ct_getR S fw_X5_75 dX5_restore_15 (fun r4 => ?_)
    refine ct_iload_n (k := 1) S dX5_restore_18 rfl rfl ?_
    refine ct_bald S dX5_restore_19 (fun x5 => ?_)
    refine ct_if_ne (tgt := 25) S dX5_restore_20 (by decide) ?_ ?_
    · refine ct_iconst (v := 0) S dX5_restore_25 kI_0 ?_
      refine ct_istore_n (L' := [(2, cz_i 0), (0, cz_r l0), (1, cz_i l1)]) S dX5_restore_26 rfl (by decide) rfl ?_
      refine ct_sub [1, 2, 0] (L' := [(0, cz_r l0), (1, cz_i l1), (2, cz_i 0)]) rfl (wk_X5_restore_27 S ?_ 1000 0 h2)
      · intro h11
        refine ct_iconst (v := 0) S dX5_restore_58 kI_0 ?_
        refine ct_istore_n (L' := [(2, cz_i 0), (0, cz_r l0), (1, cz_i l1)]) S dX5_restore_59 rfl (by decide) rfl ?_
        refine ct_sub [1, 2, 0] (L' := [(0, cz_r l0), (1, cz_i l1), (2, cz_i 0)]) rfl (wk_X5_restore_60 S ?_ 1000 0 h11)
        · intro h17
          refine ct_aload_n (k := 0) S dX5_restore_89 rfl rfl ?_
          refine ct_iconst (v := 0) S dX5_restore_90 kI_0 ?_
          refine ct_put S fw_X5_231 fp_X5_m_5_23 (cz_fits_i pd_I) dX5_restore_91 (fun h18 => ?_)
          refine ct_iconst (v := 1) S dX5_restore_94 kI_1 ?_
          exact ct_zr (ty := .boolean) S rfl rfl dX5_restore_95
    · refine ct_iconst (v := 0) S dX5_restore_23 kI_0 ?_
      exact ct_zr (ty := .boolean) S rfl rfl dX5_restore_24
theorem mt_X5_restore {l : Launch} {D : cz_D} {l0 : Option Nat} {l1 : Int32} {h : cz_H} {oh : cz_O × cz_H} (hz : fn_X5_restore l0 l1 h = some oh) : cz_M l D yX5_restore (ws_ yX5_restore cX5_restore 3 ((Option.some Jvm.ClassFile.FieldType.boolean))) 3 [cz_r l0, cz_i l1] h oh := cz_met (plainFor_of_name (by decide)) (Nat.le_of_ble_eq_true rfl) hz (fun K hl S => wk_X5_restore S)
