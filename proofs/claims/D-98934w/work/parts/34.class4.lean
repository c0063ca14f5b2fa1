/-! methods of the class, 4 (printed by wip/D-98934w/gen) -/
set_option maxRecDepth 100000
/-! HeldCoats.book(I)I -/
def dkwX1_book_3 : List UInt8 := [100, 172]
abbrev dktX1_book_3 : List UInt8 := dkwX1_book_3 ++ []
def dkwX1_book_2 : List UInt8 := [4, 167, 0, 4, 3, 182, 1, 87, 172, 78, 42, 45, 180, 0, 113, 181, 0, 89, 16, 254, 45, 180, 0, 116]
abbrev dktX1_book_2 : List UInt8 := dkwX1_book_2 ++ dktX1_book_3
def dkwX1_book_1 : List UInt8 := [187, 1, 79, 89, 42, 180, 0, 26, 28, 42, 180, 0, 33, 183, 1, 81, 182, 1, 84, 27, 4, 160, 0, 7]
abbrev dktX1_book_1 : List UInt8 := dkwX1_book_1 ++ dktX1_book_2
def dkwX1_book_0 : List UInt8 := [27, 3, 4, 184, 0, 162, 154, 0, 7, 17, 252, 24, 172, 42, 182, 0, 85, 61, 42, 3, 181, 0, 89, 42]
abbrev dktX1_book_0 : List UInt8 := dkwX1_book_0 ++ dktX1_book_1
theorem dksX1_book_0 : cX1_book.data.toList.drop 0 = dktX1_book_0 := by decide +kernel
theorem dksX1_book_1 : cX1_book.data.toList.drop 24 = dktX1_book_1 := dk_seg dksX1_book_0 24 rfl rfl
theorem dksX1_book_2 : cX1_book.data.toList.drop 48 = dktX1_book_2 := dk_seg dksX1_book_1 24 rfl rfl
theorem dksX1_book_3 : cX1_book.data.toList.drop 72 = dktX1_book_3 := dk_seg dksX1_book_2 24 rfl rfl
theorem dX1_book_0 : decode cX1_book 0 = .ok (.iload_n 1, 1) := dk_27 (dk_at dksX1_book_0 0 rfl rfl)
theorem dX1_book_1 : decode cX1_book 1 = .ok (.iconst 0, 1) := dk_3 (dk_at dksX1_book_0 1 rfl rfl)
theorem dX1_book_2 : decode cX1_book 2 = .ok (.iconst 1, 1) := dk_4 (dk_at dksX1_book_0 2 rfl rfl)
theorem dX1_book_3 : decode cX1_book 3 = .ok (.invokestatic 162, 3) := dk_184 0 162 (dk_at dksX1_book_0 3 rfl rfl)
theorem dX1_book_6 : decode cX1_book 6 = .ok (.ifCond .ne 7, 3) := dk_154 0 7 (dk_at dksX1_book_0 6 rfl rfl)
theorem dX1_book_9 : decode cX1_book 9 = .ok (.sipush (-1000), 3) := dk_17 252 24 (dk_at dksX1_book_0 9 rfl rfl)
theorem dX1_book_12 : decode cX1_book 12 = .ok (.ireturn, 1) := dk_172 (dk_at dksX1_book_0 12 rfl rfl)
theorem dX1_book_13 : decode cX1_book 13 = .ok (.aload_n 0, 1) := dk_42 (dk_at dksX1_book_0 13 rfl rfl)
theorem dX1_book_14 : decode cX1_book 14 = .ok (.invokevirtual 85, 3) := dk_182 0 85 (dk_at dksX1_book_0 14 rfl rfl)
theorem dX1_book_17 : decode cX1_book 17 = .ok (.istore_n 2, 1) := dk_61 (dk_at dksX1_book_0 17 rfl rfl)
theorem dX1_book_18 : decode cX1_book 18 = .ok (.aload_n 0, 1) := dk_42 (dk_at dksX1_book_0 18 rfl rfl)
theorem dX1_book_19 : decode cX1_book 19 = .ok (.iconst 0, 1) := dk_3 (dk_at dksX1_book_0 19 rfl rfl)
theorem dX1_book_20 : decode cX1_book 20 = .ok (.putfield 89, 3) := dk_181 0 89 (dk_at dksX1_book_0 20 rfl rfl)
theorem dX1_book_23 : decode cX1_book 23 = .ok (.aload_n 0, 1) := dk_42 (dk_at dksX1_book_0 23 rfl rfl)
theorem dX1_book_24 : decode cX1_book 24 = .ok (.new 335, 3) := dk_187 1 79 (dk_at dksX1_book_1 0 rfl rfl)
theorem dX1_book_27 : decode cX1_book 27 = .ok (.dup, 1) := dk_89 (dk_at dksX1_book_1 3 rfl rfl)
theorem dX1_book_28 : decode cX1_book 28 = .ok (.aload_n 0, 1) := dk_42 (dk_at dksX1_book_1 4 rfl rfl)
theorem dX1_book_29 : decode cX1_book 29 = .ok (.getfield 26, 3) := dk_180 0 26 (dk_at dksX1_book_1 5 rfl rfl)
theorem dX1_book_32 : decode cX1_book 32 = .ok (.iload_n 2, 1) := dk_28 (dk_at dksX1_book_1 8 rfl rfl)
theorem dX1_book_33 : decode cX1_book 33 = .ok (.aload_n 0, 1) := dk_42 (dk_at dksX1_book_1 9 rfl rfl)
theorem dX1_book_34 : decode cX1_book 34 = .ok (.getfield 33, 3) := dk_180 0 33 (dk_at dksX1_book_1 10 rfl rfl)
theorem dX1_book_37 : decode cX1_book 37 = .ok (.invokespecial 337, 3) := dk_183 1 81 (dk_at dksX1_book_1 13 rfl rfl)
theorem dX1_book_40 : decode cX1_book 40 = .ok (.invokevirtual 340, 3) := dk_182 1 84 (dk_at dksX1_book_1 16 rfl rfl)
theorem dX1_book_43 : decode cX1_book 43 = .ok (.iload_n 1, 1) := dk_27 (dk_at dksX1_book_1 19 rfl rfl)
theorem dX1_book_44 : decode cX1_book 44 = .ok (.iconst 1, 1) := dk_4 (dk_at dksX1_book_1 20 rfl rfl)
theorem dX1_book_45 : decode cX1_book 45 = .ok (.if_icmp .ne 7, 3) := dk_160 0 7 (dk_at dksX1_book_1 21 rfl rfl)
theorem dX1_book_48 : decode cX1_book 48 = .ok (.iconst 1, 1) := dk_4 (dk_at dksX1_book_2 0 rfl rfl)
theorem dX1_book_49 : decode cX1_book 49 = .ok (.goto 4, 3) := dk_167 0 4 (dk_at dksX1_book_2 1 rfl rfl)
theorem dX1_book_52 : decode cX1_book 52 = .ok (.iconst 0, 1) := dk_3 (dk_at dksX1_book_2 4 rfl rfl)
theorem dX1_book_53 : decode cX1_book 53 = .ok (.invokevirtual 343, 3) := dk_182 1 87 (dk_at dksX1_book_2 5 rfl rfl)
theorem dX1_book_56 : decode cX1_book 56 = .ok (.ireturn, 1) := dk_172 (dk_at dksX1_book_2 8 rfl rfl)
theorem dX1_book_57 : decode cX1_book 57 = .ok (.astore_n 3, 1) := dk_78 (dk_at dksX1_book_2 9 rfl rfl)
theorem dX1_book_58 : decode cX1_book 58 = .ok (.aload_n 0, 1) := dk_42 (dk_at dksX1_book_2 10 rfl rfl)
theorem dX1_book_59 : decode cX1_book 59 = .ok (.aload_n 3, 1) := dk_45 (dk_at dksX1_book_2 11 rfl rfl)
theorem dX1_book_60 : decode cX1_book 60 = .ok (.getfield 113, 3) := dk_180 0 113 (dk_at dksX1_book_2 12 rfl rfl)
theorem dX1_book_63 : decode cX1_book 63 = .ok (.putfield 89, 3) := dk_181 0 89 (dk_at dksX1_book_2 15 rfl rfl)
theorem dX1_book_66 : decode cX1_book 66 = .ok (.bipush (-2), 2) := dk_16 254 (dk_at dksX1_book_2 18 rfl rfl)
theorem dX1_book_68 : decode cX1_book 68 = .ok (.aload_n 3, 1) := dk_45 (dk_at dksX1_book_2 20 rfl rfl)
theorem dX1_book_69 : decode cX1_book 69 = .ok (.getfield 116, 3) := dk_180 0 116 (dk_at dksX1_book_2 21 rfl rfl)
theorem dX1_book_72 : decode cX1_book 72 = .ok (.isub, 1) := dk_100 (dk_at dksX1_book_3 0 rfl rfl)
theorem dX1_book_73 : decode cX1_book 73 = .ok (.ireturn, 1) := dk_172 (dk_at dksX1_book_3 1 rfl rfl)
theorem se_HeldCoats_take___I_HeldCoats : ∀ c ∈ ([0] : List Nat), ∃ q : vw_C, cz_cl[c]? = some q ∧ Cond.selects q.1 (⟨"HeldCoats", "take", "()I"⟩ : MethodName) (⟨"HeldCoats", "take", "()I"⟩ : MethodName) ∈ lw_all := List.forall_mem_cons.mpr ⟨⟨_, cz_cl0, qs1⟩, fun _ h => absurd h List.not_mem_nil⟩
theorem md_X1_take : cz_md yX1_take 2 (ws_ yX1_take cX1_take 2 ((Option.some Jvm.ClassFile.FieldType.int))) 0 := ⟨cz_ws_code q455, q113, ⟨by decide, by decide, by decide +kernel⟩, by decide⟩
theorem fw_X1_89 : cz_FW "HeldCoats" 89 [(0, 2)] "I" := ⟨"HeldCoats", "fault", Or.inl q382, List.forall_mem_cons.mpr ⟨⟨RX1, TX1, 18, rfl, by decide, rfl, rfl, Or.inl rfl⟩, fun _ h => absurd h List.not_mem_nil⟩, by decide⟩
theorem fp_X1_m_0_2 {nm : String} : cz_FP "HeldCoats" nm [(0, 2)] := List.forall_mem_cons.mpr ⟨⟨RX1, TX1, 18, rfl, Or.inl rfl⟩, fun _ h => absurd h List.not_mem_nil⟩
theorem fw_X1_26 : cz_FW "HeldCoats" 26 [(0, 0)] "[B" := ⟨"HeldCoats", "tape", Or.inl q380, List.forall_mem_cons.mpr ⟨⟨RX1, TX1, 18, rfl, by decide, rfl, rfl, Or.inl rfl⟩, fun _ h => absurd h List.not_mem_nil⟩, by decide⟩
theorem nh_HeldCoats_BookReader__init____BILHeldCoats_Capital__V : cz_nh ⟨"HeldCoats$BookReader", "<init>", "([BILHeldCoats$Capital;)V"⟩ 3 := ⟨by decide, by decide, by decide +kernel⟩
theorem se_HeldCoats_BookReader_read___Ljava_util_ArrayList__HeldCoats_BookReader : ∀ c ∈ ([16] : List Nat), ∃ q : vw_C, cz_cl[c]? = some q ∧ Cond.selects q.1 (⟨"HeldCoats$BookReader", "read", "()Ljava/util/ArrayList;"⟩ : MethodName) (⟨"HeldCoats$BookReader", "read", "()Ljava/util/ArrayList;"⟩ : MethodName) ∈ lw_all := List.forall_mem_cons.mpr ⟨⟨_, cz_cl16, q1550⟩, fun _ h => absurd h List.not_mem_nil⟩
theorem md_X19_read : cz_md yX19_read 1 (ws_ yX19_read cX19_read 1 ((Option.some (Jvm.ClassFile.FieldType.object "java/util/ArrayList")))) 0 := ⟨cz_ws_code q1551, q150, ⟨by decide, by decide, by decide +kernel⟩, by decide⟩
theorem cc_HeldCoats_Fault : ∀ c ∈ ([9] : List Nat), ∃ r : vw_C, cz_cl[c]? = some r ∧ Cond.castable r.1 "HeldCoats$Fault" ∈ lw_tbl := List.forall_mem_cons.mpr ⟨⟨_, cz_cl9, q753⟩, fun _ h => absurd h List.not_mem_nil⟩
theorem fw_X1_113 : cz_FW "HeldCoats" 113 [(9, 6)] "I" := ⟨"HeldCoats$Fault", "kind", Or.inr ⟨_, q799⟩, List.forall_mem_cons.mpr ⟨⟨RX8, TX8, 8, rfl, by decide, rfl, rfl, Or.inl rfl⟩, fun _ h => absurd h List.not_mem_nil⟩, by decide⟩
theorem fw_X1_116 : cz_FW "HeldCoats" 116 [(9, 7)] "I" := ⟨"HeldCoats$Fault", "place", Or.inr ⟨_, q801⟩, List.forall_mem_cons.mpr ⟨⟨RX8, TX8, 8, rfl, by decide, rfl, rfl, Or.inl rfl⟩, fun _ h => absurd h List.not_mem_nil⟩, by decide⟩
theorem se_HeldCoats_lived__Ljava_util_ArrayList_Z_I_HeldCoats : ∀ c ∈ ([0] : List Nat), ∃ q : vw_C, cz_cl[c]? = some q ∧ Cond.selects q.1 (⟨"HeldCoats", "lived", "(Ljava/util/ArrayList;Z)I"⟩ : MethodName) (⟨"HeldCoats", "lived", "(Ljava/util/ArrayList;Z)I"⟩ : MethodName) ∈ lw_all := List.forall_mem_cons.mpr ⟨⟨_, cz_cl0, qs37⟩, fun _ h => absurd h List.not_mem_nil⟩
theorem md_X1_lived : cz_md yX1_lived 5 (ws_ yX1_lived cX1_lived 5 ((Option.some Jvm.ClassFile.FieldType.int))) 2 := ⟨cz_ws_code q1616, q113, ⟨by decide, by decide, by decide +kernel⟩, by decide⟩
set_option maxHeartbeats 4000000 in
set_option maxRecDepth 100000 in
noncomputable def fn_X1_book (l0 : Option Nat) (l1 : Int32) (h : cz_H) : cz_Z := cz_cI (fn_X1_isIn l1 0 1 h) (fun x2 h1 => (if x2 = 0 then some (.inl (some (cz_i (-1000))), h1) else cz_rc h1 l0 [0] (cz_cI (fn_X1_take l0 h1) (fun x10 h9 => cz_put h9 l0 [(0, 2)] (cz_i 0) (fun h11 => cz_newo h11 16 11 (fun r12 h13 => cz_getR h13 l0 [(0, 0)] (fun r14 => cz_getR h13 l0 [(0, 3)] (fun r15 => cz_nn' r12 (cz_cV (fn_X19_init r12 r14 x10 r15 h13) (fun h18 => cz_rc h18 r12 [16] (cz_xR (fn_X19_read r12 h18) (fun q26 h27 => cz_catch h27 q26 [9] (cz_getI h27 (some q26) [(9, 6)] (fun x28 => cz_put h27 l0 [(0, 2)] (cz_i x28) (fun h29 => cz_getI h29 (some q26) [(9, 7)] (fun x30 => some (.inl (some (cz_i (((-2) : Int32) - x30))), h29)))))) (fun r31 h25 => (if l1 = 1 then cz_rc h25 l0 [0] (cz_cI (fn_X1_lived l0 r31 1 h25) (fun x47 h46 => some (.inl (some (cz_i x47)), h46))) else cz_rc h25 l0 [0] (cz_cI (fn_X1_lived l0 r31 0 h25) (fun x39 h38 => some (.inl (some (cz_i x39)), h38))))))))))))))))
set_option maxHeartbeats 4000000 in
set_option maxRecDepth 100000 in
theorem wk_X1_book {K : cz_K} {D : cz_D} {h0 : cz_H} {oh : cz_O × cz_H} {l0 : Option Nat} {l1 : Int32} {h : cz_H} (S : cz_S K D h0 cX1_book 4 "HeldCoats" ((Option.some Jvm.ClassFile.FieldType.int)) "book" (tableOf [(23, 56, 57, 111)])) : cz_T K D 13 h0 oh 4 (fn_X1_book l0 l1 h) h 0 [(0, cz_r l0), (1, cz_i l1)] [] := by
  unfold fn_X1_book
  refine ct_iload_n (k := 1) S dX1_book_0 rfl rfl ?_
  refine ct_iconst (v := 0) S dX1_book_1 kI_0 ?_
  refine ct_iconst (v := 1) S dX1_book_2 kI_1 ?_
  refine ct_cI (st := []) (cg_static (av := [cz_i l1, cz_i 0, cz_i 1]) S (fun _ e => mt_X1_isIn e) md_X1_isIn (Or.inl q1355) q929 (by decide) (Nat.le_of_ble_eq_true rfl) rfl dX1_book_3) (fun x2 h1 => ?_)
  refine ct_if_ne (tgt := 13) S dX1_book_6 (by decide) ?_ ?_
  · refine ct_aload_n (k := 0) S dX1_book_13 rfl rfl ?_
    refine ct_rc (fun b3 ci4 V5 hb6 hc7 hi8 => ?_)
    refine ct_cI (st := []) (cg_virtual (av := []) S hb6 hc7 hi8 (fun _ e => mt_X1_take e) md_X1_take q452 q454 se_HeldCoats_take___I_HeldCoats (by decide) (Nat.le_of_ble_eq_true rfl) rfl dX1_book_14) (fun x10 h9 => ?_)
    refine ct_istore_n (L' := [(2, cz_i x10), (0, cz_r l0), (1, cz_i l1)]) S dX1_book_17 rfl (by decide) rfl ?_
    refine ct_aload_n (k := 1) S dX1_book_18 rfl rfl ?_
    refine ct_iconst (v := 0) S dX1_book_19 kI_0 ?_
    refine ct_put S fw_X1_89 fp_X1_m_0_2 (cz_fits_i pd_I) dX1_book_20 (fun h11 => ?_)
    refine ct_aload_n (k := 1) S dX1_book_23 rfl rfl ?_
    refine ct_newo S (by decide) cz_cl16 q1524 dX1_book_24 (fun r12 h13 => ?_)
    refine ct_dup S dX1_book_27 rfl ?_
    refine ct_aload_n (k := 1) S dX1_book_28 rfl rfl ?_
    refine ct_getR S fw_X1_26 dX1_book_29 (fun r14 => ?_)
    refine ct_iload_n (k := 0) S dX1_book_32 rfl rfl ?_
    refine ct_aload_n (k := 1) S dX1_book_33 rfl rfl ?_
    refine ct_getR S fw_X1_33 dX1_book_34 (fun r15 => ?_)
    refine ct_nn (fun b16 hb17 => ?_)
    refine ct_cV (st := [cz_r r12, cz_r l0]) (cg_init (av := [cz_r r14, cz_i x10, cz_r r15]) S hb17 (fun _ e => mt_X19_init e) q1528 (Or.inl q1526) rfl q1527 q150 nh_HeldCoats_BookReader__init____BILHeldCoats_Capital__V (by decide) (by decide) (Nat.le_of_ble_eq_true rfl) rfl dX1_book_37) (fun h18 => ?_)
    refine ct_rc (fun b19 ci20 V21 hb22 hc23 hi24 => ?_)
    refine ct_xR (st := [cz_r l0]) (cg_virtual (av := []) S hb22 hc23 hi24 (fun _ e => mt_X19_read e) md_X19_read q1548 q1549 se_HeldCoats_BookReader_read___Ljava_util_ArrayList__HeldCoats_BookReader (by decide) (Nat.le_of_ble_eq_true rfl) rfl dX1_book_40) (fun q26 h27 => ?_) (fun r31 h25 => ?_)
    · refine ct_catch (hp := 57) S rfl rfl (by decide) rfl q451 cc_HeldCoats_Fault ?_
      refine ct_astore_n (L' := [(3, cz_r (some q26)), (2, cz_i x10), (0, cz_r l0), (1, cz_i l1)]) S dX1_book_57 rfl (by decide) rfl ?_
      refine ct_aload_n (k := 2) S dX1_book_58 rfl rfl ?_
      refine ct_aload_n (k := 0) S dX1_book_59 rfl rfl ?_
      refine ct_getI S fw_X1_113 dX1_book_60 (fun x28 => ?_)
      refine ct_put S fw_X1_89 fp_X1_m_0_2 (cz_fits_i pd_I) dX1_book_63 (fun h29 => ?_)
      refine ct_bipush (v := (-2)) S dX1_book_66 kB_m2 ?_
      refine ct_aload_n (k := 0) S dX1_book_68 rfl rfl ?_
      refine ct_getI S fw_X1_116 dX1_book_69 (fun x30 => ?_)
      refine ct_isub S dX1_book_72 ?_
      exact ct_iret S rfl dX1_book_73
    · refine ct_iload_n (k := 2) S dX1_book_43 rfl rfl ?_
      refine ct_iconst (v := 1) S dX1_book_44 kI_1 ?_
      refine ct_icmp_ne (tgt := 52) S dX1_book_45 (by decide) ?_ ?_
      · refine ct_iconst (v := 0) S dX1_book_52 kI_0 ?_
        refine ct_rc (fun b32 ci33 V34 hb35 hc36 hi37 => ?_)
        refine ct_cI (st := []) (cg_virtual (av := [cz_r r31, cz_i 0]) S hb35 hc36 hi37 (fun _ e => mt_X1_lived e) md_X1_lived q1613 q1615 se_HeldCoats_lived__Ljava_util_ArrayList_Z_I_HeldCoats (by decide) (Nat.le_of_ble_eq_true rfl) rfl dX1_book_53) (fun x39 h38 => ?_)
        exact ct_iret S rfl dX1_book_56
      · refine ct_iconst (v := 1) S dX1_book_48 kI_1 ?_
        refine ct_goto (tgt := 53) S dX1_book_49 (by decide) ?_
        refine ct_rc (fun b40 ci41 V42 hb43 hc44 hi45 => ?_)
        refine ct_cI (st := []) (cg_virtual (av := [cz_r r31, cz_i 1]) S hb43 hc44 hi45 (fun _ e => mt_X1_lived e) md_X1_lived q1613 q1615 se_HeldCoats_lived__Ljava_util_ArrayList_Z_I_HeldCoats (by decide) (Nat.le_of_ble_eq_true rfl) rfl dX1_book_53) (fun x47 h46 => ?_)
        exact ct_iret S rfl dX1_book_56
  · refine ct_sipush (v := (-1000)) S dX1_book_9 kS_m1000 ?_
    exact ct_iret S rfl dX1_book_12
theorem mt_X1_book {l : Launch} {D : cz_D} {l0 : Option Nat} {l1 : Int32} {h : cz_H} {oh : cz_O × cz_H} (hz : fn_X1_book l0 l1 h = some oh) : cz_M l D yX1_book (wsW_ yX1_book cX1_book 4 ((Option.some Jvm.ClassFile.FieldType.int)) [(23, 56, 57, 111)]) 13 [cz_r l0, cz_i l1] h oh := cz_metW (plainFor_of_name (by decide)) (Nat.le_of_ble_eq_true rfl) hz (fun K hl S => wk_X1_book S)
/-! HeldCoats.coats()I -/
def dkwX1_coats_0 : List UInt8 := [42, 180, 0, 33, 180, 0, 142, 182, 0, 134, 172]
abbrev dktX1_coats_0 : List UInt8 := dkwX1_coats_0 ++ []
theorem dksX1_coats_0 : cX1_coats.data.toList.drop 0 = dktX1_coats_0 := by decide +kernel
theorem dX1_coats_0 : decode cX1_coats 0 = .ok (.aload_n 0, 1) := dk_42 (dk_at dksX1_coats_0 0 rfl rfl)
theorem dX1_coats_1 : decode cX1_coats 1 = .ok (.getfield 33, 3) := dk_180 0 33 (dk_at dksX1_coats_0 1 rfl rfl)
theorem dX1_coats_4 : decode cX1_coats 4 = .ok (.getfield 142, 3) := dk_180 0 142 (dk_at dksX1_coats_0 4 rfl rfl)
theorem dX1_coats_7 : decode cX1_coats 7 = .ok (.invokevirtual 134, 3) := dk_182 0 134 (dk_at dksX1_coats_0 7 rfl rfl)
theorem dX1_coats_10 : decode cX1_coats 10 = .ok (.ireturn, 1) := dk_172 (dk_at dksX1_coats_0 10 rfl rfl)
set_option maxHeartbeats 4000000 in
set_option maxRecDepth 100000 in
noncomputable def fn_X1_coats (l0 : Option Nat) (h : cz_H) : cz_Z := cz_getR h l0 [(0, 3)] (fun r1 => cz_getR h r1 [(1, 8)] (fun r2 => cz_rc h r2 [2] (cz_cI (fn_J2_size r2 h) (fun x10 h9 => some (.inl (some (cz_i x10)), h9)))))
set_option maxHeartbeats 4000000 in
set_option maxRecDepth 100000 in
theorem wk_X1_coats {K : cz_K} {D : cz_D} {h0 : cz_H} {oh : cz_O × cz_H} {l0 : Option Nat} {h : cz_H} (S : cz_S K D h0 cX1_coats 1 "HeldCoats" ((Option.some Jvm.ClassFile.FieldType.int)) "coats" ([])) : cz_T K D 3 h0 oh 1 (fn_X1_coats l0 h) h 0 [(0, cz_r l0)] [] := by
  unfold fn_X1_coats
  refine ct_aload_n (k := 0) S dX1_coats_0 rfl rfl ?_
  refine ct_getR S fw_X1_33 dX1_coats_1 (fun r1 => ?_)
  refine ct_getR S fw_X1_142 dX1_coats_4 (fun r2 => ?_)
  refine ct_rc (fun b3 ci4 V5 hb6 hc7 hi8 => ?_)
  refine ct_cI (st := []) (cg_virtual (av := []) S hb6 hc7 hi8 (fun _ e => mt_J2_size e) md_J2_size q1389 q341 se_java_util_ArrayList_size___I_java_util_ArrayList (by decide) (Nat.le_of_ble_eq_true rfl) rfl dX1_coats_7) (fun x10 h9 => ?_)
  exact ct_iret S rfl dX1_coats_10
theorem mt_X1_coats {l : Launch} {D : cz_D} {l0 : Option Nat} {h : cz_H} {oh : cz_O × cz_H} (hz : fn_X1_coats l0 h = some oh) : cz_M l D yX1_coats (ws_ yX1_coats cX1_coats 1 ((Option.some Jvm.ClassFile.FieldType.int))) 3 [cz_r l0] h oh := cz_met (plainFor_of_name (by decide)) (Nat.le_of_ble_eq_true rfl) hz (fun K hl S => wk_X1_coats S)
/-! HeldCoats.bribes(I)I -/
def dkwX1_bribes_5 : List UInt8 := [167, 0, 4, 2, 172]
abbrev dktX1_bribes_5 : List UInt8 := dkwX1_bribes_5 ++ []
def dkwX1_bribes_4 : List UInt8 := [153, 0, 11, 21, 4, 154, 0, 6, 132, 3, 1, 132, 5, 1, 167, 255, 175, 28, 27, 160, 0, 7, 29]
abbrev dktX1_bribes_4 : List UInt8 := dkwX1_bribes_4 ++ dktX1_bribes_5
def dkwX1_bribes_3 : List UInt8 := [21, 6, 153, 0, 18, 28, 4, 42, 180, 0, 42, 180, 1, 44, 21, 5, 46, 120, 128, 61, 21, 6]
abbrev dktX1_bribes_3 : List UInt8 := dkwX1_bribes_3 ++ dktX1_bribes_4
def dkwX1_bribes_2 : List UInt8 := [46, 184, 1, 16, 54, 6, 21, 4, 153, 0, 12, 21, 6, 153, 0, 7, 4, 167, 0, 4, 3, 54, 4]
abbrev dktX1_bribes_2 : List UInt8 := dkwX1_bribes_2 ++ dktX1_bribes_3
def dkwX1_bribes_1 : List UInt8 := [54, 5, 21, 5, 42, 180, 0, 42, 180, 0, 229, 162, 0, 75, 27, 42, 180, 0, 42, 180, 1, 44, 21, 5]
abbrev dktX1_bribes_1 : List UInt8 := dkwX1_bribes_1 ++ dktX1_bribes_2
def dkwX1_bribes_0 : List UInt8 := [27, 155, 0, 13, 27, 4, 42, 182, 1, 47, 120, 161, 0, 5, 2, 172, 3, 61, 3, 62, 4, 54, 4, 3]
abbrev dktX1_bribes_0 : List UInt8 := dkwX1_bribes_0 ++ dktX1_bribes_1
theorem dksX1_bribes_0 : cX1_bribes.data.toList.drop 0 = dktX1_bribes_0 := by decide +kernel
theorem dksX1_bribes_1 : cX1_bribes.data.toList.drop 24 = dktX1_bribes_1 := dk_seg dksX1_bribes_0 24 rfl rfl
theorem dksX1_bribes_2 : cX1_bribes.data.toList.drop 48 = dktX1_bribes_2 := dk_seg dksX1_bribes_1 24 rfl rfl
theorem dksX1_bribes_3 : cX1_bribes.data.toList.drop 71 = dktX1_bribes_3 := dk_seg dksX1_bribes_2 23 rfl rfl
theorem dksX1_bribes_4 : cX1_bribes.data.toList.drop 93 = dktX1_bribes_4 := dk_seg dksX1_bribes_3 22 rfl rfl
theorem dksX1_bribes_5 : cX1_bribes.data.toList.drop 116 = dktX1_bribes_5 := dk_seg dksX1_bribes_4 23 rfl rfl
theorem dX1_bribes_0 : decode cX1_bribes 0 = .ok (.iload_n 1, 1) := dk_27 (dk_at dksX1_bribes_0 0 rfl rfl)
theorem dX1_bribes_1 : decode cX1_bribes 1 = .ok (.ifCond .lt 13, 3) := dk_155 0 13 (dk_at dksX1_bribes_0 1 rfl rfl)
theorem dX1_bribes_4 : decode cX1_bribes 4 = .ok (.iload_n 1, 1) := dk_27 (dk_at dksX1_bribes_0 4 rfl rfl)
theorem dX1_bribes_5 : decode cX1_bribes 5 = .ok (.iconst 1, 1) := dk_4 (dk_at dksX1_bribes_0 5 rfl rfl)
theorem dX1_bribes_6 : decode cX1_bribes 6 = .ok (.aload_n 0, 1) := dk_42 (dk_at dksX1_bribes_0 6 rfl rfl)
theorem dX1_bribes_7 : decode cX1_bribes 7 = .ok (.invokevirtual 303, 3) := dk_182 1 47 (dk_at dksX1_bribes_0 7 rfl rfl)
theorem dX1_bribes_10 : decode cX1_bribes 10 = .ok (.ishl, 1) := dk_120 (dk_at dksX1_bribes_0 10 rfl rfl)
theorem dX1_bribes_11 : decode cX1_bribes 11 = .ok (.if_icmp .lt 5, 3) := dk_161 0 5 (dk_at dksX1_bribes_0 11 rfl rfl)
theorem dX1_bribes_14 : decode cX1_bribes 14 = .ok (.iconst (-1), 1) := dk_2 (dk_at dksX1_bribes_0 14 rfl rfl)
theorem dX1_bribes_15 : decode cX1_bribes 15 = .ok (.ireturn, 1) := dk_172 (dk_at dksX1_bribes_0 15 rfl rfl)
theorem dX1_bribes_16 : decode cX1_bribes 16 = .ok (.iconst 0, 1) := dk_3 (dk_at dksX1_bribes_0 16 rfl rfl)
theorem dX1_bribes_17 : decode cX1_bribes 17 = .ok (.istore_n 2, 1) := dk_61 (dk_at dksX1_bribes_0 17 rfl rfl)
theorem dX1_bribes_18 : decode cX1_bribes 18 = .ok (.iconst 0, 1) := dk_3 (dk_at dksX1_bribes_0 18 rfl rfl)
theorem dX1_bribes_19 : decode cX1_bribes 19 = .ok (.istore_n 3, 1) := dk_62 (dk_at dksX1_bribes_0 19 rfl rfl)
theorem dX1_bribes_20 : decode cX1_bribes 20 = .ok (.iconst 1, 1) := dk_4 (dk_at dksX1_bribes_0 20 rfl rfl)
theorem dX1_bribes_21 : decode cX1_bribes 21 = .ok (.istore 4, 2) := dk_54 4 (dk_at dksX1_bribes_0 21 rfl rfl)
theorem dX1_bribes_23 : decode cX1_bribes 23 = .ok (.iconst 0, 1) := dk_3 (dk_at dksX1_bribes_0 23 rfl rfl)
theorem dX1_bribes_24 : decode cX1_bribes 24 = .ok (.istore 5, 2) := dk_54 5 (dk_at dksX1_bribes_1 0 rfl rfl)
theorem dX1_bribes_26 : decode cX1_bribes 26 = .ok (.iload 5, 2) := dk_21 5 (dk_at dksX1_bribes_1 2 rfl rfl)
theorem dX1_bribes_28 : decode cX1_bribes 28 = .ok (.aload_n 0, 1) := dk_42 (dk_at dksX1_bribes_1 4 rfl rfl)
theorem dX1_bribes_29 : decode cX1_bribes 29 = .ok (.getfield 42, 3) := dk_180 0 42 (dk_at dksX1_bribes_1 5 rfl rfl)
theorem dX1_bribes_32 : decode cX1_bribes 32 = .ok (.getfield 229, 3) := dk_180 0 229 (dk_at dksX1_bribes_1 8 rfl rfl)
theorem dX1_bribes_35 : decode cX1_bribes 35 = .ok (.if_icmp .ge 75, 3) := dk_162 0 75 (dk_at dksX1_bribes_1 11 rfl rfl)
theorem dX1_bribes_38 : decode cX1_bribes 38 = .ok (.iload_n 1, 1) := dk_27 (dk_at dksX1_bribes_1 14 rfl rfl)
theorem dX1_bribes_39 : decode cX1_bribes 39 = .ok (.aload_n 0, 1) := dk_42 (dk_at dksX1_bribes_1 15 rfl rfl)
theorem dX1_bribes_40 : decode cX1_bribes 40 = .ok (.getfield 42, 3) := dk_180 0 42 (dk_at dksX1_bribes_1 16 rfl rfl)
theorem dX1_bribes_43 : decode cX1_bribes 43 = .ok (.getfield 300, 3) := dk_180 1 44 (dk_at dksX1_bribes_1 19 rfl rfl)
theorem dX1_bribes_46 : decode cX1_bribes 46 = .ok (.iload 5, 2) := dk_21 5 (dk_at dksX1_bribes_1 22 rfl rfl)
theorem dX1_bribes_48 : decode cX1_bribes 48 = .ok (.iaload, 1) := dk_46 (dk_at dksX1_bribes_2 0 rfl rfl)
theorem dX1_bribes_49 : decode cX1_bribes 49 = .ok (.invokestatic 272, 3) := dk_184 1 16 (dk_at dksX1_bribes_2 1 rfl rfl)
theorem dX1_bribes_52 : decode cX1_bribes 52 = .ok (.istore 6, 2) := dk_54 6 (dk_at dksX1_bribes_2 4 rfl rfl)
theorem dX1_bribes_54 : decode cX1_bribes 54 = .ok (.iload 4, 2) := dk_21 4 (dk_at dksX1_bribes_2 6 rfl rfl)
theorem dX1_bribes_56 : decode cX1_bribes 56 = .ok (.ifCond .eq 12, 3) := dk_153 0 12 (dk_at dksX1_bribes_2 8 rfl rfl)
theorem dX1_bribes_59 : decode cX1_bribes 59 = .ok (.iload 6, 2) := dk_21 6 (dk_at dksX1_bribes_2 11 rfl rfl)
theorem dX1_bribes_61 : decode cX1_bribes 61 = .ok (.ifCond .eq 7, 3) := dk_153 0 7 (dk_at dksX1_bribes_2 13 rfl rfl)
theorem dX1_bribes_64 : decode cX1_bribes 64 = .ok (.iconst 1, 1) := dk_4 (dk_at dksX1_bribes_2 16 rfl rfl)
theorem dX1_bribes_65 : decode cX1_bribes 65 = .ok (.goto 4, 3) := dk_167 0 4 (dk_at dksX1_bribes_2 17 rfl rfl)
theorem dX1_bribes_68 : decode cX1_bribes 68 = .ok (.iconst 0, 1) := dk_3 (dk_at dksX1_bribes_2 20 rfl rfl)
theorem dX1_bribes_69 : decode cX1_bribes 69 = .ok (.istore 4, 2) := dk_54 4 (dk_at dksX1_bribes_2 21 rfl rfl)
theorem dX1_bribes_71 : decode cX1_bribes 71 = .ok (.iload 6, 2) := dk_21 6 (dk_at dksX1_bribes_3 0 rfl rfl)
theorem dX1_bribes_73 : decode cX1_bribes 73 = .ok (.ifCond .eq 18, 3) := dk_153 0 18 (dk_at dksX1_bribes_3 2 rfl rfl)
theorem dX1_bribes_76 : decode cX1_bribes 76 = .ok (.iload_n 2, 1) := dk_28 (dk_at dksX1_bribes_3 5 rfl rfl)
theorem dX1_bribes_77 : decode cX1_bribes 77 = .ok (.iconst 1, 1) := dk_4 (dk_at dksX1_bribes_3 6 rfl rfl)
theorem dX1_bribes_78 : decode cX1_bribes 78 = .ok (.aload_n 0, 1) := dk_42 (dk_at dksX1_bribes_3 7 rfl rfl)
theorem dX1_bribes_79 : decode cX1_bribes 79 = .ok (.getfield 42, 3) := dk_180 0 42 (dk_at dksX1_bribes_3 8 rfl rfl)
theorem dX1_bribes_82 : decode cX1_bribes 82 = .ok (.getfield 300, 3) := dk_180 1 44 (dk_at dksX1_bribes_3 11 rfl rfl)
theorem dX1_bribes_85 : decode cX1_bribes 85 = .ok (.iload 5, 2) := dk_21 5 (dk_at dksX1_bribes_3 14 rfl rfl)
theorem dX1_bribes_87 : decode cX1_bribes 87 = .ok (.iaload, 1) := dk_46 (dk_at dksX1_bribes_3 16 rfl rfl)
theorem dX1_bribes_88 : decode cX1_bribes 88 = .ok (.ishl, 1) := dk_120 (dk_at dksX1_bribes_3 17 rfl rfl)
theorem dX1_bribes_89 : decode cX1_bribes 89 = .ok (.ior, 1) := dk_128 (dk_at dksX1_bribes_3 18 rfl rfl)
theorem dX1_bribes_90 : decode cX1_bribes 90 = .ok (.istore_n 2, 1) := dk_61 (dk_at dksX1_bribes_3 19 rfl rfl)
theorem dX1_bribes_91 : decode cX1_bribes 91 = .ok (.iload 6, 2) := dk_21 6 (dk_at dksX1_bribes_3 20 rfl rfl)
theorem dX1_bribes_93 : decode cX1_bribes 93 = .ok (.ifCond .eq 11, 3) := dk_153 0 11 (dk_at dksX1_bribes_4 0 rfl rfl)
theorem dX1_bribes_96 : decode cX1_bribes 96 = .ok (.iload 4, 2) := dk_21 4 (dk_at dksX1_bribes_4 3 rfl rfl)
theorem dX1_bribes_98 : decode cX1_bribes 98 = .ok (.ifCond .ne 6, 3) := dk_154 0 6 (dk_at dksX1_bribes_4 5 rfl rfl)
theorem dX1_bribes_101 : decode cX1_bribes 101 = .ok (.iinc 3 1, 3) := dk_132 3 1 (dk_at dksX1_bribes_4 8 rfl rfl)
theorem dX1_bribes_104 : decode cX1_bribes 104 = .ok (.iinc 5 1, 3) := dk_132 5 1 (dk_at dksX1_bribes_4 11 rfl rfl)
theorem dX1_bribes_107 : decode cX1_bribes 107 = .ok (.goto (-81), 3) := dk_167 255 175 (dk_at dksX1_bribes_4 14 rfl rfl)
theorem dX1_bribes_110 : decode cX1_bribes 110 = .ok (.iload_n 2, 1) := dk_28 (dk_at dksX1_bribes_4 17 rfl rfl)
theorem dX1_bribes_111 : decode cX1_bribes 111 = .ok (.iload_n 1, 1) := dk_27 (dk_at dksX1_bribes_4 18 rfl rfl)
theorem dX1_bribes_112 : decode cX1_bribes 112 = .ok (.if_icmp .ne 7, 3) := dk_160 0 7 (dk_at dksX1_bribes_4 19 rfl rfl)
theorem dX1_bribes_115 : decode cX1_bribes 115 = .ok (.iload_n 3, 1) := dk_29 (dk_at dksX1_bribes_4 22 rfl rfl)
theorem dX1_bribes_116 : decode cX1_bribes 116 = .ok (.goto 4, 3) := dk_167 0 4 (dk_at dksX1_bribes_5 0 rfl rfl)
theorem dX1_bribes_119 : decode cX1_bribes 119 = .ok (.iconst (-1), 1) := dk_2 (dk_at dksX1_bribes_5 3 rfl rfl)
theorem dX1_bribes_120 : decode cX1_bribes 120 = .ok (.ireturn, 1) := dk_172 (dk_at dksX1_bribes_5 4 rfl rfl)
theorem se_HeldCoats_coats___I_HeldCoats : ∀ c ∈ ([0] : List Nat), ∃ q : vw_C, cz_cl[c]? = some q ∧ Cond.selects q.1 (⟨"HeldCoats", "coats", "()I"⟩ : MethodName) (⟨"HeldCoats", "coats", "()I"⟩ : MethodName) ∈ lw_all := List.forall_mem_cons.mpr ⟨⟨_, cz_cl0, qs26⟩, fun _ h => absurd h List.not_mem_nil⟩
theorem md_X1_coats : cz_md yX1_coats 1 (ws_ yX1_coats cX1_coats 1 ((Option.some Jvm.ClassFile.FieldType.int))) 0 := ⟨cz_ws_code q1427, q113, ⟨by decide, by decide, by decide +kernel⟩, by decide⟩
set_option maxHeartbeats 4000000 in
set_option maxRecDepth 100000 in
noncomputable def fn_X1_bribes_26 (l0 : Option Nat) (l1 : Int32) (k0 : Int32 → Int32 → cz_H → cz_Z) : Nat → Int32 → Int32 → Int32 → Int32 → cz_H → cz_Z
  | 0, _, _, _, _, _ => none
  | n + 1, l2, l3, l4, l5, h => cz_getR h l0 [(0, 4)] (fun r9 => cz_getI h r9 [(3, 5)] (fun x10 => (if x10 ≤ l5 then k0 l2 l3 h else cz_getR h l0 [(0, 4)] (fun r11 => cz_getR h r11 [(3, 10)] (fun r12 => cz_iald h r12 l5 (fun x13 => cz_cI (fn_X1_isOf l1 x13 h) (fun x15 h14 => cz_jn (fun (v16 : Int32) (h17 : cz_H) => cz_jn (fun (v18 : Int32) (h19 : cz_H) => (if x15 = 0 then cz_leti (l5 + 1) (fun x20 => fn_X1_bribes_26 l0 l1 k0 n v18 l3 v16 x20 h19) else (if v16 = 0 then cz_leti (l3 + 1) (fun x22 => cz_leti (l5 + 1) (fun x23 => fn_X1_bribes_26 l0 l1 k0 n v18 x22 v16 x23 h19)) else cz_leti (l5 + 1) (fun x21 => fn_X1_bribes_26 l0 l1 k0 n v18 l3 v16 x21 h19)))) (fun j24 => (if x15 = 0 then j24 l2 h17 else cz_getR h17 l0 [(0, 4)] (fun r25 => cz_getR h17 r25 [(3, 10)] (fun r26 => cz_iald h17 r26 l5 (fun x27 => cz_leti (l2 ||| ((1 : Int32) <<< (x27 &&& 31))) (fun x28 => j24 x28 h17))))))) (fun j29 => cz_jn (fun (h30 : cz_H) => j29 0 h30) (fun j31 => (if l4 = 0 then j31 h14 else (if x15 = 0 then j31 h14 else j29 1 h14)))))))))))
set_option maxHeartbeats 4000000 in
set_option maxRecDepth 100000 in
theorem wk_X1_bribes_26 {K : cz_K} {D : cz_D} {h0 : cz_H} {oh : cz_O × cz_H} {l0 : Option Nat} {l1 : Int32} {k0 : Int32 → Int32 → cz_H → cz_Z} (S : cz_S K D h0 cX1_bribes 7 "HeldCoats" ((Option.some Jvm.ClassFile.FieldType.int)) "bribes" ([])) (hk0 : ∀ (e2 : Int32) (e3 : Int32) (h : cz_H), cz_T K D 4 h0 oh 7 (k0 e2 e3 h) h 110 [(1, cz_i l1), (2, cz_i e2), (3, cz_i e3)] []) : ∀ (n : Nat) (l2 : Int32) (l3 : Int32) (l4 : Int32) (l5 : Int32) (h : cz_H), cz_T K D 4 h0 oh 7 (fn_X1_bribes_26 l0 l1 k0 n l2 l3 l4 l5 h) h 26 [(0, cz_r l0), (1, cz_i l1), (2, cz_i l2), (3, cz_i l3), (4, cz_i l4), (5, cz_i l5)] [] := by
  intro n
  induction n with
  | zero => intros; exact ct_none
  | succ n ih =>
    intro l2 l3 l4 l5 h
    rw [fn_X1_bribes_26]
    refine ct_iload (k := 5) S dX1_bribes_26 rfl ?_
    refine ct_aload_n (k := 0) S dX1_bribes_28 rfl rfl ?_
    refine ct_getR S fw_X1_42 dX1_bribes_29 (fun r9 => ?_)
    refine ct_getI S fw_X1_229 dX1_bribes_32 (fun x10 => ?_)
    refine ct_icmp_ge (tgt := 110) S dX1_bribes_35 (by decide) ?_ ?_
    · exact ct_sub [1, 2, 3] rfl (hk0 l2 l3 h)
    · refine ct_iload_n (k := 1) S dX1_bribes_38 rfl rfl ?_
      refine ct_aload_n (k := 0) S dX1_bribes_39 rfl rfl ?_
      refine ct_getR S fw_X1_42 dX1_bribes_40 (fun r11 => ?_)
      refine ct_getR S fw_X1_300 dX1_bribes_43 (fun r12 => ?_)
      refine ct_iload (k := 5) S dX1_bribes_46 rfl ?_
      refine ct_iald S dX1_bribes_48 (fun x13 => ?_)
      refine ct_cI (st := []) (cg_static (av := [cz_i l1, cz_i x13]) S (fun _ e => mt_X1_isOf e) md_X1_isOf (Or.inl q1390) q1059 (by decide) (Nat.le_of_ble_eq_true rfl) rfl dX1_bribes_49) (fun x15 h14 => ?_)
      refine ct_istore (L' := [(6, cz_i x15), (0, cz_r l0), (1, cz_i l1), (2, cz_i l2), (3, cz_i l3), (4, cz_i l4), (5, cz_i l5)]) S dX1_bribes_52 (by decide) rfl ?_
      refine ct_iload (k := 5) S dX1_bribes_54 rfl ?_
      refine ct_jnP (fun j29 => ∀ (v16 : Int32) (h17 : cz_H), cz_T K D 4 h0 oh 7 (j29 v16 h17) h17 69 [(0, cz_r l0), (1, cz_i l1), (2, cz_i l2), (3, cz_i l3), (5, cz_i l5), (6, cz_i x15)] [cz_i v16]) (fun v16 h17 => ?_) (fun j29 Hj29 => ?_)
      · refine ct_istore (L' := [(4, cz_i v16), (0, cz_r l0), (1, cz_i l1), (2, cz_i l2), (3, cz_i l3), (5, cz_i l5), (6, cz_i x15)]) S dX1_bribes_69 (by decide) rfl ?_
        refine ct_iload (k := 6) S dX1_bribes_71 rfl ?_
        refine ct_jnP (fun j24 => ∀ (v18 : Int32) (h19 : cz_H), cz_T K D 4 h0 oh 7 (j24 v18 h19) h19 91 [(0, cz_r l0), (1, cz_i l1), (2, cz_i v18), (3, cz_i l3), (4, cz_i v16), (5, cz_i l5), (6, cz_i x15)] []) (fun v18 h19 => ?_) (fun j24 Hj24 => ?_)
        · refine ct_iload (k := 6) S dX1_bribes_91 rfl ?_
          refine ct_if_eq (tgt := 104) S dX1_bribes_93 (by decide) ?_ ?_
          · refine ct_iincL (j := 5) (L2 := fun x20 => [(5, cz_i x20), (0, cz_r l0), (1, cz_i l1), (2, cz_i v18), (3, cz_i l3), (4, cz_i v16), (6, cz_i x15)]) S dX1_bribes_104 rfl kI_1 (by decide) (fun _ => rfl) (fun x20 => ?_)
            refine ct_goto (tgt := 26) S dX1_bribes_107 (by decide) ?_
            exact ct_sub [1, 2, 3, 4, 5, 0] rfl (ih v18 l3 v16 x20 h19)
          · refine ct_iload (k := 4) S dX1_bribes_96 rfl ?_
            refine ct_if_ne (tgt := 104) S dX1_bribes_98 (by decide) ?_ ?_
            · refine ct_iincL (j := 5) (L2 := fun x21 => [(5, cz_i x21), (0, cz_r l0), (1, cz_i l1), (2, cz_i v18), (3, cz_i l3), (4, cz_i v16), (6, cz_i x15)]) S dX1_bribes_104 rfl kI_1 (by decide) (fun _ => rfl) (fun x21 => ?_)
              refine ct_goto (tgt := 26) S dX1_bribes_107 (by decide) ?_
              exact ct_sub [1, 2, 3, 4, 5, 0] rfl (ih v18 l3 v16 x21 h19)
            · refine ct_iincL (j := 3) (L2 := fun x22 => [(3, cz_i x22), (0, cz_r l0), (1, cz_i l1), (2, cz_i v18), (4, cz_i v16), (5, cz_i l5), (6, cz_i x15)]) S dX1_bribes_101 rfl kI_1 (by decide) (fun _ => rfl) (fun x22 => ?_)
              refine ct_iincL (j := 5) (L2 := fun x23 => [(5, cz_i x23), (3, cz_i x22), (0, cz_r l0), (1, cz_i l1), (2, cz_i v18), (4, cz_i v16), (6, cz_i x15)]) S dX1_bribes_104 rfl kI_1 (by decide) (fun _ => rfl) (fun x23 => ?_)
              refine ct_goto (tgt := 26) S dX1_bribes_107 (by decide) ?_
              exact ct_sub [2, 3, 4, 1, 5, 0] rfl (ih v18 x22 v16 x23 h19)
        · refine ct_if_eq (tgt := 91) S dX1_bribes_73 (by decide) ?_ ?_
          · exact ct_sub [1, 2, 3, 4, 0, 5, 6] rfl (Hj24 l2 h17)
          · refine ct_iload_n (k := 3) S dX1_bribes_76 rfl rfl ?_
            refine ct_iconst (v := 1) S dX1_bribes_77 kI_1 ?_
            refine ct_aload_n (k := 1) S dX1_bribes_78 rfl rfl ?_
            refine ct_getR S fw_X1_42 dX1_bribes_79 (fun r25 => ?_)
            refine ct_getR S fw_X1_300 dX1_bribes_82 (fun r26 => ?_)
            refine ct_iload (k := 5) S dX1_bribes_85 rfl ?_
            refine ct_iald S dX1_bribes_87 (fun x27 => ?_)
            refine ct_ishl S dX1_bribes_88 ?_
            refine ct_ior S dX1_bribes_89 ?_
            refine ct_leti (fun x28 => ?_)
            refine ct_istore_n (L' := [(2, cz_i x28), (4, cz_i v16), (0, cz_r l0), (1, cz_i l1), (3, cz_i l3), (5, cz_i l5), (6, cz_i x15)]) S dX1_bribes_90 rfl (by decide) rfl ?_
            exact ct_sub [2, 3, 0, 4, 1, 5, 6] rfl (Hj24 x28 h17)
      · refine ct_jnP (fun j31 => ∀ (h30 : cz_H), cz_T K D 4 h0 oh 7 (j31 h30) h30 68 [(0, cz_r l0), (1, cz_i l1), (2, cz_i l2), (3, cz_i l3), (5, cz_i l5), (6, cz_i x15)] []) (fun h30 => ?_) (fun j31 Hj31 => ?_)
        · refine ct_iconst (v := 0) S dX1_bribes_68 kI_0 ?_
          exact Hj29 0 h30
        · refine ct_if_eq (tgt := 68) S dX1_bribes_56 (by decide) ?_ ?_
          · exact ct_sub [1, 2, 3, 4, 6, 0] rfl (Hj31 h14)
          · refine ct_iload (k := 0) S dX1_bribes_59 rfl ?_
            refine ct_if_eq (tgt := 68) S dX1_bribes_61 (by decide) ?_ ?_
            · exact ct_sub [1, 2, 3, 4, 6, 0] rfl (Hj31 h14)
            · refine ct_iconst (v := 1) S dX1_bribes_64 kI_1 ?_
              refine ct_goto (tgt := 69) S dX1_bribes_65 (by decide) ?_
              exact ct_sub [1, 2, 3, 4, 6, 0] rfl (Hj29 1 h14)
set_option maxHeartbeats 4000000 in
set_option maxRecDepth 100000 in
noncomputable def fn_X1_bribes (l0 : Option Nat) (l1 : Int32) (h : cz_H) : cz_Z := (if l1 < 0 then some (.inl (some (cz_i (-1))), h) else cz_rc h l0 [0] (cz_cI (fn_X1_coats l0 h) (fun x8 h7 => (if l1 < ((1 : Int32) <<< (x8 &&& 31)) then fn_X1_bribes_26 l0 l1 (fun (e32 : Int32) (e33 : Int32) (h34 : cz_H) => (if e32 = l1 then some (.inl (some (cz_i e33)), h34) else some (.inl (some (cz_i (-1))), h34))) 1000 0 0 1 0 h7 else some (.inl (some (cz_i (-1))), h7)))))
set_option maxHeartbeats 4000000 in
set_option maxRecDepth 100000 in
theorem wk_X1_bribes {K : cz_K} {D : cz_D} {h0 : cz_H} {oh : cz_O × cz_H} {l0 : Option Nat} {l1 : Int32} {h : cz_H} (S : cz_S K D h0 cX1_bribes 7 "HeldCoats" ((Option.some Jvm.ClassFile.FieldType.int)) "bribes" ([])) : cz_T K D 4 h0 oh 7 (fn_X1_bribes l0 l1 h) h 0 [(0, cz_r l0), (1, cz_i l1)] [] := by
  unfold fn_X1_bribes
  refine ct_iload_n (k := 1) S dX1_bribes_0 rfl rfl ?_
  refine ct_if_lt (tgt := 14) S dX1_bribes_1 (by decide) ?_ ?_
  · refine ct_iconst (v := (-1)) S dX1_bribes_14 kI_m1 ?_
    exact ct_iret S rfl dX1_bribes_15
  · refine ct_iload_n (k := 1) S dX1_bribes_4 rfl rfl ?_
    refine ct_iconst (v := 1) S dX1_bribes_5 kI_1 ?_
    refine ct_aload_n (k := 0) S dX1_bribes_6 rfl rfl ?_
    refine ct_rc (fun b1 ci2 V3 hb4 hc5 hi6 => ?_)
    refine ct_cI (st := [cz_i 1, cz_i l1]) (cg_virtual (av := []) S hb4 hc5 hi6 (fun _ e => mt_X1_coats e) md_X1_coats q1424 q1426 se_HeldCoats_coats___I_HeldCoats (by decide) (Nat.le_of_ble_eq_true rfl) rfl dX1_bribes_7) (fun x8 h7 => ?_)
    refine ct_ishl S dX1_bribes_10 ?_
    refine ct_icmp_lt (tgt := 16) S dX1_bribes_11 (by decide) ?_ ?_
    · refine ct_iconst (v := 0) S dX1_bribes_16 kI_0 ?_
      refine ct_istore_n (L' := [(2, cz_i 0), (0, cz_r l0), (1, cz_i l1)]) S dX1_bribes_17 rfl (by decide) rfl ?_
      refine ct_iconst (v := 0) S dX1_bribes_18 kI_0 ?_
      refine ct_istore_n (L' := [(3, cz_i 0), (2, cz_i 0), (0, cz_r l0), (1, cz_i l1)]) S dX1_bribes_19 rfl (by decide) rfl ?_
      refine ct_iconst (v := 1) S dX1_bribes_20 kI_1 ?_
      refine ct_istore (L' := [(4, cz_i 1), (3, cz_i 0), (2, cz_i 0), (0, cz_r l0), (1, cz_i l1)]) S dX1_bribes_21 (by decide) rfl ?_
      refine ct_iconst (v := 0) S dX1_bribes_23 kI_0 ?_
      refine ct_istore (L' := [(5, cz_i 0), (4, cz_i 1), (3, cz_i 0), (2, cz_i 0), (0, cz_r l0), (1, cz_i l1)]) S dX1_bribes_24 (by decide) rfl ?_
      refine ct_sub [4, 5, 3, 2, 1, 0] (L' := [(0, cz_r l0), (1, cz_i l1), (2, cz_i 0), (3, cz_i 0), (4, cz_i 1), (5, cz_i 0)]) rfl (wk_X1_bribes_26 S ?_ 1000 0 0 1 0 h7)
      · intro e32 e33 h34
        refine ct_iload_n (k := 1) S dX1_bribes_110 rfl rfl ?_
        refine ct_iload_n (k := 0) S dX1_bribes_111 rfl rfl ?_
        refine ct_icmp_ne (tgt := 119) S dX1_bribes_112 (by decide) ?_ ?_
        · refine ct_iconst (v := (-1)) S dX1_bribes_119 kI_m1 ?_
          exact ct_iret S rfl dX1_bribes_120
        · refine ct_iload_n (k := 2) S dX1_bribes_115 rfl rfl ?_
          refine ct_goto (tgt := 120) S dX1_bribes_116 (by decide) ?_
          exact ct_iret S rfl dX1_bribes_120
    · refine ct_iconst (v := (-1)) S dX1_bribes_14 kI_m1 ?_
      exact ct_iret S rfl dX1_bribes_15
theorem mt_X1_bribes {l : Launch} {D : cz_D} {l0 : Option Nat} {l1 : Int32} {h : cz_H} {oh : cz_O × cz_H} (hz : fn_X1_bribes l0 l1 h = some oh) : cz_M l D yX1_bribes (ws_ yX1_bribes cX1_bribes 7 ((Option.some Jvm.ClassFile.FieldType.int))) 4 [cz_r l0, cz_i l1] h oh := cz_met (plainFor_of_name (by decide)) (Nat.le_of_ble_eq_true rfl) hz (fun K hl S => wk_X1_bribes S)
/-! java/util/Arrays.fill([II)V -/
def dkwJ3_fill_0 : List UInt8 := [3, 61, 42, 190, 62, 28, 29, 162, 0, 13, 42, 28, 27, 79, 132, 2, 1, 167, 255, 244, 177]
abbrev dktJ3_fill_0 : List UInt8 := dkwJ3_fill_0 ++ []
theorem dksJ3_fill_0 : cJ3_fill.data.toList.drop 0 = dktJ3_fill_0 := by decide +kernel
theorem dJ3_fill_0 : decode cJ3_fill 0 = .ok (.iconst 0, 1) := dk_3 (dk_at dksJ3_fill_0 0 rfl rfl)
theorem dJ3_fill_1 : decode cJ3_fill 1 = .ok (.istore_n 2, 1) := dk_61 (dk_at dksJ3_fill_0 1 rfl rfl)
theorem dJ3_fill_2 : decode cJ3_fill 2 = .ok (.aload_n 0, 1) := dk_42 (dk_at dksJ3_fill_0 2 rfl rfl)
theorem dJ3_fill_3 : decode cJ3_fill 3 = .ok (.arraylength, 1) := dk_190 (dk_at dksJ3_fill_0 3 rfl rfl)
theorem dJ3_fill_4 : decode cJ3_fill 4 = .ok (.istore_n 3, 1) := dk_62 (dk_at dksJ3_fill_0 4 rfl rfl)
theorem dJ3_fill_5 : decode cJ3_fill 5 = .ok (.iload_n 2, 1) := dk_28 (dk_at dksJ3_fill_0 5 rfl rfl)
theorem dJ3_fill_6 : decode cJ3_fill 6 = .ok (.iload_n 3, 1) := dk_29 (dk_at dksJ3_fill_0 6 rfl rfl)
theorem dJ3_fill_7 : decode cJ3_fill 7 = .ok (.if_icmp .ge 13, 3) := dk_162 0 13 (dk_at dksJ3_fill_0 7 rfl rfl)
theorem dJ3_fill_10 : decode cJ3_fill 10 = .ok (.aload_n 0, 1) := dk_42 (dk_at dksJ3_fill_0 10 rfl rfl)
theorem dJ3_fill_11 : decode cJ3_fill 11 = .ok (.iload_n 2, 1) := dk_28 (dk_at dksJ3_fill_0 11 rfl rfl)
theorem dJ3_fill_12 : decode cJ3_fill 12 = .ok (.iload_n 1, 1) := dk_27 (dk_at dksJ3_fill_0 12 rfl rfl)
theorem dJ3_fill_13 : decode cJ3_fill 13 = .ok (.iastore, 1) := dk_79 (dk_at dksJ3_fill_0 13 rfl rfl)
theorem dJ3_fill_14 : decode cJ3_fill 14 = .ok (.iinc 2 1, 3) := dk_132 2 1 (dk_at dksJ3_fill_0 14 rfl rfl)
theorem dJ3_fill_17 : decode cJ3_fill 17 = .ok (.goto (-12), 3) := dk_167 255 244 (dk_at dksJ3_fill_0 17 rfl rfl)
theorem dJ3_fill_20 : decode cJ3_fill 20 = .ok (.return_, 1) := dk_177 (dk_at dksJ3_fill_0 20 rfl rfl)
set_option maxHeartbeats 4000000 in
set_option maxRecDepth 100000 in
noncomputable def fn_J3_fill_5 (l0 : Option Nat) (l1 : Int32) (l3 : Int32) (k0 : cz_H → cz_Z) : Nat → Int32 → cz_H → cz_Z
  | 0, _, _ => none
  | n + 1, l2, h => (if l3 ≤ l2 then k0 h else cz_iast h l0 l2 l1 (fun h2 => cz_leti (l2 + 1) (fun x3 => fn_J3_fill_5 l0 l1 l3 k0 n x3 h2)))
set_option maxHeartbeats 4000000 in
set_option maxRecDepth 100000 in
theorem wk_J3_fill_5 {K : cz_K} {D : cz_D} {h0 : cz_H} {oh : cz_O × cz_H} {l0 : Option Nat} {l1 : Int32} {l3 : Int32} {k0 : cz_H → cz_Z} (S : cz_S K D h0 cJ3_fill 4 "java/util/Arrays" ((Option.none : Option Jvm.ClassFile.FieldType)) "fill" ([])) (hk0 : ∀ (h : cz_H), cz_T K D 2 h0 oh 4 (k0 h) h 20 [] []) : ∀ (n : Nat) (l2 : Int32) (h : cz_H), cz_T K D 2 h0 oh 4 (fn_J3_fill_5 l0 l1 l3 k0 n l2 h) h 5 [(0, cz_r l0), (1, cz_i l1), (2, cz_i l2), (3, cz_i l3)] [] := by
  intro n
  induction n with
  | zero => intros; exact ct_none
  | succ n ih =>
    intro l2 h
    rw [fn_J3_fill_5]
    refine ct_iload_n (k := 2) S dJ3_fill_5 rfl rfl ?_
    refine ct_iload_n (k := 3) S dJ3_fill_6 rfl rfl ?_
    refine ct_icmp_ge (tgt := 20) S dJ3_fill_7 (by decide) ?_ ?_
    · exact ct_sub [] rfl (hk0 h)
    · refine ct_aload_n (k := 0) S dJ3_fill_10 rfl rfl ?_
      refine ct_iload_n (k := 2) S dJ3_fill_11 rfl rfl ?_
      refine ct_iload_n (k := 1) S dJ3_fill_12 rfl rfl ?_
      refine ct_iast S dJ3_fill_13 (fun h2 => ?_)
      refine ct_iincL (j := 2) (L2 := fun x3 => [(2, cz_i x3), (0, cz_r l0), (1, cz_i l1), (3, cz_i l3)]) S dJ3_fill_14 rfl kI_1 (by decide) (fun _ => rfl) (fun x3 => ?_)
      refine ct_goto (tgt := 5) S dJ3_fill_17 (by decide) ?_
      exact ct_sub [1, 2, 0, 3] rfl (ih x3 h2)
set_option maxHeartbeats 4000000 in
set_option maxRecDepth 100000 in
noncomputable def fn_J3_fill (l0 : Option Nat) (l1 : Int32) (h : cz_H) : cz_Z := cz_alen h l0 (fun x1 => fn_J3_fill_5 l0 l1 x1 (fun (h4 : cz_H) => some (.inl none, h4)) 1000 0 h)
set_option maxHeartbeats 4000000 in
set_option maxRecDepth 100000 in
theorem wk_J3_fill {K : cz_K} {D : cz_D} {h0 : cz_H} {oh : cz_O × cz_H} {l0 : Option Nat} {l1 : Int32} {h : cz_H} (S : cz_S K D h0 cJ3_fill 4 "java/util/Arrays" ((Option.none : Option Jvm.ClassFile.FieldType)) "fill" ([])) : cz_T K D 2 h0 oh 4 (fn_J3_fill l0 l1 h) h 0 [(0, cz_r l0), (1, cz_i l1)] [] := by
  unfold fn_J3_fill
  refine ct_iconst (v := 0) S dJ3_fill_0 kI_0 ?_
  refine ct_istore_n (L' := [(2, cz_i 0), (0, cz_r l0), (1, cz_i l1)]) S dJ3_fill_1 rfl (by decide) rfl ?_
  refine ct_aload_n (k := 1) S dJ3_fill_2 rfl rfl ?_
  refine ct_alen S dJ3_fill_3 (fun x1 => ?_)
  refine ct_istore_n (L' := [(3, cz_i x1), (2, cz_i 0), (0, cz_r l0), (1, cz_i l1)]) S dJ3_fill_4 rfl (by decide) rfl ?_
  refine ct_sub [2, 3, 1, 0] (L' := [(0, cz_r l0), (1, cz_i l1), (2, cz_i 0), (3, cz_i x1)]) rfl (wk_J3_fill_5 S ?_ 1000 0 h)
  · intro h4
    exact ct_vret S rfl dJ3_fill_20
theorem mt_J3_fill {l : Launch} {D : cz_D} {l0 : Option Nat} {l1 : Int32} {h : cz_H} {oh : cz_O × cz_H} (hz : fn_J3_fill l0 l1 h = some oh) : cz_M l D yJ3_fill (ws_ yJ3_fill cJ3_fill 4 ((Option.none : Option Jvm.ClassFile.FieldType))) 2 [cz_r l0, cz_i l1] h oh := cz_met (plainFor_of_name (by decide)) (Nat.le_of_ble_eq_true rfl) hz (fun K hl S => wk_J3_fill S)
/-! HeldCoats$Reign.begin(LHeldCoats$Capital;)LHeldCoats$Reign; -/
def dkwX3_begin_5 : List UInt8 := [132, 2, 1, 167, 255, 187, 42, 176]
abbrev dktX3_begin_5 : List UInt8 := dkwX3_begin_5 ++ []
def dkwX3_begin_4 : List UInt8 := [180, 0, 15, 28, 42, 180, 0, 33, 180, 0, 63, 28, 182, 0, 68, 192, 0, 74, 180, 0, 79, 79]
abbrev dktX3_begin_4 : List UInt8 := dkwX3_begin_4 ++ dktX3_begin_5
def dkwX3_begin_3 : List UInt8 := [182, 0, 68, 192, 0, 74, 180, 0, 76, 79, 42, 180, 0, 18, 28, 42, 180, 0, 9, 28, 46, 79, 42]
abbrev dktX3_begin_3 : List UInt8 := dkwX3_begin_3 ++ dktX3_begin_4
def dkwX3_begin_2 : List UInt8 := [3, 61, 28, 42, 182, 0, 59, 162, 0, 67, 42, 180, 0, 9, 28, 42, 180, 0, 33, 180, 0, 63, 28]
abbrev dktX3_begin_2 : List UInt8 := dkwX3_begin_2 ++ dktX3_begin_3
def dkwX3_begin_1 : List UInt8 := [181, 0, 47, 42, 3, 181, 0, 50, 42, 180, 0, 27, 3, 184, 0, 53, 42, 180, 0, 30, 3, 184, 0, 53]
abbrev dktX3_begin_1 : List UInt8 := dkwX3_begin_1 ++ dktX3_begin_2
def dkwX3_begin_0 : List UInt8 := [42, 43, 181, 0, 33, 42, 3, 181, 0, 37, 42, 3, 181, 0, 41, 42, 2, 181, 0, 44, 42, 3]
abbrev dktX3_begin_0 : List UInt8 := dkwX3_begin_0 ++ dktX3_begin_1
theorem dksX3_begin_0 : cX3_begin.data.toList.drop 0 = dktX3_begin_0 := by decide +kernel
theorem dksX3_begin_1 : cX3_begin.data.toList.drop 22 = dktX3_begin_1 := dk_seg dksX3_begin_0 22 rfl rfl
theorem dksX3_begin_2 : cX3_begin.data.toList.drop 46 = dktX3_begin_2 := dk_seg dksX3_begin_1 24 rfl rfl
theorem dksX3_begin_3 : cX3_begin.data.toList.drop 69 = dktX3_begin_3 := dk_seg dksX3_begin_2 23 rfl rfl
theorem dksX3_begin_4 : cX3_begin.data.toList.drop 92 = dktX3_begin_4 := dk_seg dksX3_begin_3 23 rfl rfl
theorem dksX3_begin_5 : cX3_begin.data.toList.drop 114 = dktX3_begin_5 := dk_seg dksX3_begin_4 22 rfl rfl
theorem dX3_begin_0 : decode cX3_begin 0 = .ok (.aload_n 0, 1) := dk_42 (dk_at dksX3_begin_0 0 rfl rfl)
theorem dX3_begin_1 : decode cX3_begin 1 = .ok (.aload_n 1, 1) := dk_43 (dk_at dksX3_begin_0 1 rfl rfl)
theorem dX3_begin_2 : decode cX3_begin 2 = .ok (.putfield 33, 3) := dk_181 0 33 (dk_at dksX3_begin_0 2 rfl rfl)
theorem dX3_begin_5 : decode cX3_begin 5 = .ok (.aload_n 0, 1) := dk_42 (dk_at dksX3_begin_0 5 rfl rfl)
theorem dX3_begin_6 : decode cX3_begin 6 = .ok (.iconst 0, 1) := dk_3 (dk_at dksX3_begin_0 6 rfl rfl)
theorem dX3_begin_7 : decode cX3_begin 7 = .ok (.putfield 37, 3) := dk_181 0 37 (dk_at dksX3_begin_0 7 rfl rfl)
theorem dX3_begin_10 : decode cX3_begin 10 = .ok (.aload_n 0, 1) := dk_42 (dk_at dksX3_begin_0 10 rfl rfl)
theorem dX3_begin_11 : decode cX3_begin 11 = .ok (.iconst 0, 1) := dk_3 (dk_at dksX3_begin_0 11 rfl rfl)
theorem dX3_begin_12 : decode cX3_begin 12 = .ok (.putfield 41, 3) := dk_181 0 41 (dk_at dksX3_begin_0 12 rfl rfl)
theorem dX3_begin_15 : decode cX3_begin 15 = .ok (.aload_n 0, 1) := dk_42 (dk_at dksX3_begin_0 15 rfl rfl)
theorem dX3_begin_16 : decode cX3_begin 16 = .ok (.iconst (-1), 1) := dk_2 (dk_at dksX3_begin_0 16 rfl rfl)
theorem dX3_begin_17 : decode cX3_begin 17 = .ok (.putfield 44, 3) := dk_181 0 44 (dk_at dksX3_begin_0 17 rfl rfl)
theorem dX3_begin_20 : decode cX3_begin 20 = .ok (.aload_n 0, 1) := dk_42 (dk_at dksX3_begin_0 20 rfl rfl)
theorem dX3_begin_21 : decode cX3_begin 21 = .ok (.iconst 0, 1) := dk_3 (dk_at dksX3_begin_0 21 rfl rfl)
theorem dX3_begin_22 : decode cX3_begin 22 = .ok (.putfield 47, 3) := dk_181 0 47 (dk_at dksX3_begin_1 0 rfl rfl)
theorem dX3_begin_25 : decode cX3_begin 25 = .ok (.aload_n 0, 1) := dk_42 (dk_at dksX3_begin_1 3 rfl rfl)
theorem dX3_begin_26 : decode cX3_begin 26 = .ok (.iconst 0, 1) := dk_3 (dk_at dksX3_begin_1 4 rfl rfl)
theorem dX3_begin_27 : decode cX3_begin 27 = .ok (.putfield 50, 3) := dk_181 0 50 (dk_at dksX3_begin_1 5 rfl rfl)
theorem dX3_begin_30 : decode cX3_begin 30 = .ok (.aload_n 0, 1) := dk_42 (dk_at dksX3_begin_1 8 rfl rfl)
theorem dX3_begin_31 : decode cX3_begin 31 = .ok (.getfield 27, 3) := dk_180 0 27 (dk_at dksX3_begin_1 9 rfl rfl)
theorem dX3_begin_34 : decode cX3_begin 34 = .ok (.iconst 0, 1) := dk_3 (dk_at dksX3_begin_1 12 rfl rfl)
theorem dX3_begin_35 : decode cX3_begin 35 = .ok (.invokestatic 53, 3) := dk_184 0 53 (dk_at dksX3_begin_1 13 rfl rfl)
theorem dX3_begin_38 : decode cX3_begin 38 = .ok (.aload_n 0, 1) := dk_42 (dk_at dksX3_begin_1 16 rfl rfl)
theorem dX3_begin_39 : decode cX3_begin 39 = .ok (.getfield 30, 3) := dk_180 0 30 (dk_at dksX3_begin_1 17 rfl rfl)
theorem dX3_begin_42 : decode cX3_begin 42 = .ok (.iconst 0, 1) := dk_3 (dk_at dksX3_begin_1 20 rfl rfl)
theorem dX3_begin_43 : decode cX3_begin 43 = .ok (.invokestatic 53, 3) := dk_184 0 53 (dk_at dksX3_begin_1 21 rfl rfl)
theorem dX3_begin_46 : decode cX3_begin 46 = .ok (.iconst 0, 1) := dk_3 (dk_at dksX3_begin_2 0 rfl rfl)
theorem dX3_begin_47 : decode cX3_begin 47 = .ok (.istore_n 2, 1) := dk_61 (dk_at dksX3_begin_2 1 rfl rfl)
theorem dX3_begin_48 : decode cX3_begin 48 = .ok (.iload_n 2, 1) := dk_28 (dk_at dksX3_begin_2 2 rfl rfl)
theorem dX3_begin_49 : decode cX3_begin 49 = .ok (.aload_n 0, 1) := dk_42 (dk_at dksX3_begin_2 3 rfl rfl)
theorem dX3_begin_50 : decode cX3_begin 50 = .ok (.invokevirtual 59, 3) := dk_182 0 59 (dk_at dksX3_begin_2 4 rfl rfl)
theorem dX3_begin_53 : decode cX3_begin 53 = .ok (.if_icmp .ge 67, 3) := dk_162 0 67 (dk_at dksX3_begin_2 7 rfl rfl)
theorem dX3_begin_56 : decode cX3_begin 56 = .ok (.aload_n 0, 1) := dk_42 (dk_at dksX3_begin_2 10 rfl rfl)
theorem dX3_begin_57 : decode cX3_begin 57 = .ok (.getfield 9, 3) := dk_180 0 9 (dk_at dksX3_begin_2 11 rfl rfl)
theorem dX3_begin_60 : decode cX3_begin 60 = .ok (.iload_n 2, 1) := dk_28 (dk_at dksX3_begin_2 14 rfl rfl)
theorem dX3_begin_61 : decode cX3_begin 61 = .ok (.aload_n 0, 1) := dk_42 (dk_at dksX3_begin_2 15 rfl rfl)
theorem dX3_begin_62 : decode cX3_begin 62 = .ok (.getfield 33, 3) := dk_180 0 33 (dk_at dksX3_begin_2 16 rfl rfl)
theorem dX3_begin_65 : decode cX3_begin 65 = .ok (.getfield 63, 3) := dk_180 0 63 (dk_at dksX3_begin_2 19 rfl rfl)
theorem dX3_begin_68 : decode cX3_begin 68 = .ok (.iload_n 2, 1) := dk_28 (dk_at dksX3_begin_2 22 rfl rfl)
theorem dX3_begin_69 : decode cX3_begin 69 = .ok (.invokevirtual 68, 3) := dk_182 0 68 (dk_at dksX3_begin_3 0 rfl rfl)
theorem dX3_begin_72 : decode cX3_begin 72 = .ok (.checkcast 74, 3) := dk_192 0 74 (dk_at dksX3_begin_3 3 rfl rfl)
theorem dX3_begin_75 : decode cX3_begin 75 = .ok (.getfield 76, 3) := dk_180 0 76 (dk_at dksX3_begin_3 6 rfl rfl)
theorem dX3_begin_78 : decode cX3_begin 78 = .ok (.iastore, 1) := dk_79 (dk_at dksX3_begin_3 9 rfl rfl)
theorem dX3_begin_79 : decode cX3_begin 79 = .ok (.aload_n 0, 1) := dk_42 (dk_at dksX3_begin_3 10 rfl rfl)
theorem dX3_begin_80 : decode cX3_begin 80 = .ok (.getfield 18, 3) := dk_180 0 18 (dk_at dksX3_begin_3 11 rfl rfl)
theorem dX3_begin_83 : decode cX3_begin 83 = .ok (.iload_n 2, 1) := dk_28 (dk_at dksX3_begin_3 14 rfl rfl)
theorem dX3_begin_84 : decode cX3_begin 84 = .ok (.aload_n 0, 1) := dk_42 (dk_at dksX3_begin_3 15 rfl rfl)
theorem dX3_begin_85 : decode cX3_begin 85 = .ok (.getfield 9, 3) := dk_180 0 9 (dk_at dksX3_begin_3 16 rfl rfl)
theorem dX3_begin_88 : decode cX3_begin 88 = .ok (.iload_n 2, 1) := dk_28 (dk_at dksX3_begin_3 19 rfl rfl)
theorem dX3_begin_89 : decode cX3_begin 89 = .ok (.iaload, 1) := dk_46 (dk_at dksX3_begin_3 20 rfl rfl)
theorem dX3_begin_90 : decode cX3_begin 90 = .ok (.iastore, 1) := dk_79 (dk_at dksX3_begin_3 21 rfl rfl)
theorem dX3_begin_91 : decode cX3_begin 91 = .ok (.aload_n 0, 1) := dk_42 (dk_at dksX3_begin_3 22 rfl rfl)
theorem dX3_begin_92 : decode cX3_begin 92 = .ok (.getfield 15, 3) := dk_180 0 15 (dk_at dksX3_begin_4 0 rfl rfl)
theorem dX3_begin_95 : decode cX3_begin 95 = .ok (.iload_n 2, 1) := dk_28 (dk_at dksX3_begin_4 3 rfl rfl)
theorem dX3_begin_96 : decode cX3_begin 96 = .ok (.aload_n 0, 1) := dk_42 (dk_at dksX3_begin_4 4 rfl rfl)
theorem dX3_begin_97 : decode cX3_begin 97 = .ok (.getfield 33, 3) := dk_180 0 33 (dk_at dksX3_begin_4 5 rfl rfl)
theorem dX3_begin_100 : decode cX3_begin 100 = .ok (.getfield 63, 3) := dk_180 0 63 (dk_at dksX3_begin_4 8 rfl rfl)
theorem dX3_begin_103 : decode cX3_begin 103 = .ok (.iload_n 2, 1) := dk_28 (dk_at dksX3_begin_4 11 rfl rfl)
theorem dX3_begin_104 : decode cX3_begin 104 = .ok (.invokevirtual 68, 3) := dk_182 0 68 (dk_at dksX3_begin_4 12 rfl rfl)
theorem dX3_begin_107 : decode cX3_begin 107 = .ok (.checkcast 74, 3) := dk_192 0 74 (dk_at dksX3_begin_4 15 rfl rfl)
theorem dX3_begin_110 : decode cX3_begin 110 = .ok (.getfield 79, 3) := dk_180 0 79 (dk_at dksX3_begin_4 18 rfl rfl)
theorem dX3_begin_113 : decode cX3_begin 113 = .ok (.iastore, 1) := dk_79 (dk_at dksX3_begin_4 21 rfl rfl)
theorem dX3_begin_114 : decode cX3_begin 114 = .ok (.iinc 2 1, 3) := dk_132 2 1 (dk_at dksX3_begin_5 0 rfl rfl)
theorem dX3_begin_117 : decode cX3_begin 117 = .ok (.goto (-69), 3) := dk_167 255 187 (dk_at dksX3_begin_5 3 rfl rfl)
theorem dX3_begin_120 : decode cX3_begin 120 = .ok (.aload_n 0, 1) := dk_42 (dk_at dksX3_begin_5 6 rfl rfl)
theorem dX3_begin_121 : decode cX3_begin 121 = .ok (.areturn, 1) := dk_176 (dk_at dksX3_begin_5 7 rfl rfl)
theorem md_J3_fill : cz_md yJ3_fill 4 (ws_ yJ3_fill cJ3_fill 4 ((Option.none : Option Jvm.ClassFile.FieldType))) 2 := ⟨cz_ws_code q335, q119, ⟨by decide, by decide, by decide +kernel⟩, by decide⟩
theorem fw_X3_79 : cz_FW "HeldCoats$Reign" 79 [(11, 3)] "I" := ⟨"HeldCoats$Coat", "cloth", Or.inr ⟨_, q1035⟩, List.forall_mem_cons.mpr ⟨⟨RX11, TX11, 4, rfl, by decide, rfl, rfl, Or.inl rfl⟩, fun _ h => absurd h List.not_mem_nil⟩, by decide⟩
set_option maxHeartbeats 4000000 in
set_option maxRecDepth 100000 in
noncomputable def fn_X3_begin_48 (l0 : Option Nat) (k0 : cz_H → cz_Z) : Nat → Int32 → cz_H → cz_Z
  | 0, _, _ => none
  | n + 1, l2, h => cz_rc h l0 [3] (cz_cI (fn_X3_coats l0 h) (fun x18 h17 => (if x18 ≤ l2 then k0 h17 else cz_getR h17 l0 [(3, 6)] (fun r19 => cz_getR h17 l0 [(3, 0)] (fun r20 => cz_getR h17 r20 [(1, 8)] (fun r21 => cz_rc h17 r21 [2] (cz_cR (fn_J2_get r21 l2 h17) (fun r29 h28 => cz_cast h28 r29 [11] (cz_getI h28 r29 [(11, 1)] (fun x30 => cz_iast h28 r19 l2 x30 (fun h31 => cz_getR h31 l0 [(3, 8)] (fun r32 => cz_getR h31 l0 [(3, 6)] (fun r33 => cz_iald h31 r33 l2 (fun x34 => cz_iast h31 r32 l2 x34 (fun h35 => cz_getR h35 l0 [(3, 7)] (fun r36 => cz_getR h35 l0 [(3, 0)] (fun r37 => cz_getR h35 r37 [(1, 8)] (fun r38 => cz_rc h35 r38 [2] (cz_cR (fn_J2_get r38 l2 h35) (fun r46 h45 => cz_cast h45 r46 [11] (cz_getI h45 r46 [(11, 3)] (fun x47 => cz_iast h45 r36 l2 x47 (fun h48 => cz_leti (l2 + 1) (fun x49 => fn_X3_begin_48 l0 k0 n x49 h48))))))))))))))))))))))))
set_option maxHeartbeats 4000000 in
set_option maxRecDepth 100000 in
theorem wk_X3_begin_48 {K : cz_K} {D : cz_D} {h0 : cz_H} {oh : cz_O × cz_H} {l0 : Option Nat} {k0 : cz_H → cz_Z} (S : cz_S K D h0 cX3_begin 3 "HeldCoats$Reign" ((Option.some (Jvm.ClassFile.FieldType.object "HeldCoats$Reign"))) "begin" ([])) (hk0 : ∀ (h : cz_H), cz_T K D 5 h0 oh 3 (k0 h) h 120 [(0, cz_r l0)] []) : ∀ (n : Nat) (l2 : Int32) (h : cz_H), cz_T K D 5 h0 oh 3 (fn_X3_begin_48 l0 k0 n l2 h) h 48 [(0, cz_r l0), (2, cz_i l2)] [] := by
  intro n
  induction n with
  | zero => intros; exact ct_none
  | succ n ih =>
    intro l2 h
    rw [fn_X3_begin_48]
    refine ct_iload_n (k := 1) S dX3_begin_48 rfl rfl ?_
    refine ct_aload_n (k := 0) S dX3_begin_49 rfl rfl ?_
    refine ct_rc (fun b11 ci12 V13 hb14 hc15 hi16 => ?_)
    refine ct_cI (st := [cz_i l2]) (cg_virtual (av := []) S hb14 hc15 hi16 (fun _ e => mt_X3_coats e) md_X3_coats q336 q337 se_HeldCoats_Reign_coats___I_HeldCoats_Reign (by decide) (Nat.le_of_ble_eq_true rfl) rfl dX3_begin_50) (fun x18 h17 => ?_)
    refine ct_icmp_ge (tgt := 120) S dX3_begin_53 (by decide) ?_ ?_
    · exact ct_sub [0] rfl (hk0 h17)
    · refine ct_aload_n (k := 0) S dX3_begin_56 rfl rfl ?_
      refine ct_getR S fw_X3_9 dX3_begin_57 (fun r19 => ?_)
      refine ct_iload_n (k := 1) S dX3_begin_60 rfl rfl ?_
      refine ct_aload_n (k := 0) S dX3_begin_61 rfl rfl ?_
      refine ct_getR S fw_X3_33 dX3_begin_62 (fun r20 => ?_)
      refine ct_getR S fw_X3_63 dX3_begin_65 (fun r21 => ?_)
      refine ct_iload_n (k := 1) S dX3_begin_68 rfl rfl ?_
      refine ct_rc (fun b22 ci23 V24 hb25 hc26 hi27 => ?_)
      refine ct_cR (st := [cz_i l2, cz_r r19]) (cg_virtual (av := [cz_i l2]) S hb25 hc26 hi27 (fun _ e => mt_J2_get e) md_J2_get q344 q345 se_java_util_ArrayList_get__I_Ljava_lang_Object__java_util_ArrayList (by decide) (Nat.le_of_ble_eq_true rfl) rfl dX3_begin_69) (fun r29 h28 => ?_)
      refine ct_cast S q358 ca_HeldCoats_Coat dX3_begin_72 ?_
      refine ct_getI S fw_X3_76 dX3_begin_75 (fun x30 => ?_)
      refine ct_iast S dX3_begin_78 (fun h31 => ?_)
      refine ct_aload_n (k := 0) S dX3_begin_79 rfl rfl ?_
      refine ct_getR S fw_X3_18 dX3_begin_80 (fun r32 => ?_)
      refine ct_iload_n (k := 1) S dX3_begin_83 rfl rfl ?_
      refine ct_aload_n (k := 0) S dX3_begin_84 rfl rfl ?_
      refine ct_getR S fw_X3_9 dX3_begin_85 (fun r33 => ?_)
      refine ct_iload_n (k := 1) S dX3_begin_88 rfl rfl ?_
      refine ct_iald S dX3_begin_89 (fun x34 => ?_)
      refine ct_iast S dX3_begin_90 (fun h35 => ?_)
      refine ct_aload_n (k := 0) S dX3_begin_91 rfl rfl ?_
      refine ct_getR S fw_X3_15 dX3_begin_92 (fun r36 => ?_)
      refine ct_iload_n (k := 1) S dX3_begin_95 rfl rfl ?_
      refine ct_aload_n (k := 0) S dX3_begin_96 rfl rfl ?_
      refine ct_getR S fw_X3_33 dX3_begin_97 (fun r37 => ?_)
      refine ct_getR S fw_X3_63 dX3_begin_100 (fun r38 => ?_)
      refine ct_iload_n (k := 1) S dX3_begin_103 rfl rfl ?_
      refine ct_rc (fun b39 ci40 V41 hb42 hc43 hi44 => ?_)
      refine ct_cR (st := [cz_i l2, cz_r r36]) (cg_virtual (av := [cz_i l2]) S hb42 hc43 hi44 (fun _ e => mt_J2_get e) md_J2_get q344 q345 se_java_util_ArrayList_get__I_Ljava_lang_Object__java_util_ArrayList (by decide) (Nat.le_of_ble_eq_true rfl) rfl dX3_begin_104) (fun r46 h45 => ?_)
      refine ct_cast S q358 ca_HeldCoats_Coat dX3_begin_107 ?_
      refine ct_getI S fw_X3_79 dX3_begin_110 (fun x47 => ?_)
      refine ct_iast S dX3_begin_113 (fun h48 => ?_)
      refine ct_iincL (j := 1) (L2 := fun x49 => [(2, cz_i x49), (0, cz_r l0)]) S dX3_begin_114 rfl kI_1 (by decide) (fun _ => rfl) (fun x49 => ?_)
      refine ct_goto (tgt := 48) S dX3_begin_117 (by decide) ?_
      exact ct_sub [1, 0] rfl (ih x49 h48)
set_option maxHeartbeats 4000000 in
set_option maxRecDepth 100000 in
noncomputable def fn_X3_begin (l0 : Option Nat) (l1 : Option Nat) (h : cz_H) : cz_Z := cz_put h l0 [(3, 0)] (cz_r l1) (fun h1 => cz_put h1 l0 [(3, 1)] (cz_i 0) (fun h2 => cz_put h2 l0 [(3, 2)] (cz_i 0) (fun h3 => cz_put h3 l0 [(3, 3)] (cz_i (-1)) (fun h4 => cz_put h4 l0 [(3, 4)] (cz_i 0) (fun h5 => cz_put h5 l0 [(3, 5)] (cz_i 0) (fun h6 => cz_getR h6 l0 [(3, 11)] (fun r7 => cz_cV (fn_J3_fill r7 0 h6) (fun h8 => cz_getR h8 l0 [(3, 12)] (fun r9 => cz_cV (fn_J3_fill r9 0 h8) (fun h10 => fn_X3_begin_48 l0 (fun (h50 : cz_H) => some (.inl (some (cz_r l0)), h50)) 1000 0 h10))))))))))
set_option maxHeartbeats 4000000 in
set_option maxRecDepth 100000 in
theorem wk_X3_begin {K : cz_K} {D : cz_D} {h0 : cz_H} {oh : cz_O × cz_H} {l0 : Option Nat} {l1 : Option Nat} {h : cz_H} (S : cz_S K D h0 cX3_begin 3 "HeldCoats$Reign" ((Option.some (Jvm.ClassFile.FieldType.object "HeldCoats$Reign"))) "begin" ([])) : cz_T K D 5 h0 oh 3 (fn_X3_begin l0 l1 h) h 0 [(0, cz_r l0), (1, cz_r l1)] [] := by
  unfold fn_X3_begin
  refine ct_aload_n (k := 0) S dX3_begin_0 rfl rfl ?_
  refine ct_aload_n (k := 1) S dX3_begin_1 rfl rfl ?_
  refine ct_put S fw_X3_33 fp_X3_m_3_0 (cz_fits_r pd_LHeldCoats_Capital_) dX3_begin_2 (fun h1 => ?_)
  refine ct_aload_n (k := 0) S dX3_begin_5 rfl rfl ?_
  refine ct_iconst (v := 0) S dX3_begin_6 kI_0 ?_
  refine ct_put S fw_X3_37 fp_X3_m_3_1 (cz_fits_i pd_I) dX3_begin_7 (fun h2 => ?_)
  refine ct_aload_n (k := 0) S dX3_begin_10 rfl rfl ?_
  refine ct_iconst (v := 0) S dX3_begin_11 kI_0 ?_
  refine ct_put S fw_X3_41 fp_X3_m_3_2 (cz_fits_i pd_I) dX3_begin_12 (fun h3 => ?_)
  refine ct_aload_n (k := 0) S dX3_begin_15 rfl rfl ?_
  refine ct_iconst (v := (-1)) S dX3_begin_16 kI_m1 ?_
  refine ct_put S fw_X3_44 fp_X3_m_3_3 (cz_fits_i pd_I) dX3_begin_17 (fun h4 => ?_)
  refine ct_aload_n (k := 0) S dX3_begin_20 rfl rfl ?_
  refine ct_iconst (v := 0) S dX3_begin_21 kI_0 ?_
  refine ct_put S fw_X3_47 fp_X3_m_3_4 (cz_fits_i pd_I) dX3_begin_22 (fun h5 => ?_)
  refine ct_aload_n (k := 0) S dX3_begin_25 rfl rfl ?_
  refine ct_iconst (v := 0) S dX3_begin_26 kI_0 ?_
  refine ct_put S fw_X3_50 fp_X3_m_3_5 (cz_fits_i pd_I) dX3_begin_27 (fun h6 => ?_)
  refine ct_aload_n (k := 0) S dX3_begin_30 rfl rfl ?_
  refine ct_getR S fw_X3_27 dX3_begin_31 (fun r7 => ?_)
  refine ct_iconst (v := 0) S dX3_begin_34 kI_0 ?_
  refine ct_cV (st := []) (cg_static (av := [cz_r r7, cz_i 0]) S (fun _ e => mt_J3_fill e) md_J3_fill (Or.inl q333) q334 (by decide) (Nat.le_of_ble_eq_true rfl) rfl dX3_begin_35) (fun h8 => ?_)
  refine ct_aload_n (k := 0) S dX3_begin_38 rfl rfl ?_
  refine ct_getR S fw_X3_30 dX3_begin_39 (fun r9 => ?_)
  refine ct_iconst (v := 0) S dX3_begin_42 kI_0 ?_
  refine ct_cV (st := []) (cg_static (av := [cz_r r9, cz_i 0]) S (fun _ e => mt_J3_fill e) md_J3_fill (Or.inl q333) q334 (by decide) (Nat.le_of_ble_eq_true rfl) rfl dX3_begin_43) (fun h10 => ?_)
  refine ct_iconst (v := 0) S dX3_begin_46 kI_0 ?_
  refine ct_istore_n (L' := [(2, cz_i 0), (0, cz_r l0), (1, cz_r l1)]) S dX3_begin_47 rfl (by decide) rfl ?_
  refine ct_sub [1, 0] (L' := [(0, cz_r l0), (2, cz_i 0)]) rfl (wk_X3_begin_48 S ?_ 1000 0 h10)
  · intro h50
    refine ct_aload_n (k := 0) S dX3_begin_120 rfl rfl ?_
    exact ct_aret S rfl (Or.inl ⟨_, rfl⟩) dX3_begin_121
theorem mt_X3_begin {l : Launch} {D : cz_D} {l0 : Option Nat} {l1 : Option Nat} {h : cz_H} {oh : cz_O × cz_H} (hz : fn_X3_begin l0 l1 h = some oh) : cz_M l D yX3_begin (ws_ yX3_begin cX3_begin 3 ((Option.some (Jvm.ClassFile.FieldType.object "HeldCoats$Reign")))) 5 [cz_r l0, cz_r l1] h oh := cz_met (plainFor_of_name (by decide)) (Nat.le_of_ble_eq_true rfl) hz (fun K hl S => wk_X3_begin S)
/-! HeldCoats$Capital.<init>()V -/
def dkwX2_init_3 : List UInt8 := [181, 0, 38, 177]
abbrev dktX2_init_3 : List UInt8 := dkwX2_init_3 ++ []
def dkwX2_init_2 : List UInt8 := [187, 0, 21, 89, 183, 0, 23, 181, 0, 31, 42, 16, 8, 188, 10, 181, 0, 34, 42, 16, 8, 188, 10]
abbrev dktX2_init_2 : List UInt8 := dkwX2_init_2 ++ dktX2_init_3
def dkwX2_init_1 : List UInt8 := [187, 0, 21, 89, 183, 0, 23, 181, 0, 24, 42, 187, 0, 21, 89, 183, 0, 23, 181, 0, 28, 42]
abbrev dktX2_init_1 : List UInt8 := dkwX2_init_1 ++ dktX2_init_2
def dkwX2_init_0 : List UInt8 := [42, 183, 0, 3, 42, 16, 9, 181, 0, 9, 42, 4, 181, 0, 15, 42, 17, 0, 200, 181, 0, 18, 42]
abbrev dktX2_init_0 : List UInt8 := dkwX2_init_0 ++ dktX2_init_1
theorem dksX2_init_0 : cX2_init.data.toList.drop 0 = dktX2_init_0 := by decide +kernel
theorem dksX2_init_1 : cX2_init.data.toList.drop 23 = dktX2_init_1 := dk_seg dksX2_init_0 23 rfl rfl
theorem dksX2_init_2 : cX2_init.data.toList.drop 45 = dktX2_init_2 := dk_seg dksX2_init_1 22 rfl rfl
theorem dksX2_init_3 : cX2_init.data.toList.drop 68 = dktX2_init_3 := dk_seg dksX2_init_2 23 rfl rfl
theorem dX2_init_0 : decode cX2_init 0 = .ok (.aload_n 0, 1) := dk_42 (dk_at dksX2_init_0 0 rfl rfl)
theorem dX2_init_1 : decode cX2_init 1 = .ok (.invokespecial 3, 3) := dk_183 0 3 (dk_at dksX2_init_0 1 rfl rfl)
theorem dX2_init_4 : decode cX2_init 4 = .ok (.aload_n 0, 1) := dk_42 (dk_at dksX2_init_0 4 rfl rfl)
theorem dX2_init_5 : decode cX2_init 5 = .ok (.bipush 9, 2) := dk_16 9 (dk_at dksX2_init_0 5 rfl rfl)
theorem dX2_init_7 : decode cX2_init 7 = .ok (.putfield 9, 3) := dk_181 0 9 (dk_at dksX2_init_0 7 rfl rfl)
theorem dX2_init_10 : decode cX2_init 10 = .ok (.aload_n 0, 1) := dk_42 (dk_at dksX2_init_0 10 rfl rfl)
theorem dX2_init_11 : decode cX2_init 11 = .ok (.iconst 1, 1) := dk_4 (dk_at dksX2_init_0 11 rfl rfl)
theorem dX2_init_12 : decode cX2_init 12 = .ok (.putfield 15, 3) := dk_181 0 15 (dk_at dksX2_init_0 12 rfl rfl)
theorem dX2_init_15 : decode cX2_init 15 = .ok (.aload_n 0, 1) := dk_42 (dk_at dksX2_init_0 15 rfl rfl)
theorem dX2_init_16 : decode cX2_init 16 = .ok (.sipush 200, 3) := dk_17 0 200 (dk_at dksX2_init_0 16 rfl rfl)
theorem dX2_init_19 : decode cX2_init 19 = .ok (.putfield 18, 3) := dk_181 0 18 (dk_at dksX2_init_0 19 rfl rfl)
theorem dX2_init_22 : decode cX2_init 22 = .ok (.aload_n 0, 1) := dk_42 (dk_at dksX2_init_0 22 rfl rfl)
theorem dX2_init_23 : decode cX2_init 23 = .ok (.new 21, 3) := dk_187 0 21 (dk_at dksX2_init_1 0 rfl rfl)
theorem dX2_init_26 : decode cX2_init 26 = .ok (.dup, 1) := dk_89 (dk_at dksX2_init_1 3 rfl rfl)
theorem dX2_init_27 : decode cX2_init 27 = .ok (.invokespecial 23, 3) := dk_183 0 23 (dk_at dksX2_init_1 4 rfl rfl)
theorem dX2_init_30 : decode cX2_init 30 = .ok (.putfield 24, 3) := dk_181 0 24 (dk_at dksX2_init_1 7 rfl rfl)
theorem dX2_init_33 : decode cX2_init 33 = .ok (.aload_n 0, 1) := dk_42 (dk_at dksX2_init_1 10 rfl rfl)
theorem dX2_init_34 : decode cX2_init 34 = .ok (.new 21, 3) := dk_187 0 21 (dk_at dksX2_init_1 11 rfl rfl)
theorem dX2_init_37 : decode cX2_init 37 = .ok (.dup, 1) := dk_89 (dk_at dksX2_init_1 14 rfl rfl)
theorem dX2_init_38 : decode cX2_init 38 = .ok (.invokespecial 23, 3) := dk_183 0 23 (dk_at dksX2_init_1 15 rfl rfl)
theorem dX2_init_41 : decode cX2_init 41 = .ok (.putfield 28, 3) := dk_181 0 28 (dk_at dksX2_init_1 18 rfl rfl)
theorem dX2_init_44 : decode cX2_init 44 = .ok (.aload_n 0, 1) := dk_42 (dk_at dksX2_init_1 21 rfl rfl)
theorem dX2_init_45 : decode cX2_init 45 = .ok (.new 21, 3) := dk_187 0 21 (dk_at dksX2_init_2 0 rfl rfl)
theorem dX2_init_48 : decode cX2_init 48 = .ok (.dup, 1) := dk_89 (dk_at dksX2_init_2 3 rfl rfl)
theorem dX2_init_49 : decode cX2_init 49 = .ok (.invokespecial 23, 3) := dk_183 0 23 (dk_at dksX2_init_2 4 rfl rfl)
theorem dX2_init_52 : decode cX2_init 52 = .ok (.putfield 31, 3) := dk_181 0 31 (dk_at dksX2_init_2 7 rfl rfl)
theorem dX2_init_55 : decode cX2_init 55 = .ok (.aload_n 0, 1) := dk_42 (dk_at dksX2_init_2 10 rfl rfl)
theorem dX2_init_56 : decode cX2_init 56 = .ok (.bipush 8, 2) := dk_16 8 (dk_at dksX2_init_2 11 rfl rfl)
theorem dX2_init_58 : decode cX2_init 58 = .ok (.newarray .int, 2) := dk_188_10 (dk_at dksX2_init_2 13 rfl rfl)
theorem dX2_init_60 : decode cX2_init 60 = .ok (.putfield 34, 3) := dk_181 0 34 (dk_at dksX2_init_2 15 rfl rfl)
theorem dX2_init_63 : decode cX2_init 63 = .ok (.aload_n 0, 1) := dk_42 (dk_at dksX2_init_2 18 rfl rfl)
theorem dX2_init_64 : decode cX2_init 64 = .ok (.bipush 8, 2) := dk_16 8 (dk_at dksX2_init_2 19 rfl rfl)
theorem dX2_init_66 : decode cX2_init 66 = .ok (.newarray .int, 2) := dk_188_10 (dk_at dksX2_init_2 21 rfl rfl)
theorem dX2_init_68 : decode cX2_init 68 = .ok (.putfield 38, 3) := dk_181 0 38 (dk_at dksX2_init_3 0 rfl rfl)
theorem dX2_init_71 : decode cX2_init 71 = .ok (.return_, 1) := dk_177 (dk_at dksX2_init_3 3 rfl rfl)
theorem fw_X2_9 : cz_FW "HeldCoats$Capital" 9 [(1, 3)] "I" := ⟨"HeldCoats$Capital", "holds", Or.inl q207, List.forall_mem_cons.mpr ⟨⟨RX2, TX2, 11, rfl, by decide, rfl, rfl, Or.inl rfl⟩, fun _ h => absurd h List.not_mem_nil⟩, by decide⟩
theorem fp_X2_i_1_3 : cz_FP "HeldCoats$Capital" "<init>" [(1, 3)] := List.forall_mem_cons.mpr ⟨⟨RX2, TX2, 11, rfl, Or.inl rfl⟩, fun _ h => absurd h List.not_mem_nil⟩
theorem fw_X2_15 : cz_FW "HeldCoats$Capital" 15 [(1, 4)] "I" := ⟨"HeldCoats$Capital", "moths", Or.inl q211, List.forall_mem_cons.mpr ⟨⟨RX2, TX2, 11, rfl, by decide, rfl, rfl, Or.inl rfl⟩, fun _ h => absurd h List.not_mem_nil⟩, by decide⟩
theorem fp_X2_i_1_4 : cz_FP "HeldCoats$Capital" "<init>" [(1, 4)] := List.forall_mem_cons.mpr ⟨⟨RX2, TX2, 11, rfl, Or.inl rfl⟩, fun _ h => absurd h List.not_mem_nil⟩
theorem fw_X2_18 : cz_FW "HeldCoats$Capital" 18 [(1, 5)] "I" := ⟨"HeldCoats$Capital", "limit", Or.inl q215, List.forall_mem_cons.mpr ⟨⟨RX2, TX2, 11, rfl, by decide, rfl, rfl, Or.inl rfl⟩, fun _ h => absurd h List.not_mem_nil⟩, by decide⟩
theorem fp_X2_i_1_5 : cz_FP "HeldCoats$Capital" "<init>" [(1, 5)] := List.forall_mem_cons.mpr ⟨⟨RX2, TX2, 11, rfl, Or.inl rfl⟩, fun _ h => absurd h List.not_mem_nil⟩
theorem fw_X2_24 : cz_FW "HeldCoats$Capital" 24 [(1, 6)] "Ljava/util/ArrayList;" := ⟨"HeldCoats$Capital", "seats", Or.inl q218, List.forall_mem_cons.mpr ⟨⟨RX2, TX2, 11, rfl, by decide, rfl, rfl, Or.inl rfl⟩, fun _ h => absurd h List.not_mem_nil⟩, by decide⟩
theorem fp_X2_i_1_6 : cz_FP "HeldCoats$Capital" "<init>" [(1, 6)] := List.forall_mem_cons.mpr ⟨⟨RX2, TX2, 11, rfl, Or.inr ⟨rfl, rfl, rfl⟩⟩, fun _ h => absurd h List.not_mem_nil⟩
theorem fp_X2_i_1_7 : cz_FP "HeldCoats$Capital" "<init>" [(1, 7)] := List.forall_mem_cons.mpr ⟨⟨RX2, TX2, 11, rfl, Or.inr ⟨rfl, rfl, rfl⟩⟩, fun _ h => absurd h List.not_mem_nil⟩
theorem fp_X2_i_1_8 : cz_FP "HeldCoats$Capital" "<init>" [(1, 8)] := List.forall_mem_cons.mpr ⟨⟨RX2, TX2, 11, rfl, Or.inr ⟨rfl, rfl, rfl⟩⟩, fun _ h => absurd h List.not_mem_nil⟩
theorem fp_X2_i_1_9 : cz_FP "HeldCoats$Capital" "<init>" [(1, 9)] := List.forall_mem_cons.mpr ⟨⟨RX2, TX2, 11, rfl, Or.inr ⟨rfl, rfl, rfl⟩⟩, fun _ h => absurd h List.not_mem_nil⟩
theorem fp_X2_i_1_10 : cz_FP "HeldCoats$Capital" "<init>" [(1, 10)] := List.forall_mem_cons.mpr ⟨⟨RX2, TX2, 11, rfl, Or.inr ⟨rfl, rfl, rfl⟩⟩, fun _ h => absurd h List.not_mem_nil⟩
set_option maxHeartbeats 4000000 in
set_option maxRecDepth 100000 in
noncomputable def fn_X2_init (l0 : Option Nat) (h : cz_H) : cz_Z := cz_nn' l0 (cz_put h l0 [(1, 3)] (cz_i 9) (fun h1 => cz_put h1 l0 [(1, 4)] (cz_i 1) (fun h2 => cz_put h2 l0 [(1, 5)] (cz_i 200) (fun h3 => cz_newo h3 2 3 (fun r4 h5 => cz_nn' r4 (cz_cV (fn_J2_init r4 h5) (fun h8 => cz_put h8 l0 [(1, 6)] (cz_r r4) (fun h9 => cz_newo h9 2 3 (fun r10 h11 => cz_nn' r10 (cz_cV (fn_J2_init r10 h11) (fun h14 => cz_put h14 l0 [(1, 7)] (cz_r r10) (fun h15 => cz_newo h15 2 3 (fun r16 h17 => cz_nn' r16 (cz_cV (fn_J2_init r16 h17) (fun h20 => cz_put h20 l0 [(1, 8)] (cz_r r16) (fun h21 => cz_newi h21 0 8 (fun r22 h23 => cz_put h23 l0 [(1, 9)] (cz_r r22) (fun h24 => cz_newi h24 0 8 (fun r25 h26 => cz_put h26 l0 [(1, 10)] (cz_r r25) (fun h27 => some (.inl none, h27)))))))))))))))))))))
set_option maxHeartbeats 4000000 in
set_option maxRecDepth 100000 in
theorem wk_X2_init {K : cz_K} {D : cz_D} {h0 : cz_H} {oh : cz_O × cz_H} {l0 : Option Nat} {h : cz_H} (S : cz_S K D h0 cX2_init 1 "HeldCoats$Capital" ((Option.none : Option Jvm.ClassFile.FieldType)) "<init>" ([])) : cz_T K D 6 h0 oh 1 (fn_X2_init l0 h) h 0 [(0, cz_r l0)] [] := by
  unfold fn_X2_init
  refine ct_aload_n (k := 0) S dX2_init_0 rfl rfl ?_
  refine ct_oinit S q172 q165 q166 (by decide) (Nat.le_of_ble_eq_true rfl) dX2_init_1 ?_
  refine ct_aload_n (k := 0) S dX2_init_4 rfl rfl ?_
  refine ct_bipush (v := 9) S dX2_init_5 kB_9 ?_
  refine ct_put S fw_X2_9 fp_X2_i_1_3 (cz_fits_i pd_I) dX2_init_7 (fun h1 => ?_)
  refine ct_aload_n (k := 0) S dX2_init_10 rfl rfl ?_
  refine ct_iconst (v := 1) S dX2_init_11 kI_1 ?_
  refine ct_put S fw_X2_15 fp_X2_i_1_4 (cz_fits_i pd_I) dX2_init_12 (fun h2 => ?_)
  refine ct_aload_n (k := 0) S dX2_init_15 rfl rfl ?_
  refine ct_sipush (v := 200) S dX2_init_16 kS_200 ?_
  refine ct_put S fw_X2_18 fp_X2_i_1_5 (cz_fits_i pd_I) dX2_init_19 (fun h3 => ?_)
  refine ct_aload_n (k := 0) S dX2_init_22 rfl rfl ?_
  refine ct_newo S (by decide) cz_cl2 q173 dX2_init_23 (fun r4 h5 => ?_)
  refine ct_dup S dX2_init_26 rfl ?_
  refine ct_nn (fun b6 hb7 => ?_)
  refine ct_cV (st := [cz_r r4, cz_r l0]) (cg_init (av := []) S hb7 (fun _ e => mt_J2_init e) q177 (Or.inl q175) rfl q176 q117 nh_java_util_ArrayList__init____V (by decide) (by decide) (Nat.le_of_ble_eq_true rfl) rfl dX2_init_27) (fun h8 => ?_)
  refine ct_put S fw_X2_24 fp_X2_i_1_6 (cz_fits_r pd_Ljava_util_ArrayList_) dX2_init_30 (fun h9 => ?_)
  refine ct_aload_n (k := 0) S dX2_init_33 rfl rfl ?_
  refine ct_newo S (by decide) cz_cl2 q173 dX2_init_34 (fun r10 h11 => ?_)
  refine ct_dup S dX2_init_37 rfl ?_
  refine ct_nn (fun b12 hb13 => ?_)
  refine ct_cV (st := [cz_r r10, cz_r l0]) (cg_init (av := []) S hb13 (fun _ e => mt_J2_init e) q177 (Or.inl q175) rfl q176 q117 nh_java_util_ArrayList__init____V (by decide) (by decide) (Nat.le_of_ble_eq_true rfl) rfl dX2_init_38) (fun h14 => ?_)
  refine ct_put S fw_X2_28 fp_X2_i_1_7 (cz_fits_r pd_Ljava_util_ArrayList_) dX2_init_41 (fun h15 => ?_)
  refine ct_aload_n (k := 0) S dX2_init_44 rfl rfl ?_
  refine ct_newo S (by decide) cz_cl2 q173 dX2_init_45 (fun r16 h17 => ?_)
  refine ct_dup S dX2_init_48 rfl ?_
  refine ct_nn (fun b18 hb19 => ?_)
  refine ct_cV (st := [cz_r r16, cz_r l0]) (cg_init (av := []) S hb19 (fun _ e => mt_J2_init e) q177 (Or.inl q175) rfl q176 q117 nh_java_util_ArrayList__init____V (by decide) (by decide) (Nat.le_of_ble_eq_true rfl) rfl dX2_init_49) (fun h20 => ?_)
  refine ct_put S fw_X2_31 fp_X2_i_1_8 (cz_fits_r pd_Ljava_util_ArrayList_) dX2_init_52 (fun h21 => ?_)
  refine ct_aload_n (k := 0) S dX2_init_55 rfl rfl ?_
  refine ct_bipush (v := 8) S dX2_init_56 kB_8 ?_
  refine ct_newi_int S dX2_init_58 (fun r22 h23 => ?_)
  refine ct_put S fw_X2_34 fp_X2_i_1_9 (cz_fits_a pd__I) dX2_init_60 (fun h24 => ?_)
  refine ct_aload_n (k := 0) S dX2_init_63 rfl rfl ?_
  refine ct_bipush (v := 8) S dX2_init_64 kB_8 ?_
  refine ct_newi_int S dX2_init_66 (fun r25 h26 => ?_)
  refine ct_put S fw_X2_38 fp_X2_i_1_10 (cz_fits_a pd__I) dX2_init_68 (fun h27 => ?_)
  exact ct_vret S rfl dX2_init_71
theorem mt_X2_init {l : Launch} {D : cz_D} {l0 : Option Nat} {h : cz_H} {oh : cz_O × cz_H} (hz : fn_X2_init l0 h = some oh) : cz_M l D yX2_init (ws_ yX2_init cX2_init 1 ((Option.none : Option Jvm.ClassFile.FieldType))) 6 [cz_r l0] h oh := cz_met (plainFor_of_name (by decide)) (Nat.le_of_ble_eq_true rfl) hz (fun K hl S => wk_X2_init S)
/-! HeldCoats$CapitalReader.<init>([BI)V -/
def dkwX7_init_0 : List UInt8 := [42, 43, 28, 17, 3, 132, 183, 0, 3, 42, 187, 0, 9, 89, 183, 0, 11, 181, 0, 14, 177]
abbrev dktX7_init_0 : List UInt8 := dkwX7_init_0 ++ []
theorem dksX7_init_0 : cX7_init.data.toList.drop 0 = dktX7_init_0 := by decide +kernel
theorem dX7_init_0 : decode cX7_init 0 = .ok (.aload_n 0, 1) := dk_42 (dk_at dksX7_init_0 0 rfl rfl)
theorem dX7_init_1 : decode cX7_init 1 = .ok (.aload_n 1, 1) := dk_43 (dk_at dksX7_init_0 1 rfl rfl)
theorem dX7_init_2 : decode cX7_init 2 = .ok (.iload_n 2, 1) := dk_28 (dk_at dksX7_init_0 2 rfl rfl)
theorem dX7_init_3 : decode cX7_init 3 = .ok (.sipush 900, 3) := dk_17 3 132 (dk_at dksX7_init_0 3 rfl rfl)
theorem dX7_init_6 : decode cX7_init 6 = .ok (.invokespecial 3, 3) := dk_183 0 3 (dk_at dksX7_init_0 6 rfl rfl)
theorem dX7_init_9 : decode cX7_init 9 = .ok (.aload_n 0, 1) := dk_42 (dk_at dksX7_init_0 9 rfl rfl)
theorem dX7_init_10 : decode cX7_init 10 = .ok (.new 9, 3) := dk_187 0 9 (dk_at dksX7_init_0 10 rfl rfl)
theorem dX7_init_13 : decode cX7_init 13 = .ok (.dup, 1) := dk_89 (dk_at dksX7_init_0 13 rfl rfl)
theorem dX7_init_14 : decode cX7_init 14 = .ok (.invokespecial 11, 3) := dk_183 0 11 (dk_at dksX7_init_0 14 rfl rfl)
theorem dX7_init_17 : decode cX7_init 17 = .ok (.putfield 14, 3) := dk_181 0 14 (dk_at dksX7_init_0 17 rfl rfl)
theorem dX7_init_20 : decode cX7_init 20 = .ok (.return_, 1) := dk_177 (dk_at dksX7_init_0 20 rfl rfl)
theorem nh_HeldCoats_Capital__init____V : cz_nh ⟨"HeldCoats$Capital", "<init>", "()V"⟩ 0 := ⟨by decide, by decide, by decide +kernel⟩
theorem fw_X7_14 : cz_FW "HeldCoats$CapitalReader" 14 [(6, 9)] "LHeldCoats$Capital;" := ⟨"HeldCoats$CapitalReader", "c", Or.inl q468, List.forall_mem_cons.mpr ⟨⟨RX7, TX7, 11, rfl, by decide, rfl, rfl, Or.inl rfl⟩, fun _ h => absurd h List.not_mem_nil⟩, by decide⟩
theorem fp_X7_i_6_9 : cz_FP "HeldCoats$CapitalReader" "<init>" [(6, 9)] := List.forall_mem_cons.mpr ⟨⟨RX7, TX7, 11, rfl, Or.inr ⟨rfl, rfl, rfl⟩⟩, fun _ h => absurd h List.not_mem_nil⟩
set_option maxHeartbeats 4000000 in
set_option maxRecDepth 100000 in
noncomputable def fn_X7_init (l0 : Option Nat) (l1 : Option Nat) (l2 : Int32) (h : cz_H) : cz_Z := cz_nn' l0 (cz_cV (fn_X6_init l0 l1 l2 900 h) (fun h3 => cz_newo h3 1 11 (fun r4 h5 => cz_nn' r4 (cz_cV (fn_X2_init r4 h5) (fun h8 => cz_put h8 l0 [(6, 9)] (cz_r r4) (fun h9 => some (.inl none, h9)))))))
set_option maxHeartbeats 4000000 in
set_option maxRecDepth 100000 in
theorem wk_X7_init {K : cz_K} {D : cz_D} {h0 : cz_H} {oh : cz_O × cz_H} {l0 : Option Nat} {l1 : Option Nat} {l2 : Int32} {h : cz_H} (S : cz_S K D h0 cX7_init 3 "HeldCoats$CapitalReader" ((Option.none : Option Jvm.ClassFile.FieldType)) "<init>" ([])) : cz_T K D 7 h0 oh 3 (fn_X7_init l0 l1 l2 h) h 0 [(0, cz_r l0), (1, cz_r l1), (2, cz_i l2)] [] := by
  unfold fn_X7_init
  refine ct_aload_n (k := 0) S dX7_init_0 rfl rfl ?_
  refine ct_aload_n (k := 1) S dX7_init_1 rfl rfl ?_
  refine ct_iload_n (k := 2) S dX7_init_2 rfl rfl ?_
  refine ct_sipush (v := 900) S dX7_init_3 kS_900 ?_
  refine ct_nn (fun b1 hb2 => ?_)
  refine ct_cV (st := []) (cg_init (av := [cz_r l1, cz_i l2, cz_i 900]) S hb2 (fun _ e => mt_X6_init e) q463 (Or.inl q461) rfl q462 q124 nh_HeldCoats_Reader__init____BII_V (by decide) (by decide) (Nat.le_of_ble_eq_true rfl) rfl dX7_init_6) (fun h3 => ?_)
  refine ct_aload_n (k := 0) S dX7_init_9 rfl rfl ?_
  refine ct_newo S (by decide) cz_cl1 q466 dX7_init_10 (fun r4 h5 => ?_)
  refine ct_dup S dX7_init_13 rfl ?_
  refine ct_nn (fun b6 hb7 => ?_)
  refine ct_cV (st := [cz_r r4, cz_r l0]) (cg_init (av := []) S hb7 (fun _ e => mt_X2_init e) q171 (Or.inr ⟨_, q467⟩) rfl q170 q114 nh_HeldCoats_Capital__init____V (by decide) (by decide) (Nat.le_of_ble_eq_true rfl) rfl dX7_init_14) (fun h8 => ?_)
  refine ct_put S fw_X7_14 fp_X7_i_6_9 (cz_fits_r pd_LHeldCoats_Capital_) dX7_init_17 (fun h9 => ?_)
  exact ct_vret S rfl dX7_init_20
theorem mt_X7_init {l : Launch} {D : cz_D} {l0 : Option Nat} {l1 : Option Nat} {l2 : Int32} {h : cz_H} {oh : cz_O × cz_H} (hz : fn_X7_init l0 l1 l2 h = some oh) : cz_M l D yX7_init (ws_ yX7_init cX7_init 3 ((Option.none : Option Jvm.ClassFile.FieldType))) 7 [cz_r l0, cz_r l1, cz_i l2] h oh := cz_met (plainFor_of_name (by decide)) (Nat.le_of_ble_eq_true rfl) hz (fun K hl S => wk_X7_init S)
/-! HeldCoats$Named.<init>(Ljava/lang/String;)V -/
def dkwX9_init_0 : List UInt8 := [42, 183, 0, 1, 42, 43, 181, 0, 7, 177]
abbrev dktX9_init_0 : List UInt8 := dkwX9_init_0 ++ []
theorem dksX9_init_0 : cX9_init.data.toList.drop 0 = dktX9_init_0 := by decide +kernel
theorem dX9_init_0 : decode cX9_init 0 = .ok (.aload_n 0, 1) := dk_42 (dk_at dksX9_init_0 0 rfl rfl)
theorem dX9_init_1 : decode cX9_init 1 = .ok (.invokespecial 1, 3) := dk_183 0 1 (dk_at dksX9_init_0 1 rfl rfl)
theorem dX9_init_4 : decode cX9_init 4 = .ok (.aload_n 0, 1) := dk_42 (dk_at dksX9_init_0 4 rfl rfl)
theorem dX9_init_5 : decode cX9_init 5 = .ok (.aload_n 1, 1) := dk_43 (dk_at dksX9_init_0 5 rfl rfl)
theorem dX9_init_6 : decode cX9_init 6 = .ok (.putfield 7, 3) := dk_181 0 7 (dk_at dksX9_init_0 6 rfl rfl)
theorem dX9_init_9 : decode cX9_init 9 = .ok (.return_, 1) := dk_177 (dk_at dksX9_init_0 9 rfl rfl)
theorem fw_X9_7 : cz_FW "HeldCoats$Named" 7 [(10, 0), (11, 0)] "Ljava/lang/String;" := ⟨"HeldCoats$Named", "name", Or.inl q943, List.forall_mem_cons.mpr ⟨⟨RX10, TX10, 2, rfl, by decide, rfl, rfl, Or.inl rfl⟩, List.forall_mem_cons.mpr ⟨⟨RX11, TX11, 4, rfl, by decide, rfl, rfl, Or.inl rfl⟩, fun _ h => absurd h List.not_mem_nil⟩⟩, by decide⟩
theorem fp_X9_i_10_0_11_0 : cz_FP "HeldCoats$Named" "<init>" [(10, 0), (11, 0)] := List.forall_mem_cons.mpr ⟨⟨RX10, TX10, 2, rfl, Or.inr ⟨rfl, rfl, rfl⟩⟩, List.forall_mem_cons.mpr ⟨⟨RX11, TX11, 4, rfl, Or.inr ⟨rfl, rfl, rfl⟩⟩, fun _ h => absurd h List.not_mem_nil⟩⟩
set_option maxHeartbeats 4000000 in
set_option maxRecDepth 100000 in
noncomputable def fn_X9_init (l0 : Option Nat) (l1 : Option Nat) (h : cz_H) : cz_Z := cz_nn' l0 (cz_put h l0 [(10, 0), (11, 0)] (cz_r l1) (fun h1 => some (.inl none, h1)))
set_option maxHeartbeats 4000000 in
set_option maxRecDepth 100000 in
theorem wk_X9_init {K : cz_K} {D : cz_D} {h0 : cz_H} {oh : cz_O × cz_H} {l0 : Option Nat} {l1 : Option Nat} {h : cz_H} (S : cz_S K D h0 cX9_init 2 "HeldCoats$Named" ((Option.none : Option Jvm.ClassFile.FieldType)) "<init>" ([])) : cz_T K D 3 h0 oh 2 (fn_X9_init l0 l1 h) h 0 [(0, cz_r l0), (1, cz_r l1)] [] := by
  unfold fn_X9_init
  refine ct_aload_n (k := 0) S dX9_init_0 rfl rfl ?_
  refine ct_oinit S q938 q165 q166 (by decide) (Nat.le_of_ble_eq_true rfl) dX9_init_1 ?_
  refine ct_aload_n (k := 0) S dX9_init_4 rfl rfl ?_
  refine ct_aload_n (k := 1) S dX9_init_5 rfl rfl ?_
  refine ct_put S fw_X9_7 fp_X9_i_10_0_11_0 (cz_fits_r pd_Ljava_lang_String_) dX9_init_6 (fun h1 => ?_)
  exact ct_vret S rfl dX9_init_9
theorem mt_X9_init {l : Launch} {D : cz_D} {l0 : Option Nat} {l1 : Option Nat} {h : cz_H} {oh : cz_O × cz_H} (hz : fn_X9_init l0 l1 h = some oh) : cz_M l D yX9_init (ws_ yX9_init cX9_init 2 ((Option.none : Option Jvm.ClassFile.FieldType))) 3 [cz_r l0, cz_r l1] h oh := cz_met (plainFor_of_name (by decide)) (Nat.le_of_ble_eq_true rfl) hz (fun K hl S => wk_X9_init S)
/-! HeldCoats$Coat.<init>(Ljava/lang/String;III)V -/
def dkwX11_init_0 : List UInt8 := [42, 43, 183, 0, 1, 42, 28, 181, 0, 7, 42, 29, 181, 0, 13, 42, 21, 4, 181, 0, 16, 177]
abbrev dktX11_init_0 : List UInt8 := dkwX11_init_0 ++ []
theorem dksX11_init_0 : cX11_init.data.toList.drop 0 = dktX11_init_0 := by decide +kernel
theorem dX11_init_0 : decode cX11_init 0 = .ok (.aload_n 0, 1) := dk_42 (dk_at dksX11_init_0 0 rfl rfl)
theorem dX11_init_1 : decode cX11_init 1 = .ok (.aload_n 1, 1) := dk_43 (dk_at dksX11_init_0 1 rfl rfl)
theorem dX11_init_2 : decode cX11_init 2 = .ok (.invokespecial 1, 3) := dk_183 0 1 (dk_at dksX11_init_0 2 rfl rfl)
theorem dX11_init_5 : decode cX11_init 5 = .ok (.aload_n 0, 1) := dk_42 (dk_at dksX11_init_0 5 rfl rfl)
theorem dX11_init_6 : decode cX11_init 6 = .ok (.iload_n 2, 1) := dk_28 (dk_at dksX11_init_0 6 rfl rfl)
theorem dX11_init_7 : decode cX11_init 7 = .ok (.putfield 7, 3) := dk_181 0 7 (dk_at dksX11_init_0 7 rfl rfl)
theorem dX11_init_10 : decode cX11_init 10 = .ok (.aload_n 0, 1) := dk_42 (dk_at dksX11_init_0 10 rfl rfl)
theorem dX11_init_11 : decode cX11_init 11 = .ok (.iload_n 3, 1) := dk_29 (dk_at dksX11_init_0 11 rfl rfl)
theorem dX11_init_12 : decode cX11_init 12 = .ok (.putfield 13, 3) := dk_181 0 13 (dk_at dksX11_init_0 12 rfl rfl)
theorem dX11_init_15 : decode cX11_init 15 = .ok (.aload_n 0, 1) := dk_42 (dk_at dksX11_init_0 15 rfl rfl)
theorem dX11_init_16 : decode cX11_init 16 = .ok (.iload 4, 2) := dk_21 4 (dk_at dksX11_init_0 16 rfl rfl)
theorem dX11_init_18 : decode cX11_init 18 = .ok (.putfield 16, 3) := dk_181 0 16 (dk_at dksX11_init_0 18 rfl rfl)
theorem dX11_init_21 : decode cX11_init 21 = .ok (.return_, 1) := dk_177 (dk_at dksX11_init_0 21 rfl rfl)
theorem nh_HeldCoats_Named__init___Ljava_lang_String__V : cz_nh ⟨"HeldCoats$Named", "<init>", "(Ljava/lang/String;)V"⟩ 1 := ⟨by decide, by decide, by decide +kernel⟩
theorem fw_X11_7 : cz_FW "HeldCoats$Coat" 7 [(11, 1)] "I" := ⟨"HeldCoats$Coat", "man", Or.inl q1027, List.forall_mem_cons.mpr ⟨⟨RX11, TX11, 4, rfl, by decide, rfl, rfl, Or.inl rfl⟩, fun _ h => absurd h List.not_mem_nil⟩, by decide⟩
theorem fp_X11_i_11_1 : cz_FP "HeldCoats$Coat" "<init>" [(11, 1)] := List.forall_mem_cons.mpr ⟨⟨RX11, TX11, 4, rfl, Or.inr ⟨rfl, rfl, rfl⟩⟩, fun _ h => absurd h List.not_mem_nil⟩
theorem fw_X11_13 : cz_FW "HeldCoats$Coat" 13 [(11, 2)] "I" := ⟨"HeldCoats$Coat", "warmth", Or.inl q1031, List.forall_mem_cons.mpr ⟨⟨RX11, TX11, 4, rfl, by decide, rfl, rfl, Or.inl rfl⟩, fun _ h => absurd h List.not_mem_nil⟩, by decide⟩
theorem fp_X11_i_11_2 : cz_FP "HeldCoats$Coat" "<init>" [(11, 2)] := List.forall_mem_cons.mpr ⟨⟨RX11, TX11, 4, rfl, Or.inr ⟨rfl, rfl, rfl⟩⟩, fun _ h => absurd h List.not_mem_nil⟩
theorem fw_X11_16 : cz_FW "HeldCoats$Coat" 16 [(11, 3)] "I" := ⟨"HeldCoats$Coat", "cloth", Or.inl q1034, List.forall_mem_cons.mpr ⟨⟨RX11, TX11, 4, rfl, by decide, rfl, rfl, Or.inl rfl⟩, fun _ h => absurd h List.not_mem_nil⟩, by decide⟩
theorem fp_X11_i_11_3 : cz_FP "HeldCoats$Coat" "<init>" [(11, 3)] := List.forall_mem_cons.mpr ⟨⟨RX11, TX11, 4, rfl, Or.inr ⟨rfl, rfl, rfl⟩⟩, fun _ h => absurd h List.not_mem_nil⟩
set_option maxHeartbeats 4000000 in
set_option maxRecDepth 100000 in
noncomputable def fn_X11_init (l0 : Option Nat) (l1 : Option Nat) (l2 : Int32) (l3 : Int32) (l4 : Int32) (h : cz_H) : cz_Z := cz_nn' l0 (cz_cV (fn_X9_init l0 l1 h) (fun h3 => cz_put h3 l0 [(11, 1)] (cz_i l2) (fun h4 => cz_put h4 l0 [(11, 2)] (cz_i l3) (fun h5 => cz_put h5 l0 [(11, 3)] (cz_i l4) (fun h6 => some (.inl none, h6))))))
set_option maxHeartbeats 4000000 in
set_option maxRecDepth 100000 in
theorem wk_X11_init {K : cz_K} {D : cz_D} {h0 : cz_H} {oh : cz_O × cz_H} {l0 : Option Nat} {l1 : Option Nat} {l2 : Int32} {l3 : Int32} {l4 : Int32} {h : cz_H} (S : cz_S K D h0 cX11_init 5 "HeldCoats$Coat" ((Option.none : Option Jvm.ClassFile.FieldType)) "<init>" ([])) : cz_T K D 4 h0 oh 5 (fn_X11_init l0 l1 l2 l3 l4 h) h 0 [(0, cz_r l0), (1, cz_r l1), (2, cz_i l2), (3, cz_i l3), (4, cz_i l4)] [] := by
  unfold fn_X11_init
  refine ct_aload_n (k := 0) S dX11_init_0 rfl rfl ?_
  refine ct_aload_n (k := 1) S dX11_init_1 rfl rfl ?_
  refine ct_nn (fun b1 hb2 => ?_)
  refine ct_cV (st := []) (cg_init (av := [cz_r l1]) S hb2 (fun _ e => mt_X9_init e) q937 (Or.inl q1026) rfl q936 q137 nh_HeldCoats_Named__init___Ljava_lang_String__V (by decide) (by decide) (Nat.le_of_ble_eq_true rfl) rfl dX11_init_2) (fun h3 => ?_)
  refine ct_aload_n (k := 0) S dX11_init_5 rfl rfl ?_
  refine ct_iload_n (k := 2) S dX11_init_6 rfl rfl ?_
  refine ct_put S fw_X11_7 fp_X11_i_11_1 (cz_fits_i pd_I) dX11_init_7 (fun h4 => ?_)
  refine ct_aload_n (k := 0) S dX11_init_10 rfl rfl ?_
  refine ct_iload_n (k := 3) S dX11_init_11 rfl rfl ?_
  refine ct_put S fw_X11_13 fp_X11_i_11_2 (cz_fits_i pd_I) dX11_init_12 (fun h5 => ?_)
  refine ct_aload_n (k := 0) S dX11_init_15 rfl rfl ?_
  refine ct_iload (k := 4) S dX11_init_16 rfl ?_
  refine ct_put S fw_X11_16 fp_X11_i_11_3 (cz_fits_i pd_I) dX11_init_18 (fun h6 => ?_)
  exact ct_vret S rfl dX11_init_21
theorem mt_X11_init {l : Launch} {D : cz_D} {l0 : Option Nat} {l1 : Option Nat} {l2 : Int32} {l3 : Int32} {l4 : Int32} {h : cz_H} {oh : cz_O × cz_H} (hz : fn_X11_init l0 l1 l2 l3 l4 h = some oh) : cz_M l D yX11_init (ws_ yX11_init cX11_init 5 ((Option.none : Option Jvm.ClassFile.FieldType))) 4 [cz_r l0, cz_r l1, cz_i l2, cz_i l3, cz_i l4] h oh := cz_met (plainFor_of_name (by decide)) (Nat.le_of_ble_eq_true rfl) hz (fun K hl S => wk_X11_init S)
/-! HeldCoats$CapitalReader.first(II)V -/
def dkwX7_first_0 : List UInt8 := [42, 27, 28, 162, 0, 7, 4, 167, 0, 4, 3, 7, 182, 0, 89, 42, 182, 0, 20, 177]
abbrev dktX7_first_0 : List UInt8 := dkwX7_first_0 ++ []
theorem dksX7_first_0 : cX7_first.data.toList.drop 0 = dktX7_first_0 := by decide +kernel
theorem dX7_first_0 : decode cX7_first 0 = .ok (.aload_n 0, 1) := dk_42 (dk_at dksX7_first_0 0 rfl rfl)
theorem dX7_first_1 : decode cX7_first 1 = .ok (.iload_n 1, 1) := dk_27 (dk_at dksX7_first_0 1 rfl rfl)
theorem dX7_first_2 : decode cX7_first 2 = .ok (.iload_n 2, 1) := dk_28 (dk_at dksX7_first_0 2 rfl rfl)
theorem dX7_first_3 : decode cX7_first 3 = .ok (.if_icmp .ge 7, 3) := dk_162 0 7 (dk_at dksX7_first_0 3 rfl rfl)
theorem dX7_first_6 : decode cX7_first 6 = .ok (.iconst 1, 1) := dk_4 (dk_at dksX7_first_0 6 rfl rfl)
theorem dX7_first_7 : decode cX7_first 7 = .ok (.goto 4, 3) := dk_167 0 4 (dk_at dksX7_first_0 7 rfl rfl)
theorem dX7_first_10 : decode cX7_first 10 = .ok (.iconst 0, 1) := dk_3 (dk_at dksX7_first_0 10 rfl rfl)
theorem dX7_first_11 : decode cX7_first 11 = .ok (.iconst 4, 1) := dk_7 (dk_at dksX7_first_0 11 rfl rfl)
theorem dX7_first_12 : decode cX7_first 12 = .ok (.invokevirtual 89, 3) := dk_182 0 89 (dk_at dksX7_first_0 12 rfl rfl)
theorem dX7_first_15 : decode cX7_first 15 = .ok (.aload_n 0, 1) := dk_42 (dk_at dksX7_first_0 15 rfl rfl)
theorem dX7_first_16 : decode cX7_first 16 = .ok (.invokevirtual 20, 3) := dk_182 0 20 (dk_at dksX7_first_0 16 rfl rfl)
theorem dX7_first_19 : decode cX7_first 19 = .ok (.return_, 1) := dk_177 (dk_at dksX7_first_0 19 rfl rfl)
theorem se_HeldCoats_CapitalReader_need__ZI_V_HeldCoats_Reader : ∀ c ∈ ([6] : List Nat), ∃ q : vw_C, cz_cl[c]? = some q ∧ Cond.selects q.1 (⟨"HeldCoats$CapitalReader", "need", "(ZI)V"⟩ : MethodName) (⟨"HeldCoats$Reader", "need", "(ZI)V"⟩ : MethodName) ∈ lw_all := List.forall_mem_cons.mpr ⟨⟨_, cz_cl6, q748⟩, fun _ h => absurd h List.not_mem_nil⟩
theorem nh_HeldCoats_CapitalReader_need__ZI_V : cz_nh ⟨"HeldCoats$CapitalReader", "need", "(ZI)V"⟩ 2 := ⟨by decide, by decide, by decide +kernel⟩
theorem se_HeldCoats_CapitalReader_go___V_HeldCoats_Reader : ∀ c ∈ ([6] : List Nat), ∃ q : vw_C, cz_cl[c]? = some q ∧ Cond.selects q.1 (⟨"HeldCoats$CapitalReader", "go", "()V"⟩ : MethodName) (⟨"HeldCoats$Reader", "go", "()V"⟩ : MethodName) ∈ lw_all := List.forall_mem_cons.mpr ⟨⟨_, cz_cl6, q519⟩, fun _ h => absurd h List.not_mem_nil⟩
theorem nh_HeldCoats_CapitalReader_go___V : cz_nh ⟨"HeldCoats$CapitalReader", "go", "()V"⟩ 0 := ⟨by decide, by decide, by decide +kernel⟩
set_option maxHeartbeats 4000000 in
set_option maxRecDepth 100000 in
noncomputable def fn_X7_first (l0 : Option Nat) (l1 : Int32) (l2 : Int32) (h : cz_H) : cz_Z := (if l2 ≤ l1 then cz_rc h l0 [6] (cz_xV (fn_X6_need l0 0 4 h) (fun q8 h9 => cz_thr q8 h9) (fun h7 => cz_rc h7 l0 [6] (cz_cV (fn_X6_go l0 h7) (fun h16 => some (.inl none, h16))))) else cz_rc h l0 [6] (cz_xV (fn_X6_need l0 1 4 h) (fun q24 h25 => cz_thr q24 h25) (fun h23 => cz_rc h23 l0 [6] (cz_cV (fn_X6_go l0 h23) (fun h32 => some (.inl none, h32))))))
set_option maxHeartbeats 4000000 in
set_option maxRecDepth 100000 in
theorem wk_X7_first {K : cz_K} {D : cz_D} {h0 : cz_H} {oh : cz_O × cz_H} {l0 : Option Nat} {l1 : Int32} {l2 : Int32} {h : cz_H} (S : cz_S K D h0 cX7_first 3 "HeldCoats$CapitalReader" ((Option.none : Option Jvm.ClassFile.FieldType)) "first" ([])) : cz_T K D 9 h0 oh 3 (fn_X7_first l0 l1 l2 h) h 0 [(0, cz_r l0), (1, cz_i l1), (2, cz_i l2)] [] := by
  unfold fn_X7_first
  refine ct_aload_n (k := 0) S dX7_first_0 rfl rfl ?_
  refine ct_iload_n (k := 1) S dX7_first_1 rfl rfl ?_
  refine ct_iload_n (k := 2) S dX7_first_2 rfl rfl ?_
  refine ct_icmp_ge (tgt := 10) S dX7_first_3 (by decide) ?_ ?_
  · refine ct_iconst (v := 0) S dX7_first_10 kI_0 ?_
    refine ct_iconst (v := 4) S dX7_first_11 kI_4 ?_
    refine ct_rc (fun b1 ci2 V3 hb4 hc5 hi6 => ?_)
    refine ct_xV (st := []) (cg_up (owner := "HeldCoats$Reader") (av := [cz_i 0, cz_i 4]) S hb4 hc5 hi6 (fun _ e => mt_X6_need e) q750 q745 q746 (Or.inl q747) ⟨by decide, by decide⟩ q749 q124 nh_HeldCoats_CapitalReader_need__ZI_V se_HeldCoats_CapitalReader_need__ZI_V_HeldCoats_Reader (by decide) (by decide) (Nat.le_of_ble_eq_true rfl) rfl dX7_first_12) (fun q8 h9 => ?_) (fun h7 => ?_)
    · exact ct_out S (fun x hx => by cases hx)
    · refine ct_aload_n (k := 0) S dX7_first_15 rfl rfl ?_
      refine ct_rc (fun b10 ci11 V12 hb13 hc14 hi15 => ?_)
      refine ct_cV (st := []) (cg_up (owner := "HeldCoats$Reader") (av := []) S hb13 hc14 hi15 (fun _ e => mt_X6_go e) q521 q516 q517 (Or.inl q518) ⟨by decide, by decide⟩ q520 q124 nh_HeldCoats_CapitalReader_go___V se_HeldCoats_CapitalReader_go___V_HeldCoats_Reader (by decide) (by decide) (Nat.le_of_ble_eq_true rfl) rfl dX7_first_16) (fun h16 => ?_)
      exact ct_vret S rfl dX7_first_19
  · refine ct_iconst (v := 1) S dX7_first_6 kI_1 ?_
    refine ct_goto (tgt := 11) S dX7_first_7 (by decide) ?_
    refine ct_iconst (v := 4) S dX7_first_11 kI_4 ?_
    refine ct_rc (fun b17 ci18 V19 hb20 hc21 hi22 => ?_)
    refine ct_xV (st := []) (cg_up (owner := "HeldCoats$Reader") (av := [cz_i 1, cz_i 4]) S hb20 hc21 hi22 (fun _ e => mt_X6_need e) q750 q745 q746 (Or.inl q747) ⟨by decide, by decide⟩ q749 q124 nh_HeldCoats_CapitalReader_need__ZI_V se_HeldCoats_CapitalReader_need__ZI_V_HeldCoats_Reader (by decide) (by decide) (Nat.le_of_ble_eq_true rfl) rfl dX7_first_12) (fun q24 h25 => ?_) (fun h23 => ?_)
    · exact ct_out S (fun x hx => by cases hx)
    · refine ct_aload_n (k := 0) S dX7_first_15 rfl rfl ?_
      refine ct_rc (fun b26 ci27 V28 hb29 hc30 hi31 => ?_)
      refine ct_cV (st := []) (cg_up (owner := "HeldCoats$Reader") (av := []) S hb29 hc30 hi31 (fun _ e => mt_X6_go e) q521 q516 q517 (Or.inl q518) ⟨by decide, by decide⟩ q520 q124 nh_HeldCoats_CapitalReader_go___V se_HeldCoats_CapitalReader_go___V_HeldCoats_Reader (by decide) (by decide) (Nat.le_of_ble_eq_true rfl) rfl dX7_first_16) (fun h32 => ?_)
      exact ct_vret S rfl dX7_first_19
theorem mt_X7_first {l : Launch} {D : cz_D} {l0 : Option Nat} {l1 : Int32} {l2 : Int32} {h : cz_H} {oh : cz_O × cz_H} (hz : fn_X7_first l0 l1 l2 h = some oh) : cz_M l D yX7_first (ws_ yX7_first cX7_first 3 ((Option.none : Option Jvm.ClassFile.FieldType))) 9 [cz_r l0, cz_i l1, cz_i l2] h oh := cz_met (plainFor_of_name (by decide)) (Nat.le_of_ble_eq_true rfl) hz (fun K hl S => wk_X7_first S)
/-! HeldCoats$CapitalReader.fresh()Ljava/lang/String; -/
def dkwX7_fresh_3 : List UInt8 := [42, 182, 0, 20, 43, 176]
abbrev dktX7_fresh_3 : List UInt8 := dkwX7_fresh_3 ++ []
def dkwX7_fresh_2 : List UInt8 := [180, 0, 108, 182, 0, 104, 2, 160, 0, 7, 4, 167, 0, 4, 3, 6, 182, 0, 89, 42, 180, 0, 111, 76]
abbrev dktX7_fresh_2 : List UInt8 := dkwX7_fresh_2 ++ dktX7_fresh_3
def dkwX7_fresh_1 : List UInt8 := [160, 0, 37, 42, 42, 180, 0, 14, 180, 0, 52, 182, 0, 104, 2, 160, 0, 22, 42, 42, 180, 0, 14]
abbrev dktX7_fresh_1 : List UInt8 := dkwX7_fresh_1 ++ dktX7_fresh_2
def dkwX7_fresh_0 : List UInt8 := [42, 42, 182, 0, 100, 4, 182, 0, 89, 42, 42, 42, 180, 0, 14, 180, 0, 42, 182, 0, 104, 2]
abbrev dktX7_fresh_0 : List UInt8 := dkwX7_fresh_0 ++ dktX7_fresh_1
theorem dksX7_fresh_0 : cX7_fresh.data.toList.drop 0 = dktX7_fresh_0 := by decide +kernel
theorem dksX7_fresh_1 : cX7_fresh.data.toList.drop 22 = dktX7_fresh_1 := dk_seg dksX7_fresh_0 22 rfl rfl
theorem dksX7_fresh_2 : cX7_fresh.data.toList.drop 45 = dktX7_fresh_2 := dk_seg dksX7_fresh_1 23 rfl rfl
theorem dksX7_fresh_3 : cX7_fresh.data.toList.drop 69 = dktX7_fresh_3 := dk_seg dksX7_fresh_2 24 rfl rfl
theorem dX7_fresh_0 : decode cX7_fresh 0 = .ok (.aload_n 0, 1) := dk_42 (dk_at dksX7_fresh_0 0 rfl rfl)
theorem dX7_fresh_1 : decode cX7_fresh 1 = .ok (.aload_n 0, 1) := dk_42 (dk_at dksX7_fresh_0 1 rfl rfl)
theorem dX7_fresh_2 : decode cX7_fresh 2 = .ok (.invokevirtual 100, 3) := dk_182 0 100 (dk_at dksX7_fresh_0 2 rfl rfl)
theorem dX7_fresh_5 : decode cX7_fresh 5 = .ok (.iconst 1, 1) := dk_4 (dk_at dksX7_fresh_0 5 rfl rfl)
theorem dX7_fresh_6 : decode cX7_fresh 6 = .ok (.invokevirtual 89, 3) := dk_182 0 89 (dk_at dksX7_fresh_0 6 rfl rfl)
theorem dX7_fresh_9 : decode cX7_fresh 9 = .ok (.aload_n 0, 1) := dk_42 (dk_at dksX7_fresh_0 9 rfl rfl)
theorem dX7_fresh_10 : decode cX7_fresh 10 = .ok (.aload_n 0, 1) := dk_42 (dk_at dksX7_fresh_0 10 rfl rfl)
theorem dX7_fresh_11 : decode cX7_fresh 11 = .ok (.aload_n 0, 1) := dk_42 (dk_at dksX7_fresh_0 11 rfl rfl)
theorem dX7_fresh_12 : decode cX7_fresh 12 = .ok (.getfield 14, 3) := dk_180 0 14 (dk_at dksX7_fresh_0 12 rfl rfl)
theorem dX7_fresh_15 : decode cX7_fresh 15 = .ok (.getfield 42, 3) := dk_180 0 42 (dk_at dksX7_fresh_0 15 rfl rfl)
theorem dX7_fresh_18 : decode cX7_fresh 18 = .ok (.invokevirtual 104, 3) := dk_182 0 104 (dk_at dksX7_fresh_0 18 rfl rfl)
theorem dX7_fresh_21 : decode cX7_fresh 21 = .ok (.iconst (-1), 1) := dk_2 (dk_at dksX7_fresh_0 21 rfl rfl)
theorem dX7_fresh_22 : decode cX7_fresh 22 = .ok (.if_icmp .ne 37, 3) := dk_160 0 37 (dk_at dksX7_fresh_1 0 rfl rfl)
theorem dX7_fresh_25 : decode cX7_fresh 25 = .ok (.aload_n 0, 1) := dk_42 (dk_at dksX7_fresh_1 3 rfl rfl)
theorem dX7_fresh_26 : decode cX7_fresh 26 = .ok (.aload_n 0, 1) := dk_42 (dk_at dksX7_fresh_1 4 rfl rfl)
theorem dX7_fresh_27 : decode cX7_fresh 27 = .ok (.getfield 14, 3) := dk_180 0 14 (dk_at dksX7_fresh_1 5 rfl rfl)
theorem dX7_fresh_30 : decode cX7_fresh 30 = .ok (.getfield 52, 3) := dk_180 0 52 (dk_at dksX7_fresh_1 8 rfl rfl)
theorem dX7_fresh_33 : decode cX7_fresh 33 = .ok (.invokevirtual 104, 3) := dk_182 0 104 (dk_at dksX7_fresh_1 11 rfl rfl)
theorem dX7_fresh_36 : decode cX7_fresh 36 = .ok (.iconst (-1), 1) := dk_2 (dk_at dksX7_fresh_1 14 rfl rfl)
theorem dX7_fresh_37 : decode cX7_fresh 37 = .ok (.if_icmp .ne 22, 3) := dk_160 0 22 (dk_at dksX7_fresh_1 15 rfl rfl)
theorem dX7_fresh_40 : decode cX7_fresh 40 = .ok (.aload_n 0, 1) := dk_42 (dk_at dksX7_fresh_1 18 rfl rfl)
theorem dX7_fresh_41 : decode cX7_fresh 41 = .ok (.aload_n 0, 1) := dk_42 (dk_at dksX7_fresh_1 19 rfl rfl)
theorem dX7_fresh_42 : decode cX7_fresh 42 = .ok (.getfield 14, 3) := dk_180 0 14 (dk_at dksX7_fresh_1 20 rfl rfl)
theorem dX7_fresh_45 : decode cX7_fresh 45 = .ok (.getfield 108, 3) := dk_180 0 108 (dk_at dksX7_fresh_2 0 rfl rfl)
theorem dX7_fresh_48 : decode cX7_fresh 48 = .ok (.invokevirtual 104, 3) := dk_182 0 104 (dk_at dksX7_fresh_2 3 rfl rfl)
theorem dX7_fresh_51 : decode cX7_fresh 51 = .ok (.iconst (-1), 1) := dk_2 (dk_at dksX7_fresh_2 6 rfl rfl)
theorem dX7_fresh_52 : decode cX7_fresh 52 = .ok (.if_icmp .ne 7, 3) := dk_160 0 7 (dk_at dksX7_fresh_2 7 rfl rfl)
theorem dX7_fresh_55 : decode cX7_fresh 55 = .ok (.iconst 1, 1) := dk_4 (dk_at dksX7_fresh_2 10 rfl rfl)
theorem dX7_fresh_56 : decode cX7_fresh 56 = .ok (.goto 4, 3) := dk_167 0 4 (dk_at dksX7_fresh_2 11 rfl rfl)
theorem dX7_fresh_59 : decode cX7_fresh 59 = .ok (.iconst 0, 1) := dk_3 (dk_at dksX7_fresh_2 14 rfl rfl)
theorem dX7_fresh_60 : decode cX7_fresh 60 = .ok (.iconst 3, 1) := dk_6 (dk_at dksX7_fresh_2 15 rfl rfl)
theorem dX7_fresh_61 : decode cX7_fresh 61 = .ok (.invokevirtual 89, 3) := dk_182 0 89 (dk_at dksX7_fresh_2 16 rfl rfl)
theorem dX7_fresh_64 : decode cX7_fresh 64 = .ok (.aload_n 0, 1) := dk_42 (dk_at dksX7_fresh_2 19 rfl rfl)
theorem dX7_fresh_65 : decode cX7_fresh 65 = .ok (.getfield 111, 3) := dk_180 0 111 (dk_at dksX7_fresh_2 20 rfl rfl)
theorem dX7_fresh_68 : decode cX7_fresh 68 = .ok (.astore_n 1, 1) := dk_76 (dk_at dksX7_fresh_2 23 rfl rfl)
theorem dX7_fresh_69 : decode cX7_fresh 69 = .ok (.aload_n 0, 1) := dk_42 (dk_at dksX7_fresh_3 0 rfl rfl)
theorem dX7_fresh_70 : decode cX7_fresh 70 = .ok (.invokevirtual 20, 3) := dk_182 0 20 (dk_at dksX7_fresh_3 1 rfl rfl)
theorem dX7_fresh_73 : decode cX7_fresh 73 = .ok (.aload_n 1, 1) := dk_43 (dk_at dksX7_fresh_3 4 rfl rfl)
theorem dX7_fresh_74 : decode cX7_fresh 74 = .ok (.areturn, 1) := dk_176 (dk_at dksX7_fresh_3 5 rfl rfl)
theorem se_HeldCoats_CapitalReader_isName___Z_HeldCoats_Reader : ∀ c ∈ ([6] : List Nat), ∃ q : vw_C, cz_cl[c]? = some q ∧ Cond.selects q.1 (⟨"HeldCoats$CapitalReader", "isName", "()Z"⟩ : MethodName) (⟨"HeldCoats$Reader", "isName", "()Z"⟩ : MethodName) ∈ lw_all := List.forall_mem_cons.mpr ⟨⟨_, cz_cl6, q826⟩, fun _ h => absurd h List.not_mem_nil⟩
theorem nh_HeldCoats_CapitalReader_isName___Z : cz_nh ⟨"HeldCoats$CapitalReader", "isName", "()Z"⟩ 0 := ⟨by decide, by decide, by decide +kernel⟩
theorem fw_X7_42 : cz_FW "HeldCoats$CapitalReader" 42 [(1, 6)] "Ljava/util/ArrayList;" := ⟨"HeldCoats$Capital", "seats", Or.inr ⟨_, q220⟩, List.forall_mem_cons.mpr ⟨⟨RX2, TX2, 11, rfl, by decide, rfl, rfl, Or.inl rfl⟩, fun _ h => absurd h List.not_mem_nil⟩, by decide⟩
theorem se_HeldCoats_CapitalReader_find__Ljava_util_ArrayList__I_HeldCoats_Reader : ∀ c ∈ ([6] : List Nat), ∃ q : vw_C, cz_cl[c]? = some q ∧ Cond.selects q.1 (⟨"HeldCoats$CapitalReader", "find", "(Ljava/util/ArrayList;)I"⟩ : MethodName) (⟨"HeldCoats$Reader", "find", "(Ljava/util/ArrayList;)I"⟩ : MethodName) ∈ lw_all := List.forall_mem_cons.mpr ⟨⟨_, cz_cl6, q906⟩, fun _ h => absurd h List.not_mem_nil⟩
theorem nh_HeldCoats_CapitalReader_find__Ljava_util_ArrayList__I : cz_nh ⟨"HeldCoats$CapitalReader", "find", "(Ljava/util/ArrayList;)I"⟩ 1 := ⟨by decide, by decide, by decide +kernel⟩
theorem fw_X7_52 : cz_FW "HeldCoats$CapitalReader" 52 [(1, 7)] "Ljava/util/ArrayList;" := ⟨"HeldCoats$Capital", "men", Or.inr ⟨_, q226⟩, List.forall_mem_cons.mpr ⟨⟨RX2, TX2, 11, rfl, by decide, rfl, rfl, Or.inl rfl⟩, fun _ h => absurd h List.not_mem_nil⟩, by decide⟩
theorem fw_X7_108 : cz_FW "HeldCoats$CapitalReader" 108 [(1, 8)] "Ljava/util/ArrayList;" := ⟨"HeldCoats$Capital", "coats", Or.inr ⟨_, q234⟩, List.forall_mem_cons.mpr ⟨⟨RX2, TX2, 11, rfl, by decide, rfl, rfl, Or.inl rfl⟩, fun _ h => absurd h List.not_mem_nil⟩, by decide⟩
theorem fw_X7_111 : cz_FW "HeldCoats$CapitalReader" 111 [(6, 8)] "Ljava/lang/String;" := ⟨"HeldCoats$CapitalReader", "word", Or.inl q487, List.forall_mem_cons.mpr ⟨⟨RX7, TX7, 11, rfl, by decide, rfl, rfl, Or.inr q488⟩, fun _ h => absurd h List.not_mem_nil⟩, by decide⟩
set_option maxHeartbeats 4000000 in
set_option maxRecDepth 100000 in
noncomputable def fn_X7_fresh (l0 : Option Nat) (h : cz_H) : cz_Z := cz_rc h l0 [6] (cz_cI (fn_X6_isName l0 h) (fun x8 h7 => cz_rc h7 l0 [6] (cz_xV (fn_X6_need l0 x8 1 h7) (fun q16 h17 => cz_thr q16 h17) (fun h15 => cz_getR h15 l0 [(6, 9)] (fun r18 => cz_getR h15 r18 [(1, 6)] (fun r19 => cz_rc h15 l0 [6] (cz_cI (fn_X6_find l0 r19 h15) (fun x27 h26 => cz_jn (fun (v28 : Int32) (h29 : cz_H) => cz_rc h29 l0 [6] (cz_xV (fn_X6_need l0 v28 3 h29) (fun q37 h38 => cz_thr q37 h38) (fun h36 => cz_getR h36 l0 [(6, 8)] (fun r39 => cz_rc h36 l0 [6] (cz_cV (fn_X6_go l0 h36) (fun h46 => some (.inl (some (cz_r r39)), h46))))))) (fun j47 => cz_jn (fun (h48 : cz_H) => j47 0 h48) (fun j49 => (if x27 = (-1) then cz_getR h26 l0 [(6, 9)] (fun r50 => cz_getR h26 r50 [(1, 7)] (fun r51 => cz_rc h26 l0 [6] (cz_cI (fn_X6_find l0 r51 h26) (fun x59 h58 => (if x59 = (-1) then cz_getR h58 l0 [(6, 9)] (fun r60 => cz_getR h58 r60 [(1, 8)] (fun r61 => cz_rc h58 l0 [6] (cz_cI (fn_X6_find l0 r61 h58) (fun x69 h68 => (if x69 = (-1) then j47 1 h68 else j49 h68))))) else j49 h58))))) else j49 h26)))))))))))
set_option maxHeartbeats 4000000 in
set_option maxRecDepth 100000 in
theorem wk_X7_fresh {K : cz_K} {D : cz_D} {h0 : cz_H} {oh : cz_O × cz_H} {l0 : Option Nat} {h : cz_H} (S : cz_S K D h0 cX7_fresh 2 "HeldCoats$CapitalReader" ((Option.some (Jvm.ClassFile.FieldType.object "java/lang/String"))) "fresh" ([])) : cz_T K D 9 h0 oh 2 (fn_X7_fresh l0 h) h 0 [(0, cz_r l0)] [] := by
  unfold fn_X7_fresh
  refine ct_aload_n (k := 0) S dX7_fresh_0 rfl rfl ?_
  refine ct_aload_n (k := 0) S dX7_fresh_1 rfl rfl ?_
  refine ct_rc (fun b1 ci2 V3 hb4 hc5 hi6 => ?_)
  refine ct_cI (st := [cz_r l0]) (cg_up (owner := "HeldCoats$Reader") (av := []) S hb4 hc5 hi6 (fun _ e => mt_X6_isName e) q828 q823 q824 (Or.inl q825) ⟨by decide, by decide⟩ q827 q124 nh_HeldCoats_CapitalReader_isName___Z se_HeldCoats_CapitalReader_isName___Z_HeldCoats_Reader (by decide) (by decide) (Nat.le_of_ble_eq_true rfl) rfl dX7_fresh_2) (fun x8 h7 => ?_)
  refine ct_iconst (v := 1) S dX7_fresh_5 kI_1 ?_
  refine ct_rc (fun b9 ci10 V11 hb12 hc13 hi14 => ?_)
  refine ct_xV (st := []) (cg_up (owner := "HeldCoats$Reader") (av := [cz_i x8, cz_i 1]) S hb12 hc13 hi14 (fun _ e => mt_X6_need e) q750 q745 q746 (Or.inl q747) ⟨by decide, by decide⟩ q749 q124 nh_HeldCoats_CapitalReader_need__ZI_V se_HeldCoats_CapitalReader_need__ZI_V_HeldCoats_Reader (by decide) (by decide) (Nat.le_of_ble_eq_true rfl) rfl dX7_fresh_6) (fun q16 h17 => ?_) (fun h15 => ?_)
  · exact ct_out S (fun x hx => by cases hx)
  · refine ct_aload_n (k := 0) S dX7_fresh_9 rfl rfl ?_
    refine ct_aload_n (k := 0) S dX7_fresh_10 rfl rfl ?_
    refine ct_aload_n (k := 0) S dX7_fresh_11 rfl rfl ?_
    refine ct_getR S fw_X7_14 dX7_fresh_12 (fun r18 => ?_)
    refine ct_getR S fw_X7_42 dX7_fresh_15 (fun r19 => ?_)
    refine ct_rc (fun b20 ci21 V22 hb23 hc24 hi25 => ?_)
    refine ct_cI (st := [cz_r l0]) (cg_up (owner := "HeldCoats$Reader") (av := [cz_r r19]) S hb23 hc24 hi25 (fun _ e => mt_X6_find e) q908 q903 q904 (Or.inl q905) ⟨by decide, by decide⟩ q907 q124 nh_HeldCoats_CapitalReader_find__Ljava_util_ArrayList__I se_HeldCoats_CapitalReader_find__Ljava_util_ArrayList__I_HeldCoats_Reader (by decide) (by decide) (Nat.le_of_ble_eq_true rfl) rfl dX7_fresh_18) (fun x27 h26 => ?_)
    refine ct_iconst (v := (-1)) S dX7_fresh_21 kI_m1 ?_
    refine ct_jnP (fun j47 => ∀ (v28 : Int32) (h29 : cz_H), cz_T K D 9 h0 oh 2 (j47 v28 h29) h29 60 [(0, cz_r l0)] [cz_i v28, cz_r l0]) (fun v28 h29 => ?_) (fun j47 Hj47 => ?_)
    · refine ct_iconst (v := 3) S dX7_fresh_60 kI_3 ?_
      refine ct_rc (fun b30 ci31 V32 hb33 hc34 hi35 => ?_)
      refine ct_xV (st := []) (cg_up (owner := "HeldCoats$Reader") (av := [cz_i v28, cz_i 3]) S hb33 hc34 hi35 (fun _ e => mt_X6_need e) q750 q745 q746 (Or.inl q747) ⟨by decide, by decide⟩ q749 q124 nh_HeldCoats_CapitalReader_need__ZI_V se_HeldCoats_CapitalReader_need__ZI_V_HeldCoats_Reader (by decide) (by decide) (Nat.le_of_ble_eq_true rfl) rfl dX7_fresh_61) (fun q37 h38 => ?_) (fun h36 => ?_)
      · exact ct_out S (fun x hx => by cases hx)
      · refine ct_aload_n (k := 0) S dX7_fresh_64 rfl rfl ?_
        refine ct_getR S fw_X7_111 dX7_fresh_65 (fun r39 => ?_)
        refine ct_astore_n (L' := [(1, cz_r r39), (0, cz_r l0)]) S dX7_fresh_68 rfl (by decide) rfl ?_
        refine ct_aload_n (k := 1) S dX7_fresh_69 rfl rfl ?_
        refine ct_rc (fun b40 ci41 V42 hb43 hc44 hi45 => ?_)
        refine ct_cV (st := []) (cg_up (owner := "HeldCoats$Reader") (av := []) S hb43 hc44 hi45 (fun _ e => mt_X6_go e) q521 q516 q517 (Or.inl q518) ⟨by decide, by decide⟩ q520 q124 nh_HeldCoats_CapitalReader_go___V se_HeldCoats_CapitalReader_go___V_HeldCoats_Reader (by decide) (by decide) (Nat.le_of_ble_eq_true rfl) rfl dX7_fresh_70) (fun h46 => ?_)
        refine ct_aload_n (k := 0) S dX7_fresh_73 rfl rfl ?_
        exact ct_aret S rfl (Or.inl ⟨_, rfl⟩) dX7_fresh_74
    · refine ct_jnP (fun j49 => ∀ (h48 : cz_H), cz_T K D 9 h0 oh 2 (j49 h48) h48 59 [(0, cz_r l0)] [cz_r l0]) (fun h48 => ?_) (fun j49 Hj49 => ?_)
      · refine ct_iconst (v := 0) S dX7_fresh_59 kI_0 ?_
        exact Hj47 0 h48
      · refine ct_icmp_ne (tgt := 59) S dX7_fresh_22 (by decide) ?_ ?_
        · exact Hj49 h26
        · refine ct_aload_n (k := 0) S dX7_fresh_25 rfl rfl ?_
          refine ct_aload_n (k := 0) S dX7_fresh_26 rfl rfl ?_
          refine ct_getR S fw_X7_14 dX7_fresh_27 (fun r50 => ?_)
          refine ct_getR S fw_X7_52 dX7_fresh_30 (fun r51 => ?_)
          refine ct_rc (fun b52 ci53 V54 hb55 hc56 hi57 => ?_)
          refine ct_cI (st := [cz_r l0]) (cg_up (owner := "HeldCoats$Reader") (av := [cz_r r51]) S hb55 hc56 hi57 (fun _ e => mt_X6_find e) q908 q903 q904 (Or.inl q905) ⟨by decide, by decide⟩ q907 q124 nh_HeldCoats_CapitalReader_find__Ljava_util_ArrayList__I se_HeldCoats_CapitalReader_find__Ljava_util_ArrayList__I_HeldCoats_Reader (by decide) (by decide) (Nat.le_of_ble_eq_true rfl) rfl dX7_fresh_33) (fun x59 h58 => ?_)
          refine ct_iconst (v := (-1)) S dX7_fresh_36 kI_m1 ?_
          refine ct_icmp_ne (tgt := 59) S dX7_fresh_37 (by decide) ?_ ?_
          · exact Hj49 h58
          · refine ct_aload_n (k := 0) S dX7_fresh_40 rfl rfl ?_
            refine ct_aload_n (k := 0) S dX7_fresh_41 rfl rfl ?_
            refine ct_getR S fw_X7_14 dX7_fresh_42 (fun r60 => ?_)
            refine ct_getR S fw_X7_108 dX7_fresh_45 (fun r61 => ?_)
            refine ct_rc (fun b62 ci63 V64 hb65 hc66 hi67 => ?_)
            refine ct_cI (st := [cz_r l0]) (cg_up (owner := "HeldCoats$Reader") (av := [cz_r r61]) S hb65 hc66 hi67 (fun _ e => mt_X6_find e) q908 q903 q904 (Or.inl q905) ⟨by decide, by decide⟩ q907 q124 nh_HeldCoats_CapitalReader_find__Ljava_util_ArrayList__I se_HeldCoats_CapitalReader_find__Ljava_util_ArrayList__I_HeldCoats_Reader (by decide) (by decide) (Nat.le_of_ble_eq_true rfl) rfl dX7_fresh_48) (fun x69 h68 => ?_)
            refine ct_iconst (v := (-1)) S dX7_fresh_51 kI_m1 ?_
            refine ct_icmp_ne (tgt := 59) S dX7_fresh_52 (by decide) ?_ ?_
            · exact Hj49 h68
            · refine ct_iconst (v := 1) S dX7_fresh_55 kI_1 ?_
              refine ct_goto (tgt := 60) S dX7_fresh_56 (by decide) ?_
              exact Hj47 1 h68
theorem mt_X7_fresh {l : Launch} {D : cz_D} {l0 : Option Nat} {h : cz_H} {oh : cz_O × cz_H} (hz : fn_X7_fresh l0 h = some oh) : cz_M l D yX7_fresh (ws_ yX7_fresh cX7_fresh 2 ((Option.some (Jvm.ClassFile.FieldType.object "java/lang/String")))) 9 [cz_r l0] h oh := cz_met (plainFor_of_name (by decide)) (Nat.le_of_ble_eq_true rfl) hz (fun K hl S => wk_X7_fresh S)
/-! HeldCoats$CapitalReader.coat()V -/
def dkwX7_coat_3 : List UInt8 := [177]
abbrev dktX7_coat_3 : List UInt8 := dkwX7_coat_3 ++ []
def dkwX7_coat_2 : List UInt8 := [180, 0, 108, 187, 0, 141, 89, 43, 28, 29, 42, 4, 16, 99, 182, 0, 93, 183, 0, 143, 182, 0, 134, 87]
abbrev dktX7_coat_2 : List UInt8 := dkwX7_coat_2 ++ dktX7_coat_3
def dkwX7_coat_1 : List UInt8 := [180, 0, 14, 180, 0, 52, 182, 0, 138, 61, 42, 3, 16, 20, 182, 0, 93, 62, 42, 180, 0, 14]
abbrev dktX7_coat_1 : List UInt8 := dkwX7_coat_1 ++ dktX7_coat_2
def dkwX7_coat_0 : List UInt8 := [42, 42, 180, 0, 14, 180, 0, 108, 182, 0, 115, 16, 8, 182, 0, 121, 42, 182, 0, 125, 76, 42, 42]
abbrev dktX7_coat_0 : List UInt8 := dkwX7_coat_0 ++ dktX7_coat_1
theorem dksX7_coat_0 : cX7_coat.data.toList.drop 0 = dktX7_coat_0 := by decide +kernel
theorem dksX7_coat_1 : cX7_coat.data.toList.drop 23 = dktX7_coat_1 := dk_seg dksX7_coat_0 23 rfl rfl
theorem dksX7_coat_2 : cX7_coat.data.toList.drop 45 = dktX7_coat_2 := dk_seg dksX7_coat_1 22 rfl rfl
theorem dksX7_coat_3 : cX7_coat.data.toList.drop 69 = dktX7_coat_3 := dk_seg dksX7_coat_2 24 rfl rfl
theorem dX7_coat_0 : decode cX7_coat 0 = .ok (.aload_n 0, 1) := dk_42 (dk_at dksX7_coat_0 0 rfl rfl)
theorem dX7_coat_1 : decode cX7_coat 1 = .ok (.aload_n 0, 1) := dk_42 (dk_at dksX7_coat_0 1 rfl rfl)
theorem dX7_coat_2 : decode cX7_coat 2 = .ok (.getfield 14, 3) := dk_180 0 14 (dk_at dksX7_coat_0 2 rfl rfl)
theorem dX7_coat_5 : decode cX7_coat 5 = .ok (.getfield 108, 3) := dk_180 0 108 (dk_at dksX7_coat_0 5 rfl rfl)
theorem dX7_coat_8 : decode cX7_coat 8 = .ok (.invokevirtual 115, 3) := dk_182 0 115 (dk_at dksX7_coat_0 8 rfl rfl)
theorem dX7_coat_11 : decode cX7_coat 11 = .ok (.bipush 8, 2) := dk_16 8 (dk_at dksX7_coat_0 11 rfl rfl)
theorem dX7_coat_13 : decode cX7_coat 13 = .ok (.invokevirtual 121, 3) := dk_182 0 121 (dk_at dksX7_coat_0 13 rfl rfl)
theorem dX7_coat_16 : decode cX7_coat 16 = .ok (.aload_n 0, 1) := dk_42 (dk_at dksX7_coat_0 16 rfl rfl)
theorem dX7_coat_17 : decode cX7_coat 17 = .ok (.invokevirtual 125, 3) := dk_182 0 125 (dk_at dksX7_coat_0 17 rfl rfl)
theorem dX7_coat_20 : decode cX7_coat 20 = .ok (.astore_n 1, 1) := dk_76 (dk_at dksX7_coat_0 20 rfl rfl)
theorem dX7_coat_21 : decode cX7_coat 21 = .ok (.aload_n 0, 1) := dk_42 (dk_at dksX7_coat_0 21 rfl rfl)
theorem dX7_coat_22 : decode cX7_coat 22 = .ok (.aload_n 0, 1) := dk_42 (dk_at dksX7_coat_0 22 rfl rfl)
theorem dX7_coat_23 : decode cX7_coat 23 = .ok (.getfield 14, 3) := dk_180 0 14 (dk_at dksX7_coat_1 0 rfl rfl)
theorem dX7_coat_26 : decode cX7_coat 26 = .ok (.getfield 52, 3) := dk_180 0 52 (dk_at dksX7_coat_1 3 rfl rfl)
theorem dX7_coat_29 : decode cX7_coat 29 = .ok (.invokevirtual 138, 3) := dk_182 0 138 (dk_at dksX7_coat_1 6 rfl rfl)
theorem dX7_coat_32 : decode cX7_coat 32 = .ok (.istore_n 2, 1) := dk_61 (dk_at dksX7_coat_1 9 rfl rfl)
theorem dX7_coat_33 : decode cX7_coat 33 = .ok (.aload_n 0, 1) := dk_42 (dk_at dksX7_coat_1 10 rfl rfl)
theorem dX7_coat_34 : decode cX7_coat 34 = .ok (.iconst 0, 1) := dk_3 (dk_at dksX7_coat_1 11 rfl rfl)
theorem dX7_coat_35 : decode cX7_coat 35 = .ok (.bipush 20, 2) := dk_16 20 (dk_at dksX7_coat_1 12 rfl rfl)
theorem dX7_coat_37 : decode cX7_coat 37 = .ok (.invokevirtual 93, 3) := dk_182 0 93 (dk_at dksX7_coat_1 14 rfl rfl)
theorem dX7_coat_40 : decode cX7_coat 40 = .ok (.istore_n 3, 1) := dk_62 (dk_at dksX7_coat_1 17 rfl rfl)
theorem dX7_coat_41 : decode cX7_coat 41 = .ok (.aload_n 0, 1) := dk_42 (dk_at dksX7_coat_1 18 rfl rfl)
theorem dX7_coat_42 : decode cX7_coat 42 = .ok (.getfield 14, 3) := dk_180 0 14 (dk_at dksX7_coat_1 19 rfl rfl)
theorem dX7_coat_45 : decode cX7_coat 45 = .ok (.getfield 108, 3) := dk_180 0 108 (dk_at dksX7_coat_2 0 rfl rfl)
theorem dX7_coat_48 : decode cX7_coat 48 = .ok (.new 141, 3) := dk_187 0 141 (dk_at dksX7_coat_2 3 rfl rfl)
theorem dX7_coat_51 : decode cX7_coat 51 = .ok (.dup, 1) := dk_89 (dk_at dksX7_coat_2 6 rfl rfl)
theorem dX7_coat_52 : decode cX7_coat 52 = .ok (.aload_n 1, 1) := dk_43 (dk_at dksX7_coat_2 7 rfl rfl)
theorem dX7_coat_53 : decode cX7_coat 53 = .ok (.iload_n 2, 1) := dk_28 (dk_at dksX7_coat_2 8 rfl rfl)
theorem dX7_coat_54 : decode cX7_coat 54 = .ok (.iload_n 3, 1) := dk_29 (dk_at dksX7_coat_2 9 rfl rfl)
theorem dX7_coat_55 : decode cX7_coat 55 = .ok (.aload_n 0, 1) := dk_42 (dk_at dksX7_coat_2 10 rfl rfl)
theorem dX7_coat_56 : decode cX7_coat 56 = .ok (.iconst 1, 1) := dk_4 (dk_at dksX7_coat_2 11 rfl rfl)
theorem dX7_coat_57 : decode cX7_coat 57 = .ok (.bipush 99, 2) := dk_16 99 (dk_at dksX7_coat_2 12 rfl rfl)
theorem dX7_coat_59 : decode cX7_coat 59 = .ok (.invokevirtual 93, 3) := dk_182 0 93 (dk_at dksX7_coat_2 14 rfl rfl)
theorem dX7_coat_62 : decode cX7_coat 62 = .ok (.invokespecial 143, 3) := dk_183 0 143 (dk_at dksX7_coat_2 17 rfl rfl)
theorem dX7_coat_65 : decode cX7_coat 65 = .ok (.invokevirtual 134, 3) := dk_182 0 134 (dk_at dksX7_coat_2 20 rfl rfl)
theorem dX7_coat_68 : decode cX7_coat 68 = .ok (.pop, 1) := dk_87 (dk_at dksX7_coat_2 23 rfl rfl)
theorem dX7_coat_69 : decode cX7_coat 69 = .ok (.return_, 1) := dk_177 (dk_at dksX7_coat_3 0 rfl rfl)
theorem se_HeldCoats_CapitalReader_first__II_V_HeldCoats_CapitalReader : ∀ c ∈ ([6] : List Nat), ∃ q : vw_C, cz_cl[c]? = some q ∧ Cond.selects q.1 (⟨"HeldCoats$CapitalReader", "first", "(II)V"⟩ : MethodName) (⟨"HeldCoats$CapitalReader", "first", "(II)V"⟩ : MethodName) ∈ lw_all := List.forall_mem_cons.mpr ⟨⟨_, cz_cl6, qs4⟩, fun _ h => absurd h List.not_mem_nil⟩
theorem md_X7_first : cz_md yX7_first 3 (ws_ yX7_first cX7_first 3 ((Option.none : Option Jvm.ClassFile.FieldType))) 2 := ⟨cz_ws_code q744, q125, ⟨by decide, by decide, by decide +kernel⟩, by decide⟩
theorem se_HeldCoats_CapitalReader_fresh___Ljava_lang_String__HeldCoats_CapitalReader : ∀ c ∈ ([6] : List Nat), ∃ q : vw_C, cz_cl[c]? = some q ∧ Cond.selects q.1 (⟨"HeldCoats$CapitalReader", "fresh", "()Ljava/lang/String;"⟩ : MethodName) (⟨"HeldCoats$CapitalReader", "fresh", "()Ljava/lang/String;"⟩ : MethodName) ∈ lw_all := List.forall_mem_cons.mpr ⟨⟨_, cz_cl6, qs6⟩, fun _ h => absurd h List.not_mem_nil⟩
theorem md_X7_fresh : cz_md yX7_fresh 2 (ws_ yX7_fresh cX7_fresh 2 ((Option.some (Jvm.ClassFile.FieldType.object "java/lang/String")))) 0 := ⟨cz_ws_code q822, q125, ⟨by decide, by decide, by decide +kernel⟩, by decide⟩
theorem se_HeldCoats_CapitalReader_one__Ljava_util_ArrayList__I_HeldCoats_Reader : ∀ c ∈ ([6] : List Nat), ∃ q : vw_C, cz_cl[c]? = some q ∧ Cond.selects q.1 (⟨"HeldCoats$CapitalReader", "one", "(Ljava/util/ArrayList;)I"⟩ : MethodName) (⟨"HeldCoats$Reader", "one", "(Ljava/util/ArrayList;)I"⟩ : MethodName) ∈ lw_all := List.forall_mem_cons.mpr ⟨⟨_, cz_cl6, q1016⟩, fun _ h => absurd h List.not_mem_nil⟩
theorem nh_HeldCoats_CapitalReader_one__Ljava_util_ArrayList__I : cz_nh ⟨"HeldCoats$CapitalReader", "one", "(Ljava/util/ArrayList;)I"⟩ 1 := ⟨by decide, by decide, by decide +kernel⟩
theorem se_HeldCoats_CapitalReader_number__II_I_HeldCoats_Reader : ∀ c ∈ ([6] : List Nat), ∃ q : vw_C, cz_cl[c]? = some q ∧ Cond.selects q.1 (⟨"HeldCoats$CapitalReader", "number", "(II)I"⟩ : MethodName) (⟨"HeldCoats$Reader", "number", "(II)I"⟩ : MethodName) ∈ lw_all := List.forall_mem_cons.mpr ⟨⟨_, cz_cl6, q917⟩, fun _ h => absurd h List.not_mem_nil⟩
theorem nh_HeldCoats_CapitalReader_number__II_I : cz_nh ⟨"HeldCoats$CapitalReader", "number", "(II)I"⟩ 2 := ⟨by decide, by decide, by decide +kernel⟩
theorem nh_HeldCoats_Coat__init___Ljava_lang_String_III_V : cz_nh ⟨"HeldCoats$Coat", "<init>", "(Ljava/lang/String;III)V"⟩ 4 := ⟨by decide, by decide, by decide +kernel⟩
set_option maxHeartbeats 4000000 in
set_option maxRecDepth 100000 in
noncomputable def fn_X7_coat (l0 : Option Nat) (h : cz_H) : cz_Z := cz_getR h l0 [(6, 9)] (fun r1 => cz_getR h r1 [(1, 8)] (fun r2 => cz_rc h r2 [2] (cz_cI (fn_J2_size r2 h) (fun x10 h9 => cz_rc h9 l0 [6] (cz_xV (fn_X7_first l0 x10 8 h9) (fun q18 h19 => cz_thr q18 h19) (fun h17 => cz_rc h17 l0 [6] (cz_xR (fn_X7_fresh l0 h17) (fun q27 h28 => cz_thr q27 h28) (fun r29 h26 => cz_getR h26 l0 [(6, 9)] (fun r30 => cz_getR h26 r30 [(1, 7)] (fun r31 => cz_rc h26 l0 [6] (cz_xI (fn_X6_one l0 r31 h26) (fun q39 h40 => cz_thr q39 h40) (fun x41 h38 => cz_rc h38 l0 [6] (cz_xI (fn_X6_number l0 0 20 h38) (fun q49 h50 => cz_thr q49 h50) (fun x51 h48 => cz_getR h48 l0 [(6, 9)] (fun r52 => cz_getR h48 r52 [(1, 8)] (fun r53 => cz_newo h48 11 4 (fun r54 h55 => cz_rc h55 l0 [6] (cz_xI (fn_X6_number l0 1 99 h55) (fun q63 h64 => cz_thr q63 h64) (fun x65 h62 => cz_nn' r54 (cz_cV (fn_X11_init r54 r29 x41 x51 x65 h62) (fun h68 => cz_rc h68 r53 [2] (cz_cI (fn_J2_add r53 r54 h68) (fun x76 h75 => some (.inl none, h75))))))))))))))))))))))))
set_option maxHeartbeats 4000000 in
set_option maxRecDepth 100000 in
theorem wk_X7_coat {K : cz_K} {D : cz_D} {h0 : cz_H} {oh : cz_O × cz_H} {l0 : Option Nat} {h : cz_H} (S : cz_S K D h0 cX7_coat 4 "HeldCoats$CapitalReader" ((Option.none : Option Jvm.ClassFile.FieldType)) "coat" ([])) : cz_T K D 10 h0 oh 4 (fn_X7_coat l0 h) h 0 [(0, cz_r l0)] [] := by
  unfold fn_X7_coat
  refine ct_aload_n (k := 0) S dX7_coat_0 rfl rfl ?_
  refine ct_aload_n (k := 0) S dX7_coat_1 rfl rfl ?_
  refine ct_getR S fw_X7_14 dX7_coat_2 (fun r1 => ?_)
  refine ct_getR S fw_X7_108 dX7_coat_5 (fun r2 => ?_)
  refine ct_rc (fun b3 ci4 V5 hb6 hc7 hi8 => ?_)
  refine ct_cI (st := [cz_r l0]) (cg_virtual (av := []) S hb6 hc7 hi8 (fun _ e => mt_J2_size e) md_J2_size q740 q341 se_java_util_ArrayList_size___I_java_util_ArrayList (by decide) (Nat.le_of_ble_eq_true rfl) rfl dX7_coat_8) (fun x10 h9 => ?_)
  refine ct_bipush (v := 8) S dX7_coat_11 kB_8 ?_
  refine ct_rc (fun b11 ci12 V13 hb14 hc15 hi16 => ?_)
  refine ct_xV (st := []) (cg_virtual (av := [cz_i x10, cz_i 8]) S hb14 hc15 hi16 (fun _ e => mt_X7_first e) md_X7_first q741 q743 se_HeldCoats_CapitalReader_first__II_V_HeldCoats_CapitalReader (by decide) (Nat.le_of_ble_eq_true rfl) rfl dX7_coat_13) (fun q18 h19 => ?_) (fun h17 => ?_)
  · exact ct_out S (fun x hx => by cases hx)
  · refine ct_aload_n (k := 0) S dX7_coat_16 rfl rfl ?_
    refine ct_rc (fun b20 ci21 V22 hb23 hc24 hi25 => ?_)
    refine ct_xR (st := []) (cg_virtual (av := []) S hb23 hc24 hi25 (fun _ e => mt_X7_fresh e) md_X7_fresh q819 q821 se_HeldCoats_CapitalReader_fresh___Ljava_lang_String__HeldCoats_CapitalReader (by decide) (Nat.le_of_ble_eq_true rfl) rfl dX7_coat_17) (fun q27 h28 => ?_) (fun r29 h26 => ?_)
    · exact ct_out S (fun x hx => by cases hx)
    · refine ct_astore_n (L' := [(1, cz_r r29), (0, cz_r l0)]) S dX7_coat_20 rfl (by decide) rfl ?_
      refine ct_aload_n (k := 1) S dX7_coat_21 rfl rfl ?_
      refine ct_aload_n (k := 1) S dX7_coat_22 rfl rfl ?_
      refine ct_getR S fw_X7_14 dX7_coat_23 (fun r30 => ?_)
      refine ct_getR S fw_X7_52 dX7_coat_26 (fun r31 => ?_)
      refine ct_rc (fun b32 ci33 V34 hb35 hc36 hi37 => ?_)
      refine ct_xI (st := []) (cg_up (owner := "HeldCoats$Reader") (av := [cz_r r31]) S hb35 hc36 hi37 (fun _ e => mt_X6_one e) q1018 q1013 q1014 (Or.inl q1015) ⟨by decide, by decide⟩ q1017 q124 nh_HeldCoats_CapitalReader_one__Ljava_util_ArrayList__I se_HeldCoats_CapitalReader_one__Ljava_util_ArrayList__I_HeldCoats_Reader (by decide) (by decide) (Nat.le_of_ble_eq_true rfl) rfl dX7_coat_29) (fun q39 h40 => ?_) (fun x41 h38 => ?_)
      · exact ct_out S (fun x hx => by cases hx)
      · refine ct_istore_n (L' := [(2, cz_i x41), (1, cz_r r29), (0, cz_r l0)]) S dX7_coat_32 rfl (by decide) rfl ?_
        refine ct_aload_n (k := 2) S dX7_coat_33 rfl rfl ?_
        refine ct_iconst (v := 0) S dX7_coat_34 kI_0 ?_
        refine ct_bipush (v := 20) S dX7_coat_35 kB_20 ?_
        refine ct_rc (fun b42 ci43 V44 hb45 hc46 hi47 => ?_)
        refine ct_xI (st := []) (cg_up (owner := "HeldCoats$Reader") (av := [cz_i 0, cz_i 20]) S hb45 hc46 hi47 (fun _ e => mt_X6_number e) q919 q914 q915 (Or.inl q916) ⟨by decide, by decide⟩ q918 q124 nh_HeldCoats_CapitalReader_number__II_I se_HeldCoats_CapitalReader_number__II_I_HeldCoats_Reader (by decide) (by decide) (Nat.le_of_ble_eq_true rfl) rfl dX7_coat_37) (fun q49 h50 => ?_) (fun x51 h48 => ?_)
        · exact ct_out S (fun x hx => by cases hx)
        · refine ct_istore_n (L' := [(3, cz_i x51), (2, cz_i x41), (1, cz_r r29), (0, cz_r l0)]) S dX7_coat_40 rfl (by decide) rfl ?_
          refine ct_aload_n (k := 3) S dX7_coat_41 rfl rfl ?_
          refine ct_getR S fw_X7_14 dX7_coat_42 (fun r52 => ?_)
          refine ct_getR S fw_X7_108 dX7_coat_45 (fun r53 => ?_)
          refine ct_newo S (by decide) cz_cl11 q1021 dX7_coat_48 (fun r54 h55 => ?_)
          refine ct_dup S dX7_coat_51 rfl ?_
          refine ct_aload_n (k := 2) S dX7_coat_52 rfl rfl ?_
          refine ct_iload_n (k := 1) S dX7_coat_53 rfl rfl ?_
          refine ct_iload_n (k := 0) S dX7_coat_54 rfl rfl ?_
          refine ct_aload_n (k := 3) S dX7_coat_55 rfl rfl ?_
          refine ct_iconst (v := 1) S dX7_coat_56 kI_1 ?_
          refine ct_bipush (v := 99) S dX7_coat_57 kB_99 ?_
          refine ct_rc (fun b56 ci57 V58 hb59 hc60 hi61 => ?_)
          refine ct_xI (st := [cz_i x51, cz_i x41, cz_r r29, cz_r r54, cz_r r54, cz_r r53]) (cg_up (owner := "HeldCoats$Reader") (av := [cz_i 1, cz_i 99]) S hb59 hc60 hi61 (fun _ e => mt_X6_number e) q919 q914 q915 (Or.inl q916) ⟨by decide, by decide⟩ q918 q124 nh_HeldCoats_CapitalReader_number__II_I se_HeldCoats_CapitalReader_number__II_I_HeldCoats_Reader (by decide) (by decide) (Nat.le_of_ble_eq_true rfl) rfl dX7_coat_59) (fun q63 h64 => ?_) (fun x65 h62 => ?_)
          · exact ct_out S (fun x hx => by cases hx)
          · refine ct_nn (fun b66 hb67 => ?_)
            refine ct_cV (st := [cz_r r54, cz_r r53]) (cg_init (av := [cz_r r29, cz_i x41, cz_i x51, cz_i x65]) S hb67 (fun _ e => mt_X11_init e) q1025 (Or.inl q1023) rfl q1024 q139 nh_HeldCoats_Coat__init___Ljava_lang_String_III_V (by decide) (by decide) (Nat.le_of_ble_eq_true rfl) rfl dX7_coat_62) (fun h68 => ?_)
            refine ct_rc (fun b69 ci70 V71 hb72 hc73 hi74 => ?_)
            refine ct_cI (st := []) (cg_virtual (av := [cz_r r54]) S hb72 hc73 hi74 (fun _ e => mt_J2_add e) md_J2_add q950 q951 se_java_util_ArrayList_add__Ljava_lang_Object__Z_java_util_ArrayList (by decide) (Nat.le_of_ble_eq_true rfl) rfl dX7_coat_65) (fun x76 h75 => ?_)
            refine ct_pop S dX7_coat_68 rfl ?_
            exact ct_vret S rfl dX7_coat_69
theorem mt_X7_coat {l : Launch} {D : cz_D} {l0 : Option Nat} {h : cz_H} {oh : cz_O × cz_H} (hz : fn_X7_coat l0 h = some oh) : cz_M l D yX7_coat (ws_ yX7_coat cX7_coat 4 ((Option.none : Option Jvm.ClassFile.FieldType))) 10 [cz_r l0] h oh := cz_met (plainFor_of_name (by decide)) (Nat.le_of_ble_eq_true rfl) hz (fun K hl S => wk_X7_coat S)
/-! HeldCoats$CapitalReader.cold()V -/
def dkwX7_cold_5 : List UInt8 := [181, 0, 146, 177]
abbrev dktX7_cold_5 : List UInt8 := dkwX7_cold_5 ++ []
def dkwX7_cold_4 : List UInt8 := [180, 0, 14, 180, 0, 146, 42, 3, 16, 40, 182, 0, 93, 79, 42, 180, 0, 14, 89, 180, 0, 146, 4, 96]
abbrev dktX7_cold_4 : List UInt8 := dkwX7_cold_4 ++ dktX7_cold_5
def dkwX7_cold_3 : List UInt8 := [180, 0, 14, 180, 0, 152, 42, 180, 0, 14, 180, 0, 146, 27, 79, 42, 180, 0, 14, 180, 0, 156, 42]
abbrev dktX7_cold_3 : List UInt8 := dkwX7_cold_3 ++ dktX7_cold_4
def dkwX7_cold_2 : List UInt8 := [159, 0, 7, 4, 167, 0, 4, 3, 6, 182, 0, 89, 132, 2, 1, 167, 255, 219, 42, 182, 0, 20, 42]
abbrev dktX7_cold_2 : List UInt8 := dkwX7_cold_2 ++ dktX7_cold_3
def dkwX7_cold_1 : List UInt8 := [28, 42, 180, 0, 14, 180, 0, 146, 162, 0, 32, 42, 42, 180, 0, 14, 180, 0, 152, 28, 46, 27]
abbrev dktX7_cold_1 : List UInt8 := dkwX7_cold_1 ++ dktX7_cold_2
def dkwX7_cold_0 : List UInt8 := [42, 42, 180, 0, 14, 180, 0, 146, 16, 8, 182, 0, 121, 42, 3, 17, 1, 143, 182, 0, 149, 60, 3, 61]
abbrev dktX7_cold_0 : List UInt8 := dkwX7_cold_0 ++ dktX7_cold_1
theorem dksX7_cold_0 : cX7_cold.data.toList.drop 0 = dktX7_cold_0 := by decide +kernel
theorem dksX7_cold_1 : cX7_cold.data.toList.drop 24 = dktX7_cold_1 := dk_seg dksX7_cold_0 24 rfl rfl
theorem dksX7_cold_2 : cX7_cold.data.toList.drop 46 = dktX7_cold_2 := dk_seg dksX7_cold_1 22 rfl rfl
theorem dksX7_cold_3 : cX7_cold.data.toList.drop 69 = dktX7_cold_3 := dk_seg dksX7_cold_2 23 rfl rfl
theorem dksX7_cold_4 : cX7_cold.data.toList.drop 92 = dktX7_cold_4 := dk_seg dksX7_cold_3 23 rfl rfl
theorem dksX7_cold_5 : cX7_cold.data.toList.drop 116 = dktX7_cold_5 := dk_seg dksX7_cold_4 24 rfl rfl
theorem dX7_cold_0 : decode cX7_cold 0 = .ok (.aload_n 0, 1) := dk_42 (dk_at dksX7_cold_0 0 rfl rfl)
theorem dX7_cold_1 : decode cX7_cold 1 = .ok (.aload_n 0, 1) := dk_42 (dk_at dksX7_cold_0 1 rfl rfl)
theorem dX7_cold_2 : decode cX7_cold 2 = .ok (.getfield 14, 3) := dk_180 0 14 (dk_at dksX7_cold_0 2 rfl rfl)
theorem dX7_cold_5 : decode cX7_cold 5 = .ok (.getfield 146, 3) := dk_180 0 146 (dk_at dksX7_cold_0 5 rfl rfl)
theorem dX7_cold_8 : decode cX7_cold 8 = .ok (.bipush 8, 2) := dk_16 8 (dk_at dksX7_cold_0 8 rfl rfl)
theorem dX7_cold_10 : decode cX7_cold 10 = .ok (.invokevirtual 121, 3) := dk_182 0 121 (dk_at dksX7_cold_0 10 rfl rfl)
theorem dX7_cold_13 : decode cX7_cold 13 = .ok (.aload_n 0, 1) := dk_42 (dk_at dksX7_cold_0 13 rfl rfl)
theorem dX7_cold_14 : decode cX7_cold 14 = .ok (.iconst 0, 1) := dk_3 (dk_at dksX7_cold_0 14 rfl rfl)
theorem dX7_cold_15 : decode cX7_cold 15 = .ok (.sipush 399, 3) := dk_17 1 143 (dk_at dksX7_cold_0 15 rfl rfl)
theorem dX7_cold_18 : decode cX7_cold 18 = .ok (.invokevirtual 149, 3) := dk_182 0 149 (dk_at dksX7_cold_0 18 rfl rfl)
theorem dX7_cold_21 : decode cX7_cold 21 = .ok (.istore_n 1, 1) := dk_60 (dk_at dksX7_cold_0 21 rfl rfl)
theorem dX7_cold_22 : decode cX7_cold 22 = .ok (.iconst 0, 1) := dk_3 (dk_at dksX7_cold_0 22 rfl rfl)
theorem dX7_cold_23 : decode cX7_cold 23 = .ok (.istore_n 2, 1) := dk_61 (dk_at dksX7_cold_0 23 rfl rfl)
theorem dX7_cold_24 : decode cX7_cold 24 = .ok (.iload_n 2, 1) := dk_28 (dk_at dksX7_cold_1 0 rfl rfl)
theorem dX7_cold_25 : decode cX7_cold 25 = .ok (.aload_n 0, 1) := dk_42 (dk_at dksX7_cold_1 1 rfl rfl)
theorem dX7_cold_26 : decode cX7_cold 26 = .ok (.getfield 14, 3) := dk_180 0 14 (dk_at dksX7_cold_1 2 rfl rfl)
theorem dX7_cold_29 : decode cX7_cold 29 = .ok (.getfield 146, 3) := dk_180 0 146 (dk_at dksX7_cold_1 5 rfl rfl)
theorem dX7_cold_32 : decode cX7_cold 32 = .ok (.if_icmp .ge 32, 3) := dk_162 0 32 (dk_at dksX7_cold_1 8 rfl rfl)
theorem dX7_cold_35 : decode cX7_cold 35 = .ok (.aload_n 0, 1) := dk_42 (dk_at dksX7_cold_1 11 rfl rfl)
theorem dX7_cold_36 : decode cX7_cold 36 = .ok (.aload_n 0, 1) := dk_42 (dk_at dksX7_cold_1 12 rfl rfl)
theorem dX7_cold_37 : decode cX7_cold 37 = .ok (.getfield 14, 3) := dk_180 0 14 (dk_at dksX7_cold_1 13 rfl rfl)
theorem dX7_cold_40 : decode cX7_cold 40 = .ok (.getfield 152, 3) := dk_180 0 152 (dk_at dksX7_cold_1 16 rfl rfl)
theorem dX7_cold_43 : decode cX7_cold 43 = .ok (.iload_n 2, 1) := dk_28 (dk_at dksX7_cold_1 19 rfl rfl)
theorem dX7_cold_44 : decode cX7_cold 44 = .ok (.iaload, 1) := dk_46 (dk_at dksX7_cold_1 20 rfl rfl)
theorem dX7_cold_45 : decode cX7_cold 45 = .ok (.iload_n 1, 1) := dk_27 (dk_at dksX7_cold_1 21 rfl rfl)
theorem dX7_cold_46 : decode cX7_cold 46 = .ok (.if_icmp .eq 7, 3) := dk_159 0 7 (dk_at dksX7_cold_2 0 rfl rfl)
theorem dX7_cold_49 : decode cX7_cold 49 = .ok (.iconst 1, 1) := dk_4 (dk_at dksX7_cold_2 3 rfl rfl)
theorem dX7_cold_50 : decode cX7_cold 50 = .ok (.goto 4, 3) := dk_167 0 4 (dk_at dksX7_cold_2 4 rfl rfl)
theorem dX7_cold_53 : decode cX7_cold 53 = .ok (.iconst 0, 1) := dk_3 (dk_at dksX7_cold_2 7 rfl rfl)
theorem dX7_cold_54 : decode cX7_cold 54 = .ok (.iconst 3, 1) := dk_6 (dk_at dksX7_cold_2 8 rfl rfl)
theorem dX7_cold_55 : decode cX7_cold 55 = .ok (.invokevirtual 89, 3) := dk_182 0 89 (dk_at dksX7_cold_2 9 rfl rfl)
theorem dX7_cold_58 : decode cX7_cold 58 = .ok (.iinc 2 1, 3) := dk_132 2 1 (dk_at dksX7_cold_2 12 rfl rfl)
theorem dX7_cold_61 : decode cX7_cold 61 = .ok (.goto (-37), 3) := dk_167 255 219 (dk_at dksX7_cold_2 15 rfl rfl)
theorem dX7_cold_64 : decode cX7_cold 64 = .ok (.aload_n 0, 1) := dk_42 (dk_at dksX7_cold_2 18 rfl rfl)
theorem dX7_cold_65 : decode cX7_cold 65 = .ok (.invokevirtual 20, 3) := dk_182 0 20 (dk_at dksX7_cold_2 19 rfl rfl)
theorem dX7_cold_68 : decode cX7_cold 68 = .ok (.aload_n 0, 1) := dk_42 (dk_at dksX7_cold_2 22 rfl rfl)
theorem dX7_cold_69 : decode cX7_cold 69 = .ok (.getfield 14, 3) := dk_180 0 14 (dk_at dksX7_cold_3 0 rfl rfl)
theorem dX7_cold_72 : decode cX7_cold 72 = .ok (.getfield 152, 3) := dk_180 0 152 (dk_at dksX7_cold_3 3 rfl rfl)
theorem dX7_cold_75 : decode cX7_cold 75 = .ok (.aload_n 0, 1) := dk_42 (dk_at dksX7_cold_3 6 rfl rfl)
theorem dX7_cold_76 : decode cX7_cold 76 = .ok (.getfield 14, 3) := dk_180 0 14 (dk_at dksX7_cold_3 7 rfl rfl)
theorem dX7_cold_79 : decode cX7_cold 79 = .ok (.getfield 146, 3) := dk_180 0 146 (dk_at dksX7_cold_3 10 rfl rfl)
theorem dX7_cold_82 : decode cX7_cold 82 = .ok (.iload_n 1, 1) := dk_27 (dk_at dksX7_cold_3 13 rfl rfl)
theorem dX7_cold_83 : decode cX7_cold 83 = .ok (.iastore, 1) := dk_79 (dk_at dksX7_cold_3 14 rfl rfl)
theorem dX7_cold_84 : decode cX7_cold 84 = .ok (.aload_n 0, 1) := dk_42 (dk_at dksX7_cold_3 15 rfl rfl)
theorem dX7_cold_85 : decode cX7_cold 85 = .ok (.getfield 14, 3) := dk_180 0 14 (dk_at dksX7_cold_3 16 rfl rfl)
theorem dX7_cold_88 : decode cX7_cold 88 = .ok (.getfield 156, 3) := dk_180 0 156 (dk_at dksX7_cold_3 19 rfl rfl)
theorem dX7_cold_91 : decode cX7_cold 91 = .ok (.aload_n 0, 1) := dk_42 (dk_at dksX7_cold_3 22 rfl rfl)
theorem dX7_cold_92 : decode cX7_cold 92 = .ok (.getfield 14, 3) := dk_180 0 14 (dk_at dksX7_cold_4 0 rfl rfl)
theorem dX7_cold_95 : decode cX7_cold 95 = .ok (.getfield 146, 3) := dk_180 0 146 (dk_at dksX7_cold_4 3 rfl rfl)
theorem dX7_cold_98 : decode cX7_cold 98 = .ok (.aload_n 0, 1) := dk_42 (dk_at dksX7_cold_4 6 rfl rfl)
theorem dX7_cold_99 : decode cX7_cold 99 = .ok (.iconst 0, 1) := dk_3 (dk_at dksX7_cold_4 7 rfl rfl)
theorem dX7_cold_100 : decode cX7_cold 100 = .ok (.bipush 40, 2) := dk_16 40 (dk_at dksX7_cold_4 8 rfl rfl)
theorem dX7_cold_102 : decode cX7_cold 102 = .ok (.invokevirtual 93, 3) := dk_182 0 93 (dk_at dksX7_cold_4 10 rfl rfl)
theorem dX7_cold_105 : decode cX7_cold 105 = .ok (.iastore, 1) := dk_79 (dk_at dksX7_cold_4 13 rfl rfl)
theorem dX7_cold_106 : decode cX7_cold 106 = .ok (.aload_n 0, 1) := dk_42 (dk_at dksX7_cold_4 14 rfl rfl)
theorem dX7_cold_107 : decode cX7_cold 107 = .ok (.getfield 14, 3) := dk_180 0 14 (dk_at dksX7_cold_4 15 rfl rfl)
theorem dX7_cold_110 : decode cX7_cold 110 = .ok (.dup, 1) := dk_89 (dk_at dksX7_cold_4 18 rfl rfl)
theorem dX7_cold_111 : decode cX7_cold 111 = .ok (.getfield 146, 3) := dk_180 0 146 (dk_at dksX7_cold_4 19 rfl rfl)
theorem dX7_cold_114 : decode cX7_cold 114 = .ok (.iconst 1, 1) := dk_4 (dk_at dksX7_cold_4 22 rfl rfl)
theorem dX7_cold_115 : decode cX7_cold 115 = .ok (.iadd, 1) := dk_96 (dk_at dksX7_cold_4 23 rfl rfl)
theorem dX7_cold_116 : decode cX7_cold 116 = .ok (.putfield 146, 3) := dk_181 0 146 (dk_at dksX7_cold_5 0 rfl rfl)
theorem dX7_cold_119 : decode cX7_cold 119 = .ok (.return_, 1) := dk_177 (dk_at dksX7_cold_5 3 rfl rfl)
theorem fw_X7_146 : cz_FW "HeldCoats$CapitalReader" 146 [(1, 1)] "I" := ⟨"HeldCoats$Capital", "colds", Or.inr ⟨_, q203⟩, List.forall_mem_cons.mpr ⟨⟨RX2, TX2, 11, rfl, by decide, rfl, rfl, Or.inl rfl⟩, fun _ h => absurd h List.not_mem_nil⟩, by decide⟩
theorem se_HeldCoats_CapitalReader_holdNumber__II_I_HeldCoats_Reader : ∀ c ∈ ([6] : List Nat), ∃ q : vw_C, cz_cl[c]? = some q ∧ Cond.selects q.1 (⟨"HeldCoats$CapitalReader", "holdNumber", "(II)I"⟩ : MethodName) (⟨"HeldCoats$Reader", "holdNumber", "(II)I"⟩ : MethodName) ∈ lw_all := List.forall_mem_cons.mpr ⟨⟨_, cz_cl6, q1052⟩, fun _ h => absurd h List.not_mem_nil⟩
theorem nh_HeldCoats_CapitalReader_holdNumber__II_I : cz_nh ⟨"HeldCoats$CapitalReader", "holdNumber", "(II)I"⟩ 2 := ⟨by decide, by decide, by decide +kernel⟩
theorem fw_X7_152 : cz_FW "HeldCoats$CapitalReader" 152 [(1, 9)] "[I" := ⟨"HeldCoats$Capital", "coldFrom", Or.inr ⟨_, q237⟩, List.forall_mem_cons.mpr ⟨⟨RX2, TX2, 11, rfl, by decide, rfl, rfl, Or.inl rfl⟩, fun _ h => absurd h List.not_mem_nil⟩, by decide⟩
theorem fw_X7_156 : cz_FW "HeldCoats$CapitalReader" 156 [(1, 10)] "[I" := ⟨"HeldCoats$Capital", "cold", Or.inr ⟨_, q239⟩, List.forall_mem_cons.mpr ⟨⟨RX2, TX2, 11, rfl, by decide, rfl, rfl, Or.inl rfl⟩, fun _ h => absurd h List.not_mem_nil⟩, by decide⟩
theorem fp_X7_m_1_1 {nm : String} : cz_FP "HeldCoats$CapitalReader" nm [(1, 1)] := List.forall_mem_cons.mpr ⟨⟨RX2, TX2, 11, rfl, Or.inl rfl⟩, fun _ h => absurd h List.not_mem_nil⟩
theorem kS_399 : (Int16.ofInt (399)).toInt32 = 399 := by decide
set_option maxHeartbeats 4000000 in
set_option maxRecDepth 100000 in
noncomputable def fn_X7_cold_24 (l0 : Option Nat) (l1 : Int32) (k0 : cz_H → cz_Z) : Nat → Int32 → cz_H → cz_Z
  | 0, _, _ => none
  | n + 1, l2, h => cz_getR h l0 [(6, 9)] (fun r22 => cz_getI h r22 [(1, 1)] (fun x23 => (if x23 ≤ l2 then k0 h else cz_getR h l0 [(6, 9)] (fun r24 => cz_getR h r24 [(1, 9)] (fun r25 => cz_iald h r25 l2 (fun x26 => (if x26 = l1 then cz_rc h l0 [6] (cz_xV (fn_X6_need l0 0 3 h) (fun q34 h35 => cz_thr q34 h35) (fun h33 => cz_leti (l2 + 1) (fun x36 => fn_X7_cold_24 l0 l1 k0 n x36 h33))) else cz_rc h l0 [6] (cz_xV (fn_X6_need l0 1 3 h) (fun q44 h45 => cz_thr q44 h45) (fun h43 => cz_leti (l2 + 1) (fun x46 => fn_X7_cold_24 l0 l1 k0 n x46 h43))))))))))
set_option maxHeartbeats 4000000 in
set_option maxRecDepth 100000 in
theorem wk_X7_cold_24 {K : cz_K} {D : cz_D} {h0 : cz_H} {oh : cz_O × cz_H} {l0 : Option Nat} {l1 : Int32} {k0 : cz_H → cz_Z} (S : cz_S K D h0 cX7_cold 3 "HeldCoats$CapitalReader" ((Option.none : Option Jvm.ClassFile.FieldType)) "cold" ([])) (hk0 : ∀ (h : cz_H), cz_T K D 10 h0 oh 3 (k0 h) h 64 [(0, cz_r l0), (1, cz_i l1)] []) : ∀ (n : Nat) (l2 : Int32) (h : cz_H), cz_T K D 10 h0 oh 3 (fn_X7_cold_24 l0 l1 k0 n l2 h) h 24 [(0, cz_r l0), (1, cz_i l1), (2, cz_i l2)] [] := by
  intro n
  induction n with
  | zero => intros; exact ct_none
  | succ n ih =>
    intro l2 h
    rw [fn_X7_cold_24]
    refine ct_iload_n (k := 2) S dX7_cold_24 rfl rfl ?_
    refine ct_aload_n (k := 0) S dX7_cold_25 rfl rfl ?_
    refine ct_getR S fw_X7_14 dX7_cold_26 (fun r22 => ?_)
    refine ct_getI S fw_X7_146 dX7_cold_29 (fun x23 => ?_)
    refine ct_icmp_ge (tgt := 64) S dX7_cold_32 (by decide) ?_ ?_
    · exact ct_sub [0, 1] rfl (hk0 h)
    · refine ct_aload_n (k := 0) S dX7_cold_35 rfl rfl ?_
      refine ct_aload_n (k := 0) S dX7_cold_36 rfl rfl ?_
      refine ct_getR S fw_X7_14 dX7_cold_37 (fun r24 => ?_)
      refine ct_getR S fw_X7_152 dX7_cold_40 (fun r25 => ?_)
      refine ct_iload_n (k := 2) S dX7_cold_43 rfl rfl ?_
      refine ct_iald S dX7_cold_44 (fun x26 => ?_)
      refine ct_iload_n (k := 1) S dX7_cold_45 rfl rfl ?_
      refine ct_icmp_eq (tgt := 53) S dX7_cold_46 (by decide) ?_ ?_
      · refine ct_iconst (v := 0) S dX7_cold_53 kI_0 ?_
        refine ct_iconst (v := 3) S dX7_cold_54 kI_3 ?_
        refine ct_rc (fun b27 ci28 V29 hb30 hc31 hi32 => ?_)
        refine ct_xV (st := []) (cg_up (owner := "HeldCoats$Reader") (av := [cz_i 0, cz_i 3]) S hb30 hc31 hi32 (fun _ e => mt_X6_need e) q750 q745 q746 (Or.inl q747) ⟨by decide, by decide⟩ q749 q124 nh_HeldCoats_CapitalReader_need__ZI_V se_HeldCoats_CapitalReader_need__ZI_V_HeldCoats_Reader (by decide) (by decide) (Nat.le_of_ble_eq_true rfl) rfl dX7_cold_55) (fun q34 h35 => ?_) (fun h33 => ?_)
        · exact ct_out S (fun x hx => by cases hx)
        · refine ct_iincL (j := 2) (L2 := fun x36 => [(2, cz_i x36), (0, cz_r l0), (1, cz_i l1)]) S dX7_cold_58 rfl kI_1 (by decide) (fun _ => rfl) (fun x36 => ?_)
          refine ct_goto (tgt := 24) S dX7_cold_61 (by decide) ?_
          exact ct_sub [1, 2, 0] rfl (ih x36 h33)
      · refine ct_iconst (v := 1) S dX7_cold_49 kI_1 ?_
        refine ct_goto (tgt := 54) S dX7_cold_50 (by decide) ?_
        refine ct_iconst (v := 3) S dX7_cold_54 kI_3 ?_
        refine ct_rc (fun b37 ci38 V39 hb40 hc41 hi42 => ?_)
        refine ct_xV (st := []) (cg_up (owner := "HeldCoats$Reader") (av := [cz_i 1, cz_i 3]) S hb40 hc41 hi42 (fun _ e => mt_X6_need e) q750 q745 q746 (Or.inl q747) ⟨by decide, by decide⟩ q749 q124 nh_HeldCoats_CapitalReader_need__ZI_V se_HeldCoats_CapitalReader_need__ZI_V_HeldCoats_Reader (by decide) (by decide) (Nat.le_of_ble_eq_true rfl) rfl dX7_cold_55) (fun q44 h45 => ?_) (fun h43 => ?_)
        · exact ct_out S (fun x hx => by cases hx)
        · refine ct_iincL (j := 2) (L2 := fun x46 => [(2, cz_i x46), (0, cz_r l0), (1, cz_i l1)]) S dX7_cold_58 rfl kI_1 (by decide) (fun _ => rfl) (fun x46 => ?_)
          refine ct_goto (tgt := 24) S dX7_cold_61 (by decide) ?_
          exact ct_sub [1, 2, 0] rfl (ih x46 h43)
set_option maxHeartbeats 4000000 in
set_option maxRecDepth 100000 in
noncomputable def fn_X7_cold (l0 : Option Nat) (h : cz_H) : cz_Z := cz_getR h l0 [(6, 9)] (fun r1 => cz_getI h r1 [(1, 1)] (fun x2 => cz_rc h l0 [6] (cz_xV (fn_X7_first l0 x2 8 h) (fun q10 h11 => cz_thr q10 h11) (fun h9 => cz_rc h9 l0 [6] (cz_xI (fn_X6_holdNumber l0 0 399 h9) (fun q19 h20 => cz_thr q19 h20) (fun x21 h18 => fn_X7_cold_24 l0 x21 (fun (h47 : cz_H) => cz_rc h47 l0 [6] (cz_cV (fn_X6_go l0 h47) (fun h54 => cz_getR h54 l0 [(6, 9)] (fun r55 => cz_getR h54 r55 [(1, 9)] (fun r56 => cz_getR h54 l0 [(6, 9)] (fun r57 => cz_getI h54 r57 [(1, 1)] (fun x58 => cz_iast h54 r56 x58 x21 (fun h59 => cz_getR h59 l0 [(6, 9)] (fun r60 => cz_getR h59 r60 [(1, 10)] (fun r61 => cz_getR h59 l0 [(6, 9)] (fun r62 => cz_getI h59 r62 [(1, 1)] (fun x63 => cz_rc h59 l0 [6] (cz_xI (fn_X6_number l0 0 40 h59) (fun q71 h72 => cz_thr q71 h72) (fun x73 h70 => cz_iast h70 r61 x63 x73 (fun h74 => cz_getR h74 l0 [(6, 9)] (fun r75 => cz_getI h74 r75 [(1, 1)] (fun x76 => cz_put h74 r75 [(1, 1)] (cz_i (x76 + 1)) (fun h77 => some (.inl none, h77))))))))))))))))))) 1000 0 h18))))))
set_option maxHeartbeats 4000000 in
set_option maxRecDepth 100000 in
theorem wk_X7_cold {K : cz_K} {D : cz_D} {h0 : cz_H} {oh : cz_O × cz_H} {l0 : Option Nat} {h : cz_H} (S : cz_S K D h0 cX7_cold 3 "HeldCoats$CapitalReader" ((Option.none : Option Jvm.ClassFile.FieldType)) "cold" ([])) : cz_T K D 10 h0 oh 3 (fn_X7_cold l0 h) h 0 [(0, cz_r l0)] [] := by
  unfold fn_X7_cold
  refine ct_aload_n (k := 0) S dX7_cold_0 rfl rfl ?_
  refine ct_aload_n (k := 0) S dX7_cold_1 rfl rfl ?_
  refine ct_getR S fw_X7_14 dX7_cold_2 (fun r1 => ?_)
  refine ct_getI S fw_X7_146 dX7_cold_5 (fun x2 => ?_)
  refine ct_bipush (v := 8) S dX7_cold_8 kB_8 ?_
  refine ct_rc (fun b3 ci4 V5 hb6 hc7 hi8 => ?_)
  refine ct_xV (st := []) (cg_virtual (av := [cz_i x2, cz_i 8]) S hb6 hc7 hi8 (fun _ e => mt_X7_first e) md_X7_first q741 q743 se_HeldCoats_CapitalReader_first__II_V_HeldCoats_CapitalReader (by decide) (Nat.le_of_ble_eq_true rfl) rfl dX7_cold_10) (fun q10 h11 => ?_) (fun h9 => ?_)
  · exact ct_out S (fun x hx => by cases hx)
  · refine ct_aload_n (k := 0) S dX7_cold_13 rfl rfl ?_
    refine ct_iconst (v := 0) S dX7_cold_14 kI_0 ?_
    refine ct_sipush (v := 399) S dX7_cold_15 kS_399 ?_
    refine ct_rc (fun b12 ci13 V14 hb15 hc16 hi17 => ?_)
    refine ct_xI (st := []) (cg_up (owner := "HeldCoats$Reader") (av := [cz_i 0, cz_i 399]) S hb15 hc16 hi17 (fun _ e => mt_X6_holdNumber e) q926 q1049 q1050 (Or.inl q1051) ⟨by decide, by decide⟩ q921 q124 nh_HeldCoats_CapitalReader_holdNumber__II_I se_HeldCoats_CapitalReader_holdNumber__II_I_HeldCoats_Reader (by decide) (by decide) (Nat.le_of_ble_eq_true rfl) rfl dX7_cold_18) (fun q19 h20 => ?_) (fun x21 h18 => ?_)
    · exact ct_out S (fun x hx => by cases hx)
    · refine ct_istore_n (L' := [(1, cz_i x21), (0, cz_r l0)]) S dX7_cold_21 rfl (by decide) rfl ?_
      refine ct_iconst (v := 0) S dX7_cold_22 kI_0 ?_
      refine ct_istore_n (L' := [(2, cz_i 0), (1, cz_i x21), (0, cz_r l0)]) S dX7_cold_23 rfl (by decide) rfl ?_
      refine ct_sub [2, 1, 0] (L' := [(0, cz_r l0), (1, cz_i x21), (2, cz_i 0)]) rfl (wk_X7_cold_24 S ?_ 1000 0 h18)
      · intro h47
        refine ct_aload_n (k := 0) S dX7_cold_64 rfl rfl ?_
        refine ct_rc (fun b48 ci49 V50 hb51 hc52 hi53 => ?_)
        refine ct_cV (st := []) (cg_up (owner := "HeldCoats$Reader") (av := []) S hb51 hc52 hi53 (fun _ e => mt_X6_go e) q521 q516 q517 (Or.inl q518) ⟨by decide, by decide⟩ q520 q124 nh_HeldCoats_CapitalReader_go___V se_HeldCoats_CapitalReader_go___V_HeldCoats_Reader (by decide) (by decide) (Nat.le_of_ble_eq_true rfl) rfl dX7_cold_65) (fun h54 => ?_)
        refine ct_aload_n (k := 0) S dX7_cold_68 rfl rfl ?_
        refine ct_getR S fw_X7_14 dX7_cold_69 (fun r55 => ?_)
        refine ct_getR S fw_X7_152 dX7_cold_72 (fun r56 => ?_)
        refine ct_aload_n (k := 0) S dX7_cold_75 rfl rfl ?_
        refine ct_getR S fw_X7_14 dX7_cold_76 (fun r57 => ?_)
        refine ct_getI S fw_X7_146 dX7_cold_79 (fun x58 => ?_)
        refine ct_iload_n (k := 1) S dX7_cold_82 rfl rfl ?_
        refine ct_iast S dX7_cold_83 (fun h59 => ?_)
        refine ct_aload_n (k := 0) S dX7_cold_84 rfl rfl ?_
        refine ct_getR S fw_X7_14 dX7_cold_85 (fun r60 => ?_)
        refine ct_getR S fw_X7_156 dX7_cold_88 (fun r61 => ?_)
        refine ct_aload_n (k := 0) S dX7_cold_91 rfl rfl ?_
        refine ct_getR S fw_X7_14 dX7_cold_92 (fun r62 => ?_)
        refine ct_getI S fw_X7_146 dX7_cold_95 (fun x63 => ?_)
        refine ct_aload_n (k := 0) S dX7_cold_98 rfl rfl ?_
        refine ct_iconst (v := 0) S dX7_cold_99 kI_0 ?_
        refine ct_bipush (v := 40) S dX7_cold_100 kB_40 ?_
        refine ct_rc (fun b64 ci65 V66 hb67 hc68 hi69 => ?_)
        refine ct_xI (st := [cz_i x63, cz_r r61]) (cg_up (owner := "HeldCoats$Reader") (av := [cz_i 0, cz_i 40]) S hb67 hc68 hi69 (fun _ e => mt_X6_number e) q919 q914 q915 (Or.inl q916) ⟨by decide, by decide⟩ q918 q124 nh_HeldCoats_CapitalReader_number__II_I se_HeldCoats_CapitalReader_number__II_I_HeldCoats_Reader (by decide) (by decide) (Nat.le_of_ble_eq_true rfl) rfl dX7_cold_102) (fun q71 h72 => ?_) (fun x73 h70 => ?_)
        · exact ct_out S (fun x hx => by cases hx)
        · refine ct_iast S dX7_cold_105 (fun h74 => ?_)
          refine ct_aload_n (k := 0) S dX7_cold_106 rfl rfl ?_
          refine ct_getR S fw_X7_14 dX7_cold_107 (fun r75 => ?_)
          refine ct_dup S dX7_cold_110 rfl ?_
          refine ct_getI S fw_X7_146 dX7_cold_111 (fun x76 => ?_)
          refine ct_iconst (v := 1) S dX7_cold_114 kI_1 ?_
          refine ct_iadd S dX7_cold_115 ?_
          refine ct_put S fw_X7_146 fp_X7_m_1_1 (cz_fits_i pd_I) dX7_cold_116 (fun h77 => ?_)
          exact ct_vret S rfl dX7_cold_119
theorem mt_X7_cold {l : Launch} {D : cz_D} {l0 : Option Nat} {h : cz_H} {oh : cz_O × cz_H} (hz : fn_X7_cold l0 h = some oh) : cz_M l D yX7_cold (ws_ yX7_cold cX7_cold 3 ((Option.none : Option Jvm.ClassFile.FieldType))) 10 [cz_r l0] h oh := cz_met (plainFor_of_name (by decide)) (Nat.le_of_ble_eq_true rfl) hz (fun K hl S => wk_X7_cold S)
/-! HeldCoats$CapitalReader.once(III)I -/
def dkwX7_once_1 : List UInt8 := [180, 0, 82, 4, 27, 120, 128, 181, 0, 82, 42, 182, 0, 20, 42, 28, 29, 182, 0, 93, 172]
abbrev dktX7_once_1 : List UInt8 := dkwX7_once_1 ++ []
def dkwX7_once_0 : List UInt8 := [42, 42, 180, 0, 82, 27, 184, 0, 85, 154, 0, 7, 4, 167, 0, 4, 3, 6, 182, 0, 89, 42, 89]
abbrev dktX7_once_0 : List UInt8 := dkwX7_once_0 ++ dktX7_once_1
theorem dksX7_once_0 : cX7_once.data.toList.drop 0 = dktX7_once_0 := by decide +kernel
theorem dksX7_once_1 : cX7_once.data.toList.drop 23 = dktX7_once_1 := dk_seg dksX7_once_0 23 rfl rfl
theorem dX7_once_0 : decode cX7_once 0 = .ok (.aload_n 0, 1) := dk_42 (dk_at dksX7_once_0 0 rfl rfl)
theorem dX7_once_1 : decode cX7_once 1 = .ok (.aload_n 0, 1) := dk_42 (dk_at dksX7_once_0 1 rfl rfl)
theorem dX7_once_2 : decode cX7_once 2 = .ok (.getfield 82, 3) := dk_180 0 82 (dk_at dksX7_once_0 2 rfl rfl)
theorem dX7_once_5 : decode cX7_once 5 = .ok (.iload_n 1, 1) := dk_27 (dk_at dksX7_once_0 5 rfl rfl)
theorem dX7_once_6 : decode cX7_once 6 = .ok (.invokestatic 85, 3) := dk_184 0 85 (dk_at dksX7_once_0 6 rfl rfl)
theorem dX7_once_9 : decode cX7_once 9 = .ok (.ifCond .ne 7, 3) := dk_154 0 7 (dk_at dksX7_once_0 9 rfl rfl)
theorem dX7_once_12 : decode cX7_once 12 = .ok (.iconst 1, 1) := dk_4 (dk_at dksX7_once_0 12 rfl rfl)
theorem dX7_once_13 : decode cX7_once 13 = .ok (.goto 4, 3) := dk_167 0 4 (dk_at dksX7_once_0 13 rfl rfl)
theorem dX7_once_16 : decode cX7_once 16 = .ok (.iconst 0, 1) := dk_3 (dk_at dksX7_once_0 16 rfl rfl)
theorem dX7_once_17 : decode cX7_once 17 = .ok (.iconst 3, 1) := dk_6 (dk_at dksX7_once_0 17 rfl rfl)
theorem dX7_once_18 : decode cX7_once 18 = .ok (.invokevirtual 89, 3) := dk_182 0 89 (dk_at dksX7_once_0 18 rfl rfl)
theorem dX7_once_21 : decode cX7_once 21 = .ok (.aload_n 0, 1) := dk_42 (dk_at dksX7_once_0 21 rfl rfl)
theorem dX7_once_22 : decode cX7_once 22 = .ok (.dup, 1) := dk_89 (dk_at dksX7_once_0 22 rfl rfl)
theorem dX7_once_23 : decode cX7_once 23 = .ok (.getfield 82, 3) := dk_180 0 82 (dk_at dksX7_once_1 0 rfl rfl)
theorem dX7_once_26 : decode cX7_once 26 = .ok (.iconst 1, 1) := dk_4 (dk_at dksX7_once_1 3 rfl rfl)
theorem dX7_once_27 : decode cX7_once 27 = .ok (.iload_n 1, 1) := dk_27 (dk_at dksX7_once_1 4 rfl rfl)
theorem dX7_once_28 : decode cX7_once 28 = .ok (.ishl, 1) := dk_120 (dk_at dksX7_once_1 5 rfl rfl)
theorem dX7_once_29 : decode cX7_once 29 = .ok (.ior, 1) := dk_128 (dk_at dksX7_once_1 6 rfl rfl)
theorem dX7_once_30 : decode cX7_once 30 = .ok (.putfield 82, 3) := dk_181 0 82 (dk_at dksX7_once_1 7 rfl rfl)
theorem dX7_once_33 : decode cX7_once 33 = .ok (.aload_n 0, 1) := dk_42 (dk_at dksX7_once_1 10 rfl rfl)
theorem dX7_once_34 : decode cX7_once 34 = .ok (.invokevirtual 20, 3) := dk_182 0 20 (dk_at dksX7_once_1 11 rfl rfl)
theorem dX7_once_37 : decode cX7_once 37 = .ok (.aload_n 0, 1) := dk_42 (dk_at dksX7_once_1 14 rfl rfl)
theorem dX7_once_38 : decode cX7_once 38 = .ok (.iload_n 2, 1) := dk_28 (dk_at dksX7_once_1 15 rfl rfl)
theorem dX7_once_39 : decode cX7_once 39 = .ok (.iload_n 3, 1) := dk_29 (dk_at dksX7_once_1 16 rfl rfl)
theorem dX7_once_40 : decode cX7_once 40 = .ok (.invokevirtual 93, 3) := dk_182 0 93 (dk_at dksX7_once_1 17 rfl rfl)
theorem dX7_once_43 : decode cX7_once 43 = .ok (.ireturn, 1) := dk_172 (dk_at dksX7_once_1 20 rfl rfl)
theorem fw_X7_82 : cz_FW "HeldCoats$CapitalReader" 82 [(6, 10)] "I" := ⟨"HeldCoats$CapitalReader", "onces", Or.inl q469, List.forall_mem_cons.mpr ⟨⟨RX7, TX7, 11, rfl, by decide, rfl, rfl, Or.inl rfl⟩, fun _ h => absurd h List.not_mem_nil⟩, by decide⟩
theorem fp_X7_m_6_10 {nm : String} : cz_FP "HeldCoats$CapitalReader" nm [(6, 10)] := List.forall_mem_cons.mpr ⟨⟨RX7, TX7, 11, rfl, Or.inl rfl⟩, fun _ h => absurd h List.not_mem_nil⟩
set_option maxHeartbeats 4000000 in
set_option maxRecDepth 100000 in
noncomputable def fn_X7_once (l0 : Option Nat) (l1 : Int32) (l2 : Int32) (l3 : Int32) (h : cz_H) : cz_Z := cz_getI h l0 [(6, 10)] (fun x1 => cz_cI (fn_X1_isOf x1 l1 h) (fun x3 h2 => cz_jn (fun (v4 : Int32) (h5 : cz_H) => cz_rc h5 l0 [6] (cz_xV (fn_X6_need l0 v4 3 h5) (fun q13 h14 => cz_thr q13 h14) (fun h12 => cz_getI h12 l0 [(6, 10)] (fun x15 => cz_put h12 l0 [(6, 10)] (cz_i (x15 ||| ((1 : Int32) <<< (l1 &&& 31)))) (fun h16 => cz_rc h16 l0 [6] (cz_cV (fn_X6_go l0 h16) (fun h23 => cz_rc h23 l0 [6] (cz_xI (fn_X6_number l0 l2 l3 h23) (fun q31 h32 => cz_thr q31 h32) (fun x33 h30 => some (.inl (some (cz_i x33)), h30)))))))))) (fun j34 => (if x3 = 0 then j34 1 h2 else j34 0 h2))))
set_option maxHeartbeats 4000000 in
set_option maxRecDepth 100000 in
theorem wk_X7_once {K : cz_K} {D : cz_D} {h0 : cz_H} {oh : cz_O × cz_H} {l0 : Option Nat} {l1 : Int32} {l2 : Int32} {l3 : Int32} {h : cz_H} (S : cz_S K D h0 cX7_once 4 "HeldCoats$CapitalReader" ((Option.some Jvm.ClassFile.FieldType.int)) "once" ([])) : cz_T K D 10 h0 oh 4 (fn_X7_once l0 l1 l2 l3 h) h 0 [(0, cz_r l0), (1, cz_i l1), (2, cz_i l2), (3, cz_i l3)] [] := by
  unfold fn_X7_once
  refine ct_aload_n (k := 0) S dX7_once_0 rfl rfl ?_
  refine ct_aload_n (k := 0) S dX7_once_1 rfl rfl ?_
  refine ct_getI S fw_X7_82 dX7_once_2 (fun x1 => ?_)
  refine ct_iload_n (k := 1) S dX7_once_5 rfl rfl ?_
  refine ct_cI (st := [cz_r l0]) (cg_static (av := [cz_i x1, cz_i l1]) S (fun _ e => mt_X1_isOf e) md_X1_isOf (Or.inr ⟨_, q1058⟩) q1059 (by decide) (Nat.le_of_ble_eq_true rfl) rfl dX7_once_6) (fun x3 h2 => ?_)
  refine ct_jnP (fun j34 => ∀ (v4 : Int32) (h5 : cz_H), cz_T K D 10 h0 oh 4 (j34 v4 h5) h5 17 [(0, cz_r l0), (1, cz_i l1), (2, cz_i l2), (3, cz_i l3)] [cz_i v4, cz_r l0]) (fun v4 h5 => ?_) (fun j34 Hj34 => ?_)
  · refine ct_iconst (v := 3) S dX7_once_17 kI_3 ?_
    refine ct_rc (fun b6 ci7 V8 hb9 hc10 hi11 => ?_)
    refine ct_xV (st := []) (cg_up (owner := "HeldCoats$Reader") (av := [cz_i v4, cz_i 3]) S hb9 hc10 hi11 (fun _ e => mt_X6_need e) q750 q745 q746 (Or.inl q747) ⟨by decide, by decide⟩ q749 q124 nh_HeldCoats_CapitalReader_need__ZI_V se_HeldCoats_CapitalReader_need__ZI_V_HeldCoats_Reader (by decide) (by decide) (Nat.le_of_ble_eq_true rfl) rfl dX7_once_18) (fun q13 h14 => ?_) (fun h12 => ?_)
    · exact ct_out S (fun x hx => by cases hx)
    · refine ct_aload_n (k := 0) S dX7_once_21 rfl rfl ?_
      refine ct_dup S dX7_once_22 rfl ?_
      refine ct_getI S fw_X7_82 dX7_once_23 (fun x15 => ?_)
      refine ct_iconst (v := 1) S dX7_once_26 kI_1 ?_
      refine ct_iload_n (k := 1) S dX7_once_27 rfl rfl ?_
      refine ct_ishl S dX7_once_28 ?_
      refine ct_ior S dX7_once_29 ?_
      refine ct_put S fw_X7_82 fp_X7_m_6_10 (cz_fits_i pd_I) dX7_once_30 (fun h16 => ?_)
      refine ct_aload_n (k := 0) S dX7_once_33 rfl rfl ?_
      refine ct_rc (fun b17 ci18 V19 hb20 hc21 hi22 => ?_)
      refine ct_cV (st := []) (cg_up (owner := "HeldCoats$Reader") (av := []) S hb20 hc21 hi22 (fun _ e => mt_X6_go e) q521 q516 q517 (Or.inl q518) ⟨by decide, by decide⟩ q520 q124 nh_HeldCoats_CapitalReader_go___V se_HeldCoats_CapitalReader_go___V_HeldCoats_Reader (by decide) (by decide) (Nat.le_of_ble_eq_true rfl) rfl dX7_once_34) (fun h23 => ?_)
      refine ct_aload_n (k := 0) S dX7_once_37 rfl rfl ?_
      refine ct_iload_n (k := 2) S dX7_once_38 rfl rfl ?_
      refine ct_iload_n (k := 3) S dX7_once_39 rfl rfl ?_
      refine ct_rc (fun b24 ci25 V26 hb27 hc28 hi29 => ?_)
      refine ct_xI (st := []) (cg_up (owner := "HeldCoats$Reader") (av := [cz_i l2, cz_i l3]) S hb27 hc28 hi29 (fun _ e => mt_X6_number e) q919 q914 q915 (Or.inl q916) ⟨by decide, by decide⟩ q918 q124 nh_HeldCoats_CapitalReader_number__II_I se_HeldCoats_CapitalReader_number__II_I_HeldCoats_Reader (by decide) (by decide) (Nat.le_of_ble_eq_true rfl) rfl dX7_once_40) (fun q31 h32 => ?_) (fun x33 h30 => ?_)
      · exact ct_out S (fun x hx => by cases hx)
      · exact ct_iret S rfl dX7_once_43
  · refine ct_if_ne (tgt := 16) S dX7_once_9 (by decide) ?_ ?_
    · refine ct_iconst (v := 0) S dX7_once_16 kI_0 ?_
      exact Hj34 0 h2
    · refine ct_iconst (v := 1) S dX7_once_12 kI_1 ?_
      refine ct_goto (tgt := 17) S dX7_once_13 (by decide) ?_
      exact Hj34 1 h2
theorem mt_X7_once {l : Launch} {D : cz_D} {l0 : Option Nat} {l1 : Int32} {l2 : Int32} {l3 : Int32} {h : cz_H} {oh : cz_O × cz_H} (hz : fn_X7_once l0 l1 l2 l3 h = some oh) : cz_M l D yX7_once (ws_ yX7_once cX7_once 4 ((Option.some Jvm.ClassFile.FieldType.int))) 10 [cz_r l0, cz_i l1, cz_i l2, cz_i l3] h oh := cz_met (plainFor_of_name (by decide)) (Nat.le_of_ble_eq_true rfl) hz (fun K hl S => wk_X7_once S)
/-! HeldCoats$CapitalReader.limit()V -/
def dkwX7_limit_1 : List UInt8 := [181, 0, 98, 177]
abbrev dktX7_limit_1 : List UInt8 := dkwX7_limit_1 ++ []
def dkwX7_limit_0 : List UInt8 := [42, 42, 18, 97, 182, 0, 38, 4, 182, 0, 89, 42, 180, 0, 14, 42, 6, 4, 17, 3, 231, 182, 0, 65]
abbrev dktX7_limit_0 : List UInt8 := dkwX7_limit_0 ++ dktX7_limit_1
theorem dksX7_limit_0 : cX7_limit.data.toList.drop 0 = dktX7_limit_0 := by decide +kernel
theorem dksX7_limit_1 : cX7_limit.data.toList.drop 24 = dktX7_limit_1 := dk_seg dksX7_limit_0 24 rfl rfl
theorem dX7_limit_0 : decode cX7_limit 0 = .ok (.aload_n 0, 1) := dk_42 (dk_at dksX7_limit_0 0 rfl rfl)
theorem dX7_limit_1 : decode cX7_limit 1 = .ok (.aload_n 0, 1) := dk_42 (dk_at dksX7_limit_0 1 rfl rfl)
theorem dX7_limit_2 : decode cX7_limit 2 = .ok (.ldc 97, 2) := dk_18 97 (dk_at dksX7_limit_0 2 rfl rfl)
theorem dX7_limit_4 : decode cX7_limit 4 = .ok (.invokevirtual 38, 3) := dk_182 0 38 (dk_at dksX7_limit_0 4 rfl rfl)
theorem dX7_limit_7 : decode cX7_limit 7 = .ok (.iconst 1, 1) := dk_4 (dk_at dksX7_limit_0 7 rfl rfl)
theorem dX7_limit_8 : decode cX7_limit 8 = .ok (.invokevirtual 89, 3) := dk_182 0 89 (dk_at dksX7_limit_0 8 rfl rfl)
theorem dX7_limit_11 : decode cX7_limit 11 = .ok (.aload_n 0, 1) := dk_42 (dk_at dksX7_limit_0 11 rfl rfl)
theorem dX7_limit_12 : decode cX7_limit 12 = .ok (.getfield 14, 3) := dk_180 0 14 (dk_at dksX7_limit_0 12 rfl rfl)
theorem dX7_limit_15 : decode cX7_limit 15 = .ok (.aload_n 0, 1) := dk_42 (dk_at dksX7_limit_0 15 rfl rfl)
theorem dX7_limit_16 : decode cX7_limit 16 = .ok (.iconst 3, 1) := dk_6 (dk_at dksX7_limit_0 16 rfl rfl)
theorem dX7_limit_17 : decode cX7_limit 17 = .ok (.iconst 1, 1) := dk_4 (dk_at dksX7_limit_0 17 rfl rfl)
theorem dX7_limit_18 : decode cX7_limit 18 = .ok (.sipush 999, 3) := dk_17 3 231 (dk_at dksX7_limit_0 18 rfl rfl)
theorem dX7_limit_21 : decode cX7_limit 21 = .ok (.invokevirtual 65, 3) := dk_182 0 65 (dk_at dksX7_limit_0 21 rfl rfl)
theorem dX7_limit_24 : decode cX7_limit 24 = .ok (.putfield 98, 3) := dk_181 0 98 (dk_at dksX7_limit_1 0 rfl rfl)
theorem dX7_limit_27 : decode cX7_limit 27 = .ok (.return_, 1) := dk_177 (dk_at dksX7_limit_1 3 rfl rfl)
theorem se_HeldCoats_CapitalReader_is__Ljava_lang_String__Z_HeldCoats_Reader : ∀ c ∈ ([6] : List Nat), ∃ q : vw_C, cz_cl[c]? = some q ∧ Cond.selects q.1 (⟨"HeldCoats$CapitalReader", "is", "(Ljava/lang/String;)Z"⟩ : MethodName) (⟨"HeldCoats$Reader", "is", "(Ljava/lang/String;)Z"⟩ : MethodName) ∈ lw_all := List.forall_mem_cons.mpr ⟨⟨_, cz_cl6, q725⟩, fun _ h => absurd h List.not_mem_nil⟩
theorem nh_HeldCoats_CapitalReader_is__Ljava_lang_String__Z : cz_nh ⟨"HeldCoats$CapitalReader", "is", "(Ljava/lang/String;)Z"⟩ 1 := ⟨by decide, by decide, by decide +kernel⟩
theorem se_HeldCoats_CapitalReader_once__III_I_HeldCoats_CapitalReader : ∀ c ∈ ([6] : List Nat), ∃ q : vw_C, cz_cl[c]? = some q ∧ Cond.selects q.1 (⟨"HeldCoats$CapitalReader", "once", "(III)I"⟩ : MethodName) (⟨"HeldCoats$CapitalReader", "once", "(III)I"⟩ : MethodName) ∈ lw_all := List.forall_mem_cons.mpr ⟨⟨_, cz_cl6, qs12⟩, fun _ h => absurd h List.not_mem_nil⟩
theorem md_X7_once : cz_md yX7_once 4 (ws_ yX7_once cX7_once 4 ((Option.some Jvm.ClassFile.FieldType.int))) 3 := ⟨cz_ws_code q1057, q125, ⟨by decide, by decide, by decide +kernel⟩, by decide⟩
theorem fw_X7_98 : cz_FW "HeldCoats$CapitalReader" 98 [(1, 5)] "I" := ⟨"HeldCoats$Capital", "limit", Or.inr ⟨_, q216⟩, List.forall_mem_cons.mpr ⟨⟨RX2, TX2, 11, rfl, by decide, rfl, rfl, Or.inl rfl⟩, fun _ h => absurd h List.not_mem_nil⟩, by decide⟩
theorem fp_X7_m_1_5 {nm : String} : cz_FP "HeldCoats$CapitalReader" nm [(1, 5)] := List.forall_mem_cons.mpr ⟨⟨RX2, TX2, 11, rfl, Or.inl rfl⟩, fun _ h => absurd h List.not_mem_nil⟩
set_option maxHeartbeats 4000000 in
set_option maxRecDepth 100000 in
noncomputable def fn_X7_limit (l0 : Option Nat) (h : cz_H) : cz_Z := cz_rc h l0 [6] (cz_cI (fn_X6_is l0 (h.1.2.2.2 10) h) (fun x8 h7 => cz_rc h7 l0 [6] (cz_xV (fn_X6_need l0 x8 1 h7) (fun q16 h17 => cz_thr q16 h17) (fun h15 => cz_getR h15 l0 [(6, 9)] (fun r18 => cz_rc h15 l0 [6] (cz_xI (fn_X7_once l0 3 1 999 h15) (fun q26 h27 => cz_thr q26 h27) (fun x28 h25 => cz_put h25 r18 [(1, 5)] (cz_i x28) (fun h29 => some (.inl none, h29)))))))))
set_option maxHeartbeats 4000000 in
set_option maxRecDepth 100000 in
theorem wk_X7_limit {K : cz_K} {D : cz_D} {h0 : cz_H} {oh : cz_O × cz_H} {l0 : Option Nat} {h : cz_H} (S : cz_S K D h0 cX7_limit 1 "HeldCoats$CapitalReader" ((Option.none : Option Jvm.ClassFile.FieldType)) "limit" ([])) : cz_T K D 11 h0 oh 1 (fn_X7_limit l0 h) h 0 [(0, cz_r l0)] [] := by
  unfold fn_X7_limit
  refine ct_aload_n (k := 0) S dX7_limit_0 rfl rfl ?_
  refine ct_aload_n (k := 0) S dX7_limit_1 rfl rfl ?_
  refine ct_ldcS (i := 10) S rfl dX7_limit_2 ?_
  refine ct_rc (fun b1 ci2 V3 hb4 hc5 hi6 => ?_)
  refine ct_cI (st := [cz_r l0]) (cg_up (owner := "HeldCoats$Reader") (av := [cz_r (h.1.2.2.2 10)]) S hb4 hc5 hi6 (fun _ e => mt_X6_is e) q727 q722 q723 (Or.inl q724) ⟨by decide, by decide⟩ q726 q124 nh_HeldCoats_CapitalReader_is__Ljava_lang_String__Z se_HeldCoats_CapitalReader_is__Ljava_lang_String__Z_HeldCoats_Reader (by decide) (by decide) (Nat.le_of_ble_eq_true rfl) rfl dX7_limit_4) (fun x8 h7 => ?_)
  refine ct_iconst (v := 1) S dX7_limit_7 kI_1 ?_
  refine ct_rc (fun b9 ci10 V11 hb12 hc13 hi14 => ?_)
  refine ct_xV (st := []) (cg_up (owner := "HeldCoats$Reader") (av := [cz_i x8, cz_i 1]) S hb12 hc13 hi14 (fun _ e => mt_X6_need e) q750 q745 q746 (Or.inl q747) ⟨by decide, by decide⟩ q749 q124 nh_HeldCoats_CapitalReader_need__ZI_V se_HeldCoats_CapitalReader_need__ZI_V_HeldCoats_Reader (by decide) (by decide) (Nat.le_of_ble_eq_true rfl) rfl dX7_limit_8) (fun q16 h17 => ?_) (fun h15 => ?_)
  · exact ct_out S (fun x hx => by cases hx)
  · refine ct_aload_n (k := 0) S dX7_limit_11 rfl rfl ?_
    refine ct_getR S fw_X7_14 dX7_limit_12 (fun r18 => ?_)
    refine ct_aload_n (k := 0) S dX7_limit_15 rfl rfl ?_
    refine ct_iconst (v := 3) S dX7_limit_16 kI_3 ?_
    refine ct_iconst (v := 1) S dX7_limit_17 kI_1 ?_
    refine ct_sipush (v := 999) S dX7_limit_18 kS_999 ?_
    refine ct_rc (fun b19 ci20 V21 hb22 hc23 hi24 => ?_)
    refine ct_xI (st := [cz_r r18]) (cg_virtual (av := [cz_i 3, cz_i 1, cz_i 999]) S hb22 hc23 hi24 (fun _ e => mt_X7_once e) md_X7_once q1054 q1056 se_HeldCoats_CapitalReader_once__III_I_HeldCoats_CapitalReader (by decide) (Nat.le_of_ble_eq_true rfl) rfl dX7_limit_21) (fun q26 h27 => ?_) (fun x28 h25 => ?_)
    · exact ct_out S (fun x hx => by cases hx)
    · refine ct_put S fw_X7_98 fp_X7_m_1_5 (cz_fits_i pd_I) dX7_limit_24 (fun h29 => ?_)
      exact ct_vret S rfl dX7_limit_27
theorem mt_X7_limit {l : Launch} {D : cz_D} {l0 : Option Nat} {h : cz_H} {oh : cz_O × cz_H} (hz : fn_X7_limit l0 h = some oh) : cz_M l D yX7_limit (ws_ yX7_limit cX7_limit 1 ((Option.none : Option Jvm.ClassFile.FieldType))) 11 [cz_r l0] h oh := cz_met (plainFor_of_name (by decide)) (Nat.le_of_ble_eq_true rfl) hz (fun K hl S => wk_X7_limit S)
/-! HeldCoats$Told.<init>(Ljava/lang/String;I)V -/
def dkwX10_init_0 : List UInt8 := [42, 43, 183, 0, 1, 42, 28, 181, 0, 7, 177]
abbrev dktX10_init_0 : List UInt8 := dkwX10_init_0 ++ []
theorem dksX10_init_0 : cX10_init.data.toList.drop 0 = dktX10_init_0 := by decide +kernel
theorem dX10_init_0 : decode cX10_init 0 = .ok (.aload_n 0, 1) := dk_42 (dk_at dksX10_init_0 0 rfl rfl)
theorem dX10_init_1 : decode cX10_init 1 = .ok (.aload_n 1, 1) := dk_43 (dk_at dksX10_init_0 1 rfl rfl)
theorem dX10_init_2 : decode cX10_init 2 = .ok (.invokespecial 1, 3) := dk_183 0 1 (dk_at dksX10_init_0 2 rfl rfl)
theorem dX10_init_5 : decode cX10_init 5 = .ok (.aload_n 0, 1) := dk_42 (dk_at dksX10_init_0 5 rfl rfl)
theorem dX10_init_6 : decode cX10_init 6 = .ok (.iload_n 2, 1) := dk_28 (dk_at dksX10_init_0 6 rfl rfl)
theorem dX10_init_7 : decode cX10_init 7 = .ok (.putfield 7, 3) := dk_181 0 7 (dk_at dksX10_init_0 7 rfl rfl)
theorem dX10_init_10 : decode cX10_init 10 = .ok (.return_, 1) := dk_177 (dk_at dksX10_init_0 10 rfl rfl)
theorem fw_X10_7 : cz_FW "HeldCoats$Told" 7 [(10, 1)] "I" := ⟨"HeldCoats$Told", "number", Or.inl q939, List.forall_mem_cons.mpr ⟨⟨RX10, TX10, 2, rfl, by decide, rfl, rfl, Or.inl rfl⟩, fun _ h => absurd h List.not_mem_nil⟩, by decide⟩
theorem fp_X10_i_10_1 : cz_FP "HeldCoats$Told" "<init>" [(10, 1)] := List.forall_mem_cons.mpr ⟨⟨RX10, TX10, 2, rfl, Or.inr ⟨rfl, rfl, rfl⟩⟩, fun _ h => absurd h List.not_mem_nil⟩
set_option maxHeartbeats 4000000 in
set_option maxRecDepth 100000 in
noncomputable def fn_X10_init (l0 : Option Nat) (l1 : Option Nat) (l2 : Int32) (h : cz_H) : cz_Z := cz_nn' l0 (cz_cV (fn_X9_init l0 l1 h) (fun h3 => cz_put h3 l0 [(10, 1)] (cz_i l2) (fun h4 => some (.inl none, h4))))
set_option maxHeartbeats 4000000 in
set_option maxRecDepth 100000 in
theorem wk_X10_init {K : cz_K} {D : cz_D} {h0 : cz_H} {oh : cz_O × cz_H} {l0 : Option Nat} {l1 : Option Nat} {l2 : Int32} {h : cz_H} (S : cz_S K D h0 cX10_init 3 "HeldCoats$Told" ((Option.none : Option Jvm.ClassFile.FieldType)) "<init>" ([])) : cz_T K D 4 h0 oh 3 (fn_X10_init l0 l1 l2 h) h 0 [(0, cz_r l0), (1, cz_r l1), (2, cz_i l2)] [] := by
  unfold fn_X10_init
  refine ct_aload_n (k := 0) S dX10_init_0 rfl rfl ?_
  refine ct_aload_n (k := 1) S dX10_init_1 rfl rfl ?_
  refine ct_nn (fun b1 hb2 => ?_)
  refine ct_cV (st := []) (cg_init (av := [cz_r l1]) S hb2 (fun _ e => mt_X9_init e) q937 (Or.inl q935) rfl q936 q137 nh_HeldCoats_Named__init___Ljava_lang_String__V (by decide) (by decide) (Nat.le_of_ble_eq_true rfl) rfl dX10_init_2) (fun h3 => ?_)
  refine ct_aload_n (k := 0) S dX10_init_5 rfl rfl ?_
  refine ct_iload_n (k := 2) S dX10_init_6 rfl rfl ?_
  refine ct_put S fw_X10_7 fp_X10_i_10_1 (cz_fits_i pd_I) dX10_init_7 (fun h4 => ?_)
  exact ct_vret S rfl dX10_init_10
theorem mt_X10_init {l : Launch} {D : cz_D} {l0 : Option Nat} {l1 : Option Nat} {l2 : Int32} {h : cz_H} {oh : cz_O × cz_H} (hz : fn_X10_init l0 l1 l2 h = some oh) : cz_M l D yX10_init (ws_ yX10_init cX10_init 3 ((Option.none : Option Jvm.ClassFile.FieldType))) 4 [cz_r l0, cz_r l1, cz_i l2] h oh := cz_met (plainFor_of_name (by decide)) (Nat.le_of_ble_eq_true rfl) hz (fun K hl S => wk_X10_init S)
/-! HeldCoats$CapitalReader.told(Ljava/util/ArrayList;III)V -/
def dkwX7_told_1 : List UInt8 := [21, 4, 182, 0, 93, 183, 0, 131, 182, 0, 134, 87, 177]
abbrev dktX7_told_1 : List UInt8 := dkwX7_told_1 ++ []
def dkwX7_told_0 : List UInt8 := [42, 43, 182, 0, 115, 28, 182, 0, 121, 42, 182, 0, 125, 58, 5, 43, 187, 0, 129, 89, 25, 5, 42, 29]
abbrev dktX7_told_0 : List UInt8 := dkwX7_told_0 ++ dktX7_told_1
theorem dksX7_told_0 : cX7_told.data.toList.drop 0 = dktX7_told_0 := by decide +kernel
theorem dksX7_told_1 : cX7_told.data.toList.drop 24 = dktX7_told_1 := dk_seg dksX7_told_0 24 rfl rfl
theorem dX7_told_0 : decode cX7_told 0 = .ok (.aload_n 0, 1) := dk_42 (dk_at dksX7_told_0 0 rfl rfl)
theorem dX7_told_1 : decode cX7_told 1 = .ok (.aload_n 1, 1) := dk_43 (dk_at dksX7_told_0 1 rfl rfl)
theorem dX7_told_2 : decode cX7_told 2 = .ok (.invokevirtual 115, 3) := dk_182 0 115 (dk_at dksX7_told_0 2 rfl rfl)
theorem dX7_told_5 : decode cX7_told 5 = .ok (.iload_n 2, 1) := dk_28 (dk_at dksX7_told_0 5 rfl rfl)
theorem dX7_told_6 : decode cX7_told 6 = .ok (.invokevirtual 121, 3) := dk_182 0 121 (dk_at dksX7_told_0 6 rfl rfl)
theorem dX7_told_9 : decode cX7_told 9 = .ok (.aload_n 0, 1) := dk_42 (dk_at dksX7_told_0 9 rfl rfl)
theorem dX7_told_10 : decode cX7_told 10 = .ok (.invokevirtual 125, 3) := dk_182 0 125 (dk_at dksX7_told_0 10 rfl rfl)
theorem dX7_told_13 : decode cX7_told 13 = .ok (.astore 5, 2) := dk_58 5 (dk_at dksX7_told_0 13 rfl rfl)
theorem dX7_told_15 : decode cX7_told 15 = .ok (.aload_n 1, 1) := dk_43 (dk_at dksX7_told_0 15 rfl rfl)
theorem dX7_told_16 : decode cX7_told 16 = .ok (.new 129, 3) := dk_187 0 129 (dk_at dksX7_told_0 16 rfl rfl)
theorem dX7_told_19 : decode cX7_told 19 = .ok (.dup, 1) := dk_89 (dk_at dksX7_told_0 19 rfl rfl)
theorem dX7_told_20 : decode cX7_told 20 = .ok (.aload 5, 2) := dk_25 5 (dk_at dksX7_told_0 20 rfl rfl)
theorem dX7_told_22 : decode cX7_told 22 = .ok (.aload_n 0, 1) := dk_42 (dk_at dksX7_told_0 22 rfl rfl)
theorem dX7_told_23 : decode cX7_told 23 = .ok (.iload_n 3, 1) := dk_29 (dk_at dksX7_told_0 23 rfl rfl)
theorem dX7_told_24 : decode cX7_told 24 = .ok (.iload 4, 2) := dk_21 4 (dk_at dksX7_told_1 0 rfl rfl)
theorem dX7_told_26 : decode cX7_told 26 = .ok (.invokevirtual 93, 3) := dk_182 0 93 (dk_at dksX7_told_1 2 rfl rfl)
theorem dX7_told_29 : decode cX7_told 29 = .ok (.invokespecial 131, 3) := dk_183 0 131 (dk_at dksX7_told_1 5 rfl rfl)
theorem dX7_told_32 : decode cX7_told 32 = .ok (.invokevirtual 134, 3) := dk_182 0 134 (dk_at dksX7_told_1 8 rfl rfl)
theorem dX7_told_35 : decode cX7_told 35 = .ok (.pop, 1) := dk_87 (dk_at dksX7_told_1 11 rfl rfl)
theorem dX7_told_36 : decode cX7_told 36 = .ok (.return_, 1) := dk_177 (dk_at dksX7_told_1 12 rfl rfl)
theorem nh_HeldCoats_Told__init___Ljava_lang_String_I_V : cz_nh ⟨"HeldCoats$Told", "<init>", "(Ljava/lang/String;I)V"⟩ 2 := ⟨by decide, by decide, by decide +kernel⟩
set_option maxHeartbeats 4000000 in
set_option maxRecDepth 100000 in
noncomputable def fn_X7_told (l0 : Option Nat) (l1 : Option Nat) (l2 : Int32) (l3 : Int32) (l4 : Int32) (h : cz_H) : cz_Z := cz_rc h l1 [2] (cz_cI (fn_J2_size l1 h) (fun x8 h7 => cz_rc h7 l0 [6] (cz_xV (fn_X7_first l0 x8 l2 h7) (fun q16 h17 => cz_thr q16 h17) (fun h15 => cz_rc h15 l0 [6] (cz_xR (fn_X7_fresh l0 h15) (fun q25 h26 => cz_thr q25 h26) (fun r27 h24 => cz_newo h24 10 2 (fun r28 h29 => cz_rc h29 l0 [6] (cz_xI (fn_X6_number l0 l3 l4 h29) (fun q37 h38 => cz_thr q37 h38) (fun x39 h36 => cz_nn' r28 (cz_cV (fn_X10_init r28 r27 x39 h36) (fun h42 => cz_rc h42 l1 [2] (cz_cI (fn_J2_add l1 r28 h42) (fun x50 h49 => some (.inl none, h49))))))))))))))
set_option maxHeartbeats 4000000 in
set_option maxRecDepth 100000 in
theorem wk_X7_told {K : cz_K} {D : cz_D} {h0 : cz_H} {oh : cz_O × cz_H} {l0 : Option Nat} {l1 : Option Nat} {l2 : Int32} {l3 : Int32} {l4 : Int32} {h : cz_H} (S : cz_S K D h0 cX7_told 6 "HeldCoats$CapitalReader" ((Option.none : Option Jvm.ClassFile.FieldType)) "told" ([])) : cz_T K D 10 h0 oh 6 (fn_X7_told l0 l1 l2 l3 l4 h) h 0 [(0, cz_r l0), (1, cz_r l1), (2, cz_i l2), (3, cz_i l3), (4, cz_i l4)] [] := by
  unfold fn_X7_told
  refine ct_aload_n (k := 0) S dX7_told_0 rfl rfl ?_
  refine ct_aload_n (k := 1) S dX7_told_1 rfl rfl ?_
  refine ct_rc (fun b1 ci2 V3 hb4 hc5 hi6 => ?_)
  refine ct_cI (st := [cz_r l0]) (cg_virtual (av := []) S hb4 hc5 hi6 (fun _ e => mt_J2_size e) md_J2_size q740 q341 se_java_util_ArrayList_size___I_java_util_ArrayList (by decide) (Nat.le_of_ble_eq_true rfl) rfl dX7_told_2) (fun x8 h7 => ?_)
  refine ct_iload_n (k := 2) S dX7_told_5 rfl rfl ?_
  refine ct_rc (fun b9 ci10 V11 hb12 hc13 hi14 => ?_)
  refine ct_xV (st := []) (cg_virtual (av := [cz_i x8, cz_i l2]) S hb12 hc13 hi14 (fun _ e => mt_X7_first e) md_X7_first q741 q743 se_HeldCoats_CapitalReader_first__II_V_HeldCoats_CapitalReader (by decide) (Nat.le_of_ble_eq_true rfl) rfl dX7_told_6) (fun q16 h17 => ?_) (fun h15 => ?_)
  · exact ct_out S (fun x hx => by cases hx)
  · refine ct_aload_n (k := 0) S dX7_told_9 rfl rfl ?_
    refine ct_rc (fun b18 ci19 V20 hb21 hc22 hi23 => ?_)
    refine ct_xR (st := []) (cg_virtual (av := []) S hb21 hc22 hi23 (fun _ e => mt_X7_fresh e) md_X7_fresh q819 q821 se_HeldCoats_CapitalReader_fresh___Ljava_lang_String__HeldCoats_CapitalReader (by decide) (Nat.le_of_ble_eq_true rfl) rfl dX7_told_10) (fun q25 h26 => ?_) (fun r27 h24 => ?_)
    · exact ct_out S (fun x hx => by cases hx)
    · refine ct_astore (L' := [(5, cz_r r27), (0, cz_r l0), (1, cz_r l1), (2, cz_i l2), (3, cz_i l3), (4, cz_i l4)]) S dX7_told_13 (by decide) rfl ?_
      refine ct_aload_n (k := 2) S dX7_told_15 rfl rfl ?_
      refine ct_newo S (by decide) cz_cl10 q912 dX7_told_16 (fun r28 h29 => ?_)
      refine ct_dup S dX7_told_19 rfl ?_
      refine ct_aload (k := 0) S dX7_told_20 rfl ?_
      refine ct_aload_n (k := 1) S dX7_told_22 rfl rfl ?_
      refine ct_iload_n (k := 4) S dX7_told_23 rfl rfl ?_
      refine ct_iload (k := 5) S dX7_told_24 rfl ?_
      refine ct_rc (fun b30 ci31 V32 hb33 hc34 hi35 => ?_)
      refine ct_xI (st := [cz_r r27, cz_r r28, cz_r r28, cz_r l1]) (cg_up (owner := "HeldCoats$Reader") (av := [cz_i l3, cz_i l4]) S hb33 hc34 hi35 (fun _ e => mt_X6_number e) q919 q914 q915 (Or.inl q916) ⟨by decide, by decide⟩ q918 q124 nh_HeldCoats_CapitalReader_number__II_I se_HeldCoats_CapitalReader_number__II_I_HeldCoats_Reader (by decide) (by decide) (Nat.le_of_ble_eq_true rfl) rfl dX7_told_26) (fun q37 h38 => ?_) (fun x39 h36 => ?_)
      · exact ct_out S (fun x hx => by cases hx)
      · refine ct_nn (fun b40 hb41 => ?_)
        refine ct_cV (st := [cz_r r28, cz_r l1]) (cg_init (av := [cz_r r27, cz_i x39]) S hb41 (fun _ e => mt_X10_init e) q934 (Or.inl q932) rfl q933 q138 nh_HeldCoats_Told__init___Ljava_lang_String_I_V (by decide) (by decide) (Nat.le_of_ble_eq_true rfl) rfl dX7_told_29) (fun h42 => ?_)
        refine ct_rc (fun b43 ci44 V45 hb46 hc47 hi48 => ?_)
        refine ct_cI (st := []) (cg_virtual (av := [cz_r r28]) S hb46 hc47 hi48 (fun _ e => mt_J2_add e) md_J2_add q950 q951 se_java_util_ArrayList_add__Ljava_lang_Object__Z_java_util_ArrayList (by decide) (Nat.le_of_ble_eq_true rfl) rfl dX7_told_32) (fun x50 h49 => ?_)
        refine ct_pop S dX7_told_35 rfl ?_
        exact ct_vret S rfl dX7_told_36
theorem mt_X7_told {l : Launch} {D : cz_D} {l0 : Option Nat} {l1 : Option Nat} {l2 : Int32} {l3 : Int32} {l4 : Int32} {h : cz_H} {oh : cz_O × cz_H} (hz : fn_X7_told l0 l1 l2 l3 l4 h = some oh) : cz_M l D yX7_told (ws_ yX7_told cX7_told 6 ((Option.none : Option Jvm.ClassFile.FieldType))) 10 [cz_r l0, cz_r l1, cz_i l2, cz_i l3, cz_i l4] h oh := cz_met (plainFor_of_name (by decide)) (Nat.le_of_ble_eq_true rfl) hz (fun K hl S => wk_X7_told S)
/-! HeldCoats$CapitalReader.line()V -/
def dkwX7_line_7 : List UInt8 := [181, 0, 77, 167, 0, 7, 42, 182, 0, 79, 177]
abbrev dktX7_line_7 : List UInt8 := dkwX7_line_7 ++ []
def dkwX7_line_6 : List UInt8 := [167, 0, 34, 42, 18, 75, 182, 0, 38, 153, 0, 21, 42, 180, 0, 14, 42, 5, 3, 16, 9, 182, 0, 65]
abbrev dktX7_line_6 : List UInt8 := dkwX7_line_6 ++ dktX7_line_7
def dkwX7_line_5 : List UInt8 := [42, 18, 71, 182, 0, 38, 153, 0, 21, 42, 180, 0, 14, 42, 4, 4, 16, 30, 182, 0, 65, 181, 0, 73]
abbrev dktX7_line_5 : List UInt8 := dkwX7_line_5 ++ dktX7_line_6
def dkwX7_line_4 : List UInt8 := [182, 0, 38, 153, 0, 21, 42, 180, 0, 14, 42, 3, 3, 16, 40, 182, 0, 65, 181, 0, 69, 167, 0, 61]
abbrev dktX7_line_4 : List UInt8 := dkwX7_line_4 ++ dktX7_line_5
def dkwX7_line_3 : List UInt8 := [167, 0, 104, 42, 18, 59, 182, 0, 38, 153, 0, 10, 42, 182, 0, 61, 167, 0, 88, 42, 18, 63]
abbrev dktX7_line_3 : List UInt8 := dkwX7_line_3 ++ dktX7_line_4
def dkwX7_line_2 : List UInt8 := [16, 6, 3, 16, 20, 182, 0, 46, 167, 0, 120, 42, 18, 55, 182, 0, 38, 153, 0, 10, 42, 182, 0, 57]
abbrev dktX7_line_2 : List UInt8 := dkwX7_line_2 ++ dktX7_line_3
def dkwX7_line_1 : List UInt8 := [182, 0, 46, 167, 0, 148, 42, 18, 50, 182, 0, 38, 153, 0, 22, 42, 42, 180, 0, 14, 180, 0, 52]
abbrev dktX7_line_1 : List UInt8 := dkwX7_line_1 ++ dktX7_line_2
def dkwX7_line_0 : List UInt8 := [42, 18, 36, 182, 0, 38, 153, 0, 22, 42, 42, 180, 0, 14, 180, 0, 42, 16, 8, 4, 16, 99]
abbrev dktX7_line_0 : List UInt8 := dkwX7_line_0 ++ dktX7_line_1
theorem dksX7_line_0 : cX7_line.data.toList.drop 0 = dktX7_line_0 := by decide +kernel
theorem dksX7_line_1 : cX7_line.data.toList.drop 22 = dktX7_line_1 := dk_seg dksX7_line_0 22 rfl rfl
theorem dksX7_line_2 : cX7_line.data.toList.drop 45 = dktX7_line_2 := dk_seg dksX7_line_1 23 rfl rfl
theorem dksX7_line_3 : cX7_line.data.toList.drop 69 = dktX7_line_3 := dk_seg dksX7_line_2 24 rfl rfl
theorem dksX7_line_4 : cX7_line.data.toList.drop 91 = dktX7_line_4 := dk_seg dksX7_line_3 22 rfl rfl
theorem dksX7_line_5 : cX7_line.data.toList.drop 115 = dktX7_line_5 := dk_seg dksX7_line_4 24 rfl rfl
theorem dksX7_line_6 : cX7_line.data.toList.drop 139 = dktX7_line_6 := dk_seg dksX7_line_5 24 rfl rfl
theorem dksX7_line_7 : cX7_line.data.toList.drop 163 = dktX7_line_7 := dk_seg dksX7_line_6 24 rfl rfl
theorem dX7_line_0 : decode cX7_line 0 = .ok (.aload_n 0, 1) := dk_42 (dk_at dksX7_line_0 0 rfl rfl)
theorem dX7_line_1 : decode cX7_line 1 = .ok (.ldc 36, 2) := dk_18 36 (dk_at dksX7_line_0 1 rfl rfl)
theorem dX7_line_3 : decode cX7_line 3 = .ok (.invokevirtual 38, 3) := dk_182 0 38 (dk_at dksX7_line_0 3 rfl rfl)
theorem dX7_line_6 : decode cX7_line 6 = .ok (.ifCond .eq 22, 3) := dk_153 0 22 (dk_at dksX7_line_0 6 rfl rfl)
theorem dX7_line_9 : decode cX7_line 9 = .ok (.aload_n 0, 1) := dk_42 (dk_at dksX7_line_0 9 rfl rfl)
theorem dX7_line_10 : decode cX7_line 10 = .ok (.aload_n 0, 1) := dk_42 (dk_at dksX7_line_0 10 rfl rfl)
theorem dX7_line_11 : decode cX7_line 11 = .ok (.getfield 14, 3) := dk_180 0 14 (dk_at dksX7_line_0 11 rfl rfl)
theorem dX7_line_14 : decode cX7_line 14 = .ok (.getfield 42, 3) := dk_180 0 42 (dk_at dksX7_line_0 14 rfl rfl)
theorem dX7_line_17 : decode cX7_line 17 = .ok (.bipush 8, 2) := dk_16 8 (dk_at dksX7_line_0 17 rfl rfl)
theorem dX7_line_19 : decode cX7_line 19 = .ok (.iconst 1, 1) := dk_4 (dk_at dksX7_line_0 19 rfl rfl)
theorem dX7_line_20 : decode cX7_line 20 = .ok (.bipush 99, 2) := dk_16 99 (dk_at dksX7_line_0 20 rfl rfl)
theorem dX7_line_22 : decode cX7_line 22 = .ok (.invokevirtual 46, 3) := dk_182 0 46 (dk_at dksX7_line_1 0 rfl rfl)
theorem dX7_line_25 : decode cX7_line 25 = .ok (.goto 148, 3) := dk_167 0 148 (dk_at dksX7_line_1 3 rfl rfl)
theorem dX7_line_28 : decode cX7_line 28 = .ok (.aload_n 0, 1) := dk_42 (dk_at dksX7_line_1 6 rfl rfl)
theorem dX7_line_29 : decode cX7_line 29 = .ok (.ldc 50, 2) := dk_18 50 (dk_at dksX7_line_1 7 rfl rfl)
theorem dX7_line_31 : decode cX7_line 31 = .ok (.invokevirtual 38, 3) := dk_182 0 38 (dk_at dksX7_line_1 9 rfl rfl)
theorem dX7_line_34 : decode cX7_line 34 = .ok (.ifCond .eq 22, 3) := dk_153 0 22 (dk_at dksX7_line_1 12 rfl rfl)
theorem dX7_line_37 : decode cX7_line 37 = .ok (.aload_n 0, 1) := dk_42 (dk_at dksX7_line_1 15 rfl rfl)
theorem dX7_line_38 : decode cX7_line 38 = .ok (.aload_n 0, 1) := dk_42 (dk_at dksX7_line_1 16 rfl rfl)
theorem dX7_line_39 : decode cX7_line 39 = .ok (.getfield 14, 3) := dk_180 0 14 (dk_at dksX7_line_1 17 rfl rfl)
theorem dX7_line_42 : decode cX7_line 42 = .ok (.getfield 52, 3) := dk_180 0 52 (dk_at dksX7_line_1 20 rfl rfl)
theorem dX7_line_45 : decode cX7_line 45 = .ok (.bipush 6, 2) := dk_16 6 (dk_at dksX7_line_2 0 rfl rfl)
theorem dX7_line_47 : decode cX7_line 47 = .ok (.iconst 0, 1) := dk_3 (dk_at dksX7_line_2 2 rfl rfl)
theorem dX7_line_48 : decode cX7_line 48 = .ok (.bipush 20, 2) := dk_16 20 (dk_at dksX7_line_2 3 rfl rfl)
theorem dX7_line_50 : decode cX7_line 50 = .ok (.invokevirtual 46, 3) := dk_182 0 46 (dk_at dksX7_line_2 5 rfl rfl)
theorem dX7_line_53 : decode cX7_line 53 = .ok (.goto 120, 3) := dk_167 0 120 (dk_at dksX7_line_2 8 rfl rfl)
theorem dX7_line_56 : decode cX7_line 56 = .ok (.aload_n 0, 1) := dk_42 (dk_at dksX7_line_2 11 rfl rfl)
theorem dX7_line_57 : decode cX7_line 57 = .ok (.ldc 55, 2) := dk_18 55 (dk_at dksX7_line_2 12 rfl rfl)
theorem dX7_line_59 : decode cX7_line 59 = .ok (.invokevirtual 38, 3) := dk_182 0 38 (dk_at dksX7_line_2 14 rfl rfl)
theorem dX7_line_62 : decode cX7_line 62 = .ok (.ifCond .eq 10, 3) := dk_153 0 10 (dk_at dksX7_line_2 17 rfl rfl)
theorem dX7_line_65 : decode cX7_line 65 = .ok (.aload_n 0, 1) := dk_42 (dk_at dksX7_line_2 20 rfl rfl)
theorem dX7_line_66 : decode cX7_line 66 = .ok (.invokevirtual 57, 3) := dk_182 0 57 (dk_at dksX7_line_2 21 rfl rfl)
theorem dX7_line_69 : decode cX7_line 69 = .ok (.goto 104, 3) := dk_167 0 104 (dk_at dksX7_line_3 0 rfl rfl)
theorem dX7_line_72 : decode cX7_line 72 = .ok (.aload_n 0, 1) := dk_42 (dk_at dksX7_line_3 3 rfl rfl)
theorem dX7_line_73 : decode cX7_line 73 = .ok (.ldc 59, 2) := dk_18 59 (dk_at dksX7_line_3 4 rfl rfl)
theorem dX7_line_75 : decode cX7_line 75 = .ok (.invokevirtual 38, 3) := dk_182 0 38 (dk_at dksX7_line_3 6 rfl rfl)
theorem dX7_line_78 : decode cX7_line 78 = .ok (.ifCond .eq 10, 3) := dk_153 0 10 (dk_at dksX7_line_3 9 rfl rfl)
theorem dX7_line_81 : decode cX7_line 81 = .ok (.aload_n 0, 1) := dk_42 (dk_at dksX7_line_3 12 rfl rfl)
theorem dX7_line_82 : decode cX7_line 82 = .ok (.invokevirtual 61, 3) := dk_182 0 61 (dk_at dksX7_line_3 13 rfl rfl)
theorem dX7_line_85 : decode cX7_line 85 = .ok (.goto 88, 3) := dk_167 0 88 (dk_at dksX7_line_3 16 rfl rfl)
theorem dX7_line_88 : decode cX7_line 88 = .ok (.aload_n 0, 1) := dk_42 (dk_at dksX7_line_3 19 rfl rfl)
theorem dX7_line_89 : decode cX7_line 89 = .ok (.ldc 63, 2) := dk_18 63 (dk_at dksX7_line_3 20 rfl rfl)
theorem dX7_line_91 : decode cX7_line 91 = .ok (.invokevirtual 38, 3) := dk_182 0 38 (dk_at dksX7_line_4 0 rfl rfl)
theorem dX7_line_94 : decode cX7_line 94 = .ok (.ifCond .eq 21, 3) := dk_153 0 21 (dk_at dksX7_line_4 3 rfl rfl)
theorem dX7_line_97 : decode cX7_line 97 = .ok (.aload_n 0, 1) := dk_42 (dk_at dksX7_line_4 6 rfl rfl)
theorem dX7_line_98 : decode cX7_line 98 = .ok (.getfield 14, 3) := dk_180 0 14 (dk_at dksX7_line_4 7 rfl rfl)
theorem dX7_line_101 : decode cX7_line 101 = .ok (.aload_n 0, 1) := dk_42 (dk_at dksX7_line_4 10 rfl rfl)
theorem dX7_line_102 : decode cX7_line 102 = .ok (.iconst 0, 1) := dk_3 (dk_at dksX7_line_4 11 rfl rfl)
theorem dX7_line_103 : decode cX7_line 103 = .ok (.iconst 0, 1) := dk_3 (dk_at dksX7_line_4 12 rfl rfl)
theorem dX7_line_104 : decode cX7_line 104 = .ok (.bipush 40, 2) := dk_16 40 (dk_at dksX7_line_4 13 rfl rfl)
theorem dX7_line_106 : decode cX7_line 106 = .ok (.invokevirtual 65, 3) := dk_182 0 65 (dk_at dksX7_line_4 15 rfl rfl)
theorem dX7_line_109 : decode cX7_line 109 = .ok (.putfield 69, 3) := dk_181 0 69 (dk_at dksX7_line_4 18 rfl rfl)
theorem dX7_line_112 : decode cX7_line 112 = .ok (.goto 61, 3) := dk_167 0 61 (dk_at dksX7_line_4 21 rfl rfl)
theorem dX7_line_115 : decode cX7_line 115 = .ok (.aload_n 0, 1) := dk_42 (dk_at dksX7_line_5 0 rfl rfl)
theorem dX7_line_116 : decode cX7_line 116 = .ok (.ldc 71, 2) := dk_18 71 (dk_at dksX7_line_5 1 rfl rfl)
theorem dX7_line_118 : decode cX7_line 118 = .ok (.invokevirtual 38, 3) := dk_182 0 38 (dk_at dksX7_line_5 3 rfl rfl)
theorem dX7_line_121 : decode cX7_line 121 = .ok (.ifCond .eq 21, 3) := dk_153 0 21 (dk_at dksX7_line_5 6 rfl rfl)
theorem dX7_line_124 : decode cX7_line 124 = .ok (.aload_n 0, 1) := dk_42 (dk_at dksX7_line_5 9 rfl rfl)
theorem dX7_line_125 : decode cX7_line 125 = .ok (.getfield 14, 3) := dk_180 0 14 (dk_at dksX7_line_5 10 rfl rfl)
theorem dX7_line_128 : decode cX7_line 128 = .ok (.aload_n 0, 1) := dk_42 (dk_at dksX7_line_5 13 rfl rfl)
theorem dX7_line_129 : decode cX7_line 129 = .ok (.iconst 1, 1) := dk_4 (dk_at dksX7_line_5 14 rfl rfl)
theorem dX7_line_130 : decode cX7_line 130 = .ok (.iconst 1, 1) := dk_4 (dk_at dksX7_line_5 15 rfl rfl)
theorem dX7_line_131 : decode cX7_line 131 = .ok (.bipush 30, 2) := dk_16 30 (dk_at dksX7_line_5 16 rfl rfl)
theorem dX7_line_133 : decode cX7_line 133 = .ok (.invokevirtual 65, 3) := dk_182 0 65 (dk_at dksX7_line_5 18 rfl rfl)
theorem dX7_line_136 : decode cX7_line 136 = .ok (.putfield 73, 3) := dk_181 0 73 (dk_at dksX7_line_5 21 rfl rfl)
theorem dX7_line_139 : decode cX7_line 139 = .ok (.goto 34, 3) := dk_167 0 34 (dk_at dksX7_line_6 0 rfl rfl)
theorem dX7_line_142 : decode cX7_line 142 = .ok (.aload_n 0, 1) := dk_42 (dk_at dksX7_line_6 3 rfl rfl)
theorem dX7_line_143 : decode cX7_line 143 = .ok (.ldc 75, 2) := dk_18 75 (dk_at dksX7_line_6 4 rfl rfl)
theorem dX7_line_145 : decode cX7_line 145 = .ok (.invokevirtual 38, 3) := dk_182 0 38 (dk_at dksX7_line_6 6 rfl rfl)
theorem dX7_line_148 : decode cX7_line 148 = .ok (.ifCond .eq 21, 3) := dk_153 0 21 (dk_at dksX7_line_6 9 rfl rfl)
theorem dX7_line_151 : decode cX7_line 151 = .ok (.aload_n 0, 1) := dk_42 (dk_at dksX7_line_6 12 rfl rfl)
theorem dX7_line_152 : decode cX7_line 152 = .ok (.getfield 14, 3) := dk_180 0 14 (dk_at dksX7_line_6 13 rfl rfl)
theorem dX7_line_155 : decode cX7_line 155 = .ok (.aload_n 0, 1) := dk_42 (dk_at dksX7_line_6 16 rfl rfl)
theorem dX7_line_156 : decode cX7_line 156 = .ok (.iconst 2, 1) := dk_5 (dk_at dksX7_line_6 17 rfl rfl)
theorem dX7_line_157 : decode cX7_line 157 = .ok (.iconst 0, 1) := dk_3 (dk_at dksX7_line_6 18 rfl rfl)
theorem dX7_line_158 : decode cX7_line 158 = .ok (.bipush 9, 2) := dk_16 9 (dk_at dksX7_line_6 19 rfl rfl)
theorem dX7_line_160 : decode cX7_line 160 = .ok (.invokevirtual 65, 3) := dk_182 0 65 (dk_at dksX7_line_6 21 rfl rfl)
theorem dX7_line_163 : decode cX7_line 163 = .ok (.putfield 77, 3) := dk_181 0 77 (dk_at dksX7_line_7 0 rfl rfl)
theorem dX7_line_166 : decode cX7_line 166 = .ok (.goto 7, 3) := dk_167 0 7 (dk_at dksX7_line_7 3 rfl rfl)
theorem dX7_line_169 : decode cX7_line 169 = .ok (.aload_n 0, 1) := dk_42 (dk_at dksX7_line_7 6 rfl rfl)
theorem dX7_line_170 : decode cX7_line 170 = .ok (.invokevirtual 79, 3) := dk_182 0 79 (dk_at dksX7_line_7 7 rfl rfl)
theorem dX7_line_173 : decode cX7_line 173 = .ok (.return_, 1) := dk_177 (dk_at dksX7_line_7 10 rfl rfl)
theorem se_HeldCoats_CapitalReader_limit___V_HeldCoats_CapitalReader : ∀ c ∈ ([6] : List Nat), ∃ q : vw_C, cz_cl[c]? = some q ∧ Cond.selects q.1 (⟨"HeldCoats$CapitalReader", "limit", "()V"⟩ : MethodName) (⟨"HeldCoats$CapitalReader", "limit", "()V"⟩ : MethodName) ∈ lw_all := List.forall_mem_cons.mpr ⟨⟨_, cz_cl6, qs13⟩, fun _ h => absurd h List.not_mem_nil⟩
theorem md_X7_limit : cz_md yX7_limit 1 (ws_ yX7_limit cX7_limit 1 ((Option.none : Option Jvm.ClassFile.FieldType))) 0 := ⟨cz_ws_code q1066, q125, ⟨by decide, by decide, by decide +kernel⟩, by decide⟩
theorem fw_X7_77 : cz_FW "HeldCoats$CapitalReader" 77 [(1, 4)] "I" := ⟨"HeldCoats$Capital", "moths", Or.inr ⟨_, q212⟩, List.forall_mem_cons.mpr ⟨⟨RX2, TX2, 11, rfl, by decide, rfl, rfl, Or.inl rfl⟩, fun _ h => absurd h List.not_mem_nil⟩, by decide⟩
theorem fp_X7_m_1_4 {nm : String} : cz_FP "HeldCoats$CapitalReader" nm [(1, 4)] := List.forall_mem_cons.mpr ⟨⟨RX2, TX2, 11, rfl, Or.inl rfl⟩, fun _ h => absurd h List.not_mem_nil⟩
theorem fw_X7_73 : cz_FW "HeldCoats$CapitalReader" 73 [(1, 3)] "I" := ⟨"HeldCoats$Capital", "holds", Or.inr ⟨_, q208⟩, List.forall_mem_cons.mpr ⟨⟨RX2, TX2, 11, rfl, by decide, rfl, rfl, Or.inl rfl⟩, fun _ h => absurd h List.not_mem_nil⟩, by decide⟩
theorem fp_X7_m_1_3 {nm : String} : cz_FP "HeldCoats$CapitalReader" nm [(1, 3)] := List.forall_mem_cons.mpr ⟨⟨RX2, TX2, 11, rfl, Or.inl rfl⟩, fun _ h => absurd h List.not_mem_nil⟩
theorem fw_X7_69 : cz_FW "HeldCoats$CapitalReader" 69 [(1, 2)] "I" := ⟨"HeldCoats$Capital", "summer", Or.inr ⟨_, q204⟩, List.forall_mem_cons.mpr ⟨⟨RX2, TX2, 11, rfl, by decide, rfl, rfl, Or.inl rfl⟩, fun _ h => absurd h List.not_mem_nil⟩, by decide⟩
theorem fp_X7_m_1_2 {nm : String} : cz_FP "HeldCoats$CapitalReader" nm [(1, 2)] := List.forall_mem_cons.mpr ⟨⟨RX2, TX2, 11, rfl, Or.inl rfl⟩, fun _ h => absurd h List.not_mem_nil⟩
theorem se_HeldCoats_CapitalReader_cold___V_HeldCoats_CapitalReader : ∀ c ∈ ([6] : List Nat), ∃ q : vw_C, cz_cl[c]? = some q ∧ Cond.selects q.1 (⟨"HeldCoats$CapitalReader", "cold", "()V"⟩ : MethodName) (⟨"HeldCoats$CapitalReader", "cold", "()V"⟩ : MethodName) ∈ lw_all := List.forall_mem_cons.mpr ⟨⟨_, cz_cl6, qs11⟩, fun _ h => absurd h List.not_mem_nil⟩
theorem md_X7_cold : cz_md yX7_cold 3 (ws_ yX7_cold cX7_cold 3 ((Option.none : Option Jvm.ClassFile.FieldType))) 0 := ⟨cz_ws_code q1048, q125, ⟨by decide, by decide, by decide +kernel⟩, by decide⟩
theorem se_HeldCoats_CapitalReader_coat___V_HeldCoats_CapitalReader : ∀ c ∈ ([6] : List Nat), ∃ q : vw_C, cz_cl[c]? = some q ∧ Cond.selects q.1 (⟨"HeldCoats$CapitalReader", "coat", "()V"⟩ : MethodName) (⟨"HeldCoats$CapitalReader", "coat", "()V"⟩ : MethodName) ∈ lw_all := List.forall_mem_cons.mpr ⟨⟨_, cz_cl6, qs10⟩, fun _ h => absurd h List.not_mem_nil⟩
theorem md_X7_coat : cz_md yX7_coat 4 (ws_ yX7_coat cX7_coat 4 ((Option.none : Option Jvm.ClassFile.FieldType))) 0 := ⟨cz_ws_code q1012, q125, ⟨by decide, by decide, by decide +kernel⟩, by decide⟩
theorem se_HeldCoats_CapitalReader_told__Ljava_util_ArrayList_III_V_HeldCoats_CapitalReader : ∀ c ∈ ([6] : List Nat), ∃ q : vw_C, cz_cl[c]? = some q ∧ Cond.selects q.1 (⟨"HeldCoats$CapitalReader", "told", "(Ljava/util/ArrayList;III)V"⟩ : MethodName) (⟨"HeldCoats$CapitalReader", "told", "(Ljava/util/ArrayList;III)V"⟩ : MethodName) ∈ lw_all := List.forall_mem_cons.mpr ⟨⟨_, cz_cl6, qs3⟩, fun _ h => absurd h List.not_mem_nil⟩
theorem md_X7_told : cz_md yX7_told 6 (ws_ yX7_told cX7_told 6 ((Option.none : Option Jvm.ClassFile.FieldType))) 4 := ⟨cz_ws_code q739, q125, ⟨by decide, by decide, by decide +kernel⟩, by decide⟩
set_option maxHeartbeats 4000000 in
set_option maxRecDepth 100000 in
noncomputable def fn_X7_line (l0 : Option Nat) (h : cz_H) : cz_Z := cz_rc h l0 [6] (cz_cI (fn_X6_is l0 (h.1.2.2.2 1) h) (fun x8 h7 => (if x8 = 0 then cz_rc h7 l0 [6] (cz_cI (fn_X6_is l0 (h7.1.2.2.2 4) h7) (fun x16 h15 => (if x16 = 0 then cz_rc h15 l0 [6] (cz_cI (fn_X6_is l0 (h15.1.2.2.2 5) h15) (fun x24 h23 => (if x24 = 0 then cz_rc h23 l0 [6] (cz_cI (fn_X6_is l0 (h23.1.2.2.2 6) h23) (fun x32 h31 => (if x32 = 0 then cz_rc h31 l0 [6] (cz_cI (fn_X6_is l0 (h31.1.2.2.2 7) h31) (fun x40 h39 => (if x40 = 0 then cz_rc h39 l0 [6] (cz_cI (fn_X6_is l0 (h39.1.2.2.2 8) h39) (fun x48 h47 => (if x48 = 0 then cz_rc h47 l0 [6] (cz_cI (fn_X6_is l0 (h47.1.2.2.2 9) h47) (fun x56 h55 => (if x56 = 0 then cz_rc h55 l0 [6] (cz_xV (fn_X7_limit l0 h55) (fun q64 h65 => cz_thr q64 h65) (fun h63 => some (.inl none, h63))) else cz_getR h55 l0 [(6, 9)] (fun r66 => cz_rc h55 l0 [6] (cz_xI (fn_X7_once l0 2 0 9 h55) (fun q74 h75 => cz_thr q74 h75) (fun x76 h73 => cz_put h73 r66 [(1, 4)] (cz_i x76) (fun h77 => some (.inl none, h77)))))))) else cz_getR h47 l0 [(6, 9)] (fun r78 => cz_rc h47 l0 [6] (cz_xI (fn_X7_once l0 1 1 30 h47) (fun q86 h87 => cz_thr q86 h87) (fun x88 h85 => cz_put h85 r78 [(1, 3)] (cz_i x88) (fun h89 => some (.inl none, h89)))))))) else cz_getR h39 l0 [(6, 9)] (fun r90 => cz_rc h39 l0 [6] (cz_xI (fn_X7_once l0 0 0 40 h39) (fun q98 h99 => cz_thr q98 h99) (fun x100 h97 => cz_put h97 r90 [(1, 2)] (cz_i x100) (fun h101 => some (.inl none, h101)))))))) else cz_rc h31 l0 [6] (cz_xV (fn_X7_cold l0 h31) (fun q109 h110 => cz_thr q109 h110) (fun h108 => some (.inl none, h108)))))) else cz_rc h23 l0 [6] (cz_xV (fn_X7_coat l0 h23) (fun q118 h119 => cz_thr q118 h119) (fun h117 => some (.inl none, h117)))))) else cz_getR h15 l0 [(6, 9)] (fun r120 => cz_getR h15 r120 [(1, 7)] (fun r121 => cz_rc h15 l0 [6] (cz_xV (fn_X7_told l0 r121 6 0 20 h15) (fun q129 h130 => cz_thr q129 h130) (fun h128 => some (.inl none, h128)))))))) else cz_getR h7 l0 [(6, 9)] (fun r131 => cz_getR h7 r131 [(1, 6)] (fun r132 => cz_rc h7 l0 [6] (cz_xV (fn_X7_told l0 r132 8 1 99 h7) (fun q140 h141 => cz_thr q140 h141) (fun h139 => some (.inl none, h139))))))))
set_option maxHeartbeats 4000000 in
set_option maxRecDepth 100000 in
theorem wk_X7_line {K : cz_K} {D : cz_D} {h0 : cz_H} {oh : cz_O × cz_H} {l0 : Option Nat} {h : cz_H} (S : cz_S K D h0 cX7_line 1 "HeldCoats$CapitalReader" ((Option.none : Option Jvm.ClassFile.FieldType)) "line" ([])) : cz_T K D 12 h0 oh 1 (fn_X7_line l0 h) h 0 [(0, cz_r l0)] [] := by
  unfold fn_X7_line
  refine ct_aload_n (k := 0) S dX7_line_0 rfl rfl ?_
  refine ct_ldcS (i := 1) S rfl dX7_line_1 ?_
  refine ct_rc (fun b1 ci2 V3 hb4 hc5 hi6 => ?_)
  refine ct_cI (st := []) (cg_up (owner := "HeldCoats$Reader") (av := [cz_r (h.1.2.2.2 1)]) S hb4 hc5 hi6 (fun _ e => mt_X6_is e) q727 q722 q723 (Or.inl q724) ⟨by decide, by decide⟩ q726 q124 nh_HeldCoats_CapitalReader_is__Ljava_lang_String__Z se_HeldCoats_CapitalReader_is__Ljava_lang_String__Z_HeldCoats_Reader (by decide) (by decide) (Nat.le_of_ble_eq_true rfl) rfl dX7_line_3) (fun x8 h7 => ?_)
  refine ct_if_eq (tgt := 28) S dX7_line_6 (by decide) ?_ ?_
  · refine ct_aload_n (k := 0) S dX7_line_28 rfl rfl ?_
    refine ct_ldcS (i := 4) S rfl dX7_line_29 ?_
    refine ct_rc (fun b9 ci10 V11 hb12 hc13 hi14 => ?_)
    refine ct_cI (st := []) (cg_up (owner := "HeldCoats$Reader") (av := [cz_r (h7.1.2.2.2 4)]) S hb12 hc13 hi14 (fun _ e => mt_X6_is e) q727 q722 q723 (Or.inl q724) ⟨by decide, by decide⟩ q726 q124 nh_HeldCoats_CapitalReader_is__Ljava_lang_String__Z se_HeldCoats_CapitalReader_is__Ljava_lang_String__Z_HeldCoats_Reader (by decide) (by decide) (Nat.le_of_ble_eq_true rfl) rfl dX7_line_31) (fun x16 h15 => ?_)
    refine ct_if_eq (tgt := 56) S dX7_line_34 (by decide) ?_ ?_
    · refine ct_aload_n (k := 0) S dX7_line_56 rfl rfl ?_
      refine ct_ldcS (i := 5) S rfl dX7_line_57 ?_
      refine ct_rc (fun b17 ci18 V19 hb20 hc21 hi22 => ?_)
      refine ct_cI (st := []) (cg_up (owner := "HeldCoats$Reader") (av := [cz_r (h15.1.2.2.2 5)]) S hb20 hc21 hi22 (fun _ e => mt_X6_is e) q727 q722 q723 (Or.inl q724) ⟨by decide, by decide⟩ q726 q124 nh_HeldCoats_CapitalReader_is__Ljava_lang_String__Z se_HeldCoats_CapitalReader_is__Ljava_lang_String__Z_HeldCoats_Reader (by decide) (by decide) (Nat.le_of_ble_eq_true rfl) rfl dX7_line_59) (fun x24 h23 => ?_)
      refine ct_if_eq (tgt := 72) S dX7_line_62 (by decide) ?_ ?_
      · refine ct_aload_n (k := 0) S dX7_line_72 rfl rfl ?_
        refine ct_ldcS (i := 6) S rfl dX7_line_73 ?_
        refine ct_rc (fun b25 ci26 V27 hb28 hc29 hi30 => ?_)
        refine ct_cI (st := []) (cg_up (owner := "HeldCoats$Reader") (av := [cz_r (h23.1.2.2.2 6)]) S hb28 hc29 hi30 (fun _ e => mt_X6_is e) q727 q722 q723 (Or.inl q724) ⟨by decide, by decide⟩ q726 q124 nh_HeldCoats_CapitalReader_is__Ljava_lang_String__Z se_HeldCoats_CapitalReader_is__Ljava_lang_String__Z_HeldCoats_Reader (by decide) (by decide) (Nat.le_of_ble_eq_true rfl) rfl dX7_line_75) (fun x32 h31 => ?_)
        refine ct_if_eq (tgt := 88) S dX7_line_78 (by decide) ?_ ?_
        · refine ct_aload_n (k := 0) S dX7_line_88 rfl rfl ?_
          refine ct_ldcS (i := 7) S rfl dX7_line_89 ?_
          refine ct_rc (fun b33 ci34 V35 hb36 hc37 hi38 => ?_)
          refine ct_cI (st := []) (cg_up (owner := "HeldCoats$Reader") (av := [cz_r (h31.1.2.2.2 7)]) S hb36 hc37 hi38 (fun _ e => mt_X6_is e) q727 q722 q723 (Or.inl q724) ⟨by decide, by decide⟩ q726 q124 nh_HeldCoats_CapitalReader_is__Ljava_lang_String__Z se_HeldCoats_CapitalReader_is__Ljava_lang_String__Z_HeldCoats_Reader (by decide) (by decide) (Nat.le_of_ble_eq_true rfl) rfl dX7_line_91) (fun x40 h39 => ?_)
          refine ct_if_eq (tgt := 115) S dX7_line_94 (by decide) ?_ ?_
          · refine ct_aload_n (k := 0) S dX7_line_115 rfl rfl ?_
            refine ct_ldcS (i := 8) S rfl dX7_line_116 ?_
            refine ct_rc (fun b41 ci42 V43 hb44 hc45 hi46 => ?_)
            refine ct_cI (st := []) (cg_up (owner := "HeldCoats$Reader") (av := [cz_r (h39.1.2.2.2 8)]) S hb44 hc45 hi46 (fun _ e => mt_X6_is e) q727 q722 q723 (Or.inl q724) ⟨by decide, by decide⟩ q726 q124 nh_HeldCoats_CapitalReader_is__Ljava_lang_String__Z se_HeldCoats_CapitalReader_is__Ljava_lang_String__Z_HeldCoats_Reader (by decide) (by decide) (Nat.le_of_ble_eq_true rfl) rfl dX7_line_118) (fun x48 h47 => ?_)
            refine ct_if_eq (tgt := 142) S dX7_line_121 (by decide) ?_ ?_
            · refine ct_aload_n (k := 0) S dX7_line_142 rfl rfl ?_
              refine ct_ldcS (i := 9) S rfl dX7_line_143 ?_
              refine ct_rc (fun b49 ci50 V51 hb52 hc53 hi54 => ?_)
              refine ct_cI (st := []) (cg_up (owner := "HeldCoats$Reader") (av := [cz_r (h47.1.2.2.2 9)]) S hb52 hc53 hi54 (fun _ e => mt_X6_is e) q727 q722 q723 (Or.inl q724) ⟨by decide, by decide⟩ q726 q124 nh_HeldCoats_CapitalReader_is__Ljava_lang_String__Z se_HeldCoats_CapitalReader_is__Ljava_lang_String__Z_HeldCoats_Reader (by decide) (by decide) (Nat.le_of_ble_eq_true rfl) rfl dX7_line_145) (fun x56 h55 => ?_)
              refine ct_if_eq (tgt := 169) S dX7_line_148 (by decide) ?_ ?_
              · refine ct_aload_n (k := 0) S dX7_line_169 rfl rfl ?_
                refine ct_rc (fun b57 ci58 V59 hb60 hc61 hi62 => ?_)
                refine ct_xV (st := []) (cg_virtual (av := []) S hb60 hc61 hi62 (fun _ e => mt_X7_limit e) md_X7_limit q1063 q1065 se_HeldCoats_CapitalReader_limit___V_HeldCoats_CapitalReader (by decide) (Nat.le_of_ble_eq_true rfl) rfl dX7_line_170) (fun q64 h65 => ?_) (fun h63 => ?_)
                · exact ct_out S (fun x hx => by cases hx)
                · exact ct_vret S rfl dX7_line_173
              · refine ct_aload_n (k := 0) S dX7_line_151 rfl rfl ?_
                refine ct_getR S fw_X7_14 dX7_line_152 (fun r66 => ?_)
                refine ct_aload_n (k := 0) S dX7_line_155 rfl rfl ?_
                refine ct_iconst (v := 2) S dX7_line_156 kI_2 ?_
                refine ct_iconst (v := 0) S dX7_line_157 kI_0 ?_
                refine ct_bipush (v := 9) S dX7_line_158 kB_9 ?_
                refine ct_rc (fun b67 ci68 V69 hb70 hc71 hi72 => ?_)
                refine ct_xI (st := [cz_r r66]) (cg_virtual (av := [cz_i 2, cz_i 0, cz_i 9]) S hb70 hc71 hi72 (fun _ e => mt_X7_once e) md_X7_once q1054 q1056 se_HeldCoats_CapitalReader_once__III_I_HeldCoats_CapitalReader (by decide) (Nat.le_of_ble_eq_true rfl) rfl dX7_line_160) (fun q74 h75 => ?_) (fun x76 h73 => ?_)
                · exact ct_out S (fun x hx => by cases hx)
                · refine ct_put S fw_X7_77 fp_X7_m_1_4 (cz_fits_i pd_I) dX7_line_163 (fun h77 => ?_)
                  refine ct_goto (tgt := 173) S dX7_line_166 (by decide) ?_
                  exact ct_vret S rfl dX7_line_173
            · refine ct_aload_n (k := 0) S dX7_line_124 rfl rfl ?_
              refine ct_getR S fw_X7_14 dX7_line_125 (fun r78 => ?_)
              refine ct_aload_n (k := 0) S dX7_line_128 rfl rfl ?_
              refine ct_iconst (v := 1) S dX7_line_129 kI_1 ?_
              refine ct_iconst (v := 1) S dX7_line_130 kI_1 ?_
              refine ct_bipush (v := 30) S dX7_line_131 kB_30 ?_
              refine ct_rc (fun b79 ci80 V81 hb82 hc83 hi84 => ?_)
              refine ct_xI (st := [cz_r r78]) (cg_virtual (av := [cz_i 1, cz_i 1, cz_i 30]) S hb82 hc83 hi84 (fun _ e => mt_X7_once e) md_X7_once q1054 q1056 se_HeldCoats_CapitalReader_once__III_I_HeldCoats_CapitalReader (by decide) (Nat.le_of_ble_eq_true rfl) rfl dX7_line_133) (fun q86 h87 => ?_) (fun x88 h85 => ?_)
              · exact ct_out S (fun x hx => by cases hx)
              · refine ct_put S fw_X7_73 fp_X7_m_1_3 (cz_fits_i pd_I) dX7_line_136 (fun h89 => ?_)
                refine ct_goto (tgt := 173) S dX7_line_139 (by decide) ?_
                exact ct_vret S rfl dX7_line_173
          · refine ct_aload_n (k := 0) S dX7_line_97 rfl rfl ?_
            refine ct_getR S fw_X7_14 dX7_line_98 (fun r90 => ?_)
            refine ct_aload_n (k := 0) S dX7_line_101 rfl rfl ?_
            refine ct_iconst (v := 0) S dX7_line_102 kI_0 ?_
            refine ct_iconst (v := 0) S dX7_line_103 kI_0 ?_
            refine ct_bipush (v := 40) S dX7_line_104 kB_40 ?_
            refine ct_rc (fun b91 ci92 V93 hb94 hc95 hi96 => ?_)
            refine ct_xI (st := [cz_r r90]) (cg_virtual (av := [cz_i 0, cz_i 0, cz_i 40]) S hb94 hc95 hi96 (fun _ e => mt_X7_once e) md_X7_once q1054 q1056 se_HeldCoats_CapitalReader_once__III_I_HeldCoats_CapitalReader (by decide) (Nat.le_of_ble_eq_true rfl) rfl dX7_line_106) (fun q98 h99 => ?_) (fun x100 h97 => ?_)
            · exact ct_out S (fun x hx => by cases hx)
            · refine ct_put S fw_X7_69 fp_X7_m_1_2 (cz_fits_i pd_I) dX7_line_109 (fun h101 => ?_)
              refine ct_goto (tgt := 173) S dX7_line_112 (by decide) ?_
              exact ct_vret S rfl dX7_line_173
        · refine ct_aload_n (k := 0) S dX7_line_81 rfl rfl ?_
          refine ct_rc (fun b102 ci103 V104 hb105 hc106 hi107 => ?_)
          refine ct_xV (st := []) (cg_virtual (av := []) S hb105 hc106 hi107 (fun _ e => mt_X7_cold e) md_X7_cold q1045 q1047 se_HeldCoats_CapitalReader_cold___V_HeldCoats_CapitalReader (by decide) (Nat.le_of_ble_eq_true rfl) rfl dX7_line_82) (fun q109 h110 => ?_) (fun h108 => ?_)
          · exact ct_out S (fun x hx => by cases hx)
          · refine ct_goto (tgt := 173) S dX7_line_85 (by decide) ?_
            exact ct_vret S rfl dX7_line_173
      · refine ct_aload_n (k := 0) S dX7_line_65 rfl rfl ?_
        refine ct_rc (fun b111 ci112 V113 hb114 hc115 hi116 => ?_)
        refine ct_xV (st := []) (cg_virtual (av := []) S hb114 hc115 hi116 (fun _ e => mt_X7_coat e) md_X7_coat q1009 q1011 se_HeldCoats_CapitalReader_coat___V_HeldCoats_CapitalReader (by decide) (Nat.le_of_ble_eq_true rfl) rfl dX7_line_66) (fun q118 h119 => ?_) (fun h117 => ?_)
        · exact ct_out S (fun x hx => by cases hx)
        · refine ct_goto (tgt := 173) S dX7_line_69 (by decide) ?_
          exact ct_vret S rfl dX7_line_173
    · refine ct_aload_n (k := 0) S dX7_line_37 rfl rfl ?_
      refine ct_aload_n (k := 0) S dX7_line_38 rfl rfl ?_
      refine ct_getR S fw_X7_14 dX7_line_39 (fun r120 => ?_)
      refine ct_getR S fw_X7_52 dX7_line_42 (fun r121 => ?_)
      refine ct_bipush (v := 6) S dX7_line_45 kB_6 ?_
      refine ct_iconst (v := 0) S dX7_line_47 kI_0 ?_
      refine ct_bipush (v := 20) S dX7_line_48 kB_20 ?_
      refine ct_rc (fun b122 ci123 V124 hb125 hc126 hi127 => ?_)
      refine ct_xV (st := []) (cg_virtual (av := [cz_r r121, cz_i 6, cz_i 0, cz_i 20]) S hb125 hc126 hi127 (fun _ e => mt_X7_told e) md_X7_told q736 q738 se_HeldCoats_CapitalReader_told__Ljava_util_ArrayList_III_V_HeldCoats_CapitalReader (by decide) (Nat.le_of_ble_eq_true rfl) rfl dX7_line_50) (fun q129 h130 => ?_) (fun h128 => ?_)
      · exact ct_out S (fun x hx => by cases hx)
      · refine ct_goto (tgt := 173) S dX7_line_53 (by decide) ?_
        exact ct_vret S rfl dX7_line_173
  · refine ct_aload_n (k := 0) S dX7_line_9 rfl rfl ?_
    refine ct_aload_n (k := 0) S dX7_line_10 rfl rfl ?_
    refine ct_getR S fw_X7_14 dX7_line_11 (fun r131 => ?_)
    refine ct_getR S fw_X7_42 dX7_line_14 (fun r132 => ?_)
    refine ct_bipush (v := 8) S dX7_line_17 kB_8 ?_
    refine ct_iconst (v := 1) S dX7_line_19 kI_1 ?_
    refine ct_bipush (v := 99) S dX7_line_20 kB_99 ?_
    refine ct_rc (fun b133 ci134 V135 hb136 hc137 hi138 => ?_)
    refine ct_xV (st := []) (cg_virtual (av := [cz_r r132, cz_i 8, cz_i 1, cz_i 99]) S hb136 hc137 hi138 (fun _ e => mt_X7_told e) md_X7_told q736 q738 se_HeldCoats_CapitalReader_told__Ljava_util_ArrayList_III_V_HeldCoats_CapitalReader (by decide) (Nat.le_of_ble_eq_true rfl) rfl dX7_line_22) (fun q140 h141 => ?_) (fun h139 => ?_)
    · exact ct_out S (fun x hx => by cases hx)
    · refine ct_goto (tgt := 173) S dX7_line_25 (by decide) ?_
      exact ct_vret S rfl dX7_line_173
theorem mt_X7_line {l : Launch} {D : cz_D} {l0 : Option Nat} {h : cz_H} {oh : cz_O × cz_H} (hz : fn_X7_line l0 h = some oh) : cz_M l D yX7_line (ws_ yX7_line cX7_line 1 ((Option.none : Option Jvm.ClassFile.FieldType))) 12 [cz_r l0] h oh := cz_met (plainFor_of_name (by decide)) (Nat.le_of_ble_eq_true rfl) hz (fun K hl S => wk_X7_line S)
/-! HeldCoats$CapitalReader.read()LHeldCoats$Capital; -/
def dkwX7_read_1 : List UInt8 := [180, 0, 33, 4, 96, 181, 0, 33, 167, 255, 228, 42, 180, 0, 14, 176]
abbrev dktX7_read_1 : List UInt8 := dkwX7_read_1 ++ []
def dkwX7_read_0 : List UInt8 := [42, 182, 0, 20, 42, 180, 0, 23, 153, 0, 27, 42, 182, 0, 27, 42, 182, 0, 30, 42, 180, 0, 14, 89]
abbrev dktX7_read_0 : List UInt8 := dkwX7_read_0 ++ dktX7_read_1
theorem dksX7_read_0 : cX7_read.data.toList.drop 0 = dktX7_read_0 := by decide +kernel
theorem dksX7_read_1 : cX7_read.data.toList.drop 24 = dktX7_read_1 := dk_seg dksX7_read_0 24 rfl rfl
theorem dX7_read_0 : decode cX7_read 0 = .ok (.aload_n 0, 1) := dk_42 (dk_at dksX7_read_0 0 rfl rfl)
theorem dX7_read_1 : decode cX7_read 1 = .ok (.invokevirtual 20, 3) := dk_182 0 20 (dk_at dksX7_read_0 1 rfl rfl)
theorem dX7_read_4 : decode cX7_read 4 = .ok (.aload_n 0, 1) := dk_42 (dk_at dksX7_read_0 4 rfl rfl)
theorem dX7_read_5 : decode cX7_read 5 = .ok (.getfield 23, 3) := dk_180 0 23 (dk_at dksX7_read_0 5 rfl rfl)
theorem dX7_read_8 : decode cX7_read 8 = .ok (.ifCond .eq 27, 3) := dk_153 0 27 (dk_at dksX7_read_0 8 rfl rfl)
theorem dX7_read_11 : decode cX7_read 11 = .ok (.aload_n 0, 1) := dk_42 (dk_at dksX7_read_0 11 rfl rfl)
theorem dX7_read_12 : decode cX7_read 12 = .ok (.invokevirtual 27, 3) := dk_182 0 27 (dk_at dksX7_read_0 12 rfl rfl)
theorem dX7_read_15 : decode cX7_read 15 = .ok (.aload_n 0, 1) := dk_42 (dk_at dksX7_read_0 15 rfl rfl)
theorem dX7_read_16 : decode cX7_read 16 = .ok (.invokevirtual 30, 3) := dk_182 0 30 (dk_at dksX7_read_0 16 rfl rfl)
theorem dX7_read_19 : decode cX7_read 19 = .ok (.aload_n 0, 1) := dk_42 (dk_at dksX7_read_0 19 rfl rfl)
theorem dX7_read_20 : decode cX7_read 20 = .ok (.getfield 14, 3) := dk_180 0 14 (dk_at dksX7_read_0 20 rfl rfl)
theorem dX7_read_23 : decode cX7_read 23 = .ok (.dup, 1) := dk_89 (dk_at dksX7_read_0 23 rfl rfl)
theorem dX7_read_24 : decode cX7_read 24 = .ok (.getfield 33, 3) := dk_180 0 33 (dk_at dksX7_read_1 0 rfl rfl)
theorem dX7_read_27 : decode cX7_read 27 = .ok (.iconst 1, 1) := dk_4 (dk_at dksX7_read_1 3 rfl rfl)
theorem dX7_read_28 : decode cX7_read 28 = .ok (.iadd, 1) := dk_96 (dk_at dksX7_read_1 4 rfl rfl)
theorem dX7_read_29 : decode cX7_read 29 = .ok (.putfield 33, 3) := dk_181 0 33 (dk_at dksX7_read_1 5 rfl rfl)
theorem dX7_read_32 : decode cX7_read 32 = .ok (.goto (-28), 3) := dk_167 255 228 (dk_at dksX7_read_1 8 rfl rfl)
theorem dX7_read_35 : decode cX7_read 35 = .ok (.aload_n 0, 1) := dk_42 (dk_at dksX7_read_1 11 rfl rfl)
theorem dX7_read_36 : decode cX7_read 36 = .ok (.getfield 14, 3) := dk_180 0 14 (dk_at dksX7_read_1 12 rfl rfl)
theorem dX7_read_39 : decode cX7_read 39 = .ok (.areturn, 1) := dk_176 (dk_at dksX7_read_1 15 rfl rfl)
theorem fw_X7_23 : cz_FW "HeldCoats$CapitalReader" 23 [(6, 4)] "I" := ⟨"HeldCoats$CapitalReader", "kind", Or.inl q474, List.forall_mem_cons.mpr ⟨⟨RX7, TX7, 11, rfl, by decide, rfl, rfl, Or.inr q475⟩, fun _ h => absurd h List.not_mem_nil⟩, by decide⟩
theorem fw_X7_33 : cz_FW "HeldCoats$CapitalReader" 33 [(1, 0)] "I" := ⟨"HeldCoats$Capital", "lines", Or.inr ⟨_, q200⟩, List.forall_mem_cons.mpr ⟨⟨RX2, TX2, 11, rfl, by decide, rfl, rfl, Or.inl rfl⟩, fun _ h => absurd h List.not_mem_nil⟩, by decide⟩
theorem se_HeldCoats_CapitalReader_line___V_HeldCoats_CapitalReader : ∀ c ∈ ([6] : List Nat), ∃ q : vw_C, cz_cl[c]? = some q ∧ Cond.selects q.1 (⟨"HeldCoats$CapitalReader", "line", "()V"⟩ : MethodName) (⟨"HeldCoats$CapitalReader", "line", "()V"⟩ : MethodName) ∈ lw_all := List.forall_mem_cons.mpr ⟨⟨_, cz_cl6, qs2⟩, fun _ h => absurd h List.not_mem_nil⟩
theorem md_X7_line : cz_md yX7_line 1 (ws_ yX7_line cX7_line 1 ((Option.none : Option Jvm.ClassFile.FieldType))) 0 := ⟨cz_ws_code q720, q125, ⟨by decide, by decide, by decide +kernel⟩, by decide⟩
theorem se_HeldCoats_CapitalReader_end___V_HeldCoats_Reader : ∀ c ∈ ([6] : List Nat), ∃ q : vw_C, cz_cl[c]? = some q ∧ Cond.selects q.1 (⟨"HeldCoats$CapitalReader", "end", "()V"⟩ : MethodName) (⟨"HeldCoats$Reader", "end", "()V"⟩ : MethodName) ∈ lw_all := List.forall_mem_cons.mpr ⟨⟨_, cz_cl6, q1071⟩, fun _ h => absurd h List.not_mem_nil⟩
theorem nh_HeldCoats_CapitalReader_end___V : cz_nh ⟨"HeldCoats$CapitalReader", "end", "()V"⟩ 0 := ⟨by decide, by decide, by decide +kernel⟩
theorem fp_X7_m_1_0 {nm : String} : cz_FP "HeldCoats$CapitalReader" nm [(1, 0)] := List.forall_mem_cons.mpr ⟨⟨RX2, TX2, 11, rfl, Or.inl rfl⟩, fun _ h => absurd h List.not_mem_nil⟩
set_option maxHeartbeats 4000000 in
set_option maxRecDepth 100000 in
noncomputable def fn_X7_read_4 (l0 : Option Nat) (k0 : cz_H → cz_Z) : Nat → cz_H → cz_Z
  | 0, _ => none
  | n + 1, h => cz_getI h l0 [(6, 4)] (fun x8 => (if x8 = 0 then k0 h else cz_rc h l0 [6] (cz_xV (fn_X7_line l0 h) (fun q16 h17 => cz_thr q16 h17) (fun h15 => cz_rc h15 l0 [6] (cz_xV (fn_X6_end l0 h15) (fun q25 h26 => cz_thr q25 h26) (fun h24 => cz_getR h24 l0 [(6, 9)] (fun r27 => cz_getI h24 r27 [(1, 0)] (fun x28 => cz_put h24 r27 [(1, 0)] (cz_i (x28 + 1)) (fun h29 => fn_X7_read_4 l0 k0 n h29)))))))))
set_option maxHeartbeats 4000000 in
set_option maxRecDepth 100000 in
theorem wk_X7_read_4 {K : cz_K} {D : cz_D} {h0 : cz_H} {oh : cz_O × cz_H} {l0 : Option Nat} {k0 : cz_H → cz_Z} (S : cz_S K D h0 cX7_read 1 "HeldCoats$CapitalReader" ((Option.some (Jvm.ClassFile.FieldType.object "HeldCoats$Capital"))) "read" ([])) (hk0 : ∀ (h : cz_H), cz_T K D 13 h0 oh 1 (k0 h) h 35 [(0, cz_r l0)] []) : ∀ (n : Nat) (h : cz_H), cz_T K D 13 h0 oh 1 (fn_X7_read_4 l0 k0 n h) h 4 [(0, cz_r l0)] [] := by
  intro n
  induction n with
  | zero => intros; exact ct_none
  | succ n ih =>
    intro h
    rw [fn_X7_read_4]
    refine ct_aload_n (k := 0) S dX7_read_4 rfl rfl ?_
    refine ct_getI S fw_X7_23 dX7_read_5 (fun x8 => ?_)
    refine ct_if_eq (tgt := 35) S dX7_read_8 (by decide) ?_ ?_
    · exact hk0 h
    · refine ct_aload_n (k := 0) S dX7_read_11 rfl rfl ?_
      refine ct_rc (fun b9 ci10 V11 hb12 hc13 hi14 => ?_)
      refine ct_xV (st := []) (cg_virtual (av := []) S hb12 hc13 hi14 (fun _ e => mt_X7_line e) md_X7_line q717 q719 se_HeldCoats_CapitalReader_line___V_HeldCoats_CapitalReader (by decide) (Nat.le_of_ble_eq_true rfl) rfl dX7_read_12) (fun q16 h17 => ?_) (fun h15 => ?_)
      · exact ct_out S (fun x hx => by cases hx)
      · refine ct_aload_n (k := 0) S dX7_read_15 rfl rfl ?_
        refine ct_rc (fun b18 ci19 V20 hb21 hc22 hi23 => ?_)
        refine ct_xV (st := []) (cg_up (owner := "HeldCoats$Reader") (av := []) S hb21 hc22 hi23 (fun _ e => mt_X6_end e) q1073 q1068 q1069 (Or.inl q1070) ⟨by decide, by decide⟩ q1072 q124 nh_HeldCoats_CapitalReader_end___V se_HeldCoats_CapitalReader_end___V_HeldCoats_Reader (by decide) (by decide) (Nat.le_of_ble_eq_true rfl) rfl dX7_read_16) (fun q25 h26 => ?_) (fun h24 => ?_)
        · exact ct_out S (fun x hx => by cases hx)
        · refine ct_aload_n (k := 0) S dX7_read_19 rfl rfl ?_
          refine ct_getR S fw_X7_14 dX7_read_20 (fun r27 => ?_)
          refine ct_dup S dX7_read_23 rfl ?_
          refine ct_getI S fw_X7_33 dX7_read_24 (fun x28 => ?_)
          refine ct_iconst (v := 1) S dX7_read_27 kI_1 ?_
          refine ct_iadd S dX7_read_28 ?_
          refine ct_put S fw_X7_33 fp_X7_m_1_0 (cz_fits_i pd_I) dX7_read_29 (fun h29 => ?_)
          refine ct_goto (tgt := 4) S dX7_read_32 (by decide) ?_
          exact ih h29
set_option maxHeartbeats 4000000 in
set_option maxRecDepth 100000 in
noncomputable def fn_X7_read (l0 : Option Nat) (h : cz_H) : cz_Z := cz_rc h l0 [6] (cz_cV (fn_X6_go l0 h) (fun h7 => fn_X7_read_4 l0 (fun (h30 : cz_H) => cz_getR h30 l0 [(6, 9)] (fun r31 => some (.inl (some (cz_r r31)), h30))) 1000 h7))
set_option maxHeartbeats 4000000 in
set_option maxRecDepth 100000 in
theorem wk_X7_read {K : cz_K} {D : cz_D} {h0 : cz_H} {oh : cz_O × cz_H} {l0 : Option Nat} {h : cz_H} (S : cz_S K D h0 cX7_read 1 "HeldCoats$CapitalReader" ((Option.some (Jvm.ClassFile.FieldType.object "HeldCoats$Capital"))) "read" ([])) : cz_T K D 13 h0 oh 1 (fn_X7_read l0 h) h 0 [(0, cz_r l0)] [] := by
  unfold fn_X7_read
  refine ct_aload_n (k := 0) S dX7_read_0 rfl rfl ?_
  refine ct_rc (fun b1 ci2 V3 hb4 hc5 hi6 => ?_)
  refine ct_cV (st := []) (cg_up (owner := "HeldCoats$Reader") (av := []) S hb4 hc5 hi6 (fun _ e => mt_X6_go e) q521 q516 q517 (Or.inl q518) ⟨by decide, by decide⟩ q520 q124 nh_HeldCoats_CapitalReader_go___V se_HeldCoats_CapitalReader_go___V_HeldCoats_Reader (by decide) (by decide) (Nat.le_of_ble_eq_true rfl) rfl dX7_read_1) (fun h7 => ?_)
  refine ct_sub [0] (L' := [(0, cz_r l0)]) rfl (wk_X7_read_4 S ?_ 1000 h7)
  · intro h30
    refine ct_aload_n (k := 0) S dX7_read_35 rfl rfl ?_
    refine ct_getR S fw_X7_14 dX7_read_36 (fun r31 => ?_)
    exact ct_aret S rfl (Or.inl ⟨_, rfl⟩) dX7_read_39
theorem mt_X7_read {l : Launch} {D : cz_D} {l0 : Option Nat} {h : cz_H} {oh : cz_O × cz_H} (hz : fn_X7_read l0 h = some oh) : cz_M l D yX7_read (ws_ yX7_read cX7_read 1 ((Option.some (Jvm.ClassFile.FieldType.object "HeldCoats$Capital")))) 13 [cz_r l0] h oh := cz_met (plainFor_of_name (by decide)) (Nat.le_of_ble_eq_true rfl) hz (fun K hl S => wk_X7_read S)
/-! HeldCoats.capital()I -/
def dkwX1_capital_3 : List UInt8 := [180, 0, 116, 100, 172]
abbrev dktX1_capital_3 : List UInt8 := dkwX1_capital_3 ++ []
def dkwX1_capital_2 : List UInt8 := [3, 181, 0, 105, 42, 180, 0, 33, 180, 0, 108, 172, 77, 42, 44, 180, 0, 113, 181, 0, 89, 2, 44]
abbrev dktX1_capital_2 : List UInt8 := dkwX1_capital_2 ++ dktX1_capital_3
def dkwX1_capital_1 : List UInt8 := [182, 0, 97, 181, 0, 33, 42, 180, 0, 42, 42, 180, 0, 33, 182, 0, 38, 87, 42, 1, 181, 0, 101, 42]
abbrev dktX1_capital_1 : List UInt8 := dkwX1_capital_1 ++ dktX1_capital_2
def dkwX1_capital_0 : List UInt8 := [42, 182, 0, 85, 60, 42, 3, 181, 0, 89, 42, 187, 0, 92, 89, 42, 180, 0, 26, 27, 183, 0, 94]
abbrev dktX1_capital_0 : List UInt8 := dkwX1_capital_0 ++ dktX1_capital_1
theorem dksX1_capital_0 : cX1_capital.data.toList.drop 0 = dktX1_capital_0 := by decide +kernel
theorem dksX1_capital_1 : cX1_capital.data.toList.drop 23 = dktX1_capital_1 := dk_seg dksX1_capital_0 23 rfl rfl
theorem dksX1_capital_2 : cX1_capital.data.toList.drop 47 = dktX1_capital_2 := dk_seg dksX1_capital_1 24 rfl rfl
theorem dksX1_capital_3 : cX1_capital.data.toList.drop 70 = dktX1_capital_3 := dk_seg dksX1_capital_2 23 rfl rfl
theorem dX1_capital_0 : decode cX1_capital 0 = .ok (.aload_n 0, 1) := dk_42 (dk_at dksX1_capital_0 0 rfl rfl)
theorem dX1_capital_1 : decode cX1_capital 1 = .ok (.invokevirtual 85, 3) := dk_182 0 85 (dk_at dksX1_capital_0 1 rfl rfl)
theorem dX1_capital_4 : decode cX1_capital 4 = .ok (.istore_n 1, 1) := dk_60 (dk_at dksX1_capital_0 4 rfl rfl)
theorem dX1_capital_5 : decode cX1_capital 5 = .ok (.aload_n 0, 1) := dk_42 (dk_at dksX1_capital_0 5 rfl rfl)
theorem dX1_capital_6 : decode cX1_capital 6 = .ok (.iconst 0, 1) := dk_3 (dk_at dksX1_capital_0 6 rfl rfl)
theorem dX1_capital_7 : decode cX1_capital 7 = .ok (.putfield 89, 3) := dk_181 0 89 (dk_at dksX1_capital_0 7 rfl rfl)
theorem dX1_capital_10 : decode cX1_capital 10 = .ok (.aload_n 0, 1) := dk_42 (dk_at dksX1_capital_0 10 rfl rfl)
theorem dX1_capital_11 : decode cX1_capital 11 = .ok (.new 92, 3) := dk_187 0 92 (dk_at dksX1_capital_0 11 rfl rfl)
theorem dX1_capital_14 : decode cX1_capital 14 = .ok (.dup, 1) := dk_89 (dk_at dksX1_capital_0 14 rfl rfl)
theorem dX1_capital_15 : decode cX1_capital 15 = .ok (.aload_n 0, 1) := dk_42 (dk_at dksX1_capital_0 15 rfl rfl)
theorem dX1_capital_16 : decode cX1_capital 16 = .ok (.getfield 26, 3) := dk_180 0 26 (dk_at dksX1_capital_0 16 rfl rfl)
theorem dX1_capital_19 : decode cX1_capital 19 = .ok (.iload_n 1, 1) := dk_27 (dk_at dksX1_capital_0 19 rfl rfl)
theorem dX1_capital_20 : decode cX1_capital 20 = .ok (.invokespecial 94, 3) := dk_183 0 94 (dk_at dksX1_capital_0 20 rfl rfl)
theorem dX1_capital_23 : decode cX1_capital 23 = .ok (.invokevirtual 97, 3) := dk_182 0 97 (dk_at dksX1_capital_1 0 rfl rfl)
theorem dX1_capital_26 : decode cX1_capital 26 = .ok (.putfield 33, 3) := dk_181 0 33 (dk_at dksX1_capital_1 3 rfl rfl)
theorem dX1_capital_29 : decode cX1_capital 29 = .ok (.aload_n 0, 1) := dk_42 (dk_at dksX1_capital_1 6 rfl rfl)
theorem dX1_capital_30 : decode cX1_capital 30 = .ok (.getfield 42, 3) := dk_180 0 42 (dk_at dksX1_capital_1 7 rfl rfl)
theorem dX1_capital_33 : decode cX1_capital 33 = .ok (.aload_n 0, 1) := dk_42 (dk_at dksX1_capital_1 10 rfl rfl)
theorem dX1_capital_34 : decode cX1_capital 34 = .ok (.getfield 33, 3) := dk_180 0 33 (dk_at dksX1_capital_1 11 rfl rfl)
theorem dX1_capital_37 : decode cX1_capital 37 = .ok (.invokevirtual 38, 3) := dk_182 0 38 (dk_at dksX1_capital_1 14 rfl rfl)
theorem dX1_capital_40 : decode cX1_capital 40 = .ok (.pop, 1) := dk_87 (dk_at dksX1_capital_1 17 rfl rfl)
theorem dX1_capital_41 : decode cX1_capital 41 = .ok (.aload_n 0, 1) := dk_42 (dk_at dksX1_capital_1 18 rfl rfl)
theorem dX1_capital_42 : decode cX1_capital 42 = .ok (.aconst_null, 1) := dk_1 (dk_at dksX1_capital_1 19 rfl rfl)
theorem dX1_capital_43 : decode cX1_capital 43 = .ok (.putfield 101, 3) := dk_181 0 101 (dk_at dksX1_capital_1 20 rfl rfl)
theorem dX1_capital_46 : decode cX1_capital 46 = .ok (.aload_n 0, 1) := dk_42 (dk_at dksX1_capital_1 23 rfl rfl)
theorem dX1_capital_47 : decode cX1_capital 47 = .ok (.iconst 0, 1) := dk_3 (dk_at dksX1_capital_2 0 rfl rfl)
theorem dX1_capital_48 : decode cX1_capital 48 = .ok (.putfield 105, 3) := dk_181 0 105 (dk_at dksX1_capital_2 1 rfl rfl)
theorem dX1_capital_51 : decode cX1_capital 51 = .ok (.aload_n 0, 1) := dk_42 (dk_at dksX1_capital_2 4 rfl rfl)
theorem dX1_capital_52 : decode cX1_capital 52 = .ok (.getfield 33, 3) := dk_180 0 33 (dk_at dksX1_capital_2 5 rfl rfl)
theorem dX1_capital_55 : decode cX1_capital 55 = .ok (.getfield 108, 3) := dk_180 0 108 (dk_at dksX1_capital_2 8 rfl rfl)
theorem dX1_capital_58 : decode cX1_capital 58 = .ok (.ireturn, 1) := dk_172 (dk_at dksX1_capital_2 11 rfl rfl)
theorem dX1_capital_59 : decode cX1_capital 59 = .ok (.astore_n 2, 1) := dk_77 (dk_at dksX1_capital_2 12 rfl rfl)
theorem dX1_capital_60 : decode cX1_capital 60 = .ok (.aload_n 0, 1) := dk_42 (dk_at dksX1_capital_2 13 rfl rfl)
theorem dX1_capital_61 : decode cX1_capital 61 = .ok (.aload_n 2, 1) := dk_44 (dk_at dksX1_capital_2 14 rfl rfl)
theorem dX1_capital_62 : decode cX1_capital 62 = .ok (.getfield 113, 3) := dk_180 0 113 (dk_at dksX1_capital_2 15 rfl rfl)
theorem dX1_capital_65 : decode cX1_capital 65 = .ok (.putfield 89, 3) := dk_181 0 89 (dk_at dksX1_capital_2 18 rfl rfl)
theorem dX1_capital_68 : decode cX1_capital 68 = .ok (.iconst (-1), 1) := dk_2 (dk_at dksX1_capital_2 21 rfl rfl)
theorem dX1_capital_69 : decode cX1_capital 69 = .ok (.aload_n 2, 1) := dk_44 (dk_at dksX1_capital_2 22 rfl rfl)
theorem dX1_capital_70 : decode cX1_capital 70 = .ok (.getfield 116, 3) := dk_180 0 116 (dk_at dksX1_capital_3 0 rfl rfl)
theorem dX1_capital_73 : decode cX1_capital 73 = .ok (.isub, 1) := dk_100 (dk_at dksX1_capital_3 3 rfl rfl)
theorem dX1_capital_74 : decode cX1_capital 74 = .ok (.ireturn, 1) := dk_172 (dk_at dksX1_capital_3 4 rfl rfl)
theorem nh_HeldCoats_CapitalReader__init____BI_V : cz_nh ⟨"HeldCoats$CapitalReader", "<init>", "([BI)V"⟩ 2 := ⟨by decide, by decide, by decide +kernel⟩
theorem se_HeldCoats_CapitalReader_read___LHeldCoats_Capital__HeldCoats_CapitalReader : ∀ c ∈ ([6] : List Nat), ∃ q : vw_C, cz_cl[c]? = some q ∧ Cond.selects q.1 (⟨"HeldCoats$CapitalReader", "read", "()LHeldCoats$Capital;"⟩ : MethodName) (⟨"HeldCoats$CapitalReader", "read", "()LHeldCoats$Capital;"⟩ : MethodName) ∈ lw_all := List.forall_mem_cons.mpr ⟨⟨_, cz_cl6, q514⟩, fun _ h => absurd h List.not_mem_nil⟩
theorem md_X7_read : cz_md yX7_read 1 (ws_ yX7_read cX7_read 1 ((Option.some (Jvm.ClassFile.FieldType.object "HeldCoats$Capital")))) 0 := ⟨cz_ws_code q515, q125, ⟨by decide, by decide, by decide +kernel⟩, by decide⟩
theorem fp_X1_m_0_3 {nm : String} : cz_FP "HeldCoats" nm [(0, 3)] := List.forall_mem_cons.mpr ⟨⟨RX1, TX1, 18, rfl, Or.inl rfl⟩, fun _ h => absurd h List.not_mem_nil⟩
theorem se_HeldCoats_Reign_begin__LHeldCoats_Capital__LHeldCoats_Reign__HeldCoats_Reign : ∀ c ∈ ([3] : List Nat), ∃ q : vw_C, cz_cl[c]? = some q ∧ Cond.selects q.1 (⟨"HeldCoats$Reign", "begin", "(LHeldCoats$Capital;)LHeldCoats$Reign;"⟩ : MethodName) (⟨"HeldCoats$Reign", "begin", "(LHeldCoats$Capital;)LHeldCoats$Reign;"⟩ : MethodName) ∈ lw_all := List.forall_mem_cons.mpr ⟨⟨_, cz_cl3, q331⟩, fun _ h => absurd h List.not_mem_nil⟩
theorem md_X3_begin : cz_md yX3_begin 3 (ws_ yX3_begin cX3_begin 3 ((Option.some (Jvm.ClassFile.FieldType.object "HeldCoats$Reign")))) 1 := ⟨cz_ws_code q332, q118, ⟨by decide, by decide, by decide +kernel⟩, by decide⟩
theorem fw_X1_101 : cz_FW "HeldCoats" 101 [(0, 6)] "LHeldCoats$Cond;" := ⟨"HeldCoats", "sentence", Or.inl q386, List.forall_mem_cons.mpr ⟨⟨RX1, TX1, 18, rfl, by decide, rfl, rfl, Or.inl rfl⟩, fun _ h => absurd h List.not_mem_nil⟩, by decide⟩
theorem fp_X1_m_0_6 {nm : String} : cz_FP "HeldCoats" nm [(0, 6)] := List.forall_mem_cons.mpr ⟨⟨RX1, TX1, 18, rfl, Or.inl rfl⟩, fun _ h => absurd h List.not_mem_nil⟩
theorem pd_LHeldCoats_Cond_ : parseFieldDescriptor "LHeldCoats$Cond;" = some (.object "HeldCoats$Cond") := by decide +kernel
theorem fw_X1_108 : cz_FW "HeldCoats" 108 [(1, 0)] "I" := ⟨"HeldCoats$Capital", "lines", Or.inr ⟨_, q201⟩, List.forall_mem_cons.mpr ⟨⟨RX2, TX2, 11, rfl, by decide, rfl, rfl, Or.inl rfl⟩, fun _ h => absurd h List.not_mem_nil⟩, by decide⟩
set_option maxHeartbeats 4000000 in
set_option maxRecDepth 100000 in
noncomputable def fn_X1_capital (l0 : Option Nat) (h : cz_H) : cz_Z := cz_rc h l0 [0] (cz_cI (fn_X1_take l0 h) (fun x8 h7 => cz_put h7 l0 [(0, 2)] (cz_i 0) (fun h9 => cz_newo h9 6 11 (fun r10 h11 => cz_getR h11 l0 [(0, 0)] (fun r12 => cz_nn' r10 (cz_cV (fn_X7_init r10 r12 x8 h11) (fun h15 => cz_rc h15 r10 [6] (cz_xR (fn_X7_read r10 h15) (fun q23 h24 => cz_catch h24 q23 [9] (cz_getI h24 (some q23) [(9, 6)] (fun x25 => cz_put h24 l0 [(0, 2)] (cz_i x25) (fun h26 => cz_getI h26 (some q23) [(9, 7)] (fun x27 => some (.inl (some (cz_i (((-1) : Int32) - x27))), h26)))))) (fun r28 h22 => cz_put h22 l0 [(0, 3)] (cz_r r28) (fun h29 => cz_getR h29 l0 [(0, 4)] (fun r30 => cz_getR h29 l0 [(0, 3)] (fun r31 => cz_rc h29 r30 [3] (cz_cR (fn_X3_begin r30 r31 h29) (fun r39 h38 => cz_put h38 l0 [(0, 6)] (cz_r none) (fun h40 => cz_put h40 l0 [(0, 8)] (cz_i 0) (fun h41 => cz_getR h41 l0 [(0, 3)] (fun r42 => cz_getI h41 r42 [(1, 0)] (fun x43 => some (.inl (some (cz_i x43)), h41)))))))))))))))))))
set_option maxHeartbeats 4000000 in
set_option maxRecDepth 100000 in
theorem wk_X1_capital {K : cz_K} {D : cz_D} {h0 : cz_H} {oh : cz_O × cz_H} {l0 : Option Nat} {h : cz_H} (S : cz_S K D h0 cX1_capital 3 "HeldCoats" ((Option.some Jvm.ClassFile.FieldType.int)) "capital" (tableOf [(10, 58, 59, 111)])) : cz_T K D 14 h0 oh 3 (fn_X1_capital l0 h) h 0 [(0, cz_r l0)] [] := by
  unfold fn_X1_capital
  refine ct_aload_n (k := 0) S dX1_capital_0 rfl rfl ?_
  refine ct_rc (fun b1 ci2 V3 hb4 hc5 hi6 => ?_)
  refine ct_cI (st := []) (cg_virtual (av := []) S hb4 hc5 hi6 (fun _ e => mt_X1_take e) md_X1_take q452 q454 se_HeldCoats_take___I_HeldCoats (by decide) (Nat.le_of_ble_eq_true rfl) rfl dX1_capital_1) (fun x8 h7 => ?_)
  refine ct_istore_n (L' := [(1, cz_i x8), (0, cz_r l0)]) S dX1_capital_4 rfl (by decide) rfl ?_
  refine ct_aload_n (k := 1) S dX1_capital_5 rfl rfl ?_
  refine ct_iconst (v := 0) S dX1_capital_6 kI_0 ?_
  refine ct_put S fw_X1_89 fp_X1_m_0_2 (cz_fits_i pd_I) dX1_capital_7 (fun h9 => ?_)
  refine ct_aload_n (k := 1) S dX1_capital_10 rfl rfl ?_
  refine ct_newo S (by decide) cz_cl6 q456 dX1_capital_11 (fun r10 h11 => ?_)
  refine ct_dup S dX1_capital_14 rfl ?_
  refine ct_aload_n (k := 1) S dX1_capital_15 rfl rfl ?_
  refine ct_getR S fw_X1_26 dX1_capital_16 (fun r12 => ?_)
  refine ct_iload_n (k := 0) S dX1_capital_19 rfl rfl ?_
  refine ct_nn (fun b13 hb14 => ?_)
  refine ct_cV (st := [cz_r r10, cz_r l0]) (cg_init (av := [cz_r r12, cz_i x8]) S hb14 (fun _ e => mt_X7_init e) q460 (Or.inl q458) rfl q459 q125 nh_HeldCoats_CapitalReader__init____BI_V (by decide) (by decide) (Nat.le_of_ble_eq_true rfl) rfl dX1_capital_20) (fun h15 => ?_)
  refine ct_rc (fun b16 ci17 V18 hb19 hc20 hi21 => ?_)
  refine ct_xR (st := [cz_r l0]) (cg_virtual (av := []) S hb19 hc20 hi21 (fun _ e => mt_X7_read e) md_X7_read q512 q513 se_HeldCoats_CapitalReader_read___LHeldCoats_Capital__HeldCoats_CapitalReader (by decide) (Nat.le_of_ble_eq_true rfl) rfl dX1_capital_23) (fun q23 h24 => ?_) (fun r28 h22 => ?_)
  · refine ct_catch (hp := 59) S rfl rfl (by decide) rfl q451 cc_HeldCoats_Fault ?_
    refine ct_astore_n (L' := [(2, cz_r (some q23)), (1, cz_i x8), (0, cz_r l0)]) S dX1_capital_59 rfl (by decide) rfl ?_
    refine ct_aload_n (k := 2) S dX1_capital_60 rfl rfl ?_
    refine ct_aload_n (k := 0) S dX1_capital_61 rfl rfl ?_
    refine ct_getI S fw_X1_113 dX1_capital_62 (fun x25 => ?_)
    refine ct_put S fw_X1_89 fp_X1_m_0_2 (cz_fits_i pd_I) dX1_capital_65 (fun h26 => ?_)
    refine ct_iconst (v := (-1)) S dX1_capital_68 kI_m1 ?_
    refine ct_aload_n (k := 0) S dX1_capital_69 rfl rfl ?_
    refine ct_getI S fw_X1_116 dX1_capital_70 (fun x27 => ?_)
    refine ct_isub S dX1_capital_73 ?_
    exact ct_iret S rfl dX1_capital_74
  · refine ct_put S fw_X1_33 fp_X1_m_0_3 (cz_fits_r pd_LHeldCoats_Capital_) dX1_capital_26 (fun h29 => ?_)
    refine ct_aload_n (k := 1) S dX1_capital_29 rfl rfl ?_
    refine ct_getR S fw_X1_42 dX1_capital_30 (fun r30 => ?_)
    refine ct_aload_n (k := 1) S dX1_capital_33 rfl rfl ?_
    refine ct_getR S fw_X1_33 dX1_capital_34 (fun r31 => ?_)
    refine ct_rc (fun b32 ci33 V34 hb35 hc36 hi37 => ?_)
    refine ct_cR (st := []) (cg_virtual (av := [cz_r r31]) S hb35 hc36 hi37 (fun _ e => mt_X3_begin e) md_X3_begin q329 q330 se_HeldCoats_Reign_begin__LHeldCoats_Capital__LHeldCoats_Reign__HeldCoats_Reign (by decide) (Nat.le_of_ble_eq_true rfl) rfl dX1_capital_37) (fun r39 h38 => ?_)
    refine ct_pop S dX1_capital_40 rfl ?_
    refine ct_aload_n (k := 1) S dX1_capital_41 rfl rfl ?_
    refine ct_null S dX1_capital_42 ?_
    refine ct_put S fw_X1_101 fp_X1_m_0_6 (cz_fits_r pd_LHeldCoats_Cond_) dX1_capital_43 (fun h40 => ?_)
    refine ct_aload_n (k := 1) S dX1_capital_46 rfl rfl ?_
    refine ct_iconst (v := 0) S dX1_capital_47 kI_0 ?_
    refine ct_put S fw_X1_105 fp_X1_m_0_8 (cz_fits_i pd_I) dX1_capital_48 (fun h41 => ?_)
    refine ct_aload_n (k := 1) S dX1_capital_51 rfl rfl ?_
    refine ct_getR S fw_X1_33 dX1_capital_52 (fun r42 => ?_)
    refine ct_getI S fw_X1_108 dX1_capital_55 (fun x43 => ?_)
    exact ct_iret S rfl dX1_capital_58
theorem mt_X1_capital {l : Launch} {D : cz_D} {l0 : Option Nat} {h : cz_H} {oh : cz_O × cz_H} (hz : fn_X1_capital l0 h = some oh) : cz_M l D yX1_capital (wsW_ yX1_capital cX1_capital 3 ((Option.some Jvm.ClassFile.FieldType.int)) [(10, 58, 59, 111)]) 14 [cz_r l0] h oh := cz_metW (plainFor_of_name (by decide)) (Nat.le_of_ble_eq_true rfl) hz (fun K hl S => wk_X1_capital S)
/-! HeldCoats.men()I -/
def dkwX1_men_0 : List UInt8 := [42, 180, 0, 33, 180, 0, 139, 182, 0, 134, 172]
abbrev dktX1_men_0 : List UInt8 := dkwX1_men_0 ++ []
theorem dksX1_men_0 : cX1_men.data.toList.drop 0 = dktX1_men_0 := by decide +kernel
theorem dX1_men_0 : decode cX1_men 0 = .ok (.aload_n 0, 1) := dk_42 (dk_at dksX1_men_0 0 rfl rfl)
theorem dX1_men_1 : decode cX1_men 1 = .ok (.getfield 33, 3) := dk_180 0 33 (dk_at dksX1_men_0 1 rfl rfl)
theorem dX1_men_4 : decode cX1_men 4 = .ok (.getfield 139, 3) := dk_180 0 139 (dk_at dksX1_men_0 4 rfl rfl)
theorem dX1_men_7 : decode cX1_men 7 = .ok (.invokevirtual 134, 3) := dk_182 0 134 (dk_at dksX1_men_0 7 rfl rfl)
theorem dX1_men_10 : decode cX1_men 10 = .ok (.ireturn, 1) := dk_172 (dk_at dksX1_men_0 10 rfl rfl)
set_option maxHeartbeats 4000000 in
set_option maxRecDepth 100000 in
noncomputable def fn_X1_men (l0 : Option Nat) (h : cz_H) : cz_Z := cz_getR h l0 [(0, 3)] (fun r1 => cz_getR h r1 [(1, 7)] (fun r2 => cz_rc h r2 [2] (cz_cI (fn_J2_size r2 h) (fun x10 h9 => some (.inl (some (cz_i x10)), h9)))))
set_option maxHeartbeats 4000000 in
set_option maxRecDepth 100000 in
theorem wk_X1_men {K : cz_K} {D : cz_D} {h0 : cz_H} {oh : cz_O × cz_H} {l0 : Option Nat} {h : cz_H} (S : cz_S K D h0 cX1_men 1 "HeldCoats" ((Option.some Jvm.ClassFile.FieldType.int)) "men" ([])) : cz_T K D 3 h0 oh 1 (fn_X1_men l0 h) h 0 [(0, cz_r l0)] [] := by
  unfold fn_X1_men
  refine ct_aload_n (k := 0) S dX1_men_0 rfl rfl ?_
  refine ct_getR S fw_X1_33 dX1_men_1 (fun r1 => ?_)
  refine ct_getR S fw_X1_139 dX1_men_4 (fun r2 => ?_)
  refine ct_rc (fun b3 ci4 V5 hb6 hc7 hi8 => ?_)
  refine ct_cI (st := []) (cg_virtual (av := []) S hb6 hc7 hi8 (fun _ e => mt_J2_size e) md_J2_size q1389 q341 se_java_util_ArrayList_size___I_java_util_ArrayList (by decide) (Nat.le_of_ble_eq_true rfl) rfl dX1_men_7) (fun x10 h9 => ?_)
  exact ct_iret S rfl dX1_men_10
theorem mt_X1_men {l : Launch} {D : cz_D} {l0 : Option Nat} {h : cz_H} {oh : cz_O × cz_H} (hz : fn_X1_men l0 h = some oh) : cz_M l D yX1_men (ws_ yX1_men cX1_men 1 ((Option.some Jvm.ClassFile.FieldType.int))) 3 [cz_r l0] h oh := cz_met (plainFor_of_name (by decide)) (Nat.le_of_ble_eq_true rfl) hz (fun K hl S => wk_X1_men S)
/-! HeldCoats.count(I)I -/
def dkwX1_count_4 : List UInt8 := [180, 0, 78, 172, 2, 172]
abbrev dktX1_count_4 : List UInt8 := dkwX1_count_4 ++ []
def dkwX1_count_3 : List UInt8 := [180, 0, 33, 180, 1, 114, 172, 42, 180, 0, 33, 180, 1, 116, 172, 42, 180, 0, 33, 180, 1, 49, 172, 42]
abbrev dktX1_count_3 : List UInt8 := dkwX1_count_3 ++ dktX1_count_4
def dkwX1_count_2 : List UInt8 := [42, 182, 1, 14, 172, 42, 182, 1, 70, 172, 42, 182, 1, 47, 172, 42, 180, 0, 33, 180, 1, 111, 172, 42]
abbrev dktX1_count_2 : List UInt8 := dkwX1_count_2 ++ dktX1_count_3
def dkwX1_count_1 : List UInt8 := [170, 0, 0, 0, 0, 0, 99, 0, 0, 0, 0, 0, 0, 0, 7, 0, 0, 0, 47, 0, 0, 0, 52, 0, 0, 0, 57, 0, 0, 0, 62, 0, 0, 0, 70, 0, 0, 0, 78, 0, 0, 0, 86, 0, 0, 0, 94]
abbrev dktX1_count_1 : List UInt8 := dkwX1_count_1 ++ dktX1_count_2
def dkwX1_count_0 : List UInt8 := [27]
abbrev dktX1_count_0 : List UInt8 := dkwX1_count_0 ++ dktX1_count_1
theorem dksX1_count_0 : cX1_count.data.toList.drop 0 = dktX1_count_0 := by decide +kernel
theorem dksX1_count_1 : cX1_count.data.toList.drop 1 = dktX1_count_1 := dk_seg dksX1_count_0 1 rfl rfl
theorem dksX1_count_2 : cX1_count.data.toList.drop 48 = dktX1_count_2 := dk_seg dksX1_count_1 47 rfl rfl
theorem dksX1_count_3 : cX1_count.data.toList.drop 72 = dktX1_count_3 := dk_seg dksX1_count_2 24 rfl rfl
theorem dksX1_count_4 : cX1_count.data.toList.drop 96 = dktX1_count_4 := dk_seg dksX1_count_3 24 rfl rfl
theorem dX1_count_0 : decode cX1_count 0 = .ok (.iload_n 1, 1) := dk_27 (dk_at dksX1_count_0 0 rfl rfl)
theorem dX1_count_1 : decode cX1_count 1 = .ok (.tableswitch 99 0 7 #[47, 52, 57, 62, 70, 78, 86, 94], 47) := by decide +kernel
theorem dX1_count_48 : decode cX1_count 48 = .ok (.aload_n 0, 1) := dk_42 (dk_at dksX1_count_2 0 rfl rfl)
theorem dX1_count_49 : decode cX1_count 49 = .ok (.invokevirtual 270, 3) := dk_182 1 14 (dk_at dksX1_count_2 1 rfl rfl)
theorem dX1_count_52 : decode cX1_count 52 = .ok (.ireturn, 1) := dk_172 (dk_at dksX1_count_2 4 rfl rfl)
theorem dX1_count_53 : decode cX1_count 53 = .ok (.aload_n 0, 1) := dk_42 (dk_at dksX1_count_2 5 rfl rfl)
theorem dX1_count_54 : decode cX1_count 54 = .ok (.invokevirtual 326, 3) := dk_182 1 70 (dk_at dksX1_count_2 6 rfl rfl)
theorem dX1_count_57 : decode cX1_count 57 = .ok (.ireturn, 1) := dk_172 (dk_at dksX1_count_2 9 rfl rfl)
theorem dX1_count_58 : decode cX1_count 58 = .ok (.aload_n 0, 1) := dk_42 (dk_at dksX1_count_2 10 rfl rfl)
theorem dX1_count_59 : decode cX1_count 59 = .ok (.invokevirtual 303, 3) := dk_182 1 47 (dk_at dksX1_count_2 11 rfl rfl)
theorem dX1_count_62 : decode cX1_count 62 = .ok (.ireturn, 1) := dk_172 (dk_at dksX1_count_2 14 rfl rfl)
theorem dX1_count_63 : decode cX1_count 63 = .ok (.aload_n 0, 1) := dk_42 (dk_at dksX1_count_2 15 rfl rfl)
theorem dX1_count_64 : decode cX1_count 64 = .ok (.getfield 33, 3) := dk_180 0 33 (dk_at dksX1_count_2 16 rfl rfl)
theorem dX1_count_67 : decode cX1_count 67 = .ok (.getfield 367, 3) := dk_180 1 111 (dk_at dksX1_count_2 19 rfl rfl)
theorem dX1_count_70 : decode cX1_count 70 = .ok (.ireturn, 1) := dk_172 (dk_at dksX1_count_2 22 rfl rfl)
theorem dX1_count_71 : decode cX1_count 71 = .ok (.aload_n 0, 1) := dk_42 (dk_at dksX1_count_2 23 rfl rfl)
theorem dX1_count_72 : decode cX1_count 72 = .ok (.getfield 33, 3) := dk_180 0 33 (dk_at dksX1_count_3 0 rfl rfl)
theorem dX1_count_75 : decode cX1_count 75 = .ok (.getfield 370, 3) := dk_180 1 114 (dk_at dksX1_count_3 3 rfl rfl)
theorem dX1_count_78 : decode cX1_count 78 = .ok (.ireturn, 1) := dk_172 (dk_at dksX1_count_3 6 rfl rfl)
theorem dX1_count_79 : decode cX1_count 79 = .ok (.aload_n 0, 1) := dk_42 (dk_at dksX1_count_3 7 rfl rfl)
theorem dX1_count_80 : decode cX1_count 80 = .ok (.getfield 33, 3) := dk_180 0 33 (dk_at dksX1_count_3 8 rfl rfl)
theorem dX1_count_83 : decode cX1_count 83 = .ok (.getfield 372, 3) := dk_180 1 116 (dk_at dksX1_count_3 11 rfl rfl)
theorem dX1_count_86 : decode cX1_count 86 = .ok (.ireturn, 1) := dk_172 (dk_at dksX1_count_3 14 rfl rfl)
theorem dX1_count_87 : decode cX1_count 87 = .ok (.aload_n 0, 1) := dk_42 (dk_at dksX1_count_3 15 rfl rfl)
theorem dX1_count_88 : decode cX1_count 88 = .ok (.getfield 33, 3) := dk_180 0 33 (dk_at dksX1_count_3 16 rfl rfl)
theorem dX1_count_91 : decode cX1_count 91 = .ok (.getfield 305, 3) := dk_180 1 49 (dk_at dksX1_count_3 19 rfl rfl)
theorem dX1_count_94 : decode cX1_count 94 = .ok (.ireturn, 1) := dk_172 (dk_at dksX1_count_3 22 rfl rfl)
theorem dX1_count_95 : decode cX1_count 95 = .ok (.aload_n 0, 1) := dk_42 (dk_at dksX1_count_3 23 rfl rfl)
theorem dX1_count_96 : decode cX1_count 96 = .ok (.getfield 78, 3) := dk_180 0 78 (dk_at dksX1_count_4 0 rfl rfl)
theorem dX1_count_99 : decode cX1_count 99 = .ok (.ireturn, 1) := dk_172 (dk_at dksX1_count_4 3 rfl rfl)
theorem dX1_count_100 : decode cX1_count 100 = .ok (.iconst (-1), 1) := dk_2 (dk_at dksX1_count_4 4 rfl rfl)
theorem dX1_count_101 : decode cX1_count 101 = .ok (.ireturn, 1) := dk_172 (dk_at dksX1_count_4 5 rfl rfl)
theorem fw_X1_305 : cz_FW "HeldCoats" 305 [(1, 5)] "I" := ⟨"HeldCoats$Capital", "limit", Or.inr ⟨_, q217⟩, List.forall_mem_cons.mpr ⟨⟨RX2, TX2, 11, rfl, by decide, rfl, rfl, Or.inl rfl⟩, fun _ h => absurd h List.not_mem_nil⟩, by decide⟩
theorem fw_X1_372 : cz_FW "HeldCoats" 372 [(1, 4)] "I" := ⟨"HeldCoats$Capital", "moths", Or.inr ⟨_, q214⟩, List.forall_mem_cons.mpr ⟨⟨RX2, TX2, 11, rfl, by decide, rfl, rfl, Or.inl rfl⟩, fun _ h => absurd h List.not_mem_nil⟩, by decide⟩
theorem fw_X1_370 : cz_FW "HeldCoats" 370 [(1, 3)] "I" := ⟨"HeldCoats$Capital", "holds", Or.inr ⟨_, q210⟩, List.forall_mem_cons.mpr ⟨⟨RX2, TX2, 11, rfl, by decide, rfl, rfl, Or.inl rfl⟩, fun _ h => absurd h List.not_mem_nil⟩, by decide⟩
theorem fw_X1_367 : cz_FW "HeldCoats" 367 [(1, 2)] "I" := ⟨"HeldCoats$Capital", "summer", Or.inr ⟨_, q206⟩, List.forall_mem_cons.mpr ⟨⟨RX2, TX2, 11, rfl, by decide, rfl, rfl, Or.inl rfl⟩, fun _ h => absurd h List.not_mem_nil⟩, by decide⟩
theorem se_HeldCoats_men___I_HeldCoats : ∀ c ∈ ([0] : List Nat), ∃ q : vw_C, cz_cl[c]? = some q ∧ Cond.selects q.1 (⟨"HeldCoats", "men", "()I"⟩ : MethodName) (⟨"HeldCoats", "men", "()I"⟩ : MethodName) ∈ lw_all := List.forall_mem_cons.mpr ⟨⟨_, cz_cl0, qs30⟩, fun _ h => absurd h List.not_mem_nil⟩
theorem md_X1_men : cz_md yX1_men 1 (ws_ yX1_men cX1_men 1 ((Option.some Jvm.ClassFile.FieldType.int))) 0 := ⟨cz_ws_code q1472, q113, ⟨by decide, by decide, by decide +kernel⟩, by decide⟩
set_option maxHeartbeats 4000000 in
set_option maxRecDepth 100000 in
noncomputable def fn_X1_count (l0 : Option Nat) (l1 : Int32) (h : cz_H) : cz_Z := (if l1 = 0 then cz_rc h l0 [0] (cz_cI (fn_X1_seats l0 h) (fun x33 h32 => some (.inl (some (cz_i x33)), h32))) else if l1 = 1 then cz_rc h l0 [0] (cz_cI (fn_X1_men l0 h) (fun x25 h24 => some (.inl (some (cz_i x25)), h24))) else if l1 = 2 then cz_rc h l0 [0] (cz_cI (fn_X1_coats l0 h) (fun x17 h16 => some (.inl (some (cz_i x17)), h16))) else if l1 = 3 then cz_getR h l0 [(0, 3)] (fun r8 => cz_getI h r8 [(1, 2)] (fun x9 => some (.inl (some (cz_i x9)), h))) else if l1 = 4 then cz_getR h l0 [(0, 3)] (fun r6 => cz_getI h r6 [(1, 3)] (fun x7 => some (.inl (some (cz_i x7)), h))) else if l1 = 5 then cz_getR h l0 [(0, 3)] (fun r4 => cz_getI h r4 [(1, 4)] (fun x5 => some (.inl (some (cz_i x5)), h))) else if l1 = 6 then cz_getR h l0 [(0, 3)] (fun r2 => cz_getI h r2 [(1, 5)] (fun x3 => some (.inl (some (cz_i x3)), h))) else if l1 = 7 then cz_getI h l0 [(0, 1)] (fun x1 => some (.inl (some (cz_i x1)), h)) else some (.inl (some (cz_i (-1))), h))
set_option maxHeartbeats 4000000 in
set_option maxRecDepth 100000 in
theorem wk_X1_count {K : cz_K} {D : cz_D} {h0 : cz_H} {oh : cz_O × cz_H} {l0 : Option Nat} {l1 : Int32} {h : cz_H} (S : cz_S K D h0 cX1_count 2 "HeldCoats" ((Option.some Jvm.ClassFile.FieldType.int)) "count" ([])) : cz_T K D 4 h0 oh 2 (fn_X1_count l0 l1 h) h 0 [(0, cz_r l0), (1, cz_i l1)] [] := by
  unfold fn_X1_count
  refine ct_iload_n (k := 1) S dX1_count_0 rfl rfl ?_
  refine ct_case ?_ (fun c0_ => ?_)
  · refine ct_tableIn (tgt := 48) S dX1_count_1 (by decide) (by decide) rfl (by decide) ?_
    refine ct_aload_n (k := 0) S dX1_count_48 rfl rfl ?_
    refine ct_rc (fun b26 ci27 V28 hb29 hc30 hi31 => ?_)
    refine ct_cI (st := []) (cg_virtual (av := []) S hb29 hc30 hi31 (fun _ e => mt_X1_seats e) md_X1_seats q1385 q1387 se_HeldCoats_seats___I_HeldCoats (by decide) (Nat.le_of_ble_eq_true rfl) rfl dX1_count_49) (fun x33 h32 => ?_)
    exact ct_iret S rfl dX1_count_52
  · refine ct_case ?_ (fun c1_ => ?_)
    · refine ct_tableIn (tgt := 53) S dX1_count_1 (by decide) (by decide) rfl (by decide) ?_
      refine ct_aload_n (k := 0) S dX1_count_53 rfl rfl ?_
      refine ct_rc (fun b18 ci19 V20 hb21 hc22 hi23 => ?_)
      refine ct_cI (st := []) (cg_virtual (av := []) S hb21 hc22 hi23 (fun _ e => mt_X1_men e) md_X1_men q1469 q1471 se_HeldCoats_men___I_HeldCoats (by decide) (Nat.le_of_ble_eq_true rfl) rfl dX1_count_54) (fun x25 h24 => ?_)
      exact ct_iret S rfl dX1_count_57
    · refine ct_case ?_ (fun c2_ => ?_)
      · refine ct_tableIn (tgt := 58) S dX1_count_1 (by decide) (by decide) rfl (by decide) ?_
        refine ct_aload_n (k := 0) S dX1_count_58 rfl rfl ?_
        refine ct_rc (fun b10 ci11 V12 hb13 hc14 hi15 => ?_)
        refine ct_cI (st := []) (cg_virtual (av := []) S hb13 hc14 hi15 (fun _ e => mt_X1_coats e) md_X1_coats q1424 q1426 se_HeldCoats_coats___I_HeldCoats (by decide) (Nat.le_of_ble_eq_true rfl) rfl dX1_count_59) (fun x17 h16 => ?_)
        exact ct_iret S rfl dX1_count_62
      · refine ct_case ?_ (fun c3_ => ?_)
        · refine ct_tableIn (tgt := 63) S dX1_count_1 (by decide) (by decide) rfl (by decide) ?_
          refine ct_aload_n (k := 0) S dX1_count_63 rfl rfl ?_
          refine ct_getR S fw_X1_33 dX1_count_64 (fun r8 => ?_)
          refine ct_getI S fw_X1_367 dX1_count_67 (fun x9 => ?_)
          exact ct_iret S rfl dX1_count_70
        · refine ct_case ?_ (fun c4_ => ?_)
          · refine ct_tableIn (tgt := 71) S dX1_count_1 (by decide) (by decide) rfl (by decide) ?_
            refine ct_aload_n (k := 0) S dX1_count_71 rfl rfl ?_
            refine ct_getR S fw_X1_33 dX1_count_72 (fun r6 => ?_)
            refine ct_getI S fw_X1_370 dX1_count_75 (fun x7 => ?_)
            exact ct_iret S rfl dX1_count_78
          · refine ct_case ?_ (fun c5_ => ?_)
            · refine ct_tableIn (tgt := 79) S dX1_count_1 (by decide) (by decide) rfl (by decide) ?_
              refine ct_aload_n (k := 0) S dX1_count_79 rfl rfl ?_
              refine ct_getR S fw_X1_33 dX1_count_80 (fun r4 => ?_)
              refine ct_getI S fw_X1_372 dX1_count_83 (fun x5 => ?_)
              exact ct_iret S rfl dX1_count_86
            · refine ct_case ?_ (fun c6_ => ?_)
              · refine ct_tableIn (tgt := 87) S dX1_count_1 (by decide) (by decide) rfl (by decide) ?_
                refine ct_aload_n (k := 0) S dX1_count_87 rfl rfl ?_
                refine ct_getR S fw_X1_33 dX1_count_88 (fun r2 => ?_)
                refine ct_getI S fw_X1_305 dX1_count_91 (fun x3 => ?_)
                exact ct_iret S rfl dX1_count_94
              · refine ct_case ?_ (fun c7_ => ?_)
                · refine ct_tableIn (tgt := 95) S dX1_count_1 (by decide) (by decide) rfl (by decide) ?_
                  refine ct_aload_n (k := 0) S dX1_count_95 rfl rfl ?_
                  refine ct_getI S fw_X1_78 dX1_count_96 (fun x1 => ?_)
                  exact ct_iret S rfl dX1_count_99
                · refine ct_tableOut (tgt := 100) S dX1_count_1 (by have := lv_neT c0_ (show (0 : Int32).toInt = 0 by decide); have := lv_neT c1_ (show (1 : Int32).toInt = 1 by decide); have := lv_neT c2_ (show (2 : Int32).toInt = 2 by decide); have := lv_neT c3_ (show (3 : Int32).toInt = 3 by decide); have := lv_neT c4_ (show (4 : Int32).toInt = 4 by decide); have := lv_neT c5_ (show (5 : Int32).toInt = 5 by decide); have := lv_neT c6_ (show (6 : Int32).toInt = 6 by decide); have := lv_neT c7_ (show (7 : Int32).toInt = 7 by decide); omega) (by decide) ?_
                  refine ct_iconst (v := (-1)) S dX1_count_100 kI_m1 ?_
                  exact ct_iret S rfl dX1_count_101
theorem mt_X1_count {l : Launch} {D : cz_D} {l0 : Option Nat} {l1 : Int32} {h : cz_H} {oh : cz_O × cz_H} (hz : fn_X1_count l0 l1 h = some oh) : cz_M l D yX1_count (ws_ yX1_count cX1_count 2 ((Option.some Jvm.ClassFile.FieldType.int))) 4 [cz_r l0, cz_i l1] h oh := cz_met (plainFor_of_name (by decide)) (Nat.le_of_ble_eq_true rfl) hz (fun K hl S => wk_X1_count S)
/-! HeldCoats.days(I)I -/
def dkwX1_days_1 : List UInt8 := [42, 182, 0, 242, 42, 180, 0, 42, 27, 182, 1, 11, 172]
abbrev dktX1_days_1 : List UInt8 := dkwX1_days_1 ++ []
def dkwX1_days_0 : List UInt8 := [27, 4, 16, 60, 184, 0, 162, 154, 0, 5, 2, 172, 42, 180, 0, 42, 182, 1, 7, 153, 0, 5, 3, 172]
abbrev dktX1_days_0 : List UInt8 := dkwX1_days_0 ++ dktX1_days_1
theorem dksX1_days_0 : cX1_days.data.toList.drop 0 = dktX1_days_0 := by decide +kernel
theorem dksX1_days_1 : cX1_days.data.toList.drop 24 = dktX1_days_1 := dk_seg dksX1_days_0 24 rfl rfl
theorem dX1_days_0 : decode cX1_days 0 = .ok (.iload_n 1, 1) := dk_27 (dk_at dksX1_days_0 0 rfl rfl)
theorem dX1_days_1 : decode cX1_days 1 = .ok (.iconst 1, 1) := dk_4 (dk_at dksX1_days_0 1 rfl rfl)
theorem dX1_days_2 : decode cX1_days 2 = .ok (.bipush 60, 2) := dk_16 60 (dk_at dksX1_days_0 2 rfl rfl)
theorem dX1_days_4 : decode cX1_days 4 = .ok (.invokestatic 162, 3) := dk_184 0 162 (dk_at dksX1_days_0 4 rfl rfl)
theorem dX1_days_7 : decode cX1_days 7 = .ok (.ifCond .ne 5, 3) := dk_154 0 5 (dk_at dksX1_days_0 7 rfl rfl)
theorem dX1_days_10 : decode cX1_days 10 = .ok (.iconst (-1), 1) := dk_2 (dk_at dksX1_days_0 10 rfl rfl)
theorem dX1_days_11 : decode cX1_days 11 = .ok (.ireturn, 1) := dk_172 (dk_at dksX1_days_0 11 rfl rfl)
theorem dX1_days_12 : decode cX1_days 12 = .ok (.aload_n 0, 1) := dk_42 (dk_at dksX1_days_0 12 rfl rfl)
theorem dX1_days_13 : decode cX1_days 13 = .ok (.getfield 42, 3) := dk_180 0 42 (dk_at dksX1_days_0 13 rfl rfl)
theorem dX1_days_16 : decode cX1_days 16 = .ok (.invokevirtual 263, 3) := dk_182 1 7 (dk_at dksX1_days_0 16 rfl rfl)
theorem dX1_days_19 : decode cX1_days 19 = .ok (.ifCond .eq 5, 3) := dk_153 0 5 (dk_at dksX1_days_0 19 rfl rfl)
theorem dX1_days_22 : decode cX1_days 22 = .ok (.iconst 0, 1) := dk_3 (dk_at dksX1_days_0 22 rfl rfl)
theorem dX1_days_23 : decode cX1_days 23 = .ok (.ireturn, 1) := dk_172 (dk_at dksX1_days_0 23 rfl rfl)
theorem dX1_days_24 : decode cX1_days 24 = .ok (.aload_n 0, 1) := dk_42 (dk_at dksX1_days_1 0 rfl rfl)
theorem dX1_days_25 : decode cX1_days 25 = .ok (.invokevirtual 242, 3) := dk_182 0 242 (dk_at dksX1_days_1 1 rfl rfl)
theorem dX1_days_28 : decode cX1_days 28 = .ok (.aload_n 0, 1) := dk_42 (dk_at dksX1_days_1 4 rfl rfl)
theorem dX1_days_29 : decode cX1_days 29 = .ok (.getfield 42, 3) := dk_180 0 42 (dk_at dksX1_days_1 5 rfl rfl)
theorem dX1_days_32 : decode cX1_days 32 = .ok (.iload_n 1, 1) := dk_27 (dk_at dksX1_days_1 8 rfl rfl)
theorem dX1_days_33 : decode cX1_days 33 = .ok (.invokevirtual 267, 3) := dk_182 1 11 (dk_at dksX1_days_1 9 rfl rfl)
theorem dX1_days_36 : decode cX1_days 36 = .ok (.ireturn, 1) := dk_172 (dk_at dksX1_days_1 12 rfl rfl)
set_option maxHeartbeats 4000000 in
set_option maxRecDepth 100000 in
noncomputable def fn_X1_days (l0 : Option Nat) (l1 : Int32) (h : cz_H) : cz_Z := cz_cI (fn_X1_isIn l1 1 60 h) (fun x2 h1 => (if x2 = 0 then some (.inl (some (cz_i (-1))), h1) else cz_getR h1 l0 [(0, 4)] (fun r3 => cz_rc h1 r3 [3] (cz_cI (fn_X3_isOver r3 h1) (fun x11 h10 => (if x11 = 0 then cz_rc h10 l0 [0] (cz_cV (fn_X1_snap l0 h10) (fun h18 => cz_getR h18 l0 [(0, 4)] (fun r19 => cz_rc h18 r19 [3] (cz_cI (fn_X3_passAll r19 l1 h18) (fun x27 h26 => some (.inl (some (cz_i x27)), h26)))))) else some (.inl (some (cz_i 0)), h10)))))))
set_option maxHeartbeats 4000000 in
set_option maxRecDepth 100000 in
theorem wk_X1_days {K : cz_K} {D : cz_D} {h0 : cz_H} {oh : cz_O × cz_H} {l0 : Option Nat} {l1 : Int32} {h : cz_H} (S : cz_S K D h0 cX1_days 2 "HeldCoats" ((Option.some Jvm.ClassFile.FieldType.int)) "days" ([])) : cz_T K D 11 h0 oh 2 (fn_X1_days l0 l1 h) h 0 [(0, cz_r l0), (1, cz_i l1)] [] := by
  unfold fn_X1_days
  refine ct_iload_n (k := 1) S dX1_days_0 rfl rfl ?_
  refine ct_iconst (v := 1) S dX1_days_1 kI_1 ?_
  refine ct_bipush (v := 60) S dX1_days_2 kB_60 ?_
  refine ct_cI (st := []) (cg_static (av := [cz_i l1, cz_i 1, cz_i 60]) S (fun _ e => mt_X1_isIn e) md_X1_isIn (Or.inl q1355) q929 (by decide) (Nat.le_of_ble_eq_true rfl) rfl dX1_days_4) (fun x2 h1 => ?_)
  refine ct_if_ne (tgt := 12) S dX1_days_7 (by decide) ?_ ?_
  · refine ct_aload_n (k := 0) S dX1_days_12 rfl rfl ?_
    refine ct_getR S fw_X1_42 dX1_days_13 (fun r3 => ?_)
    refine ct_rc (fun b4 ci5 V6 hb7 hc8 hi9 => ?_)
    refine ct_cI (st := []) (cg_virtual (av := []) S hb7 hc8 hi9 (fun _ e => mt_X3_isOver e) md_X3_isOver q1356 q1213 se_HeldCoats_Reign_isOver___Z_HeldCoats_Reign (by decide) (Nat.le_of_ble_eq_true rfl) rfl dX1_days_16) (fun x11 h10 => ?_)
    refine ct_if_eq (tgt := 24) S dX1_days_19 (by decide) ?_ ?_
    · refine ct_aload_n (k := 0) S dX1_days_24 rfl rfl ?_
      refine ct_rc (fun b12 ci13 V14 hb15 hc16 hi17 => ?_)
      refine ct_cV (st := []) (cg_virtual (av := []) S hb15 hc16 hi17 (fun _ e => mt_X1_snap e) md_X1_snap q1301 q1303 se_HeldCoats_snap___V_HeldCoats (by decide) (Nat.le_of_ble_eq_true rfl) rfl dX1_days_25) (fun h18 => ?_)
      refine ct_aload_n (k := 0) S dX1_days_28 rfl rfl ?_
      refine ct_getR S fw_X1_42 dX1_days_29 (fun r19 => ?_)
      refine ct_iload_n (k := 1) S dX1_days_32 rfl rfl ?_
      refine ct_rc (fun b20 ci21 V22 hb23 hc24 hi25 => ?_)
      refine ct_cI (st := []) (cg_virtual (av := [cz_i l1]) S hb23 hc24 hi25 (fun _ e => mt_X3_passAll e) md_X3_passAll q1357 q1205 se_HeldCoats_Reign_passAll__I_I_HeldCoats_Reign (by decide) (Nat.le_of_ble_eq_true rfl) rfl dX1_days_33) (fun x27 h26 => ?_)
      exact ct_iret S rfl dX1_days_36
    · refine ct_iconst (v := 0) S dX1_days_22 kI_0 ?_
      exact ct_iret S rfl dX1_days_23
  · refine ct_iconst (v := (-1)) S dX1_days_10 kI_m1 ?_
    exact ct_iret S rfl dX1_days_11
theorem mt_X1_days {l : Launch} {D : cz_D} {l0 : Option Nat} {l1 : Int32} {h : cz_H} {oh : cz_O × cz_H} (hz : fn_X1_days l0 l1 h = some oh) : cz_M l D yX1_days (ws_ yX1_days cX1_days 2 ((Option.some Jvm.ClassFile.FieldType.int))) 11 [cz_r l0, cz_i l1] h oh := cz_met (plainFor_of_name (by decide)) (Nat.le_of_ble_eq_true rfl) hz (fun K hl S => wk_X1_days S)
/-! HeldCoats$Reign.draw(I)I -/
def dkwX3_draw_1 : List UInt8 := [172]
abbrev dktX3_draw_1 : List UInt8 := dkwX3_draw_1 ++ []
def dkwX3_draw_0 : List UInt8 := [42, 42, 180, 0, 188, 18, 191, 104, 17, 48, 57, 96, 181, 0, 188, 42, 180, 0, 188, 16, 8, 124, 27, 112]
abbrev dktX3_draw_0 : List UInt8 := dkwX3_draw_0 ++ dktX3_draw_1
theorem dksX3_draw_0 : cX3_draw.data.toList.drop 0 = dktX3_draw_0 := by decide +kernel
theorem dksX3_draw_1 : cX3_draw.data.toList.drop 24 = dktX3_draw_1 := dk_seg dksX3_draw_0 24 rfl rfl
theorem dX3_draw_0 : decode cX3_draw 0 = .ok (.aload_n 0, 1) := dk_42 (dk_at dksX3_draw_0 0 rfl rfl)
theorem dX3_draw_1 : decode cX3_draw 1 = .ok (.aload_n 0, 1) := dk_42 (dk_at dksX3_draw_0 1 rfl rfl)
theorem dX3_draw_2 : decode cX3_draw 2 = .ok (.getfield 188, 3) := dk_180 0 188 (dk_at dksX3_draw_0 2 rfl rfl)
theorem dX3_draw_5 : decode cX3_draw 5 = .ok (.ldc 191, 2) := dk_18 191 (dk_at dksX3_draw_0 5 rfl rfl)
theorem dX3_draw_7 : decode cX3_draw 7 = .ok (.imul, 1) := dk_104 (dk_at dksX3_draw_0 7 rfl rfl)
theorem dX3_draw_8 : decode cX3_draw 8 = .ok (.sipush 12345, 3) := dk_17 48 57 (dk_at dksX3_draw_0 8 rfl rfl)
theorem dX3_draw_11 : decode cX3_draw 11 = .ok (.iadd, 1) := dk_96 (dk_at dksX3_draw_0 11 rfl rfl)
theorem dX3_draw_12 : decode cX3_draw 12 = .ok (.putfield 188, 3) := dk_181 0 188 (dk_at dksX3_draw_0 12 rfl rfl)
theorem dX3_draw_15 : decode cX3_draw 15 = .ok (.aload_n 0, 1) := dk_42 (dk_at dksX3_draw_0 15 rfl rfl)
theorem dX3_draw_16 : decode cX3_draw 16 = .ok (.getfield 188, 3) := dk_180 0 188 (dk_at dksX3_draw_0 16 rfl rfl)
theorem dX3_draw_19 : decode cX3_draw 19 = .ok (.bipush 8, 2) := dk_16 8 (dk_at dksX3_draw_0 19 rfl rfl)
theorem dX3_draw_21 : decode cX3_draw 21 = .ok (.iushr, 1) := dk_124 (dk_at dksX3_draw_0 21 rfl rfl)
theorem dX3_draw_22 : decode cX3_draw 22 = .ok (.iload_n 1, 1) := dk_27 (dk_at dksX3_draw_0 22 rfl rfl)
theorem dX3_draw_23 : decode cX3_draw 23 = .ok (.irem, 1) := dk_112 (dk_at dksX3_draw_0 23 rfl rfl)
theorem dX3_draw_24 : decode cX3_draw 24 = .ok (.ireturn, 1) := dk_172 (dk_at dksX3_draw_1 0 rfl rfl)
theorem fw_X3_188 : cz_FW "HeldCoats$Reign" 188 [(3, 13)] "I" := ⟨"HeldCoats$Reign", "seed", Or.inl q299, List.forall_mem_cons.mpr ⟨⟨RX3, TX3, 14, rfl, by decide, rfl, rfl, Or.inl rfl⟩, fun _ h => absurd h List.not_mem_nil⟩, by decide⟩
theorem fp_X3_m_3_13 {nm : String} : cz_FP "HeldCoats$Reign" nm [(3, 13)] := List.forall_mem_cons.mpr ⟨⟨RX3, TX3, 14, rfl, Or.inl rfl⟩, fun _ h => absurd h List.not_mem_nil⟩
set_option maxHeartbeats 4000000 in
set_option maxRecDepth 100000 in
noncomputable def fn_X3_draw (l0 : Option Nat) (l1 : Int32) (h : cz_H) : cz_Z := cz_getI h l0 [(3, 13)] (fun x1 => cz_put h l0 [(3, 13)] (cz_i ((x1 * 1103515245) + 12345)) (fun h2 => cz_getI h2 l0 [(3, 13)] (fun x3 => if l1 = 0 then none else some (.inl (some (cz_i ((((x3).toUInt32 >>> (((8 : Int32)).toUInt32 &&& Int32.toUInt32 31)).toInt32) - (((x3).toUInt32 >>> (((8 : Int32)).toUInt32 &&& Int32.toUInt32 31)).toInt32) / l1 * l1))), h2))))
set_option maxHeartbeats 4000000 in
set_option maxRecDepth 100000 in
theorem wk_X3_draw {K : cz_K} {D : cz_D} {h0 : cz_H} {oh : cz_O × cz_H} {l0 : Option Nat} {l1 : Int32} {h : cz_H} (S : cz_S K D h0 cX3_draw 2 "HeldCoats$Reign" ((Option.some Jvm.ClassFile.FieldType.int)) "draw" ([])) : cz_T K D 2 h0 oh 2 (fn_X3_draw l0 l1 h) h 0 [(0, cz_r l0), (1, cz_i l1)] [] := by
  unfold fn_X3_draw
  refine ct_aload_n (k := 0) S dX3_draw_0 rfl rfl ?_
  refine ct_aload_n (k := 0) S dX3_draw_1 rfl rfl ?_
  refine ct_getI S fw_X3_188 dX3_draw_2 (fun x1 => ?_)
  refine ct_ldc S q1510 dX3_draw_5 ?_
  refine ct_imul S dX3_draw_7 ?_
  refine ct_sipush (v := 12345) S dX3_draw_8 kS_12345 ?_
  refine ct_iadd S dX3_draw_11 ?_
  refine ct_put S fw_X3_188 fp_X3_m_3_13 (cz_fits_i pd_I) dX3_draw_12 (fun h2 => ?_)
  refine ct_aload_n (k := 0) S dX3_draw_15 rfl rfl ?_
  refine ct_getI S fw_X3_188 dX3_draw_16 (fun x3 => ?_)
  refine ct_bipush (v := 8) S dX3_draw_19 kB_8 ?_
  refine ct_iushr S dX3_draw_21 ?_
  refine ct_iload_n (k := 1) S dX3_draw_22 rfl rfl ?_
  refine ct_irem S dX3_draw_23 ?_
  exact ct_iret S rfl dX3_draw_24
theorem mt_X3_draw {l : Launch} {D : cz_D} {l0 : Option Nat} {l1 : Int32} {h : cz_H} {oh : cz_O × cz_H} (hz : fn_X3_draw l0 l1 h = some oh) : cz_M l D yX3_draw (ws_ yX3_draw cX3_draw 2 ((Option.some Jvm.ClassFile.FieldType.int))) 2 [cz_r l0, cz_i l1] h oh := cz_met (plainFor_of_name (by decide)) (Nat.le_of_ble_eq_true rfl) hz (fun K hl S => wk_X3_draw S)
/-! HeldCoats$Reign.acts(I)V -/
def dkwX3_acts_4 : List UInt8 := [154, 0, 8, 42, 27, 182, 0, 158, 177]
abbrev dktX3_acts_4 : List UInt8 := dkwX3_acts_4 ++ []
def dkwX3_acts_3 : List UInt8 := [182, 0, 202, 154, 0, 9, 42, 27, 29, 182, 0, 205, 28, 5, 160, 0, 16, 42, 27, 182, 0, 208]
abbrev dktX3_acts_3 : List UInt8 := dkwX3_acts_3 ++ dktX3_acts_4
def dkwX3_acts_2 : List UInt8 := [180, 0, 63, 27, 182, 0, 68, 192, 0, 74, 180, 0, 76, 62, 28, 4, 160, 0, 18, 42, 27, 29]
abbrev dktX3_acts_2 : List UInt8 := dkwX3_acts_2 ++ dktX3_acts_3
def dkwX3_acts_1 : List UInt8 := [182, 0, 192, 62, 42, 27, 29, 182, 0, 195, 154, 0, 9, 42, 27, 29, 182, 0, 198, 42, 180, 0, 33]
abbrev dktX3_acts_1 : List UInt8 := dkwX3_acts_1 ++ dktX3_acts_2
def dkwX3_acts_0 : List UInt8 := [42, 16, 6, 182, 0, 192, 61, 28, 154, 0, 34, 42, 182, 0, 134, 158, 0, 27, 42, 42, 182, 0, 134]
abbrev dktX3_acts_0 : List UInt8 := dkwX3_acts_0 ++ dktX3_acts_1
theorem dksX3_acts_0 : cX3_acts.data.toList.drop 0 = dktX3_acts_0 := by decide +kernel
theorem dksX3_acts_1 : cX3_acts.data.toList.drop 23 = dktX3_acts_1 := dk_seg dksX3_acts_0 23 rfl rfl
theorem dksX3_acts_2 : cX3_acts.data.toList.drop 46 = dktX3_acts_2 := dk_seg dksX3_acts_1 23 rfl rfl
theorem dksX3_acts_3 : cX3_acts.data.toList.drop 68 = dktX3_acts_3 := dk_seg dksX3_acts_2 22 rfl rfl
theorem dksX3_acts_4 : cX3_acts.data.toList.drop 90 = dktX3_acts_4 := dk_seg dksX3_acts_3 22 rfl rfl
theorem dX3_acts_0 : decode cX3_acts 0 = .ok (.aload_n 0, 1) := dk_42 (dk_at dksX3_acts_0 0 rfl rfl)
theorem dX3_acts_1 : decode cX3_acts 1 = .ok (.bipush 6, 2) := dk_16 6 (dk_at dksX3_acts_0 1 rfl rfl)
theorem dX3_acts_3 : decode cX3_acts 3 = .ok (.invokevirtual 192, 3) := dk_182 0 192 (dk_at dksX3_acts_0 3 rfl rfl)
theorem dX3_acts_6 : decode cX3_acts 6 = .ok (.istore_n 2, 1) := dk_61 (dk_at dksX3_acts_0 6 rfl rfl)
theorem dX3_acts_7 : decode cX3_acts 7 = .ok (.iload_n 2, 1) := dk_28 (dk_at dksX3_acts_0 7 rfl rfl)
theorem dX3_acts_8 : decode cX3_acts 8 = .ok (.ifCond .ne 34, 3) := dk_154 0 34 (dk_at dksX3_acts_0 8 rfl rfl)
theorem dX3_acts_11 : decode cX3_acts 11 = .ok (.aload_n 0, 1) := dk_42 (dk_at dksX3_acts_0 11 rfl rfl)
theorem dX3_acts_12 : decode cX3_acts 12 = .ok (.invokevirtual 134, 3) := dk_182 0 134 (dk_at dksX3_acts_0 12 rfl rfl)
theorem dX3_acts_15 : decode cX3_acts 15 = .ok (.ifCond .le 27, 3) := dk_158 0 27 (dk_at dksX3_acts_0 15 rfl rfl)
theorem dX3_acts_18 : decode cX3_acts 18 = .ok (.aload_n 0, 1) := dk_42 (dk_at dksX3_acts_0 18 rfl rfl)
theorem dX3_acts_19 : decode cX3_acts 19 = .ok (.aload_n 0, 1) := dk_42 (dk_at dksX3_acts_0 19 rfl rfl)
theorem dX3_acts_20 : decode cX3_acts 20 = .ok (.invokevirtual 134, 3) := dk_182 0 134 (dk_at dksX3_acts_0 20 rfl rfl)
theorem dX3_acts_23 : decode cX3_acts 23 = .ok (.invokevirtual 192, 3) := dk_182 0 192 (dk_at dksX3_acts_1 0 rfl rfl)
theorem dX3_acts_26 : decode cX3_acts 26 = .ok (.istore_n 3, 1) := dk_62 (dk_at dksX3_acts_1 3 rfl rfl)
theorem dX3_acts_27 : decode cX3_acts 27 = .ok (.aload_n 0, 1) := dk_42 (dk_at dksX3_acts_1 4 rfl rfl)
theorem dX3_acts_28 : decode cX3_acts 28 = .ok (.iload_n 1, 1) := dk_27 (dk_at dksX3_acts_1 5 rfl rfl)
theorem dX3_acts_29 : decode cX3_acts 29 = .ok (.iload_n 3, 1) := dk_29 (dk_at dksX3_acts_1 6 rfl rfl)
theorem dX3_acts_30 : decode cX3_acts 30 = .ok (.invokevirtual 195, 3) := dk_182 0 195 (dk_at dksX3_acts_1 7 rfl rfl)
theorem dX3_acts_33 : decode cX3_acts 33 = .ok (.ifCond .ne 9, 3) := dk_154 0 9 (dk_at dksX3_acts_1 10 rfl rfl)
theorem dX3_acts_36 : decode cX3_acts 36 = .ok (.aload_n 0, 1) := dk_42 (dk_at dksX3_acts_1 13 rfl rfl)
theorem dX3_acts_37 : decode cX3_acts 37 = .ok (.iload_n 1, 1) := dk_27 (dk_at dksX3_acts_1 14 rfl rfl)
theorem dX3_acts_38 : decode cX3_acts 38 = .ok (.iload_n 3, 1) := dk_29 (dk_at dksX3_acts_1 15 rfl rfl)
theorem dX3_acts_39 : decode cX3_acts 39 = .ok (.invokevirtual 198, 3) := dk_182 0 198 (dk_at dksX3_acts_1 16 rfl rfl)
theorem dX3_acts_42 : decode cX3_acts 42 = .ok (.aload_n 0, 1) := dk_42 (dk_at dksX3_acts_1 19 rfl rfl)
theorem dX3_acts_43 : decode cX3_acts 43 = .ok (.getfield 33, 3) := dk_180 0 33 (dk_at dksX3_acts_1 20 rfl rfl)
theorem dX3_acts_46 : decode cX3_acts 46 = .ok (.getfield 63, 3) := dk_180 0 63 (dk_at dksX3_acts_2 0 rfl rfl)
theorem dX3_acts_49 : decode cX3_acts 49 = .ok (.iload_n 1, 1) := dk_27 (dk_at dksX3_acts_2 3 rfl rfl)
theorem dX3_acts_50 : decode cX3_acts 50 = .ok (.invokevirtual 68, 3) := dk_182 0 68 (dk_at dksX3_acts_2 4 rfl rfl)
theorem dX3_acts_53 : decode cX3_acts 53 = .ok (.checkcast 74, 3) := dk_192 0 74 (dk_at dksX3_acts_2 7 rfl rfl)
theorem dX3_acts_56 : decode cX3_acts 56 = .ok (.getfield 76, 3) := dk_180 0 76 (dk_at dksX3_acts_2 10 rfl rfl)
theorem dX3_acts_59 : decode cX3_acts 59 = .ok (.istore_n 3, 1) := dk_62 (dk_at dksX3_acts_2 13 rfl rfl)
theorem dX3_acts_60 : decode cX3_acts 60 = .ok (.iload_n 2, 1) := dk_28 (dk_at dksX3_acts_2 14 rfl rfl)
theorem dX3_acts_61 : decode cX3_acts 61 = .ok (.iconst 1, 1) := dk_4 (dk_at dksX3_acts_2 15 rfl rfl)
theorem dX3_acts_62 : decode cX3_acts 62 = .ok (.if_icmp .ne 18, 3) := dk_160 0 18 (dk_at dksX3_acts_2 16 rfl rfl)
theorem dX3_acts_65 : decode cX3_acts 65 = .ok (.aload_n 0, 1) := dk_42 (dk_at dksX3_acts_2 19 rfl rfl)
theorem dX3_acts_66 : decode cX3_acts 66 = .ok (.iload_n 1, 1) := dk_27 (dk_at dksX3_acts_2 20 rfl rfl)
theorem dX3_acts_67 : decode cX3_acts 67 = .ok (.iload_n 3, 1) := dk_29 (dk_at dksX3_acts_2 21 rfl rfl)
theorem dX3_acts_68 : decode cX3_acts 68 = .ok (.invokevirtual 202, 3) := dk_182 0 202 (dk_at dksX3_acts_3 0 rfl rfl)
theorem dX3_acts_71 : decode cX3_acts 71 = .ok (.ifCond .ne 9, 3) := dk_154 0 9 (dk_at dksX3_acts_3 3 rfl rfl)
theorem dX3_acts_74 : decode cX3_acts 74 = .ok (.aload_n 0, 1) := dk_42 (dk_at dksX3_acts_3 6 rfl rfl)
theorem dX3_acts_75 : decode cX3_acts 75 = .ok (.iload_n 1, 1) := dk_27 (dk_at dksX3_acts_3 7 rfl rfl)
theorem dX3_acts_76 : decode cX3_acts 76 = .ok (.iload_n 3, 1) := dk_29 (dk_at dksX3_acts_3 8 rfl rfl)
theorem dX3_acts_77 : decode cX3_acts 77 = .ok (.invokevirtual 205, 3) := dk_182 0 205 (dk_at dksX3_acts_3 9 rfl rfl)
theorem dX3_acts_80 : decode cX3_acts 80 = .ok (.iload_n 2, 1) := dk_28 (dk_at dksX3_acts_3 12 rfl rfl)
theorem dX3_acts_81 : decode cX3_acts 81 = .ok (.iconst 2, 1) := dk_5 (dk_at dksX3_acts_3 13 rfl rfl)
theorem dX3_acts_82 : decode cX3_acts 82 = .ok (.if_icmp .ne 16, 3) := dk_160 0 16 (dk_at dksX3_acts_3 14 rfl rfl)
theorem dX3_acts_85 : decode cX3_acts 85 = .ok (.aload_n 0, 1) := dk_42 (dk_at dksX3_acts_3 17 rfl rfl)
theorem dX3_acts_86 : decode cX3_acts 86 = .ok (.iload_n 1, 1) := dk_27 (dk_at dksX3_acts_3 18 rfl rfl)
theorem dX3_acts_87 : decode cX3_acts 87 = .ok (.invokevirtual 208, 3) := dk_182 0 208 (dk_at dksX3_acts_3 19 rfl rfl)
theorem dX3_acts_90 : decode cX3_acts 90 = .ok (.ifCond .ne 8, 3) := dk_154 0 8 (dk_at dksX3_acts_4 0 rfl rfl)
theorem dX3_acts_93 : decode cX3_acts 93 = .ok (.aload_n 0, 1) := dk_42 (dk_at dksX3_acts_4 3 rfl rfl)
theorem dX3_acts_94 : decode cX3_acts 94 = .ok (.iload_n 1, 1) := dk_27 (dk_at dksX3_acts_4 4 rfl rfl)
theorem dX3_acts_95 : decode cX3_acts 95 = .ok (.invokevirtual 158, 3) := dk_182 0 158 (dk_at dksX3_acts_4 5 rfl rfl)
theorem dX3_acts_98 : decode cX3_acts 98 = .ok (.return_, 1) := dk_177 (dk_at dksX3_acts_4 8 rfl rfl)
theorem se_HeldCoats_Reign_draw__I_I_HeldCoats_Reign : ∀ c ∈ ([3] : List Nat), ∃ q : vw_C, cz_cl[c]? = some q ∧ Cond.selects q.1 (⟨"HeldCoats$Reign", "draw", "(I)I"⟩ : MethodName) (⟨"HeldCoats$Reign", "draw", "(I)I"⟩ : MethodName) ∈ lw_all := List.forall_mem_cons.mpr ⟨⟨_, cz_cl3, qs33⟩, fun _ h => absurd h List.not_mem_nil⟩
theorem md_X3_draw : cz_md yX3_draw 2 (ws_ yX3_draw cX3_draw 2 ((Option.some Jvm.ClassFile.FieldType.int))) 1 := ⟨cz_ws_code q1509, q118, ⟨by decide, by decide, by decide +kernel⟩, by decide⟩
set_option maxHeartbeats 4000000 in
set_option maxRecDepth 100000 in
noncomputable def fn_X3_acts (l0 : Option Nat) (l1 : Int32) (h : cz_H) : cz_Z := cz_rc h l0 [3] (cz_cI (fn_X3_draw l0 6 h) (fun x8 h7 => cz_jn (fun (h9 : cz_H) => cz_getR h9 l0 [(3, 0)] (fun r10 => cz_getR h9 r10 [(1, 8)] (fun r11 => cz_rc h9 r11 [2] (cz_cR (fn_J2_get r11 l1 h9) (fun r19 h18 => cz_cast h18 r19 [11] (cz_getI h18 r19 [(11, 1)] (fun x20 => cz_jn (fun (h21 : cz_H) => (if x8 = 2 then cz_rc h21 l0 [3] (cz_cI (fn_X3_whyKeep l0 l1 h21) (fun x29 h28 => (if x29 = 0 then cz_rc h28 l0 [3] (cz_cV (fn_X3_keep l0 l1 h28) (fun h36 => some (.inl none, h36))) else some (.inl none, h28)))) else some (.inl none, h21))) (fun j37 => (if x8 = 1 then cz_rc h18 l0 [3] (cz_cI (fn_X3_whyWear l0 l1 x20 h18) (fun x45 h44 => (if x45 = 0 then cz_rc h44 l0 [3] (cz_cV (fn_X3_wear l0 l1 x20 h44) (fun h52 => j37 h52)) else j37 h44))) else j37 h18))))))))) (fun j53 => (if x8 = 0 then cz_rc h7 l0 [3] (cz_cI (fn_X3_seats l0 h7) (fun x61 h60 => (if x61 ≤ 0 then j53 h60 else cz_rc h60 l0 [3] (cz_cI (fn_X3_seats l0 h60) (fun x69 h68 => cz_rc h68 l0 [3] (cz_cI (fn_X3_draw l0 x69 h68) (fun x77 h76 => cz_rc h76 l0 [3] (cz_cI (fn_X3_whyLay l0 l1 x77 h76) (fun x85 h84 => (if x85 = 0 then cz_rc h84 l0 [3] (cz_cV (fn_X3_lay l0 l1 x77 h84) (fun h92 => j53 h92)) else j53 h84)))))))))) else j53 h7))))
set_option maxHeartbeats 4000000 in
set_option maxRecDepth 100000 in
theorem wk_X3_acts {K : cz_K} {D : cz_D} {h0 : cz_H} {oh : cz_O × cz_H} {l0 : Option Nat} {l1 : Int32} {h : cz_H} (S : cz_S K D h0 cX3_acts 4 "HeldCoats$Reign" ((Option.none : Option Jvm.ClassFile.FieldType)) "acts" ([])) : cz_T K D 6 h0 oh 4 (fn_X3_acts l0 l1 h) h 0 [(0, cz_r l0), (1, cz_i l1)] [] := by
  unfold fn_X3_acts
  refine ct_aload_n (k := 0) S dX3_acts_0 rfl rfl ?_
  refine ct_bipush (v := 6) S dX3_acts_1 kB_6 ?_
  refine ct_rc (fun b1 ci2 V3 hb4 hc5 hi6 => ?_)
  refine ct_cI (st := []) (cg_virtual (av := [cz_i 6]) S hb4 hc5 hi6 (fun _ e => mt_X3_draw e) md_X3_draw q1506 q1508 se_HeldCoats_Reign_draw__I_I_HeldCoats_Reign (by decide) (Nat.le_of_ble_eq_true rfl) rfl dX3_acts_3) (fun x8 h7 => ?_)
  refine ct_istore_n (L' := [(2, cz_i x8), (0, cz_r l0), (1, cz_i l1)]) S dX3_acts_6 rfl (by decide) rfl ?_
  refine ct_iload_n (k := 0) S dX3_acts_7 rfl rfl ?_
  refine ct_jnP (fun j53 => ∀ (h9 : cz_H), cz_T K D 6 h0 oh 4 (j53 h9) h9 42 [(0, cz_r l0), (1, cz_i l1), (2, cz_i x8)] []) (fun h9 => ?_) (fun j53 Hj53 => ?_)
  · refine ct_aload_n (k := 0) S dX3_acts_42 rfl rfl ?_
    refine ct_getR S fw_X3_33 dX3_acts_43 (fun r10 => ?_)
    refine ct_getR S fw_X3_63 dX3_acts_46 (fun r11 => ?_)
    refine ct_iload_n (k := 1) S dX3_acts_49 rfl rfl ?_
    refine ct_rc (fun b12 ci13 V14 hb15 hc16 hi17 => ?_)
    refine ct_cR (st := []) (cg_virtual (av := [cz_i l1]) S hb15 hc16 hi17 (fun _ e => mt_J2_get e) md_J2_get q344 q345 se_java_util_ArrayList_get__I_Ljava_lang_Object__java_util_ArrayList (by decide) (Nat.le_of_ble_eq_true rfl) rfl dX3_acts_50) (fun r19 h18 => ?_)
    refine ct_cast S q358 ca_HeldCoats_Coat dX3_acts_53 ?_
    refine ct_getI S fw_X3_76 dX3_acts_56 (fun x20 => ?_)
    refine ct_istore_n (L' := [(3, cz_i x20), (0, cz_r l0), (1, cz_i l1), (2, cz_i x8)]) S dX3_acts_59 rfl (by decide) rfl ?_
    refine ct_iload_n (k := 3) S dX3_acts_60 rfl rfl ?_
    refine ct_iconst (v := 1) S dX3_acts_61 kI_1 ?_
    refine ct_jnP (fun j37 => ∀ (h21 : cz_H), cz_T K D 6 h0 oh 4 (j37 h21) h21 80 [(0, cz_r l0), (1, cz_i l1), (2, cz_i x8)] []) (fun h21 => ?_) (fun j37 Hj37 => ?_)
    · refine ct_iload_n (k := 2) S dX3_acts_80 rfl rfl ?_
      refine ct_iconst (v := 2) S dX3_acts_81 kI_2 ?_
      refine ct_icmp_ne (tgt := 98) S dX3_acts_82 (by decide) ?_ ?_
      · exact ct_vret S rfl dX3_acts_98
      · refine ct_aload_n (k := 0) S dX3_acts_85 rfl rfl ?_
        refine ct_iload_n (k := 1) S dX3_acts_86 rfl rfl ?_
        refine ct_rc (fun b22 ci23 V24 hb25 hc26 hi27 => ?_)
        refine ct_cI (st := []) (cg_virtual (av := [cz_i l1]) S hb25 hc26 hi27 (fun _ e => mt_X3_whyKeep e) md_X3_whyKeep q1515 q1278 se_HeldCoats_Reign_whyKeep__I_I_HeldCoats_Reign (by decide) (Nat.le_of_ble_eq_true rfl) rfl dX3_acts_87) (fun x29 h28 => ?_)
        refine ct_if_ne (tgt := 98) S dX3_acts_90 (by decide) ?_ ?_
        · exact ct_vret S rfl dX3_acts_98
        · refine ct_aload_n (k := 0) S dX3_acts_93 rfl rfl ?_
          refine ct_iload_n (k := 1) S dX3_acts_94 rfl rfl ?_
          refine ct_rc (fun b30 ci31 V32 hb33 hc34 hi35 => ?_)
          refine ct_cV (st := []) (cg_virtual (av := [cz_i l1]) S hb33 hc34 hi35 (fun _ e => mt_X3_keep e) md_X3_keep q1244 q1245 se_HeldCoats_Reign_keep__I_V_HeldCoats_Reign (by decide) (Nat.le_of_ble_eq_true rfl) rfl dX3_acts_95) (fun h36 => ?_)
          exact ct_vret S rfl dX3_acts_98
    · refine ct_icmp_ne (tgt := 80) S dX3_acts_62 (by decide) ?_ ?_
      · exact ct_sub [1, 2, 3] rfl (Hj37 h18)
      · refine ct_aload_n (k := 1) S dX3_acts_65 rfl rfl ?_
        refine ct_iload_n (k := 2) S dX3_acts_66 rfl rfl ?_
        refine ct_iload_n (k := 0) S dX3_acts_67 rfl rfl ?_
        refine ct_rc (fun b38 ci39 V40 hb41 hc42 hi43 => ?_)
        refine ct_cI (st := []) (cg_virtual (av := [cz_i l1, cz_i x20]) S hb41 hc42 hi43 (fun _ e => mt_X3_whyWear e) md_X3_whyWear q1513 q1288 se_HeldCoats_Reign_whyWear__II_I_HeldCoats_Reign (by decide) (Nat.le_of_ble_eq_true rfl) rfl dX3_acts_68) (fun x45 h44 => ?_)
        refine ct_if_ne (tgt := 80) S dX3_acts_71 (by decide) ?_ ?_
        · exact ct_sub [1, 2, 3] rfl (Hj37 h44)
        · refine ct_aload_n (k := 1) S dX3_acts_74 rfl rfl ?_
          refine ct_iload_n (k := 2) S dX3_acts_75 rfl rfl ?_
          refine ct_iload_n (k := 0) S dX3_acts_76 rfl rfl ?_
          refine ct_rc (fun b46 ci47 V48 hb49 hc50 hi51 => ?_)
          refine ct_cV (st := []) (cg_virtual (av := [cz_i l1, cz_i x20]) S hb49 hc50 hi51 (fun _ e => mt_X3_wear e) md_X3_wear q1514 q1292 se_HeldCoats_Reign_wear__II_V_HeldCoats_Reign (by decide) (Nat.le_of_ble_eq_true rfl) rfl dX3_acts_77) (fun h52 => ?_)
          exact ct_sub [1, 2, 3] rfl (Hj37 h52)
  · refine ct_if_ne (tgt := 42) S dX3_acts_8 (by decide) ?_ ?_
    · exact ct_sub [1, 2, 0] rfl (Hj53 h7)
    · refine ct_aload_n (k := 1) S dX3_acts_11 rfl rfl ?_
      refine ct_rc (fun b54 ci55 V56 hb57 hc58 hi59 => ?_)
      refine ct_cI (st := []) (cg_virtual (av := []) S hb57 hc58 hi59 (fun _ e => mt_X3_seats e) md_X3_seats q1132 q1133 se_HeldCoats_Reign_seats___I_HeldCoats_Reign (by decide) (Nat.le_of_ble_eq_true rfl) rfl dX3_acts_12) (fun x61 h60 => ?_)
      refine ct_if_le (tgt := 42) S dX3_acts_15 (by decide) ?_ ?_
      · exact ct_sub [1, 2, 0] rfl (Hj53 h60)
      · refine ct_aload_n (k := 1) S dX3_acts_18 rfl rfl ?_
        refine ct_aload_n (k := 1) S dX3_acts_19 rfl rfl ?_
        refine ct_rc (fun b62 ci63 V64 hb65 hc66 hi67 => ?_)
        refine ct_cI (st := [cz_r l0]) (cg_virtual (av := []) S hb65 hc66 hi67 (fun _ e => mt_X3_seats e) md_X3_seats q1132 q1133 se_HeldCoats_Reign_seats___I_HeldCoats_Reign (by decide) (Nat.le_of_ble_eq_true rfl) rfl dX3_acts_20) (fun x69 h68 => ?_)
        refine ct_rc (fun b70 ci71 V72 hb73 hc74 hi75 => ?_)
        refine ct_cI (st := []) (cg_virtual (av := [cz_i x69]) S hb73 hc74 hi75 (fun _ e => mt_X3_draw e) md_X3_draw q1506 q1508 se_HeldCoats_Reign_draw__I_I_HeldCoats_Reign (by decide) (Nat.le_of_ble_eq_true rfl) rfl dX3_acts_23) (fun x77 h76 => ?_)
        refine ct_istore_n (L' := [(3, cz_i x77), (2, cz_i x8), (0, cz_r l0), (1, cz_i l1)]) S dX3_acts_26 rfl (by decide) rfl ?_
        refine ct_aload_n (k := 2) S dX3_acts_27 rfl rfl ?_
        refine ct_iload_n (k := 3) S dX3_acts_28 rfl rfl ?_
        refine ct_iload_n (k := 0) S dX3_acts_29 rfl rfl ?_
        refine ct_rc (fun b78 ci79 V80 hb81 hc82 hi83 => ?_)
        refine ct_cI (st := []) (cg_virtual (av := [cz_i l1, cz_i x77]) S hb81 hc82 hi83 (fun _ e => mt_X3_whyLay e) md_X3_whyLay q1511 q1263 se_HeldCoats_Reign_whyLay__II_I_HeldCoats_Reign (by decide) (Nat.le_of_ble_eq_true rfl) rfl dX3_acts_30) (fun x85 h84 => ?_)
        refine ct_if_ne (tgt := 42) S dX3_acts_33 (by decide) ?_ ?_
        · exact ct_sub [2, 3, 1] rfl (Hj53 h84)
        · refine ct_aload_n (k := 2) S dX3_acts_36 rfl rfl ?_
          refine ct_iload_n (k := 3) S dX3_acts_37 rfl rfl ?_
          refine ct_iload_n (k := 0) S dX3_acts_38 rfl rfl ?_
          refine ct_rc (fun b86 ci87 V88 hb89 hc90 hi91 => ?_)
          refine ct_cV (st := []) (cg_virtual (av := [cz_i l1, cz_i x77]) S hb89 hc90 hi91 (fun _ e => mt_X3_lay e) md_X3_lay q1512 q1271 se_HeldCoats_Reign_lay__II_V_HeldCoats_Reign (by decide) (Nat.le_of_ble_eq_true rfl) rfl dX3_acts_39) (fun h92 => ?_)
          exact ct_sub [2, 3, 1] rfl (Hj53 h92)
theorem mt_X3_acts {l : Launch} {D : cz_D} {l0 : Option Nat} {l1 : Int32} {h : cz_H} {oh : cz_O × cz_H} (hz : fn_X3_acts l0 l1 h = some oh) : cz_M l D yX3_acts (ws_ yX3_acts cX3_acts 4 ((Option.none : Option Jvm.ClassFile.FieldType))) 6 [cz_r l0, cz_i l1] h oh := cz_met (plainFor_of_name (by decide)) (Nat.le_of_ble_eq_true rfl) hz (fun K hl S => wk_X3_acts S)
