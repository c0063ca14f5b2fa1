/-! methods of the class, 5 (printed by wip/D-98934w/gen) -/
set_option maxRecDepth 100000
/-! HeldCoats$Reign.drawn(II)I -/
def dkwX3_drawn_2 : List UInt8 := [132, 3, 1, 167, 255, 212, 29, 172]
abbrev dktX3_drawn_2 : List UInt8 := dkwX3_drawn_2 ++ []
def dkwX3_drawn_1 : List UInt8 := [42, 182, 0, 59, 162, 0, 15, 42, 21, 4, 182, 0, 211, 132, 4, 1, 167, 255, 238, 42, 182, 0, 185, 87]
abbrev dktX3_drawn_1 : List UInt8 := dkwX3_drawn_1 ++ dktX3_drawn_2
def dkwX3_drawn_0 : List UInt8 := [42, 28, 181, 0, 188, 3, 62, 29, 27, 162, 0, 45, 42, 182, 0, 161, 154, 0, 38, 3, 54, 4, 21, 4]
abbrev dktX3_drawn_0 : List UInt8 := dkwX3_drawn_0 ++ dktX3_drawn_1
theorem dksX3_drawn_0 : cX3_drawn.data.toList.drop 0 = dktX3_drawn_0 := by decide +kernel
theorem dksX3_drawn_1 : cX3_drawn.data.toList.drop 24 = dktX3_drawn_1 := dk_seg dksX3_drawn_0 24 rfl rfl
theorem dksX3_drawn_2 : cX3_drawn.data.toList.drop 48 = dktX3_drawn_2 := dk_seg dksX3_drawn_1 24 rfl rfl
theorem dX3_drawn_0 : decode cX3_drawn 0 = .ok (.aload_n 0, 1) := dk_42 (dk_at dksX3_drawn_0 0 rfl rfl)
theorem dX3_drawn_1 : decode cX3_drawn 1 = .ok (.iload_n 2, 1) := dk_28 (dk_at dksX3_drawn_0 1 rfl rfl)
theorem dX3_drawn_2 : decode cX3_drawn 2 = .ok (.putfield 188, 3) := dk_181 0 188 (dk_at dksX3_drawn_0 2 rfl rfl)
theorem dX3_drawn_5 : decode cX3_drawn 5 = .ok (.iconst 0, 1) := dk_3 (dk_at dksX3_drawn_0 5 rfl rfl)
theorem dX3_drawn_6 : decode cX3_drawn 6 = .ok (.istore_n 3, 1) := dk_62 (dk_at dksX3_drawn_0 6 rfl rfl)
theorem dX3_drawn_7 : decode cX3_drawn 7 = .ok (.iload_n 3, 1) := dk_29 (dk_at dksX3_drawn_0 7 rfl rfl)
theorem dX3_drawn_8 : decode cX3_drawn 8 = .ok (.iload_n 1, 1) := dk_27 (dk_at dksX3_drawn_0 8 rfl rfl)
theorem dX3_drawn_9 : decode cX3_drawn 9 = .ok (.if_icmp .ge 45, 3) := dk_162 0 45 (dk_at dksX3_drawn_0 9 rfl rfl)
theorem dX3_drawn_12 : decode cX3_drawn 12 = .ok (.aload_n 0, 1) := dk_42 (dk_at dksX3_drawn_0 12 rfl rfl)
theorem dX3_drawn_13 : decode cX3_drawn 13 = .ok (.invokevirtual 161, 3) := dk_182 0 161 (dk_at dksX3_drawn_0 13 rfl rfl)
theorem dX3_drawn_16 : decode cX3_drawn 16 = .ok (.ifCond .ne 38, 3) := dk_154 0 38 (dk_at dksX3_drawn_0 16 rfl rfl)
theorem dX3_drawn_19 : decode cX3_drawn 19 = .ok (.iconst 0, 1) := dk_3 (dk_at dksX3_drawn_0 19 rfl rfl)
theorem dX3_drawn_20 : decode cX3_drawn 20 = .ok (.istore 4, 2) := dk_54 4 (dk_at dksX3_drawn_0 20 rfl rfl)
theorem dX3_drawn_22 : decode cX3_drawn 22 = .ok (.iload 4, 2) := dk_21 4 (dk_at dksX3_drawn_0 22 rfl rfl)
theorem dX3_drawn_24 : decode cX3_drawn 24 = .ok (.aload_n 0, 1) := dk_42 (dk_at dksX3_drawn_1 0 rfl rfl)
theorem dX3_drawn_25 : decode cX3_drawn 25 = .ok (.invokevirtual 59, 3) := dk_182 0 59 (dk_at dksX3_drawn_1 1 rfl rfl)
theorem dX3_drawn_28 : decode cX3_drawn 28 = .ok (.if_icmp .ge 15, 3) := dk_162 0 15 (dk_at dksX3_drawn_1 4 rfl rfl)
theorem dX3_drawn_31 : decode cX3_drawn 31 = .ok (.aload_n 0, 1) := dk_42 (dk_at dksX3_drawn_1 7 rfl rfl)
theorem dX3_drawn_32 : decode cX3_drawn 32 = .ok (.iload 4, 2) := dk_21 4 (dk_at dksX3_drawn_1 8 rfl rfl)
theorem dX3_drawn_34 : decode cX3_drawn 34 = .ok (.invokevirtual 211, 3) := dk_182 0 211 (dk_at dksX3_drawn_1 10 rfl rfl)
theorem dX3_drawn_37 : decode cX3_drawn 37 = .ok (.iinc 4 1, 3) := dk_132 4 1 (dk_at dksX3_drawn_1 13 rfl rfl)
theorem dX3_drawn_40 : decode cX3_drawn 40 = .ok (.goto (-18), 3) := dk_167 255 238 (dk_at dksX3_drawn_1 16 rfl rfl)
theorem dX3_drawn_43 : decode cX3_drawn 43 = .ok (.aload_n 0, 1) := dk_42 (dk_at dksX3_drawn_1 19 rfl rfl)
theorem dX3_drawn_44 : decode cX3_drawn 44 = .ok (.invokevirtual 185, 3) := dk_182 0 185 (dk_at dksX3_drawn_1 20 rfl rfl)
theorem dX3_drawn_47 : decode cX3_drawn 47 = .ok (.pop, 1) := dk_87 (dk_at dksX3_drawn_1 23 rfl rfl)
theorem dX3_drawn_48 : decode cX3_drawn 48 = .ok (.iinc 3 1, 3) := dk_132 3 1 (dk_at dksX3_drawn_2 0 rfl rfl)
theorem dX3_drawn_51 : decode cX3_drawn 51 = .ok (.goto (-44), 3) := dk_167 255 212 (dk_at dksX3_drawn_2 3 rfl rfl)
theorem dX3_drawn_54 : decode cX3_drawn 54 = .ok (.iload_n 3, 1) := dk_29 (dk_at dksX3_drawn_2 6 rfl rfl)
theorem dX3_drawn_55 : decode cX3_drawn 55 = .ok (.ireturn, 1) := dk_172 (dk_at dksX3_drawn_2 7 rfl rfl)
theorem se_HeldCoats_Reign_acts__I_V_HeldCoats_Reign : ∀ c ∈ ([3] : List Nat), ∃ q : vw_C, cz_cl[c]? = some q ∧ Cond.selects q.1 (⟨"HeldCoats$Reign", "acts", "(I)V"⟩ : MethodName) (⟨"HeldCoats$Reign", "acts", "(I)V"⟩ : MethodName) ∈ lw_all := List.forall_mem_cons.mpr ⟨⟨_, cz_cl3, qs32⟩, fun _ h => absurd h List.not_mem_nil⟩
theorem md_X3_acts : cz_md yX3_acts 4 (ws_ yX3_acts cX3_acts 4 ((Option.none : Option Jvm.ClassFile.FieldType))) 1 := ⟨cz_ws_code q1505, q118, ⟨by decide, by decide, by decide +kernel⟩, by decide⟩
set_option maxHeartbeats 4000000 in
set_option maxRecDepth 100000 in
noncomputable def fn_X3_drawn_22 (l0 : Option Nat) (k0 : cz_H → cz_Z) : Nat → Int32 → cz_H → cz_Z
  | 0, _, _ => none
  | n + 1, l4, h => cz_rc h l0 [3] (cz_cI (fn_X3_coats l0 h) (fun x17 h16 => (if x17 ≤ l4 then k0 h16 else cz_rc h16 l0 [3] (cz_cV (fn_X3_acts l0 l4 h16) (fun h24 => cz_leti (l4 + 1) (fun x25 => fn_X3_drawn_22 l0 k0 n x25 h24))))))
set_option maxHeartbeats 4000000 in
set_option maxRecDepth 100000 in
theorem wk_X3_drawn_22 {K : cz_K} {D : cz_D} {h0 : cz_H} {oh : cz_O × cz_H} {l0 : Option Nat} {l1 : Int32} {l3 : Int32} {k0 : cz_H → cz_Z} (S : cz_S K D h0 cX3_drawn 5 "HeldCoats$Reign" ((Option.some Jvm.ClassFile.FieldType.int)) "drawn" ([])) (hk0 : ∀ (h : cz_H), cz_T K D 10 h0 oh 5 (k0 h) h 43 [(0, cz_r l0), (1, cz_i l1), (3, cz_i l3)] []) : ∀ (n : Nat) (l4 : Int32) (h : cz_H), cz_T K D 10 h0 oh 5 (fn_X3_drawn_22 l0 k0 n l4 h) h 22 [(0, cz_r l0), (1, cz_i l1), (3, cz_i l3), (4, cz_i l4)] [] := by
  intro n
  induction n with
  | zero => intros; exact ct_none
  | succ n ih =>
    intro l4 h
    rw [fn_X3_drawn_22]
    refine ct_iload (k := 3) S dX3_drawn_22 rfl ?_
    refine ct_aload_n (k := 0) S dX3_drawn_24 rfl rfl ?_
    refine ct_rc (fun b10 ci11 V12 hb13 hc14 hi15 => ?_)
    refine ct_cI (st := [cz_i l4]) (cg_virtual (av := []) S hb13 hc14 hi15 (fun _ e => mt_X3_coats e) md_X3_coats q336 q337 se_HeldCoats_Reign_coats___I_HeldCoats_Reign (by decide) (Nat.le_of_ble_eq_true rfl) rfl dX3_drawn_25) (fun x17 h16 => ?_)
    refine ct_icmp_ge (tgt := 43) S dX3_drawn_28 (by decide) ?_ ?_
    · exact ct_sub [0, 1, 2] rfl (hk0 h16)
    · refine ct_aload_n (k := 0) S dX3_drawn_31 rfl rfl ?_
      refine ct_iload (k := 3) S dX3_drawn_32 rfl ?_
      refine ct_rc (fun b18 ci19 V20 hb21 hc22 hi23 => ?_)
      refine ct_cV (st := []) (cg_virtual (av := [cz_i l4]) S hb21 hc22 hi23 (fun _ e => mt_X3_acts e) md_X3_acts q1502 q1504 se_HeldCoats_Reign_acts__I_V_HeldCoats_Reign (by decide) (Nat.le_of_ble_eq_true rfl) rfl dX3_drawn_34) (fun h24 => ?_)
      refine ct_iincL (j := 3) (L2 := fun x25 => [(4, cz_i x25), (0, cz_r l0), (1, cz_i l1), (3, cz_i l3)]) S dX3_drawn_37 rfl kI_1 (by decide) (fun _ => rfl) (fun x25 => ?_)
      refine ct_goto (tgt := 22) S dX3_drawn_40 (by decide) ?_
      exact ct_sub [1, 2, 3, 0] rfl (ih x25 h24)
set_option maxHeartbeats 4000000 in
set_option maxRecDepth 100000 in
noncomputable def fn_X3_drawn_7 (l0 : Option Nat) (l1 : Int32) (k0 : Int32 → cz_H → cz_Z) : Nat → Int32 → cz_H → cz_Z
  | 0, _, _ => none
  | n + 1, l3, h => (if l1 ≤ l3 then k0 l3 h else cz_rc h l0 [3] (cz_cI (fn_X3_isOver l0 h) (fun x9 h8 => (if x9 = 0 then fn_X3_drawn_22 l0 (fun (h26 : cz_H) => cz_rc h26 l0 [3] (cz_cI (fn_X3_pass l0 h26) (fun x34 h33 => cz_leti (l3 + 1) (fun x35 => fn_X3_drawn_7 l0 l1 k0 n x35 h33)))) 1000 0 h8 else k0 l3 h8))))
set_option maxHeartbeats 4000000 in
set_option maxRecDepth 100000 in
theorem wk_X3_drawn_7 {K : cz_K} {D : cz_D} {h0 : cz_H} {oh : cz_O × cz_H} {l0 : Option Nat} {l1 : Int32} {k0 : Int32 → cz_H → cz_Z} (S : cz_S K D h0 cX3_drawn 5 "HeldCoats$Reign" ((Option.some Jvm.ClassFile.FieldType.int)) "drawn" ([])) (hk0 : ∀ (e3 : Int32) (h : cz_H), cz_T K D 10 h0 oh 5 (k0 e3 h) h 54 [(3, cz_i e3)] []) : ∀ (n : Nat) (l3 : Int32) (h : cz_H), cz_T K D 10 h0 oh 5 (fn_X3_drawn_7 l0 l1 k0 n l3 h) h 7 [(0, cz_r l0), (1, cz_i l1), (3, cz_i l3)] [] := by
  intro n
  induction n with
  | zero => intros; exact ct_none
  | succ n ih =>
    intro l3 h
    rw [fn_X3_drawn_7]
    refine ct_iload_n (k := 2) S dX3_drawn_7 rfl rfl ?_
    refine ct_iload_n (k := 1) S dX3_drawn_8 rfl rfl ?_
    refine ct_icmp_ge (tgt := 54) S dX3_drawn_9 (by decide) ?_ ?_
    · exact ct_sub [2] rfl (hk0 l3 h)
    · refine ct_aload_n (k := 0) S dX3_drawn_12 rfl rfl ?_
      refine ct_rc (fun b2 ci3 V4 hb5 hc6 hi7 => ?_)
      refine ct_cI (st := []) (cg_virtual (av := []) S hb5 hc6 hi7 (fun _ e => mt_X3_isOver e) md_X3_isOver q1212 q1213 se_HeldCoats_Reign_isOver___Z_HeldCoats_Reign (by decide) (Nat.le_of_ble_eq_true rfl) rfl dX3_drawn_13) (fun x9 h8 => ?_)
      refine ct_if_ne (tgt := 54) S dX3_drawn_16 (by decide) ?_ ?_
      · exact ct_sub [2] rfl (hk0 l3 h8)
      · refine ct_iconst (v := 0) S dX3_drawn_19 kI_0 ?_
        refine ct_istore (L' := [(4, cz_i 0), (0, cz_r l0), (1, cz_i l1), (3, cz_i l3)]) S dX3_drawn_20 (by decide) rfl ?_
        refine ct_sub [1, 2, 3, 0] (L' := [(0, cz_r l0), (1, cz_i l1), (3, cz_i l3), (4, cz_i 0)]) rfl (wk_X3_drawn_22 S ?_ 1000 0 h8)
        · intro h26
          refine ct_aload_n (k := 0) S dX3_drawn_43 rfl rfl ?_
          refine ct_rc (fun b27 ci28 V29 hb30 hc31 hi32 => ?_)
          refine ct_cI (st := []) (cg_virtual (av := []) S hb30 hc31 hi32 (fun _ e => mt_X3_pass e) md_X3_pass q1208 q1209 se_HeldCoats_Reign_pass___Z_HeldCoats_Reign (by decide) (Nat.le_of_ble_eq_true rfl) rfl dX3_drawn_44) (fun x34 h33 => ?_)
          refine ct_pop S dX3_drawn_47 rfl ?_
          refine ct_iincL (j := 2) (L2 := fun x35 => [(3, cz_i x35), (0, cz_r l0), (1, cz_i l1)]) S dX3_drawn_48 rfl kI_1 (by decide) (fun _ => rfl) (fun x35 => ?_)
          refine ct_goto (tgt := 7) S dX3_drawn_51 (by decide) ?_
          exact ct_sub [1, 2, 0] rfl (ih x35 h33)
set_option maxHeartbeats 4000000 in
set_option maxRecDepth 100000 in
noncomputable def fn_X3_drawn (l0 : Option Nat) (l1 : Int32) (l2 : Int32) (h : cz_H) : cz_Z := cz_put h l0 [(3, 13)] (cz_i l2) (fun h1 => fn_X3_drawn_7 l0 l1 (fun (e36 : Int32) (h37 : cz_H) => some (.inl (some (cz_i e36)), h37)) 1000 0 h1)
set_option maxHeartbeats 4000000 in
set_option maxRecDepth 100000 in
theorem wk_X3_drawn {K : cz_K} {D : cz_D} {h0 : cz_H} {oh : cz_O × cz_H} {l0 : Option Nat} {l1 : Int32} {l2 : Int32} {h : cz_H} (S : cz_S K D h0 cX3_drawn 5 "HeldCoats$Reign" ((Option.some Jvm.ClassFile.FieldType.int)) "drawn" ([])) : cz_T K D 10 h0 oh 5 (fn_X3_drawn l0 l1 l2 h) h 0 [(0, cz_r l0), (1, cz_i l1), (2, cz_i l2)] [] := by
  unfold fn_X3_drawn
  refine ct_aload_n (k := 0) S dX3_drawn_0 rfl rfl ?_
  refine ct_iload_n (k := 2) S dX3_drawn_1 rfl rfl ?_
  refine ct_put S fw_X3_188 fp_X3_m_3_13 (cz_fits_i pd_I) dX3_drawn_2 (fun h1 => ?_)
  refine ct_iconst (v := 0) S dX3_drawn_5 kI_0 ?_
  refine ct_istore_n (L' := [(3, cz_i 0), (0, cz_r l0), (1, cz_i l1), (2, cz_i l2)]) S dX3_drawn_6 rfl (by decide) rfl ?_
  refine ct_sub [1, 2, 0] (L' := [(0, cz_r l0), (1, cz_i l1), (3, cz_i 0)]) rfl (wk_X3_drawn_7 S ?_ 1000 0 h1)
  · intro e36 h37
    refine ct_iload_n (k := 0) S dX3_drawn_54 rfl rfl ?_
    exact ct_iret S rfl dX3_drawn_55
theorem mt_X3_drawn {l : Launch} {D : cz_D} {l0 : Option Nat} {l1 : Int32} {l2 : Int32} {h : cz_H} {oh : cz_O × cz_H} (hz : fn_X3_drawn l0 l1 l2 h = some oh) : cz_M l D yX3_drawn (ws_ yX3_drawn cX3_drawn 5 ((Option.some Jvm.ClassFile.FieldType.int))) 10 [cz_r l0, cz_i l1, cz_i l2] h oh := cz_met (plainFor_of_name (by decide)) (Nat.le_of_ble_eq_true rfl) hz (fun K hl S => wk_X3_drawn S)
/-! HeldCoats.drawn(II)I -/
def dkwX1_drawn_1 : List UInt8 := [182, 1, 7, 153, 0, 5, 3, 172, 42, 182, 0, 242, 42, 180, 0, 42, 27, 28, 182, 1, 76, 172]
abbrev dktX1_drawn_1 : List UInt8 := dkwX1_drawn_1 ++ []
def dkwX1_drawn_0 : List UInt8 := [27, 4, 16, 60, 184, 0, 162, 153, 0, 10, 42, 182, 1, 47, 154, 0, 5, 2, 172, 42, 180, 0, 42]
abbrev dktX1_drawn_0 : List UInt8 := dkwX1_drawn_0 ++ dktX1_drawn_1
theorem dksX1_drawn_0 : cX1_drawn.data.toList.drop 0 = dktX1_drawn_0 := by decide +kernel
theorem dksX1_drawn_1 : cX1_drawn.data.toList.drop 23 = dktX1_drawn_1 := dk_seg dksX1_drawn_0 23 rfl rfl
theorem dX1_drawn_0 : decode cX1_drawn 0 = .ok (.iload_n 1, 1) := dk_27 (dk_at dksX1_drawn_0 0 rfl rfl)
theorem dX1_drawn_1 : decode cX1_drawn 1 = .ok (.iconst 1, 1) := dk_4 (dk_at dksX1_drawn_0 1 rfl rfl)
theorem dX1_drawn_2 : decode cX1_drawn 2 = .ok (.bipush 60, 2) := dk_16 60 (dk_at dksX1_drawn_0 2 rfl rfl)
theorem dX1_drawn_4 : decode cX1_drawn 4 = .ok (.invokestatic 162, 3) := dk_184 0 162 (dk_at dksX1_drawn_0 4 rfl rfl)
theorem dX1_drawn_7 : decode cX1_drawn 7 = .ok (.ifCond .eq 10, 3) := dk_153 0 10 (dk_at dksX1_drawn_0 7 rfl rfl)
theorem dX1_drawn_10 : decode cX1_drawn 10 = .ok (.aload_n 0, 1) := dk_42 (dk_at dksX1_drawn_0 10 rfl rfl)
theorem dX1_drawn_11 : decode cX1_drawn 11 = .ok (.invokevirtual 303, 3) := dk_182 1 47 (dk_at dksX1_drawn_0 11 rfl rfl)
theorem dX1_drawn_14 : decode cX1_drawn 14 = .ok (.ifCond .ne 5, 3) := dk_154 0 5 (dk_at dksX1_drawn_0 14 rfl rfl)
theorem dX1_drawn_17 : decode cX1_drawn 17 = .ok (.iconst (-1), 1) := dk_2 (dk_at dksX1_drawn_0 17 rfl rfl)
theorem dX1_drawn_18 : decode cX1_drawn 18 = .ok (.ireturn, 1) := dk_172 (dk_at dksX1_drawn_0 18 rfl rfl)
theorem dX1_drawn_19 : decode cX1_drawn 19 = .ok (.aload_n 0, 1) := dk_42 (dk_at dksX1_drawn_0 19 rfl rfl)
theorem dX1_drawn_20 : decode cX1_drawn 20 = .ok (.getfield 42, 3) := dk_180 0 42 (dk_at dksX1_drawn_0 20 rfl rfl)
theorem dX1_drawn_23 : decode cX1_drawn 23 = .ok (.invokevirtual 263, 3) := dk_182 1 7 (dk_at dksX1_drawn_1 0 rfl rfl)
theorem dX1_drawn_26 : decode cX1_drawn 26 = .ok (.ifCond .eq 5, 3) := dk_153 0 5 (dk_at dksX1_drawn_1 3 rfl rfl)
theorem dX1_drawn_29 : decode cX1_drawn 29 = .ok (.iconst 0, 1) := dk_3 (dk_at dksX1_drawn_1 6 rfl rfl)
theorem dX1_drawn_30 : decode cX1_drawn 30 = .ok (.ireturn, 1) := dk_172 (dk_at dksX1_drawn_1 7 rfl rfl)
theorem dX1_drawn_31 : decode cX1_drawn 31 = .ok (.aload_n 0, 1) := dk_42 (dk_at dksX1_drawn_1 8 rfl rfl)
theorem dX1_drawn_32 : decode cX1_drawn 32 = .ok (.invokevirtual 242, 3) := dk_182 0 242 (dk_at dksX1_drawn_1 9 rfl rfl)
theorem dX1_drawn_35 : decode cX1_drawn 35 = .ok (.aload_n 0, 1) := dk_42 (dk_at dksX1_drawn_1 12 rfl rfl)
theorem dX1_drawn_36 : decode cX1_drawn 36 = .ok (.getfield 42, 3) := dk_180 0 42 (dk_at dksX1_drawn_1 13 rfl rfl)
theorem dX1_drawn_39 : decode cX1_drawn 39 = .ok (.iload_n 1, 1) := dk_27 (dk_at dksX1_drawn_1 16 rfl rfl)
theorem dX1_drawn_40 : decode cX1_drawn 40 = .ok (.iload_n 2, 1) := dk_28 (dk_at dksX1_drawn_1 17 rfl rfl)
theorem dX1_drawn_41 : decode cX1_drawn 41 = .ok (.invokevirtual 332, 3) := dk_182 1 76 (dk_at dksX1_drawn_1 18 rfl rfl)
theorem dX1_drawn_44 : decode cX1_drawn 44 = .ok (.ireturn, 1) := dk_172 (dk_at dksX1_drawn_1 21 rfl rfl)
theorem se_HeldCoats_Reign_drawn__II_I_HeldCoats_Reign : ∀ c ∈ ([3] : List Nat), ∃ q : vw_C, cz_cl[c]? = some q ∧ Cond.selects q.1 (⟨"HeldCoats$Reign", "drawn", "(II)I"⟩ : MethodName) (⟨"HeldCoats$Reign", "drawn", "(II)I"⟩ : MethodName) ∈ lw_all := List.forall_mem_cons.mpr ⟨⟨_, cz_cl3, q1500⟩, fun _ h => absurd h List.not_mem_nil⟩
theorem md_X3_drawn : cz_md yX3_drawn 5 (ws_ yX3_drawn cX3_drawn 5 ((Option.some Jvm.ClassFile.FieldType.int))) 2 := ⟨cz_ws_code q1501, q118, ⟨by decide, by decide, by decide +kernel⟩, by decide⟩
set_option maxHeartbeats 4000000 in
set_option maxRecDepth 100000 in
noncomputable def fn_X1_drawn (l0 : Option Nat) (l1 : Int32) (l2 : Int32) (h : cz_H) : cz_Z := cz_cI (fn_X1_isIn l1 1 60 h) (fun x2 h1 => (if x2 = 0 then some (.inl (some (cz_i (-1))), h1) else cz_rc h1 l0 [0] (cz_cI (fn_X1_coats l0 h1) (fun x10 h9 => (if x10 = 0 then some (.inl (some (cz_i (-1))), h9) else cz_getR h9 l0 [(0, 4)] (fun r11 => cz_rc h9 r11 [3] (cz_cI (fn_X3_isOver r11 h9) (fun x19 h18 => (if x19 = 0 then cz_rc h18 l0 [0] (cz_cV (fn_X1_snap l0 h18) (fun h26 => cz_getR h26 l0 [(0, 4)] (fun r27 => cz_rc h26 r27 [3] (cz_cI (fn_X3_drawn r27 l1 l2 h26) (fun x35 h34 => some (.inl (some (cz_i x35)), h34)))))) else some (.inl (some (cz_i 0)), h18))))))))))
set_option maxHeartbeats 4000000 in
set_option maxRecDepth 100000 in
theorem wk_X1_drawn {K : cz_K} {D : cz_D} {h0 : cz_H} {oh : cz_O × cz_H} {l0 : Option Nat} {l1 : Int32} {l2 : Int32} {h : cz_H} (S : cz_S K D h0 cX1_drawn 3 "HeldCoats" ((Option.some Jvm.ClassFile.FieldType.int)) "drawn" ([])) : cz_T K D 11 h0 oh 3 (fn_X1_drawn l0 l1 l2 h) h 0 [(0, cz_r l0), (1, cz_i l1), (2, cz_i l2)] [] := by
  unfold fn_X1_drawn
  refine ct_iload_n (k := 1) S dX1_drawn_0 rfl rfl ?_
  refine ct_iconst (v := 1) S dX1_drawn_1 kI_1 ?_
  refine ct_bipush (v := 60) S dX1_drawn_2 kB_60 ?_
  refine ct_cI (st := []) (cg_static (av := [cz_i l1, cz_i 1, cz_i 60]) S (fun _ e => mt_X1_isIn e) md_X1_isIn (Or.inl q1355) q929 (by decide) (Nat.le_of_ble_eq_true rfl) rfl dX1_drawn_4) (fun x2 h1 => ?_)
  refine ct_if_eq (tgt := 17) S dX1_drawn_7 (by decide) ?_ ?_
  · refine ct_iconst (v := (-1)) S dX1_drawn_17 kI_m1 ?_
    exact ct_iret S rfl dX1_drawn_18
  · refine ct_aload_n (k := 0) S dX1_drawn_10 rfl rfl ?_
    refine ct_rc (fun b3 ci4 V5 hb6 hc7 hi8 => ?_)
    refine ct_cI (st := []) (cg_virtual (av := []) S hb6 hc7 hi8 (fun _ e => mt_X1_coats e) md_X1_coats q1424 q1426 se_HeldCoats_coats___I_HeldCoats (by decide) (Nat.le_of_ble_eq_true rfl) rfl dX1_drawn_11) (fun x10 h9 => ?_)
    refine ct_if_ne (tgt := 19) S dX1_drawn_14 (by decide) ?_ ?_
    · refine ct_aload_n (k := 0) S dX1_drawn_19 rfl rfl ?_
      refine ct_getR S fw_X1_42 dX1_drawn_20 (fun r11 => ?_)
      refine ct_rc (fun b12 ci13 V14 hb15 hc16 hi17 => ?_)
      refine ct_cI (st := []) (cg_virtual (av := []) S hb15 hc16 hi17 (fun _ e => mt_X3_isOver e) md_X3_isOver q1356 q1213 se_HeldCoats_Reign_isOver___Z_HeldCoats_Reign (by decide) (Nat.le_of_ble_eq_true rfl) rfl dX1_drawn_23) (fun x19 h18 => ?_)
      refine ct_if_eq (tgt := 31) S dX1_drawn_26 (by decide) ?_ ?_
      · refine ct_aload_n (k := 0) S dX1_drawn_31 rfl rfl ?_
        refine ct_rc (fun b20 ci21 V22 hb23 hc24 hi25 => ?_)
        refine ct_cV (st := []) (cg_virtual (av := []) S hb23 hc24 hi25 (fun _ e => mt_X1_snap e) md_X1_snap q1301 q1303 se_HeldCoats_snap___V_HeldCoats (by decide) (Nat.le_of_ble_eq_true rfl) rfl dX1_drawn_32) (fun h26 => ?_)
        refine ct_aload_n (k := 0) S dX1_drawn_35 rfl rfl ?_
        refine ct_getR S fw_X1_42 dX1_drawn_36 (fun r27 => ?_)
        refine ct_iload_n (k := 1) S dX1_drawn_39 rfl rfl ?_
        refine ct_iload_n (k := 2) S dX1_drawn_40 rfl rfl ?_
        refine ct_rc (fun b28 ci29 V30 hb31 hc32 hi33 => ?_)
        refine ct_cI (st := []) (cg_virtual (av := [cz_i l1, cz_i l2]) S hb31 hc32 hi33 (fun _ e => mt_X3_drawn e) md_X3_drawn q1498 q1499 se_HeldCoats_Reign_drawn__II_I_HeldCoats_Reign (by decide) (Nat.le_of_ble_eq_true rfl) rfl dX1_drawn_41) (fun x35 h34 => ?_)
        exact ct_iret S rfl dX1_drawn_44
      · refine ct_iconst (v := 0) S dX1_drawn_29 kI_0 ?_
        exact ct_iret S rfl dX1_drawn_30
    · refine ct_iconst (v := (-1)) S dX1_drawn_17 kI_m1 ?_
      exact ct_iret S rfl dX1_drawn_18
theorem mt_X1_drawn {l : Launch} {D : cz_D} {l0 : Option Nat} {l1 : Int32} {l2 : Int32} {h : cz_H} {oh : cz_O × cz_H} (hz : fn_X1_drawn l0 l1 l2 h = some oh) : cz_M l D yX1_drawn (ws_ yX1_drawn cX1_drawn 3 ((Option.some Jvm.ClassFile.FieldType.int))) 11 [cz_r l0, cz_i l1, cz_i l2] h oh := cz_met (plainFor_of_name (by decide)) (Nat.le_of_ble_eq_true rfl) hz (fun K hl S => wk_X1_drawn S)
/-! HeldCoats.end(I)Z -/
def dkwX1_end_0 : List UInt8 := [27, 155, 0, 11, 27, 42, 180, 0, 78, 164, 0, 5, 3, 172, 42, 27, 181, 0, 78, 4, 172]
abbrev dktX1_end_0 : List UInt8 := dkwX1_end_0 ++ []
theorem dksX1_end_0 : cX1_end.data.toList.drop 0 = dktX1_end_0 := by decide +kernel
theorem dX1_end_0 : decode cX1_end 0 = .ok (.iload_n 1, 1) := dk_27 (dk_at dksX1_end_0 0 rfl rfl)
theorem dX1_end_1 : decode cX1_end 1 = .ok (.ifCond .lt 11, 3) := dk_155 0 11 (dk_at dksX1_end_0 1 rfl rfl)
theorem dX1_end_4 : decode cX1_end 4 = .ok (.iload_n 1, 1) := dk_27 (dk_at dksX1_end_0 4 rfl rfl)
theorem dX1_end_5 : decode cX1_end 5 = .ok (.aload_n 0, 1) := dk_42 (dk_at dksX1_end_0 5 rfl rfl)
theorem dX1_end_6 : decode cX1_end 6 = .ok (.getfield 78, 3) := dk_180 0 78 (dk_at dksX1_end_0 6 rfl rfl)
theorem dX1_end_9 : decode cX1_end 9 = .ok (.if_icmp .le 5, 3) := dk_164 0 5 (dk_at dksX1_end_0 9 rfl rfl)
theorem dX1_end_12 : decode cX1_end 12 = .ok (.iconst 0, 1) := dk_3 (dk_at dksX1_end_0 12 rfl rfl)
theorem dX1_end_13 : decode cX1_end 13 = .ok (.ireturn, 1) := dk_172 (dk_at dksX1_end_0 13 rfl rfl)
theorem dX1_end_14 : decode cX1_end 14 = .ok (.aload_n 0, 1) := dk_42 (dk_at dksX1_end_0 14 rfl rfl)
theorem dX1_end_15 : decode cX1_end 15 = .ok (.iload_n 1, 1) := dk_27 (dk_at dksX1_end_0 15 rfl rfl)
theorem dX1_end_16 : decode cX1_end 16 = .ok (.putfield 78, 3) := dk_181 0 78 (dk_at dksX1_end_0 16 rfl rfl)
theorem dX1_end_19 : decode cX1_end 19 = .ok (.iconst 1, 1) := dk_4 (dk_at dksX1_end_0 19 rfl rfl)
theorem dX1_end_20 : decode cX1_end 20 = .ok (.ireturn, 1) := dk_172 (dk_at dksX1_end_0 20 rfl rfl)
set_option maxHeartbeats 4000000 in
set_option maxRecDepth 100000 in
noncomputable def fn_X1_end (l0 : Option Nat) (l1 : Int32) (h : cz_H) : cz_Z := (if l1 < 0 then some (.inl (some (cz_i 0)), h) else cz_getI h l0 [(0, 1)] (fun x1 => (if l1 ≤ x1 then cz_put h l0 [(0, 1)] (cz_i l1) (fun h2 => some (.inl (some (cz_i 1)), h2)) else some (.inl (some (cz_i 0)), h))))
set_option maxHeartbeats 4000000 in
set_option maxRecDepth 100000 in
theorem wk_X1_end {K : cz_K} {D : cz_D} {h0 : cz_H} {oh : cz_O × cz_H} {l0 : Option Nat} {l1 : Int32} {h : cz_H} (S : cz_S K D h0 cX1_end 2 "HeldCoats" ((Option.some Jvm.ClassFile.FieldType.boolean)) "end" ([])) : cz_T K D 2 h0 oh 2 (fn_X1_end l0 l1 h) h 0 [(0, cz_r l0), (1, cz_i l1)] [] := by
  unfold fn_X1_end
  refine ct_iload_n (k := 1) S dX1_end_0 rfl rfl ?_
  refine ct_if_lt (tgt := 12) S dX1_end_1 (by decide) ?_ ?_
  · refine ct_iconst (v := 0) S dX1_end_12 kI_0 ?_
    exact ct_zr (ty := .boolean) S rfl rfl dX1_end_13
  · refine ct_iload_n (k := 1) S dX1_end_4 rfl rfl ?_
    refine ct_aload_n (k := 0) S dX1_end_5 rfl rfl ?_
    refine ct_getI S fw_X1_78 dX1_end_6 (fun x1 => ?_)
    refine ct_icmp_le (tgt := 14) S dX1_end_9 (by decide) ?_ ?_
    · refine ct_aload_n (k := 0) S dX1_end_14 rfl rfl ?_
      refine ct_iload_n (k := 1) S dX1_end_15 rfl rfl ?_
      refine ct_put S fw_X1_78 fp_X1_m_0_1 (cz_fits_i pd_I) dX1_end_16 (fun h2 => ?_)
      refine ct_iconst (v := 1) S dX1_end_19 kI_1 ?_
      exact ct_zr (ty := .boolean) S rfl rfl dX1_end_20
    · refine ct_iconst (v := 0) S dX1_end_12 kI_0 ?_
      exact ct_zr (ty := .boolean) S rfl rfl dX1_end_13
theorem mt_X1_end {l : Launch} {D : cz_D} {l0 : Option Nat} {l1 : Int32} {h : cz_H} {oh : cz_O × cz_H} (hz : fn_X1_end l0 l1 h = some oh) : cz_M l D yX1_end (ws_ yX1_end cX1_end 2 ((Option.some Jvm.ClassFile.FieldType.boolean))) 2 [cz_r l0, cz_i l1] h oh := cz_met (plainFor_of_name (by decide)) (Nat.le_of_ble_eq_true rfl) hz (fun K hl S => wk_X1_end S)
/-! HeldCoats.fault()I -/
theorem dX1_fault_0 : decode cX1_fault 0 = .ok (.aload_n 0, 1) := by decide +kernel
theorem dX1_fault_1 : decode cX1_fault 1 = .ok (.getfield 89, 3) := by decide +kernel
theorem dX1_fault_4 : decode cX1_fault 4 = .ok (.ireturn, 1) := by decide +kernel
set_option maxHeartbeats 4000000 in
set_option maxRecDepth 100000 in
noncomputable def fn_X1_fault (l0 : Option Nat) (h : cz_H) : cz_Z := cz_getI h l0 [(0, 2)] (fun x1 => some (.inl (some (cz_i x1)), h))
set_option maxHeartbeats 4000000 in
set_option maxRecDepth 100000 in
theorem wk_X1_fault {K : cz_K} {D : cz_D} {h0 : cz_H} {oh : cz_O × cz_H} {l0 : Option Nat} {h : cz_H} (S : cz_S K D h0 cX1_fault 1 "HeldCoats" ((Option.some Jvm.ClassFile.FieldType.int)) "fault" ([])) : cz_T K D 2 h0 oh 1 (fn_X1_fault l0 h) h 0 [(0, cz_r l0)] [] := by
  unfold fn_X1_fault
  refine ct_aload_n (k := 0) S dX1_fault_0 rfl rfl ?_
  refine ct_getI S fw_X1_89 dX1_fault_1 (fun x1 => ?_)
  exact ct_iret S rfl dX1_fault_4
theorem mt_X1_fault {l : Launch} {D : cz_D} {l0 : Option Nat} {h : cz_H} {oh : cz_O × cz_H} (hz : fn_X1_fault l0 h = some oh) : cz_M l D yX1_fault (ws_ yX1_fault cX1_fault 1 ((Option.some Jvm.ClassFile.FieldType.int))) 2 [cz_r l0] h oh := cz_met (plainFor_of_name (by decide)) (Nat.le_of_ble_eq_true rfl) hz (fun K hl S => wk_X1_fault S)
/-! HeldCoats.come(I)V -/
def dkwX1_come_1 : List UInt8 := [180, 0, 78, 4, 96, 181, 0, 78, 132, 2, 248, 167, 255, 226, 177]
abbrev dktX1_come_1 : List UInt8 := dkwX1_come_1 ++ []
def dkwX1_come_0 : List UInt8 := [16, 24, 61, 28, 155, 0, 32, 42, 180, 0, 26, 42, 180, 0, 78, 27, 28, 122, 145, 84, 42, 89]
abbrev dktX1_come_0 : List UInt8 := dkwX1_come_0 ++ dktX1_come_1
theorem dksX1_come_0 : cX1_come.data.toList.drop 0 = dktX1_come_0 := by decide +kernel
theorem dksX1_come_1 : cX1_come.data.toList.drop 22 = dktX1_come_1 := dk_seg dksX1_come_0 22 rfl rfl
theorem dX1_come_0 : decode cX1_come 0 = .ok (.bipush 24, 2) := dk_16 24 (dk_at dksX1_come_0 0 rfl rfl)
theorem dX1_come_2 : decode cX1_come 2 = .ok (.istore_n 2, 1) := dk_61 (dk_at dksX1_come_0 2 rfl rfl)
theorem dX1_come_3 : decode cX1_come 3 = .ok (.iload_n 2, 1) := dk_28 (dk_at dksX1_come_0 3 rfl rfl)
theorem dX1_come_4 : decode cX1_come 4 = .ok (.ifCond .lt 32, 3) := dk_155 0 32 (dk_at dksX1_come_0 4 rfl rfl)
theorem dX1_come_7 : decode cX1_come 7 = .ok (.aload_n 0, 1) := dk_42 (dk_at dksX1_come_0 7 rfl rfl)
theorem dX1_come_8 : decode cX1_come 8 = .ok (.getfield 26, 3) := dk_180 0 26 (dk_at dksX1_come_0 8 rfl rfl)
theorem dX1_come_11 : decode cX1_come 11 = .ok (.aload_n 0, 1) := dk_42 (dk_at dksX1_come_0 11 rfl rfl)
theorem dX1_come_12 : decode cX1_come 12 = .ok (.getfield 78, 3) := dk_180 0 78 (dk_at dksX1_come_0 12 rfl rfl)
theorem dX1_come_15 : decode cX1_come 15 = .ok (.iload_n 1, 1) := dk_27 (dk_at dksX1_come_0 15 rfl rfl)
theorem dX1_come_16 : decode cX1_come 16 = .ok (.iload_n 2, 1) := dk_28 (dk_at dksX1_come_0 16 rfl rfl)
theorem dX1_come_17 : decode cX1_come 17 = .ok (.ishr, 1) := dk_122 (dk_at dksX1_come_0 17 rfl rfl)
theorem dX1_come_18 : decode cX1_come 18 = .ok (.i2b, 1) := dk_145 (dk_at dksX1_come_0 18 rfl rfl)
theorem dX1_come_19 : decode cX1_come 19 = .ok (.bastore, 1) := dk_84 (dk_at dksX1_come_0 19 rfl rfl)
theorem dX1_come_20 : decode cX1_come 20 = .ok (.aload_n 0, 1) := dk_42 (dk_at dksX1_come_0 20 rfl rfl)
theorem dX1_come_21 : decode cX1_come 21 = .ok (.dup, 1) := dk_89 (dk_at dksX1_come_0 21 rfl rfl)
theorem dX1_come_22 : decode cX1_come 22 = .ok (.getfield 78, 3) := dk_180 0 78 (dk_at dksX1_come_1 0 rfl rfl)
theorem dX1_come_25 : decode cX1_come 25 = .ok (.iconst 1, 1) := dk_4 (dk_at dksX1_come_1 3 rfl rfl)
theorem dX1_come_26 : decode cX1_come 26 = .ok (.iadd, 1) := dk_96 (dk_at dksX1_come_1 4 rfl rfl)
theorem dX1_come_27 : decode cX1_come 27 = .ok (.putfield 78, 3) := dk_181 0 78 (dk_at dksX1_come_1 5 rfl rfl)
theorem dX1_come_30 : decode cX1_come 30 = .ok (.iinc 2 (-8), 3) := dk_132 2 248 (dk_at dksX1_come_1 8 rfl rfl)
theorem dX1_come_33 : decode cX1_come 33 = .ok (.goto (-30), 3) := dk_167 255 226 (dk_at dksX1_come_1 11 rfl rfl)
theorem dX1_come_36 : decode cX1_come 36 = .ok (.return_, 1) := dk_177 (dk_at dksX1_come_1 14 rfl rfl)
set_option maxHeartbeats 4000000 in
set_option maxRecDepth 100000 in
noncomputable def fn_X1_come_3 (l0 : Option Nat) (l1 : Int32) (k0 : cz_H → cz_Z) : Nat → Int32 → cz_H → cz_Z
  | 0, _, _ => none
  | n + 1, l2, h => (if l2 < 0 then k0 h else cz_getR h l0 [(0, 0)] (fun r1 => cz_getI h l0 [(0, 1)] (fun x2 => cz_bast h r1 x2 (((l1 >>> (l2 &&& 31))).toInt8.toInt32) (fun h3 => cz_getI h3 l0 [(0, 1)] (fun x4 => cz_put h3 l0 [(0, 1)] (cz_i (x4 + 1)) (fun h5 => cz_leti (l2 + (-8)) (fun x6 => fn_X1_come_3 l0 l1 k0 n x6 h5)))))))
set_option maxHeartbeats 4000000 in
set_option maxRecDepth 100000 in
theorem wk_X1_come_3 {K : cz_K} {D : cz_D} {h0 : cz_H} {oh : cz_O × cz_H} {l0 : Option Nat} {l1 : Int32} {k0 : cz_H → cz_Z} (S : cz_S K D h0 cX1_come 3 "HeldCoats" ((Option.none : Option Jvm.ClassFile.FieldType)) "come" ([])) (hk0 : ∀ (h : cz_H), cz_T K D 2 h0 oh 3 (k0 h) h 36 [] []) : ∀ (n : Nat) (l2 : Int32) (h : cz_H), cz_T K D 2 h0 oh 3 (fn_X1_come_3 l0 l1 k0 n l2 h) h 3 [(0, cz_r l0), (1, cz_i l1), (2, cz_i l2)] [] := by
  intro n
  induction n with
  | zero => intros; exact ct_none
  | succ n ih =>
    intro l2 h
    rw [fn_X1_come_3]
    refine ct_iload_n (k := 2) S dX1_come_3 rfl rfl ?_
    refine ct_if_lt (tgt := 36) S dX1_come_4 (by decide) ?_ ?_
    · exact ct_sub [] rfl (hk0 h)
    · refine ct_aload_n (k := 0) S dX1_come_7 rfl rfl ?_
      refine ct_getR S fw_X1_26 dX1_come_8 (fun r1 => ?_)
      refine ct_aload_n (k := 0) S dX1_come_11 rfl rfl ?_
      refine ct_getI S fw_X1_78 dX1_come_12 (fun x2 => ?_)
      refine ct_iload_n (k := 1) S dX1_come_15 rfl rfl ?_
      refine ct_iload_n (k := 2) S dX1_come_16 rfl rfl ?_
      refine ct_ishr S dX1_come_17 ?_
      refine ct_i2b S dX1_come_18 ?_
      refine ct_bast S dX1_come_19 (fun h3 => ?_)
      refine ct_aload_n (k := 0) S dX1_come_20 rfl rfl ?_
      refine ct_dup S dX1_come_21 rfl ?_
      refine ct_getI S fw_X1_78 dX1_come_22 (fun x4 => ?_)
      refine ct_iconst (v := 1) S dX1_come_25 kI_1 ?_
      refine ct_iadd S dX1_come_26 ?_
      refine ct_put S fw_X1_78 fp_X1_m_0_1 (cz_fits_i pd_I) dX1_come_27 (fun h5 => ?_)
      refine ct_iincL (j := 2) (L2 := fun x6 => [(2, cz_i x6), (0, cz_r l0), (1, cz_i l1)]) S dX1_come_30 rfl kI_m8 (by decide) (fun _ => rfl) (fun x6 => ?_)
      refine ct_goto (tgt := 3) S dX1_come_33 (by decide) ?_
      exact ct_sub [1, 2, 0] rfl (ih x6 h5)
set_option maxHeartbeats 4000000 in
set_option maxRecDepth 100000 in
noncomputable def fn_X1_come (l0 : Option Nat) (l1 : Int32) (h : cz_H) : cz_Z := fn_X1_come_3 l0 l1 (fun (h7 : cz_H) => some (.inl none, h7)) 1000 24 h
set_option maxHeartbeats 4000000 in
set_option maxRecDepth 100000 in
theorem wk_X1_come {K : cz_K} {D : cz_D} {h0 : cz_H} {oh : cz_O × cz_H} {l0 : Option Nat} {l1 : Int32} {h : cz_H} (S : cz_S K D h0 cX1_come 3 "HeldCoats" ((Option.none : Option Jvm.ClassFile.FieldType)) "come" ([])) : cz_T K D 2 h0 oh 3 (fn_X1_come l0 l1 h) h 0 [(0, cz_r l0), (1, cz_i l1)] [] := by
  unfold fn_X1_come
  refine ct_bipush (v := 24) S dX1_come_0 kB_24 ?_
  refine ct_istore_n (L' := [(2, cz_i 24), (0, cz_r l0), (1, cz_i l1)]) S dX1_come_2 rfl (by decide) rfl ?_
  refine ct_sub [1, 2, 0] (L' := [(0, cz_r l0), (1, cz_i l1), (2, cz_i 24)]) rfl (wk_X1_come_3 S ?_ 1000 24 h)
  · intro h7
    exact ct_vret S rfl dX1_come_36
theorem mt_X1_come {l : Launch} {D : cz_D} {l0 : Option Nat} {l1 : Int32} {h : cz_H} {oh : cz_O × cz_H} (hz : fn_X1_come l0 l1 h = some oh) : cz_M l D yX1_come (ws_ yX1_come cX1_come 3 ((Option.none : Option Jvm.ClassFile.FieldType))) 2 [cz_r l0, cz_i l1] h oh := cz_met (plainFor_of_name (by decide)) (Nat.le_of_ble_eq_true rfl) hz (fun K hl S => wk_X1_come S)
/-! HeldCoats.feed(IIIII)I -/
def dkwX1_feed_2 : List UInt8 := [172]
abbrev dktX1_feed_2 : List UInt8 := dkwX1_feed_2 ++ []
def dkwX1_feed_1 : List UInt8 := [182, 0, 81, 42, 29, 182, 0, 81, 42, 21, 4, 182, 0, 81, 42, 21, 5, 182, 0, 81, 42, 180, 0, 78]
abbrev dktX1_feed_1 : List UInt8 := dkwX1_feed_1 ++ dktX1_feed_2
def dkwX1_feed_0 : List UInt8 := [42, 180, 0, 78, 16, 20, 96, 17, 3, 172, 164, 0, 5, 2, 172, 42, 27, 182, 0, 81, 42, 28]
abbrev dktX1_feed_0 : List UInt8 := dkwX1_feed_0 ++ dktX1_feed_1
theorem dksX1_feed_0 : cX1_feed.data.toList.drop 0 = dktX1_feed_0 := by decide +kernel
theorem dksX1_feed_1 : cX1_feed.data.toList.drop 22 = dktX1_feed_1 := dk_seg dksX1_feed_0 22 rfl rfl
theorem dksX1_feed_2 : cX1_feed.data.toList.drop 46 = dktX1_feed_2 := dk_seg dksX1_feed_1 24 rfl rfl
theorem dX1_feed_0 : decode cX1_feed 0 = .ok (.aload_n 0, 1) := dk_42 (dk_at dksX1_feed_0 0 rfl rfl)
theorem dX1_feed_1 : decode cX1_feed 1 = .ok (.getfield 78, 3) := dk_180 0 78 (dk_at dksX1_feed_0 1 rfl rfl)
theorem dX1_feed_4 : decode cX1_feed 4 = .ok (.bipush 20, 2) := dk_16 20 (dk_at dksX1_feed_0 4 rfl rfl)
theorem dX1_feed_6 : decode cX1_feed 6 = .ok (.iadd, 1) := dk_96 (dk_at dksX1_feed_0 6 rfl rfl)
theorem dX1_feed_7 : decode cX1_feed 7 = .ok (.sipush 940, 3) := dk_17 3 172 (dk_at dksX1_feed_0 7 rfl rfl)
theorem dX1_feed_10 : decode cX1_feed 10 = .ok (.if_icmp .le 5, 3) := dk_164 0 5 (dk_at dksX1_feed_0 10 rfl rfl)
theorem dX1_feed_13 : decode cX1_feed 13 = .ok (.iconst (-1), 1) := dk_2 (dk_at dksX1_feed_0 13 rfl rfl)
theorem dX1_feed_14 : decode cX1_feed 14 = .ok (.ireturn, 1) := dk_172 (dk_at dksX1_feed_0 14 rfl rfl)
theorem dX1_feed_15 : decode cX1_feed 15 = .ok (.aload_n 0, 1) := dk_42 (dk_at dksX1_feed_0 15 rfl rfl)
theorem dX1_feed_16 : decode cX1_feed 16 = .ok (.iload_n 1, 1) := dk_27 (dk_at dksX1_feed_0 16 rfl rfl)
theorem dX1_feed_17 : decode cX1_feed 17 = .ok (.invokevirtual 81, 3) := dk_182 0 81 (dk_at dksX1_feed_0 17 rfl rfl)
theorem dX1_feed_20 : decode cX1_feed 20 = .ok (.aload_n 0, 1) := dk_42 (dk_at dksX1_feed_0 20 rfl rfl)
theorem dX1_feed_21 : decode cX1_feed 21 = .ok (.iload_n 2, 1) := dk_28 (dk_at dksX1_feed_0 21 rfl rfl)
theorem dX1_feed_22 : decode cX1_feed 22 = .ok (.invokevirtual 81, 3) := dk_182 0 81 (dk_at dksX1_feed_1 0 rfl rfl)
theorem dX1_feed_25 : decode cX1_feed 25 = .ok (.aload_n 0, 1) := dk_42 (dk_at dksX1_feed_1 3 rfl rfl)
theorem dX1_feed_26 : decode cX1_feed 26 = .ok (.iload_n 3, 1) := dk_29 (dk_at dksX1_feed_1 4 rfl rfl)
theorem dX1_feed_27 : decode cX1_feed 27 = .ok (.invokevirtual 81, 3) := dk_182 0 81 (dk_at dksX1_feed_1 5 rfl rfl)
theorem dX1_feed_30 : decode cX1_feed 30 = .ok (.aload_n 0, 1) := dk_42 (dk_at dksX1_feed_1 8 rfl rfl)
theorem dX1_feed_31 : decode cX1_feed 31 = .ok (.iload 4, 2) := dk_21 4 (dk_at dksX1_feed_1 9 rfl rfl)
theorem dX1_feed_33 : decode cX1_feed 33 = .ok (.invokevirtual 81, 3) := dk_182 0 81 (dk_at dksX1_feed_1 11 rfl rfl)
theorem dX1_feed_36 : decode cX1_feed 36 = .ok (.aload_n 0, 1) := dk_42 (dk_at dksX1_feed_1 14 rfl rfl)
theorem dX1_feed_37 : decode cX1_feed 37 = .ok (.iload 5, 2) := dk_21 5 (dk_at dksX1_feed_1 15 rfl rfl)
theorem dX1_feed_39 : decode cX1_feed 39 = .ok (.invokevirtual 81, 3) := dk_182 0 81 (dk_at dksX1_feed_1 17 rfl rfl)
theorem dX1_feed_42 : decode cX1_feed 42 = .ok (.aload_n 0, 1) := dk_42 (dk_at dksX1_feed_1 20 rfl rfl)
theorem dX1_feed_43 : decode cX1_feed 43 = .ok (.getfield 78, 3) := dk_180 0 78 (dk_at dksX1_feed_1 21 rfl rfl)
theorem dX1_feed_46 : decode cX1_feed 46 = .ok (.ireturn, 1) := dk_172 (dk_at dksX1_feed_2 0 rfl rfl)
theorem se_HeldCoats_come__I_V_HeldCoats : ∀ c ∈ ([0] : List Nat), ∃ q : vw_C, cz_cl[c]? = some q ∧ Cond.selects q.1 (⟨"HeldCoats", "come", "(I)V"⟩ : MethodName) (⟨"HeldCoats", "come", "(I)V"⟩ : MethodName) ∈ lw_all := List.forall_mem_cons.mpr ⟨⟨_, cz_cl0, qs0⟩, fun _ h => absurd h List.not_mem_nil⟩
theorem md_X1_come : cz_md yX1_come 3 (ws_ yX1_come cX1_come 3 ((Option.none : Option Jvm.ClassFile.FieldType))) 1 := ⟨cz_ws_code q442, q113, ⟨by decide, by decide, by decide +kernel⟩, by decide⟩
set_option maxHeartbeats 4000000 in
set_option maxRecDepth 100000 in
noncomputable def fn_X1_feed (l0 : Option Nat) (l1 : Int32) (l2 : Int32) (l3 : Int32) (l4 : Int32) (l5 : Int32) (h : cz_H) : cz_Z := cz_getI h l0 [(0, 1)] (fun x1 => (if (x1 + 20) ≤ 940 then cz_rc h l0 [0] (cz_cV (fn_X1_come l0 l1 h) (fun h8 => cz_rc h8 l0 [0] (cz_cV (fn_X1_come l0 l2 h8) (fun h15 => cz_rc h15 l0 [0] (cz_cV (fn_X1_come l0 l3 h15) (fun h22 => cz_rc h22 l0 [0] (cz_cV (fn_X1_come l0 l4 h22) (fun h29 => cz_rc h29 l0 [0] (cz_cV (fn_X1_come l0 l5 h29) (fun h36 => cz_getI h36 l0 [(0, 1)] (fun x37 => some (.inl (some (cz_i x37)), h36)))))))))))) else some (.inl (some (cz_i (-1))), h)))
set_option maxHeartbeats 4000000 in
set_option maxRecDepth 100000 in
theorem wk_X1_feed {K : cz_K} {D : cz_D} {h0 : cz_H} {oh : cz_O × cz_H} {l0 : Option Nat} {l1 : Int32} {l2 : Int32} {l3 : Int32} {l4 : Int32} {l5 : Int32} {h : cz_H} (S : cz_S K D h0 cX1_feed 6 "HeldCoats" ((Option.some Jvm.ClassFile.FieldType.int)) "feed" ([])) : cz_T K D 3 h0 oh 6 (fn_X1_feed l0 l1 l2 l3 l4 l5 h) h 0 [(0, cz_r l0), (1, cz_i l1), (2, cz_i l2), (3, cz_i l3), (4, cz_i l4), (5, cz_i l5)] [] := by
  unfold fn_X1_feed
  refine ct_aload_n (k := 0) S dX1_feed_0 rfl rfl ?_
  refine ct_getI S fw_X1_78 dX1_feed_1 (fun x1 => ?_)
  refine ct_bipush (v := 20) S dX1_feed_4 kB_20 ?_
  refine ct_iadd S dX1_feed_6 ?_
  refine ct_sipush (v := 940) S dX1_feed_7 kS_940 ?_
  refine ct_icmp_le (tgt := 15) S dX1_feed_10 (by decide) ?_ ?_
  · refine ct_aload_n (k := 0) S dX1_feed_15 rfl rfl ?_
    refine ct_iload_n (k := 1) S dX1_feed_16 rfl rfl ?_
    refine ct_rc (fun b2 ci3 V4 hb5 hc6 hi7 => ?_)
    refine ct_cV (st := []) (cg_virtual (av := [cz_i l1]) S hb5 hc6 hi7 (fun _ e => mt_X1_come e) md_X1_come q439 q441 se_HeldCoats_come__I_V_HeldCoats (by decide) (Nat.le_of_ble_eq_true rfl) rfl dX1_feed_17) (fun h8 => ?_)
    refine ct_aload_n (k := 0) S dX1_feed_20 rfl rfl ?_
    refine ct_iload_n (k := 2) S dX1_feed_21 rfl rfl ?_
    refine ct_rc (fun b9 ci10 V11 hb12 hc13 hi14 => ?_)
    refine ct_cV (st := []) (cg_virtual (av := [cz_i l2]) S hb12 hc13 hi14 (fun _ e => mt_X1_come e) md_X1_come q439 q441 se_HeldCoats_come__I_V_HeldCoats (by decide) (Nat.le_of_ble_eq_true rfl) rfl dX1_feed_22) (fun h15 => ?_)
    refine ct_aload_n (k := 0) S dX1_feed_25 rfl rfl ?_
    refine ct_iload_n (k := 3) S dX1_feed_26 rfl rfl ?_
    refine ct_rc (fun b16 ci17 V18 hb19 hc20 hi21 => ?_)
    refine ct_cV (st := []) (cg_virtual (av := [cz_i l3]) S hb19 hc20 hi21 (fun _ e => mt_X1_come e) md_X1_come q439 q441 se_HeldCoats_come__I_V_HeldCoats (by decide) (Nat.le_of_ble_eq_true rfl) rfl dX1_feed_27) (fun h22 => ?_)
    refine ct_aload_n (k := 0) S dX1_feed_30 rfl rfl ?_
    refine ct_iload (k := 4) S dX1_feed_31 rfl ?_
    refine ct_rc (fun b23 ci24 V25 hb26 hc27 hi28 => ?_)
    refine ct_cV (st := []) (cg_virtual (av := [cz_i l4]) S hb26 hc27 hi28 (fun _ e => mt_X1_come e) md_X1_come q439 q441 se_HeldCoats_come__I_V_HeldCoats (by decide) (Nat.le_of_ble_eq_true rfl) rfl dX1_feed_33) (fun h29 => ?_)
    refine ct_aload_n (k := 0) S dX1_feed_36 rfl rfl ?_
    refine ct_iload (k := 5) S dX1_feed_37 rfl ?_
    refine ct_rc (fun b30 ci31 V32 hb33 hc34 hi35 => ?_)
    refine ct_cV (st := []) (cg_virtual (av := [cz_i l5]) S hb33 hc34 hi35 (fun _ e => mt_X1_come e) md_X1_come q439 q441 se_HeldCoats_come__I_V_HeldCoats (by decide) (Nat.le_of_ble_eq_true rfl) rfl dX1_feed_39) (fun h36 => ?_)
    refine ct_aload_n (k := 0) S dX1_feed_42 rfl rfl ?_
    refine ct_getI S fw_X1_78 dX1_feed_43 (fun x37 => ?_)
    exact ct_iret S rfl dX1_feed_46
  · refine ct_iconst (v := (-1)) S dX1_feed_13 kI_m1 ?_
    exact ct_iret S rfl dX1_feed_14
theorem mt_X1_feed {l : Launch} {D : cz_D} {l0 : Option Nat} {l1 : Int32} {l2 : Int32} {l3 : Int32} {l4 : Int32} {l5 : Int32} {h : cz_H} {oh : cz_O × cz_H} (hz : fn_X1_feed l0 l1 l2 l3 l4 l5 h = some oh) : cz_M l D yX1_feed (ws_ yX1_feed cX1_feed 6 ((Option.some Jvm.ClassFile.FieldType.int))) 3 [cz_r l0, cz_i l1, cz_i l2, cz_i l3, cz_i l4, cz_i l5] h oh := cz_met (plainFor_of_name (by decide)) (Nat.le_of_ble_eq_true rfl) hz (fun K hl S => wk_X1_feed S)
/-! HeldCoats.areTwo(II)Z -/
def dkwX1_areTwo_1 : List UInt8 := [167, 0, 4, 3, 172]
abbrev dktX1_areTwo_1 : List UInt8 := dkwX1_areTwo_1 ++ []
def dkwX1_areTwo_0 : List UInt8 := [42, 27, 182, 0, 129, 153, 0, 20, 42, 28, 182, 0, 129, 153, 0, 12, 27, 28, 159, 0, 7, 4]
abbrev dktX1_areTwo_0 : List UInt8 := dkwX1_areTwo_0 ++ dktX1_areTwo_1
theorem dksX1_areTwo_0 : cX1_areTwo.data.toList.drop 0 = dktX1_areTwo_0 := by decide +kernel
theorem dksX1_areTwo_1 : cX1_areTwo.data.toList.drop 22 = dktX1_areTwo_1 := dk_seg dksX1_areTwo_0 22 rfl rfl
theorem dX1_areTwo_0 : decode cX1_areTwo 0 = .ok (.aload_n 0, 1) := dk_42 (dk_at dksX1_areTwo_0 0 rfl rfl)
theorem dX1_areTwo_1 : decode cX1_areTwo 1 = .ok (.iload_n 1, 1) := dk_27 (dk_at dksX1_areTwo_0 1 rfl rfl)
theorem dX1_areTwo_2 : decode cX1_areTwo 2 = .ok (.invokevirtual 129, 3) := dk_182 0 129 (dk_at dksX1_areTwo_0 2 rfl rfl)
theorem dX1_areTwo_5 : decode cX1_areTwo 5 = .ok (.ifCond .eq 20, 3) := dk_153 0 20 (dk_at dksX1_areTwo_0 5 rfl rfl)
theorem dX1_areTwo_8 : decode cX1_areTwo 8 = .ok (.aload_n 0, 1) := dk_42 (dk_at dksX1_areTwo_0 8 rfl rfl)
theorem dX1_areTwo_9 : decode cX1_areTwo 9 = .ok (.iload_n 2, 1) := dk_28 (dk_at dksX1_areTwo_0 9 rfl rfl)
theorem dX1_areTwo_10 : decode cX1_areTwo 10 = .ok (.invokevirtual 129, 3) := dk_182 0 129 (dk_at dksX1_areTwo_0 10 rfl rfl)
theorem dX1_areTwo_13 : decode cX1_areTwo 13 = .ok (.ifCond .eq 12, 3) := dk_153 0 12 (dk_at dksX1_areTwo_0 13 rfl rfl)
theorem dX1_areTwo_16 : decode cX1_areTwo 16 = .ok (.iload_n 1, 1) := dk_27 (dk_at dksX1_areTwo_0 16 rfl rfl)
theorem dX1_areTwo_17 : decode cX1_areTwo 17 = .ok (.iload_n 2, 1) := dk_28 (dk_at dksX1_areTwo_0 17 rfl rfl)
theorem dX1_areTwo_18 : decode cX1_areTwo 18 = .ok (.if_icmp .eq 7, 3) := dk_159 0 7 (dk_at dksX1_areTwo_0 18 rfl rfl)
theorem dX1_areTwo_21 : decode cX1_areTwo 21 = .ok (.iconst 1, 1) := dk_4 (dk_at dksX1_areTwo_0 21 rfl rfl)
theorem dX1_areTwo_22 : decode cX1_areTwo 22 = .ok (.goto 4, 3) := dk_167 0 4 (dk_at dksX1_areTwo_1 0 rfl rfl)
theorem dX1_areTwo_25 : decode cX1_areTwo 25 = .ok (.iconst 0, 1) := dk_3 (dk_at dksX1_areTwo_1 3 rfl rfl)
theorem dX1_areTwo_26 : decode cX1_areTwo 26 = .ok (.ireturn, 1) := dk_172 (dk_at dksX1_areTwo_1 4 rfl rfl)
set_option maxHeartbeats 4000000 in
set_option maxRecDepth 100000 in
noncomputable def fn_X1_areTwo (l0 : Option Nat) (l1 : Int32) (l2 : Int32) (h : cz_H) : cz_Z := cz_rc h l0 [0] (cz_cI (fn_X1_isMan l0 l1 h) (fun x8 h7 => (if x8 = 0 then some (.inl (some (cz_i 0)), h7) else cz_rc h7 l0 [0] (cz_cI (fn_X1_isMan l0 l2 h7) (fun x16 h15 => (if x16 = 0 then some (.inl (some (cz_i 0)), h15) else (if l1 = l2 then some (.inl (some (cz_i 0)), h15) else some (.inl (some (cz_i 1)), h15))))))))
set_option maxHeartbeats 4000000 in
set_option maxRecDepth 100000 in
theorem wk_X1_areTwo {K : cz_K} {D : cz_D} {h0 : cz_H} {oh : cz_O × cz_H} {l0 : Option Nat} {l1 : Int32} {l2 : Int32} {h : cz_H} (S : cz_S K D h0 cX1_areTwo 3 "HeldCoats" ((Option.some Jvm.ClassFile.FieldType.boolean)) "areTwo" ([])) : cz_T K D 5 h0 oh 3 (fn_X1_areTwo l0 l1 l2 h) h 0 [(0, cz_r l0), (1, cz_i l1), (2, cz_i l2)] [] := by
  unfold fn_X1_areTwo
  refine ct_aload_n (k := 0) S dX1_areTwo_0 rfl rfl ?_
  refine ct_iload_n (k := 1) S dX1_areTwo_1 rfl rfl ?_
  refine ct_rc (fun b1 ci2 V3 hb4 hc5 hi6 => ?_)
  refine ct_cI (st := []) (cg_virtual (av := [cz_i l1]) S hb4 hc5 hi6 (fun _ e => mt_X1_isMan e) md_X1_isMan q1309 q1311 se_HeldCoats_isMan__I_Z_HeldCoats (by decide) (Nat.le_of_ble_eq_true rfl) rfl dX1_areTwo_2) (fun x8 h7 => ?_)
  refine ct_if_eq (tgt := 25) S dX1_areTwo_5 (by decide) ?_ ?_
  · refine ct_iconst (v := 0) S dX1_areTwo_25 kI_0 ?_
    exact ct_zr (ty := .boolean) S rfl rfl dX1_areTwo_26
  · refine ct_aload_n (k := 0) S dX1_areTwo_8 rfl rfl ?_
    refine ct_iload_n (k := 2) S dX1_areTwo_9 rfl rfl ?_
    refine ct_rc (fun b9 ci10 V11 hb12 hc13 hi14 => ?_)
    refine ct_cI (st := []) (cg_virtual (av := [cz_i l2]) S hb12 hc13 hi14 (fun _ e => mt_X1_isMan e) md_X1_isMan q1309 q1311 se_HeldCoats_isMan__I_Z_HeldCoats (by decide) (Nat.le_of_ble_eq_true rfl) rfl dX1_areTwo_10) (fun x16 h15 => ?_)
    refine ct_if_eq (tgt := 25) S dX1_areTwo_13 (by decide) ?_ ?_
    · refine ct_iconst (v := 0) S dX1_areTwo_25 kI_0 ?_
      exact ct_zr (ty := .boolean) S rfl rfl dX1_areTwo_26
    · refine ct_iload_n (k := 1) S dX1_areTwo_16 rfl rfl ?_
      refine ct_iload_n (k := 2) S dX1_areTwo_17 rfl rfl ?_
      refine ct_icmp_eq (tgt := 25) S dX1_areTwo_18 (by decide) ?_ ?_
      · refine ct_iconst (v := 0) S dX1_areTwo_25 kI_0 ?_
        exact ct_zr (ty := .boolean) S rfl rfl dX1_areTwo_26
      · refine ct_iconst (v := 1) S dX1_areTwo_21 kI_1 ?_
        refine ct_goto (tgt := 26) S dX1_areTwo_22 (by decide) ?_
        exact ct_zr (ty := .boolean) S rfl rfl dX1_areTwo_26
theorem mt_X1_areTwo {l : Launch} {D : cz_D} {l0 : Option Nat} {l1 : Int32} {l2 : Int32} {h : cz_H} {oh : cz_O × cz_H} (hz : fn_X1_areTwo l0 l1 l2 h = some oh) : cz_M l D yX1_areTwo (ws_ yX1_areTwo cX1_areTwo 3 ((Option.some Jvm.ClassFile.FieldType.boolean))) 5 [cz_r l0, cz_i l1, cz_i l2] h oh := cz_met (plainFor_of_name (by decide)) (Nat.le_of_ble_eq_true rfl) hz (fun K hl S => wk_X1_areTwo S)
/-! HeldCoats.layFrost(II)Z -/
def dkwX1_layFrost_5 : List UInt8 := [29, 21, 4, 159, 0, 7, 4, 167, 0, 4, 3, 172, 132, 5, 1, 167, 255, 150, 3, 172]
abbrev dktX1_layFrost_5 : List UInt8 := dkwX1_layFrost_5 ++ []
def dkwX1_layFrost_4 : List UInt8 := [167, 0, 36, 42, 29, 21, 4, 164, 0, 7, 28, 167, 0, 4, 27, 181, 1, 52, 42, 21, 5, 181, 1, 55]
abbrev dktX1_layFrost_4 : List UInt8 := dkwX1_layFrost_4 ++ dktX1_layFrost_5
def dkwX1_layFrost_3 : List UInt8 := [29, 42, 180, 0, 33, 180, 1, 49, 163, 0, 18, 21, 4, 42, 180, 0, 33, 180, 1, 49, 163, 0, 6]
abbrev dktX1_layFrost_3 : List UInt8 := dkwX1_layFrost_3 ++ dktX1_layFrost_4
def dkwX1_layFrost_2 : List UInt8 := [184, 1, 20, 96, 62, 21, 4, 42, 180, 0, 42, 28, 3, 21, 5, 182, 0, 173, 184, 1, 20, 96, 54, 4]
abbrev dktX1_layFrost_2 : List UInt8 := dkwX1_layFrost_2 ++ dktX1_layFrost_3
def dkwX1_layFrost_1 : List UInt8 := [54, 5, 21, 5, 17, 1, 144, 162, 0, 104, 29, 42, 180, 0, 42, 27, 3, 21, 5, 182, 0, 173]
abbrev dktX1_layFrost_1 : List UInt8 := dkwX1_layFrost_1 ++ dktX1_layFrost_2
def dkwX1_layFrost_0 : List UInt8 := [42, 27, 28, 182, 1, 31, 154, 0, 5, 3, 172, 3, 62, 3, 54, 4, 42, 180, 0, 42, 180, 0, 15]
abbrev dktX1_layFrost_0 : List UInt8 := dkwX1_layFrost_0 ++ dktX1_layFrost_1
theorem dksX1_layFrost_0 : cX1_layFrost.data.toList.drop 0 = dktX1_layFrost_0 := by decide +kernel
theorem dksX1_layFrost_1 : cX1_layFrost.data.toList.drop 23 = dktX1_layFrost_1 := dk_seg dksX1_layFrost_0 23 rfl rfl
theorem dksX1_layFrost_2 : cX1_layFrost.data.toList.drop 45 = dktX1_layFrost_2 := dk_seg dksX1_layFrost_1 22 rfl rfl
theorem dksX1_layFrost_3 : cX1_layFrost.data.toList.drop 69 = dktX1_layFrost_3 := dk_seg dksX1_layFrost_2 24 rfl rfl
theorem dksX1_layFrost_4 : cX1_layFrost.data.toList.drop 92 = dktX1_layFrost_4 := dk_seg dksX1_layFrost_3 23 rfl rfl
theorem dksX1_layFrost_5 : cX1_layFrost.data.toList.drop 116 = dktX1_layFrost_5 := dk_seg dksX1_layFrost_4 24 rfl rfl
theorem dX1_layFrost_0 : decode cX1_layFrost 0 = .ok (.aload_n 0, 1) := dk_42 (dk_at dksX1_layFrost_0 0 rfl rfl)
theorem dX1_layFrost_1 : decode cX1_layFrost 1 = .ok (.iload_n 1, 1) := dk_27 (dk_at dksX1_layFrost_0 1 rfl rfl)
theorem dX1_layFrost_2 : decode cX1_layFrost 2 = .ok (.iload_n 2, 1) := dk_28 (dk_at dksX1_layFrost_0 2 rfl rfl)
theorem dX1_layFrost_3 : decode cX1_layFrost 3 = .ok (.invokevirtual 287, 3) := dk_182 1 31 (dk_at dksX1_layFrost_0 3 rfl rfl)
theorem dX1_layFrost_6 : decode cX1_layFrost 6 = .ok (.ifCond .ne 5, 3) := dk_154 0 5 (dk_at dksX1_layFrost_0 6 rfl rfl)
theorem dX1_layFrost_9 : decode cX1_layFrost 9 = .ok (.iconst 0, 1) := dk_3 (dk_at dksX1_layFrost_0 9 rfl rfl)
theorem dX1_layFrost_10 : decode cX1_layFrost 10 = .ok (.ireturn, 1) := dk_172 (dk_at dksX1_layFrost_0 10 rfl rfl)
theorem dX1_layFrost_11 : decode cX1_layFrost 11 = .ok (.iconst 0, 1) := dk_3 (dk_at dksX1_layFrost_0 11 rfl rfl)
theorem dX1_layFrost_12 : decode cX1_layFrost 12 = .ok (.istore_n 3, 1) := dk_62 (dk_at dksX1_layFrost_0 12 rfl rfl)
theorem dX1_layFrost_13 : decode cX1_layFrost 13 = .ok (.iconst 0, 1) := dk_3 (dk_at dksX1_layFrost_0 13 rfl rfl)
theorem dX1_layFrost_14 : decode cX1_layFrost 14 = .ok (.istore 4, 2) := dk_54 4 (dk_at dksX1_layFrost_0 14 rfl rfl)
theorem dX1_layFrost_16 : decode cX1_layFrost 16 = .ok (.aload_n 0, 1) := dk_42 (dk_at dksX1_layFrost_0 16 rfl rfl)
theorem dX1_layFrost_17 : decode cX1_layFrost 17 = .ok (.getfield 42, 3) := dk_180 0 42 (dk_at dksX1_layFrost_0 17 rfl rfl)
theorem dX1_layFrost_20 : decode cX1_layFrost 20 = .ok (.getfield 15, 3) := dk_180 0 15 (dk_at dksX1_layFrost_0 20 rfl rfl)
theorem dX1_layFrost_23 : decode cX1_layFrost 23 = .ok (.istore 5, 2) := dk_54 5 (dk_at dksX1_layFrost_1 0 rfl rfl)
theorem dX1_layFrost_25 : decode cX1_layFrost 25 = .ok (.iload 5, 2) := dk_21 5 (dk_at dksX1_layFrost_1 2 rfl rfl)
theorem dX1_layFrost_27 : decode cX1_layFrost 27 = .ok (.sipush 400, 3) := dk_17 1 144 (dk_at dksX1_layFrost_1 4 rfl rfl)
theorem dX1_layFrost_30 : decode cX1_layFrost 30 = .ok (.if_icmp .ge 104, 3) := dk_162 0 104 (dk_at dksX1_layFrost_1 7 rfl rfl)
theorem dX1_layFrost_33 : decode cX1_layFrost 33 = .ok (.iload_n 3, 1) := dk_29 (dk_at dksX1_layFrost_1 10 rfl rfl)
theorem dX1_layFrost_34 : decode cX1_layFrost 34 = .ok (.aload_n 0, 1) := dk_42 (dk_at dksX1_layFrost_1 11 rfl rfl)
theorem dX1_layFrost_35 : decode cX1_layFrost 35 = .ok (.getfield 42, 3) := dk_180 0 42 (dk_at dksX1_layFrost_1 12 rfl rfl)
theorem dX1_layFrost_38 : decode cX1_layFrost 38 = .ok (.iload_n 1, 1) := dk_27 (dk_at dksX1_layFrost_1 15 rfl rfl)
theorem dX1_layFrost_39 : decode cX1_layFrost 39 = .ok (.iconst 0, 1) := dk_3 (dk_at dksX1_layFrost_1 16 rfl rfl)
theorem dX1_layFrost_40 : decode cX1_layFrost 40 = .ok (.iload 5, 2) := dk_21 5 (dk_at dksX1_layFrost_1 17 rfl rfl)
theorem dX1_layFrost_42 : decode cX1_layFrost 42 = .ok (.invokevirtual 173, 3) := dk_182 0 173 (dk_at dksX1_layFrost_1 19 rfl rfl)
theorem dX1_layFrost_45 : decode cX1_layFrost 45 = .ok (.invokestatic 276, 3) := dk_184 1 20 (dk_at dksX1_layFrost_2 0 rfl rfl)
theorem dX1_layFrost_48 : decode cX1_layFrost 48 = .ok (.iadd, 1) := dk_96 (dk_at dksX1_layFrost_2 3 rfl rfl)
theorem dX1_layFrost_49 : decode cX1_layFrost 49 = .ok (.istore_n 3, 1) := dk_62 (dk_at dksX1_layFrost_2 4 rfl rfl)
theorem dX1_layFrost_50 : decode cX1_layFrost 50 = .ok (.iload 4, 2) := dk_21 4 (dk_at dksX1_layFrost_2 5 rfl rfl)
theorem dX1_layFrost_52 : decode cX1_layFrost 52 = .ok (.aload_n 0, 1) := dk_42 (dk_at dksX1_layFrost_2 7 rfl rfl)
theorem dX1_layFrost_53 : decode cX1_layFrost 53 = .ok (.getfield 42, 3) := dk_180 0 42 (dk_at dksX1_layFrost_2 8 rfl rfl)
theorem dX1_layFrost_56 : decode cX1_layFrost 56 = .ok (.iload_n 2, 1) := dk_28 (dk_at dksX1_layFrost_2 11 rfl rfl)
theorem dX1_layFrost_57 : decode cX1_layFrost 57 = .ok (.iconst 0, 1) := dk_3 (dk_at dksX1_layFrost_2 12 rfl rfl)
theorem dX1_layFrost_58 : decode cX1_layFrost 58 = .ok (.iload 5, 2) := dk_21 5 (dk_at dksX1_layFrost_2 13 rfl rfl)
theorem dX1_layFrost_60 : decode cX1_layFrost 60 = .ok (.invokevirtual 173, 3) := dk_182 0 173 (dk_at dksX1_layFrost_2 15 rfl rfl)
theorem dX1_layFrost_63 : decode cX1_layFrost 63 = .ok (.invokestatic 276, 3) := dk_184 1 20 (dk_at dksX1_layFrost_2 18 rfl rfl)
theorem dX1_layFrost_66 : decode cX1_layFrost 66 = .ok (.iadd, 1) := dk_96 (dk_at dksX1_layFrost_2 21 rfl rfl)
theorem dX1_layFrost_67 : decode cX1_layFrost 67 = .ok (.istore 4, 2) := dk_54 4 (dk_at dksX1_layFrost_2 22 rfl rfl)
theorem dX1_layFrost_69 : decode cX1_layFrost 69 = .ok (.iload_n 3, 1) := dk_29 (dk_at dksX1_layFrost_3 0 rfl rfl)
theorem dX1_layFrost_70 : decode cX1_layFrost 70 = .ok (.aload_n 0, 1) := dk_42 (dk_at dksX1_layFrost_3 1 rfl rfl)
theorem dX1_layFrost_71 : decode cX1_layFrost 71 = .ok (.getfield 33, 3) := dk_180 0 33 (dk_at dksX1_layFrost_3 2 rfl rfl)
theorem dX1_layFrost_74 : decode cX1_layFrost 74 = .ok (.getfield 305, 3) := dk_180 1 49 (dk_at dksX1_layFrost_3 5 rfl rfl)
theorem dX1_layFrost_77 : decode cX1_layFrost 77 = .ok (.if_icmp .gt 18, 3) := dk_163 0 18 (dk_at dksX1_layFrost_3 8 rfl rfl)
theorem dX1_layFrost_80 : decode cX1_layFrost 80 = .ok (.iload 4, 2) := dk_21 4 (dk_at dksX1_layFrost_3 11 rfl rfl)
theorem dX1_layFrost_82 : decode cX1_layFrost 82 = .ok (.aload_n 0, 1) := dk_42 (dk_at dksX1_layFrost_3 13 rfl rfl)
theorem dX1_layFrost_83 : decode cX1_layFrost 83 = .ok (.getfield 33, 3) := dk_180 0 33 (dk_at dksX1_layFrost_3 14 rfl rfl)
theorem dX1_layFrost_86 : decode cX1_layFrost 86 = .ok (.getfield 305, 3) := dk_180 1 49 (dk_at dksX1_layFrost_3 17 rfl rfl)
theorem dX1_layFrost_89 : decode cX1_layFrost 89 = .ok (.if_icmp .gt 6, 3) := dk_163 0 6 (dk_at dksX1_layFrost_3 20 rfl rfl)
theorem dX1_layFrost_92 : decode cX1_layFrost 92 = .ok (.goto 36, 3) := dk_167 0 36 (dk_at dksX1_layFrost_4 0 rfl rfl)
theorem dX1_layFrost_95 : decode cX1_layFrost 95 = .ok (.aload_n 0, 1) := dk_42 (dk_at dksX1_layFrost_4 3 rfl rfl)
theorem dX1_layFrost_96 : decode cX1_layFrost 96 = .ok (.iload_n 3, 1) := dk_29 (dk_at dksX1_layFrost_4 4 rfl rfl)
theorem dX1_layFrost_97 : decode cX1_layFrost 97 = .ok (.iload 4, 2) := dk_21 4 (dk_at dksX1_layFrost_4 5 rfl rfl)
theorem dX1_layFrost_99 : decode cX1_layFrost 99 = .ok (.if_icmp .le 7, 3) := dk_164 0 7 (dk_at dksX1_layFrost_4 7 rfl rfl)
theorem dX1_layFrost_102 : decode cX1_layFrost 102 = .ok (.iload_n 2, 1) := dk_28 (dk_at dksX1_layFrost_4 10 rfl rfl)
theorem dX1_layFrost_103 : decode cX1_layFrost 103 = .ok (.goto 4, 3) := dk_167 0 4 (dk_at dksX1_layFrost_4 11 rfl rfl)
theorem dX1_layFrost_106 : decode cX1_layFrost 106 = .ok (.iload_n 1, 1) := dk_27 (dk_at dksX1_layFrost_4 14 rfl rfl)
theorem dX1_layFrost_107 : decode cX1_layFrost 107 = .ok (.putfield 308, 3) := dk_181 1 52 (dk_at dksX1_layFrost_4 15 rfl rfl)
theorem dX1_layFrost_110 : decode cX1_layFrost 110 = .ok (.aload_n 0, 1) := dk_42 (dk_at dksX1_layFrost_4 18 rfl rfl)
theorem dX1_layFrost_111 : decode cX1_layFrost 111 = .ok (.iload 5, 2) := dk_21 5 (dk_at dksX1_layFrost_4 19 rfl rfl)
theorem dX1_layFrost_113 : decode cX1_layFrost 113 = .ok (.putfield 311, 3) := dk_181 1 55 (dk_at dksX1_layFrost_4 21 rfl rfl)
theorem dX1_layFrost_116 : decode cX1_layFrost 116 = .ok (.iload_n 3, 1) := dk_29 (dk_at dksX1_layFrost_5 0 rfl rfl)
theorem dX1_layFrost_117 : decode cX1_layFrost 117 = .ok (.iload 4, 2) := dk_21 4 (dk_at dksX1_layFrost_5 1 rfl rfl)
theorem dX1_layFrost_119 : decode cX1_layFrost 119 = .ok (.if_icmp .eq 7, 3) := dk_159 0 7 (dk_at dksX1_layFrost_5 3 rfl rfl)
theorem dX1_layFrost_122 : decode cX1_layFrost 122 = .ok (.iconst 1, 1) := dk_4 (dk_at dksX1_layFrost_5 6 rfl rfl)
theorem dX1_layFrost_123 : decode cX1_layFrost 123 = .ok (.goto 4, 3) := dk_167 0 4 (dk_at dksX1_layFrost_5 7 rfl rfl)
theorem dX1_layFrost_126 : decode cX1_layFrost 126 = .ok (.iconst 0, 1) := dk_3 (dk_at dksX1_layFrost_5 10 rfl rfl)
theorem dX1_layFrost_127 : decode cX1_layFrost 127 = .ok (.ireturn, 1) := dk_172 (dk_at dksX1_layFrost_5 11 rfl rfl)
theorem dX1_layFrost_128 : decode cX1_layFrost 128 = .ok (.iinc 5 1, 3) := dk_132 5 1 (dk_at dksX1_layFrost_5 12 rfl rfl)
theorem dX1_layFrost_131 : decode cX1_layFrost 131 = .ok (.goto (-106), 3) := dk_167 255 150 (dk_at dksX1_layFrost_5 15 rfl rfl)
theorem dX1_layFrost_134 : decode cX1_layFrost 134 = .ok (.iconst 0, 1) := dk_3 (dk_at dksX1_layFrost_5 18 rfl rfl)
theorem dX1_layFrost_135 : decode cX1_layFrost 135 = .ok (.ireturn, 1) := dk_172 (dk_at dksX1_layFrost_5 19 rfl rfl)
theorem se_HeldCoats_areTwo__II_Z_HeldCoats : ∀ c ∈ ([0] : List Nat), ∃ q : vw_C, cz_cl[c]? = some q ∧ Cond.selects q.1 (⟨"HeldCoats", "areTwo", "(II)Z"⟩ : MethodName) (⟨"HeldCoats", "areTwo", "(II)Z"⟩ : MethodName) ∈ lw_all := List.forall_mem_cons.mpr ⟨⟨_, cz_cl0, qs24⟩, fun _ h => absurd h List.not_mem_nil⟩
theorem md_X1_areTwo : cz_md yX1_areTwo 3 (ws_ yX1_areTwo cX1_areTwo 3 ((Option.some Jvm.ClassFile.FieldType.boolean))) 2 := ⟨cz_ws_code q1402, q113, ⟨by decide, by decide, by decide +kernel⟩, by decide⟩
theorem fw_X1_308 : cz_FW "HeldCoats" 308 [(0, 11)] "I" := ⟨"HeldCoats", "wins", Or.inl q391, List.forall_mem_cons.mpr ⟨⟨RX1, TX1, 18, rfl, by decide, rfl, rfl, Or.inl rfl⟩, fun _ h => absurd h List.not_mem_nil⟩, by decide⟩
theorem fp_X1_m_0_11 {nm : String} : cz_FP "HeldCoats" nm [(0, 11)] := List.forall_mem_cons.mpr ⟨⟨RX1, TX1, 18, rfl, Or.inl rfl⟩, fun _ h => absurd h List.not_mem_nil⟩
theorem fw_X1_311 : cz_FW "HeldCoats" 311 [(0, 12)] "I" := ⟨"HeldCoats", "gives", Or.inl q392, List.forall_mem_cons.mpr ⟨⟨RX1, TX1, 18, rfl, by decide, rfl, rfl, Or.inl rfl⟩, fun _ h => absurd h List.not_mem_nil⟩, by decide⟩
theorem fp_X1_m_0_12 {nm : String} : cz_FP "HeldCoats" nm [(0, 12)] := List.forall_mem_cons.mpr ⟨⟨RX1, TX1, 18, rfl, Or.inl rfl⟩, fun _ h => absurd h List.not_mem_nil⟩
set_option maxHeartbeats 4000000 in
set_option maxRecDepth 100000 in
noncomputable def fn_X1_layFrost_25 (l0 : Option Nat) (l1 : Int32) (l2 : Int32) (k0 : Int32 → Int32 → Int32 → cz_H → cz_Z) (k1 : cz_H → cz_Z) : Nat → Int32 → Int32 → Int32 → cz_H → cz_Z
  | 0, _, _, _, _ => none
  | n + 1, l3, l4, l5, h => (if (400 : Int32) ≤ l5 then k1 h else cz_getR h l0 [(0, 4)] (fun r11 => cz_rc h r11 [3] (cz_cI (fn_X3_chill r11 l1 0 l5 h) (fun x19 h18 => cz_cI (fn_X3_square x19 h18) (fun x21 h20 => cz_leti (l3 + x21) (fun x22 => cz_getR h20 l0 [(0, 4)] (fun r23 => cz_rc h20 r23 [3] (cz_cI (fn_X3_chill r23 l2 0 l5 h20) (fun x31 h30 => cz_cI (fn_X3_square x31 h30) (fun x33 h32 => cz_leti (l4 + x33) (fun x34 => cz_getR h32 l0 [(0, 3)] (fun r35 => cz_getI h32 r35 [(1, 5)] (fun x36 => (if x36 < x22 then k0 x22 x34 l5 h32 else cz_getR h32 l0 [(0, 3)] (fun r37 => cz_getI h32 r37 [(1, 5)] (fun x38 => (if x38 < x34 then k0 x22 x34 l5 h32 else cz_leti (l5 + 1) (fun x39 => fn_X1_layFrost_25 l0 l1 l2 k0 k1 n x22 x34 x39 h32))))))))))))))))))
set_option maxHeartbeats 4000000 in
set_option maxRecDepth 100000 in
theorem wk_X1_layFrost_25 {K : cz_K} {D : cz_D} {h0 : cz_H} {oh : cz_O × cz_H} {l0 : Option Nat} {l1 : Int32} {l2 : Int32} {k0 : Int32 → Int32 → Int32 → cz_H → cz_Z} {k1 : cz_H → cz_Z} (S : cz_S K D h0 cX1_layFrost 6 "HeldCoats" ((Option.some Jvm.ClassFile.FieldType.boolean)) "layFrost" ([])) (hk0 : ∀ (e3 : Int32) (e4 : Int32) (e5 : Int32) (h : cz_H), cz_T K D 7 h0 oh 6 (k0 e3 e4 e5 h) h 95 [(0, cz_r l0), (1, cz_i l1), (2, cz_i l2), (3, cz_i e3), (4, cz_i e4), (5, cz_i e5)] []) (hk1 : ∀ (h : cz_H), cz_T K D 7 h0 oh 6 (k1 h) h 134 [] []) : ∀ (n : Nat) (l3 : Int32) (l4 : Int32) (l5 : Int32) (h : cz_H), cz_T K D 7 h0 oh 6 (fn_X1_layFrost_25 l0 l1 l2 k0 k1 n l3 l4 l5 h) h 25 [(0, cz_r l0), (1, cz_i l1), (2, cz_i l2), (3, cz_i l3), (4, cz_i l4), (5, cz_i l5)] [] := by
  intro n
  induction n with
  | zero => intros; exact ct_none
  | succ n ih =>
    intro l3 l4 l5 h
    rw [fn_X1_layFrost_25]
    refine ct_iload (k := 5) S dX1_layFrost_25 rfl ?_
    refine ct_sipush (v := 400) S dX1_layFrost_27 kS_400 ?_
    refine ct_icmp_ge (tgt := 134) S dX1_layFrost_30 (by decide) ?_ ?_
    · exact ct_sub [] rfl (hk1 h)
    · refine ct_iload_n (k := 3) S dX1_layFrost_33 rfl rfl ?_
      refine ct_aload_n (k := 0) S dX1_layFrost_34 rfl rfl ?_
      refine ct_getR S fw_X1_42 dX1_layFrost_35 (fun r11 => ?_)
      refine ct_iload_n (k := 1) S dX1_layFrost_38 rfl rfl ?_
      refine ct_iconst (v := 0) S dX1_layFrost_39 kI_0 ?_
      refine ct_iload (k := 5) S dX1_layFrost_40 rfl ?_
      refine ct_rc (fun b12 ci13 V14 hb15 hc16 hi17 => ?_)
      refine ct_cI (st := [cz_i l3]) (cg_virtual (av := [cz_i l1, cz_i 0, cz_i l5]) S hb15 hc16 hi17 (fun _ e => mt_X3_chill e) md_X3_chill q1373 q1226 se_HeldCoats_Reign_chill__III_I_HeldCoats_Reign (by decide) (Nat.le_of_ble_eq_true rfl) rfl dX1_layFrost_42) (fun x19 h18 => ?_)
      refine ct_cI (st := [cz_i l3]) (cg_static (av := [cz_i x19]) S (fun _ e => mt_X3_square e) md_X3_square (Or.inl q1374) q1237 (by decide) (Nat.le_of_ble_eq_true rfl) rfl dX1_layFrost_45) (fun x21 h20 => ?_)
      refine ct_iadd S dX1_layFrost_48 ?_
      refine ct_leti (fun x22 => ?_)
      refine ct_istore_n (L' := [(3, cz_i x22), (0, cz_r l0), (1, cz_i l1), (2, cz_i l2), (4, cz_i l4), (5, cz_i l5)]) S dX1_layFrost_49 rfl (by decide) rfl ?_
      refine ct_iload (k := 4) S dX1_layFrost_50 rfl ?_
      refine ct_aload_n (k := 1) S dX1_layFrost_52 rfl rfl ?_
      refine ct_getR S fw_X1_42 dX1_layFrost_53 (fun r23 => ?_)
      refine ct_iload_n (k := 3) S dX1_layFrost_56 rfl rfl ?_
      refine ct_iconst (v := 0) S dX1_layFrost_57 kI_0 ?_
      refine ct_iload (k := 5) S dX1_layFrost_58 rfl ?_
      refine ct_rc (fun b24 ci25 V26 hb27 hc28 hi29 => ?_)
      refine ct_cI (st := [cz_i l4]) (cg_virtual (av := [cz_i l2, cz_i 0, cz_i l5]) S hb27 hc28 hi29 (fun _ e => mt_X3_chill e) md_X3_chill q1373 q1226 se_HeldCoats_Reign_chill__III_I_HeldCoats_Reign (by decide) (Nat.le_of_ble_eq_true rfl) rfl dX1_layFrost_60) (fun x31 h30 => ?_)
      refine ct_cI (st := [cz_i l4]) (cg_static (av := [cz_i x31]) S (fun _ e => mt_X3_square e) md_X3_square (Or.inl q1374) q1237 (by decide) (Nat.le_of_ble_eq_true rfl) rfl dX1_layFrost_63) (fun x33 h32 => ?_)
      refine ct_iadd S dX1_layFrost_66 ?_
      refine ct_leti (fun x34 => ?_)
      refine ct_istore (L' := [(4, cz_i x34), (3, cz_i x22), (0, cz_r l0), (1, cz_i l1), (2, cz_i l2), (5, cz_i l5)]) S dX1_layFrost_67 (by decide) rfl ?_
      refine ct_iload_n (k := 1) S dX1_layFrost_69 rfl rfl ?_
      refine ct_aload_n (k := 2) S dX1_layFrost_70 rfl rfl ?_
      refine ct_getR S fw_X1_33 dX1_layFrost_71 (fun r35 => ?_)
      refine ct_getI S fw_X1_305 dX1_layFrost_74 (fun x36 => ?_)
      refine ct_icmp_gt (tgt := 95) S dX1_layFrost_77 (by decide) ?_ ?_
      · exact ct_sub [2, 3, 4, 1, 0, 5] rfl (hk0 x22 x34 l5 h32)
      · refine ct_iload (k := 0) S dX1_layFrost_80 rfl ?_
        refine ct_aload_n (k := 2) S dX1_layFrost_82 rfl rfl ?_
        refine ct_getR S fw_X1_33 dX1_layFrost_83 (fun r37 => ?_)
        refine ct_getI S fw_X1_305 dX1_layFrost_86 (fun x38 => ?_)
        refine ct_icmp_gt (tgt := 95) S dX1_layFrost_89 (by decide) ?_ ?_
        · exact ct_sub [2, 3, 4, 1, 0, 5] rfl (hk0 x22 x34 l5 h32)
        · refine ct_goto (tgt := 128) S dX1_layFrost_92 (by decide) ?_
          refine ct_iincL (j := 5) (L2 := fun x39 => [(5, cz_i x39), (4, cz_i x34), (3, cz_i x22), (0, cz_r l0), (1, cz_i l1), (2, cz_i l2)]) S dX1_layFrost_128 rfl kI_1 (by decide) (fun _ => rfl) (fun x39 => ?_)
          refine ct_goto (tgt := 25) S dX1_layFrost_131 (by decide) ?_
          exact ct_sub [3, 4, 5, 2, 1, 0] rfl (ih x22 x34 x39 h32)
set_option maxHeartbeats 4000000 in
set_option maxRecDepth 100000 in
noncomputable def fn_X1_layFrost (l0 : Option Nat) (l1 : Int32) (l2 : Int32) (h : cz_H) : cz_Z := cz_rc h l0 [0] (cz_cI (fn_X1_areTwo l0 l1 l2 h) (fun x8 h7 => (if x8 = 0 then some (.inl (some (cz_i 0)), h7) else cz_getR h7 l0 [(0, 4)] (fun r9 => cz_getI h7 r9 [(3, 1)] (fun x10 => fn_X1_layFrost_25 l0 l1 l2 (fun (e40 : Int32) (e41 : Int32) (e42 : Int32) (h43 : cz_H) => cz_jn (fun (v44 : Int32) (h45 : cz_H) => cz_put h45 l0 [(0, 11)] (cz_i v44) (fun h46 => cz_put h46 l0 [(0, 12)] (cz_i e42) (fun h47 => (if e40 = e41 then some (.inl (some (cz_i 0)), h47) else some (.inl (some (cz_i 1)), h47))))) (fun j48 => (if e40 ≤ e41 then j48 l1 h43 else j48 l2 h43))) (fun (h49 : cz_H) => some (.inl (some (cz_i 0)), h49)) 1000 0 0 x10 h7)))))
set_option maxHeartbeats 4000000 in
set_option maxRecDepth 100000 in
theorem wk_X1_layFrost {K : cz_K} {D : cz_D} {h0 : cz_H} {oh : cz_O × cz_H} {l0 : Option Nat} {l1 : Int32} {l2 : Int32} {h : cz_H} (S : cz_S K D h0 cX1_layFrost 6 "HeldCoats" ((Option.some Jvm.ClassFile.FieldType.boolean)) "layFrost" ([])) : cz_T K D 7 h0 oh 6 (fn_X1_layFrost l0 l1 l2 h) h 0 [(0, cz_r l0), (1, cz_i l1), (2, cz_i l2)] [] := by
  unfold fn_X1_layFrost
  refine ct_aload_n (k := 0) S dX1_layFrost_0 rfl rfl ?_
  refine ct_iload_n (k := 1) S dX1_layFrost_1 rfl rfl ?_
  refine ct_iload_n (k := 2) S dX1_layFrost_2 rfl rfl ?_
  refine ct_rc (fun b1 ci2 V3 hb4 hc5 hi6 => ?_)
  refine ct_cI (st := []) (cg_virtual (av := [cz_i l1, cz_i l2]) S hb4 hc5 hi6 (fun _ e => mt_X1_areTwo e) md_X1_areTwo q1399 q1401 se_HeldCoats_areTwo__II_Z_HeldCoats (by decide) (Nat.le_of_ble_eq_true rfl) rfl dX1_layFrost_3) (fun x8 h7 => ?_)
  refine ct_if_ne (tgt := 11) S dX1_layFrost_6 (by decide) ?_ ?_
  · refine ct_iconst (v := 0) S dX1_layFrost_11 kI_0 ?_
    refine ct_istore_n (L' := [(3, cz_i 0), (0, cz_r l0), (1, cz_i l1), (2, cz_i l2)]) S dX1_layFrost_12 rfl (by decide) rfl ?_
    refine ct_iconst (v := 0) S dX1_layFrost_13 kI_0 ?_
    refine ct_istore (L' := [(4, cz_i 0), (3, cz_i 0), (0, cz_r l0), (1, cz_i l1), (2, cz_i l2)]) S dX1_layFrost_14 (by decide) rfl ?_
    refine ct_aload_n (k := 2) S dX1_layFrost_16 rfl rfl ?_
    refine ct_getR S fw_X1_42 dX1_layFrost_17 (fun r9 => ?_)
    refine ct_getI S fw_X1_15 dX1_layFrost_20 (fun x10 => ?_)
    refine ct_istore (L' := [(5, cz_i x10), (4, cz_i 0), (3, cz_i 0), (0, cz_r l0), (1, cz_i l1), (2, cz_i l2)]) S dX1_layFrost_23 (by decide) rfl ?_
    refine ct_sub [3, 4, 5, 2, 1, 0] (L' := [(0, cz_r l0), (1, cz_i l1), (2, cz_i l2), (3, cz_i 0), (4, cz_i 0), (5, cz_i x10)]) rfl (wk_X1_layFrost_25 S ?_ ?_ 1000 0 0 x10 h7)
    · intro e40 e41 e42 h43
      refine ct_aload_n (k := 0) S dX1_layFrost_95 rfl rfl ?_
      refine ct_iload_n (k := 3) S dX1_layFrost_96 rfl rfl ?_
      refine ct_iload (k := 4) S dX1_layFrost_97 rfl ?_
      refine ct_jnP (fun j48 => ∀ (v44 : Int32) (h45 : cz_H), cz_T K D 7 h0 oh 6 (j48 v44 h45) h45 107 [(0, cz_r l0), (3, cz_i e40), (4, cz_i e41), (5, cz_i e42)] [cz_i v44, cz_r l0]) (fun v44 h45 => ?_) (fun j48 Hj48 => ?_)
      · refine ct_put S fw_X1_308 fp_X1_m_0_11 (cz_fits_i pd_I) dX1_layFrost_107 (fun h46 => ?_)
        refine ct_aload_n (k := 0) S dX1_layFrost_110 rfl rfl ?_
        refine ct_iload (k := 3) S dX1_layFrost_111 rfl ?_
        refine ct_put S fw_X1_311 fp_X1_m_0_12 (cz_fits_i pd_I) dX1_layFrost_113 (fun h47 => ?_)
        refine ct_iload_n (k := 1) S dX1_layFrost_116 rfl rfl ?_
        refine ct_iload (k := 2) S dX1_layFrost_117 rfl ?_
        refine ct_icmp_eq (tgt := 126) S dX1_layFrost_119 (by decide) ?_ ?_
        · refine ct_iconst (v := 0) S dX1_layFrost_126 kI_0 ?_
          exact ct_zr (ty := .boolean) S rfl rfl dX1_layFrost_127
        · refine ct_iconst (v := 1) S dX1_layFrost_122 kI_1 ?_
          refine ct_goto (tgt := 127) S dX1_layFrost_123 (by decide) ?_
          exact ct_zr (ty := .boolean) S rfl rfl dX1_layFrost_127
      · refine ct_icmp_le (tgt := 106) S dX1_layFrost_99 (by decide) ?_ ?_
        · refine ct_iload_n (k := 1) S dX1_layFrost_106 rfl rfl ?_
          exact ct_sub [0, 3, 4, 5] rfl (Hj48 l1 h43)
        · refine ct_iload_n (k := 2) S dX1_layFrost_102 rfl rfl ?_
          refine ct_goto (tgt := 107) S dX1_layFrost_103 (by decide) ?_
          exact ct_sub [0, 3, 4, 5] rfl (Hj48 l2 h43)
    · intro h49
      refine ct_iconst (v := 0) S dX1_layFrost_134 kI_0 ?_
      exact ct_zr (ty := .boolean) S rfl rfl dX1_layFrost_135
  · refine ct_iconst (v := 0) S dX1_layFrost_9 kI_0 ?_
    exact ct_zr (ty := .boolean) S rfl rfl dX1_layFrost_10
theorem mt_X1_layFrost {l : Launch} {D : cz_D} {l0 : Option Nat} {l1 : Int32} {l2 : Int32} {h : cz_H} {oh : cz_O × cz_H} (hz : fn_X1_layFrost l0 l1 l2 h = some oh) : cz_M l D yX1_layFrost (ws_ yX1_layFrost cX1_layFrost 6 ((Option.some Jvm.ClassFile.FieldType.boolean))) 7 [cz_r l0, cz_i l1, cz_i l2] h oh := cz_met (plainFor_of_name (by decide)) (Nat.le_of_ble_eq_true rfl) hz (fun K hl S => wk_X1_layFrost S)
/-! HeldCoats.frost(II)I -/
def dkwX1_frost_0 : List UInt8 := [42, 27, 28, 182, 1, 58, 153, 0, 10, 42, 180, 1, 52, 167, 0, 4, 2, 172]
abbrev dktX1_frost_0 : List UInt8 := dkwX1_frost_0 ++ []
theorem dksX1_frost_0 : cX1_frost.data.toList.drop 0 = dktX1_frost_0 := by decide +kernel
theorem dX1_frost_0 : decode cX1_frost 0 = .ok (.aload_n 0, 1) := dk_42 (dk_at dksX1_frost_0 0 rfl rfl)
theorem dX1_frost_1 : decode cX1_frost 1 = .ok (.iload_n 1, 1) := dk_27 (dk_at dksX1_frost_0 1 rfl rfl)
theorem dX1_frost_2 : decode cX1_frost 2 = .ok (.iload_n 2, 1) := dk_28 (dk_at dksX1_frost_0 2 rfl rfl)
theorem dX1_frost_3 : decode cX1_frost 3 = .ok (.invokevirtual 314, 3) := dk_182 1 58 (dk_at dksX1_frost_0 3 rfl rfl)
theorem dX1_frost_6 : decode cX1_frost 6 = .ok (.ifCond .eq 10, 3) := dk_153 0 10 (dk_at dksX1_frost_0 6 rfl rfl)
theorem dX1_frost_9 : decode cX1_frost 9 = .ok (.aload_n 0, 1) := dk_42 (dk_at dksX1_frost_0 9 rfl rfl)
theorem dX1_frost_10 : decode cX1_frost 10 = .ok (.getfield 308, 3) := dk_180 1 52 (dk_at dksX1_frost_0 10 rfl rfl)
theorem dX1_frost_13 : decode cX1_frost 13 = .ok (.goto 4, 3) := dk_167 0 4 (dk_at dksX1_frost_0 13 rfl rfl)
theorem dX1_frost_16 : decode cX1_frost 16 = .ok (.iconst (-1), 1) := dk_2 (dk_at dksX1_frost_0 16 rfl rfl)
theorem dX1_frost_17 : decode cX1_frost 17 = .ok (.ireturn, 1) := dk_172 (dk_at dksX1_frost_0 17 rfl rfl)
theorem se_HeldCoats_layFrost__II_Z_HeldCoats : ∀ c ∈ ([0] : List Nat), ∃ q : vw_C, cz_cl[c]? = some q ∧ Cond.selects q.1 (⟨"HeldCoats", "layFrost", "(II)Z"⟩ : MethodName) (⟨"HeldCoats", "layFrost", "(II)Z"⟩ : MethodName) ∈ lw_all := List.forall_mem_cons.mpr ⟨⟨_, cz_cl0, qs27⟩, fun _ h => absurd h List.not_mem_nil⟩
theorem md_X1_layFrost : cz_md yX1_layFrost 6 (ws_ yX1_layFrost cX1_layFrost 6 ((Option.some Jvm.ClassFile.FieldType.boolean))) 2 := ⟨cz_ws_code q1435, q113, ⟨by decide, by decide, by decide +kernel⟩, by decide⟩
set_option maxHeartbeats 4000000 in
set_option maxRecDepth 100000 in
noncomputable def fn_X1_frost (l0 : Option Nat) (l1 : Int32) (l2 : Int32) (h : cz_H) : cz_Z := cz_rc h l0 [0] (cz_cI (fn_X1_layFrost l0 l1 l2 h) (fun x8 h7 => (if x8 = 0 then some (.inl (some (cz_i (-1))), h7) else cz_getI h7 l0 [(0, 11)] (fun x9 => some (.inl (some (cz_i x9)), h7)))))
set_option maxHeartbeats 4000000 in
set_option maxRecDepth 100000 in
theorem wk_X1_frost {K : cz_K} {D : cz_D} {h0 : cz_H} {oh : cz_O × cz_H} {l0 : Option Nat} {l1 : Int32} {l2 : Int32} {h : cz_H} (S : cz_S K D h0 cX1_frost 3 "HeldCoats" ((Option.some Jvm.ClassFile.FieldType.int)) "frost" ([])) : cz_T K D 8 h0 oh 3 (fn_X1_frost l0 l1 l2 h) h 0 [(0, cz_r l0), (1, cz_i l1), (2, cz_i l2)] [] := by
  unfold fn_X1_frost
  refine ct_aload_n (k := 0) S dX1_frost_0 rfl rfl ?_
  refine ct_iload_n (k := 1) S dX1_frost_1 rfl rfl ?_
  refine ct_iload_n (k := 2) S dX1_frost_2 rfl rfl ?_
  refine ct_rc (fun b1 ci2 V3 hb4 hc5 hi6 => ?_)
  refine ct_cI (st := []) (cg_virtual (av := [cz_i l1, cz_i l2]) S hb4 hc5 hi6 (fun _ e => mt_X1_layFrost e) md_X1_layFrost q1432 q1434 se_HeldCoats_layFrost__II_Z_HeldCoats (by decide) (Nat.le_of_ble_eq_true rfl) rfl dX1_frost_3) (fun x8 h7 => ?_)
  refine ct_if_eq (tgt := 16) S dX1_frost_6 (by decide) ?_ ?_
  · refine ct_iconst (v := (-1)) S dX1_frost_16 kI_m1 ?_
    exact ct_iret S rfl dX1_frost_17
  · refine ct_aload_n (k := 0) S dX1_frost_9 rfl rfl ?_
    refine ct_getI S fw_X1_308 dX1_frost_10 (fun x9 => ?_)
    refine ct_goto (tgt := 17) S dX1_frost_13 (by decide) ?_
    exact ct_iret S rfl dX1_frost_17
theorem mt_X1_frost {l : Launch} {D : cz_D} {l0 : Option Nat} {l1 : Int32} {l2 : Int32} {h : cz_H} {oh : cz_O × cz_H} (hz : fn_X1_frost l0 l1 l2 h = some oh) : cz_M l D yX1_frost (ws_ yX1_frost cX1_frost 3 ((Option.some Jvm.ClassFile.FieldType.int))) 8 [cz_r l0, cz_i l1, cz_i l2] h oh := cz_met (plainFor_of_name (by decide)) (Nat.le_of_ble_eq_true rfl) hz (fun K hl S => wk_X1_frost S)
/-! HeldCoats.frostAt(II)I -/
def dkwX1_frostAt_0 : List UInt8 := [42, 27, 28, 182, 1, 58, 153, 0, 10, 42, 180, 1, 55, 167, 0, 4, 2, 172]
abbrev dktX1_frostAt_0 : List UInt8 := dkwX1_frostAt_0 ++ []
theorem dksX1_frostAt_0 : cX1_frostAt.data.toList.drop 0 = dktX1_frostAt_0 := by decide +kernel
theorem dX1_frostAt_0 : decode cX1_frostAt 0 = .ok (.aload_n 0, 1) := dk_42 (dk_at dksX1_frostAt_0 0 rfl rfl)
theorem dX1_frostAt_1 : decode cX1_frostAt 1 = .ok (.iload_n 1, 1) := dk_27 (dk_at dksX1_frostAt_0 1 rfl rfl)
theorem dX1_frostAt_2 : decode cX1_frostAt 2 = .ok (.iload_n 2, 1) := dk_28 (dk_at dksX1_frostAt_0 2 rfl rfl)
theorem dX1_frostAt_3 : decode cX1_frostAt 3 = .ok (.invokevirtual 314, 3) := dk_182 1 58 (dk_at dksX1_frostAt_0 3 rfl rfl)
theorem dX1_frostAt_6 : decode cX1_frostAt 6 = .ok (.ifCond .eq 10, 3) := dk_153 0 10 (dk_at dksX1_frostAt_0 6 rfl rfl)
theorem dX1_frostAt_9 : decode cX1_frostAt 9 = .ok (.aload_n 0, 1) := dk_42 (dk_at dksX1_frostAt_0 9 rfl rfl)
theorem dX1_frostAt_10 : decode cX1_frostAt 10 = .ok (.getfield 311, 3) := dk_180 1 55 (dk_at dksX1_frostAt_0 10 rfl rfl)
theorem dX1_frostAt_13 : decode cX1_frostAt 13 = .ok (.goto 4, 3) := dk_167 0 4 (dk_at dksX1_frostAt_0 13 rfl rfl)
theorem dX1_frostAt_16 : decode cX1_frostAt 16 = .ok (.iconst (-1), 1) := dk_2 (dk_at dksX1_frostAt_0 16 rfl rfl)
theorem dX1_frostAt_17 : decode cX1_frostAt 17 = .ok (.ireturn, 1) := dk_172 (dk_at dksX1_frostAt_0 17 rfl rfl)
set_option maxHeartbeats 4000000 in
set_option maxRecDepth 100000 in
noncomputable def fn_X1_frostAt (l0 : Option Nat) (l1 : Int32) (l2 : Int32) (h : cz_H) : cz_Z := cz_rc h l0 [0] (cz_cI (fn_X1_layFrost l0 l1 l2 h) (fun x8 h7 => (if x8 = 0 then some (.inl (some (cz_i (-1))), h7) else cz_getI h7 l0 [(0, 12)] (fun x9 => some (.inl (some (cz_i x9)), h7)))))
set_option maxHeartbeats 4000000 in
set_option maxRecDepth 100000 in
theorem wk_X1_frostAt {K : cz_K} {D : cz_D} {h0 : cz_H} {oh : cz_O × cz_H} {l0 : Option Nat} {l1 : Int32} {l2 : Int32} {h : cz_H} (S : cz_S K D h0 cX1_frostAt 3 "HeldCoats" ((Option.some Jvm.ClassFile.FieldType.int)) "frostAt" ([])) : cz_T K D 8 h0 oh 3 (fn_X1_frostAt l0 l1 l2 h) h 0 [(0, cz_r l0), (1, cz_i l1), (2, cz_i l2)] [] := by
  unfold fn_X1_frostAt
  refine ct_aload_n (k := 0) S dX1_frostAt_0 rfl rfl ?_
  refine ct_iload_n (k := 1) S dX1_frostAt_1 rfl rfl ?_
  refine ct_iload_n (k := 2) S dX1_frostAt_2 rfl rfl ?_
  refine ct_rc (fun b1 ci2 V3 hb4 hc5 hi6 => ?_)
  refine ct_cI (st := []) (cg_virtual (av := [cz_i l1, cz_i l2]) S hb4 hc5 hi6 (fun _ e => mt_X1_layFrost e) md_X1_layFrost q1432 q1434 se_HeldCoats_layFrost__II_Z_HeldCoats (by decide) (Nat.le_of_ble_eq_true rfl) rfl dX1_frostAt_3) (fun x8 h7 => ?_)
  refine ct_if_eq (tgt := 16) S dX1_frostAt_6 (by decide) ?_ ?_
  · refine ct_iconst (v := (-1)) S dX1_frostAt_16 kI_m1 ?_
    exact ct_iret S rfl dX1_frostAt_17
  · refine ct_aload_n (k := 0) S dX1_frostAt_9 rfl rfl ?_
    refine ct_getI S fw_X1_311 dX1_frostAt_10 (fun x9 => ?_)
    refine ct_goto (tgt := 17) S dX1_frostAt_13 (by decide) ?_
    exact ct_iret S rfl dX1_frostAt_17
theorem mt_X1_frostAt {l : Launch} {D : cz_D} {l0 : Option Nat} {l1 : Int32} {l2 : Int32} {h : cz_H} {oh : cz_O × cz_H} (hz : fn_X1_frostAt l0 l1 l2 h = some oh) : cz_M l D yX1_frostAt (ws_ yX1_frostAt cX1_frostAt 3 ((Option.some Jvm.ClassFile.FieldType.int))) 8 [cz_r l0, cz_i l1, cz_i l2] h oh := cz_met (plainFor_of_name (by decide)) (Nat.le_of_ble_eq_true rfl) hz (fun K hl S => wk_X1_frostAt S)
/-! HeldCoats.harm(II)I -/
def dkwX1_harm_2 : List UInt8 := [180, 0, 42, 180, 0, 177, 27, 46, 100, 172]
abbrev dktX1_harm_2 : List UInt8 := dkwX1_harm_2 ++ []
def dkwX1_harm_1 : List UInt8 := [42, 180, 0, 42, 182, 0, 232, 28, 182, 1, 11, 87, 42, 180, 0, 46, 180, 0, 177, 27, 46, 42]
abbrev dktX1_harm_1 : List UInt8 := dkwX1_harm_1 ++ dktX1_harm_2
def dkwX1_harm_0 : List UInt8 := [42, 27, 182, 0, 129, 153, 0, 13, 28, 4, 16, 60, 184, 0, 162, 154, 0, 5, 2, 172, 42, 180, 0, 46]
abbrev dktX1_harm_0 : List UInt8 := dkwX1_harm_0 ++ dktX1_harm_1
theorem dksX1_harm_0 : cX1_harm.data.toList.drop 0 = dktX1_harm_0 := by decide +kernel
theorem dksX1_harm_1 : cX1_harm.data.toList.drop 24 = dktX1_harm_1 := dk_seg dksX1_harm_0 24 rfl rfl
theorem dksX1_harm_2 : cX1_harm.data.toList.drop 46 = dktX1_harm_2 := dk_seg dksX1_harm_1 22 rfl rfl
theorem dX1_harm_0 : decode cX1_harm 0 = .ok (.aload_n 0, 1) := dk_42 (dk_at dksX1_harm_0 0 rfl rfl)
theorem dX1_harm_1 : decode cX1_harm 1 = .ok (.iload_n 1, 1) := dk_27 (dk_at dksX1_harm_0 1 rfl rfl)
theorem dX1_harm_2 : decode cX1_harm 2 = .ok (.invokevirtual 129, 3) := dk_182 0 129 (dk_at dksX1_harm_0 2 rfl rfl)
theorem dX1_harm_5 : decode cX1_harm 5 = .ok (.ifCond .eq 13, 3) := dk_153 0 13 (dk_at dksX1_harm_0 5 rfl rfl)
theorem dX1_harm_8 : decode cX1_harm 8 = .ok (.iload_n 2, 1) := dk_28 (dk_at dksX1_harm_0 8 rfl rfl)
theorem dX1_harm_9 : decode cX1_harm 9 = .ok (.iconst 1, 1) := dk_4 (dk_at dksX1_harm_0 9 rfl rfl)
theorem dX1_harm_10 : decode cX1_harm 10 = .ok (.bipush 60, 2) := dk_16 60 (dk_at dksX1_harm_0 10 rfl rfl)
theorem dX1_harm_12 : decode cX1_harm 12 = .ok (.invokestatic 162, 3) := dk_184 0 162 (dk_at dksX1_harm_0 12 rfl rfl)
theorem dX1_harm_15 : decode cX1_harm 15 = .ok (.ifCond .ne 5, 3) := dk_154 0 5 (dk_at dksX1_harm_0 15 rfl rfl)
theorem dX1_harm_18 : decode cX1_harm 18 = .ok (.iconst (-1), 1) := dk_2 (dk_at dksX1_harm_0 18 rfl rfl)
theorem dX1_harm_19 : decode cX1_harm 19 = .ok (.ireturn, 1) := dk_172 (dk_at dksX1_harm_0 19 rfl rfl)
theorem dX1_harm_20 : decode cX1_harm 20 = .ok (.aload_n 0, 1) := dk_42 (dk_at dksX1_harm_0 20 rfl rfl)
theorem dX1_harm_21 : decode cX1_harm 21 = .ok (.getfield 46, 3) := dk_180 0 46 (dk_at dksX1_harm_0 21 rfl rfl)
theorem dX1_harm_24 : decode cX1_harm 24 = .ok (.aload_n 0, 1) := dk_42 (dk_at dksX1_harm_1 0 rfl rfl)
theorem dX1_harm_25 : decode cX1_harm 25 = .ok (.getfield 42, 3) := dk_180 0 42 (dk_at dksX1_harm_1 1 rfl rfl)
theorem dX1_harm_28 : decode cX1_harm 28 = .ok (.invokevirtual 232, 3) := dk_182 0 232 (dk_at dksX1_harm_1 4 rfl rfl)
theorem dX1_harm_31 : decode cX1_harm 31 = .ok (.iload_n 2, 1) := dk_28 (dk_at dksX1_harm_1 7 rfl rfl)
theorem dX1_harm_32 : decode cX1_harm 32 = .ok (.invokevirtual 267, 3) := dk_182 1 11 (dk_at dksX1_harm_1 8 rfl rfl)
theorem dX1_harm_35 : decode cX1_harm 35 = .ok (.pop, 1) := dk_87 (dk_at dksX1_harm_1 11 rfl rfl)
theorem dX1_harm_36 : decode cX1_harm 36 = .ok (.aload_n 0, 1) := dk_42 (dk_at dksX1_harm_1 12 rfl rfl)
theorem dX1_harm_37 : decode cX1_harm 37 = .ok (.getfield 46, 3) := dk_180 0 46 (dk_at dksX1_harm_1 13 rfl rfl)
theorem dX1_harm_40 : decode cX1_harm 40 = .ok (.getfield 177, 3) := dk_180 0 177 (dk_at dksX1_harm_1 16 rfl rfl)
theorem dX1_harm_43 : decode cX1_harm 43 = .ok (.iload_n 1, 1) := dk_27 (dk_at dksX1_harm_1 19 rfl rfl)
theorem dX1_harm_44 : decode cX1_harm 44 = .ok (.iaload, 1) := dk_46 (dk_at dksX1_harm_1 20 rfl rfl)
theorem dX1_harm_45 : decode cX1_harm 45 = .ok (.aload_n 0, 1) := dk_42 (dk_at dksX1_harm_1 21 rfl rfl)
theorem dX1_harm_46 : decode cX1_harm 46 = .ok (.getfield 42, 3) := dk_180 0 42 (dk_at dksX1_harm_2 0 rfl rfl)
theorem dX1_harm_49 : decode cX1_harm 49 = .ok (.getfield 177, 3) := dk_180 0 177 (dk_at dksX1_harm_2 3 rfl rfl)
theorem dX1_harm_52 : decode cX1_harm 52 = .ok (.iload_n 1, 1) := dk_27 (dk_at dksX1_harm_2 6 rfl rfl)
theorem dX1_harm_53 : decode cX1_harm 53 = .ok (.iaload, 1) := dk_46 (dk_at dksX1_harm_2 7 rfl rfl)
theorem dX1_harm_54 : decode cX1_harm 54 = .ok (.isub, 1) := dk_100 (dk_at dksX1_harm_2 8 rfl rfl)
theorem dX1_harm_55 : decode cX1_harm 55 = .ok (.ireturn, 1) := dk_172 (dk_at dksX1_harm_2 9 rfl rfl)
set_option maxHeartbeats 4000000 in
set_option maxRecDepth 100000 in
noncomputable def fn_X1_harm (l0 : Option Nat) (l1 : Int32) (l2 : Int32) (h : cz_H) : cz_Z := cz_rc h l0 [0] (cz_cI (fn_X1_isMan l0 l1 h) (fun x8 h7 => (if x8 = 0 then some (.inl (some (cz_i (-1))), h7) else cz_cI (fn_X1_isIn l2 1 60 h7) (fun x10 h9 => (if x10 = 0 then some (.inl (some (cz_i (-1))), h9) else cz_getR h9 l0 [(0, 5)] (fun r11 => cz_getR h9 l0 [(0, 4)] (fun r12 => cz_rc h9 r11 [3] (cz_cR (fn_X3_as r11 r12 h9) (fun r20 h19 => cz_rc h19 r20 [3] (cz_cI (fn_X3_passAll r20 l2 h19) (fun x28 h27 => cz_getR h27 l0 [(0, 5)] (fun r29 => cz_getR h27 r29 [(3, 11)] (fun r30 => cz_iald h27 r30 l1 (fun x31 => cz_getR h27 l0 [(0, 4)] (fun r32 => cz_getR h27 r32 [(3, 11)] (fun r33 => cz_iald h27 r33 l1 (fun x34 => some (.inl (some (cz_i (x31 - x34))), h27))))))))))))))))))
set_option maxHeartbeats 4000000 in
set_option maxRecDepth 100000 in
theorem wk_X1_harm {K : cz_K} {D : cz_D} {h0 : cz_H} {oh : cz_O × cz_H} {l0 : Option Nat} {l1 : Int32} {l2 : Int32} {h : cz_H} (S : cz_S K D h0 cX1_harm 3 "HeldCoats" ((Option.some Jvm.ClassFile.FieldType.int)) "harm" ([])) : cz_T K D 11 h0 oh 3 (fn_X1_harm l0 l1 l2 h) h 0 [(0, cz_r l0), (1, cz_i l1), (2, cz_i l2)] [] := by
  unfold fn_X1_harm
  refine ct_aload_n (k := 0) S dX1_harm_0 rfl rfl ?_
  refine ct_iload_n (k := 1) S dX1_harm_1 rfl rfl ?_
  refine ct_rc (fun b1 ci2 V3 hb4 hc5 hi6 => ?_)
  refine ct_cI (st := []) (cg_virtual (av := [cz_i l1]) S hb4 hc5 hi6 (fun _ e => mt_X1_isMan e) md_X1_isMan q1309 q1311 se_HeldCoats_isMan__I_Z_HeldCoats (by decide) (Nat.le_of_ble_eq_true rfl) rfl dX1_harm_2) (fun x8 h7 => ?_)
  refine ct_if_eq (tgt := 18) S dX1_harm_5 (by decide) ?_ ?_
  · refine ct_iconst (v := (-1)) S dX1_harm_18 kI_m1 ?_
    exact ct_iret S rfl dX1_harm_19
  · refine ct_iload_n (k := 2) S dX1_harm_8 rfl rfl ?_
    refine ct_iconst (v := 1) S dX1_harm_9 kI_1 ?_
    refine ct_bipush (v := 60) S dX1_harm_10 kB_60 ?_
    refine ct_cI (st := []) (cg_static (av := [cz_i l2, cz_i 1, cz_i 60]) S (fun _ e => mt_X1_isIn e) md_X1_isIn (Or.inl q1355) q929 (by decide) (Nat.le_of_ble_eq_true rfl) rfl dX1_harm_12) (fun x10 h9 => ?_)
    refine ct_if_ne (tgt := 20) S dX1_harm_15 (by decide) ?_ ?_
    · refine ct_aload_n (k := 0) S dX1_harm_20 rfl rfl ?_
      refine ct_getR S fw_X1_46 dX1_harm_21 (fun r11 => ?_)
      refine ct_aload_n (k := 0) S dX1_harm_24 rfl rfl ?_
      refine ct_getR S fw_X1_42 dX1_harm_25 (fun r12 => ?_)
      refine ct_rc (fun b13 ci14 V15 hb16 hc17 hi18 => ?_)
      refine ct_cR (st := []) (cg_virtual (av := [cz_r r12]) S hb16 hc17 hi18 (fun _ e => mt_X3_as e) md_X3_as q1190 q1191 se_HeldCoats_Reign_as__LHeldCoats_Reign__LHeldCoats_Reign__HeldCoats_Reign (by decide) (Nat.le_of_ble_eq_true rfl) rfl dX1_harm_28) (fun r20 h19 => ?_)
      refine ct_iload_n (k := 2) S dX1_harm_31 rfl rfl ?_
      refine ct_rc (fun b21 ci22 V23 hb24 hc25 hi26 => ?_)
      refine ct_cI (st := []) (cg_virtual (av := [cz_i l2]) S hb24 hc25 hi26 (fun _ e => mt_X3_passAll e) md_X3_passAll q1357 q1205 se_HeldCoats_Reign_passAll__I_I_HeldCoats_Reign (by decide) (Nat.le_of_ble_eq_true rfl) rfl dX1_harm_32) (fun x28 h27 => ?_)
      refine ct_pop S dX1_harm_35 rfl ?_
      refine ct_aload_n (k := 0) S dX1_harm_36 rfl rfl ?_
      refine ct_getR S fw_X1_46 dX1_harm_37 (fun r29 => ?_)
      refine ct_getR S fw_X1_177 dX1_harm_40 (fun r30 => ?_)
      refine ct_iload_n (k := 1) S dX1_harm_43 rfl rfl ?_
      refine ct_iald S dX1_harm_44 (fun x31 => ?_)
      refine ct_aload_n (k := 0) S dX1_harm_45 rfl rfl ?_
      refine ct_getR S fw_X1_42 dX1_harm_46 (fun r32 => ?_)
      refine ct_getR S fw_X1_177 dX1_harm_49 (fun r33 => ?_)
      refine ct_iload_n (k := 1) S dX1_harm_52 rfl rfl ?_
      refine ct_iald S dX1_harm_53 (fun x34 => ?_)
      refine ct_isub S dX1_harm_54 ?_
      exact ct_iret S rfl dX1_harm_55
    · refine ct_iconst (v := (-1)) S dX1_harm_18 kI_m1 ?_
      exact ct_iret S rfl dX1_harm_19
theorem mt_X1_harm {l : Launch} {D : cz_D} {l0 : Option Nat} {l1 : Int32} {l2 : Int32} {h : cz_H} {oh : cz_O × cz_H} (hz : fn_X1_harm l0 l1 l2 h = some oh) : cz_M l D yX1_harm (ws_ yX1_harm cX1_harm 3 ((Option.some Jvm.ClassFile.FieldType.int))) 11 [cz_r l0, cz_i l1, cz_i l2] h oh := cz_met (plainFor_of_name (by decide)) (Nat.le_of_ble_eq_true rfl) hz (fun K hl S => wk_X1_harm S)
/-! HeldCoats.onTape(I)I -/
def dkwX1_onTape_0 : List UInt8 := [42, 180, 0, 26, 27, 51, 17, 0, 255, 126, 172]
abbrev dktX1_onTape_0 : List UInt8 := dkwX1_onTape_0 ++ []
theorem dksX1_onTape_0 : cX1_onTape.data.toList.drop 0 = dktX1_onTape_0 := by decide +kernel
theorem dX1_onTape_0 : decode cX1_onTape 0 = .ok (.aload_n 0, 1) := dk_42 (dk_at dksX1_onTape_0 0 rfl rfl)
theorem dX1_onTape_1 : decode cX1_onTape 1 = .ok (.getfield 26, 3) := dk_180 0 26 (dk_at dksX1_onTape_0 1 rfl rfl)
theorem dX1_onTape_4 : decode cX1_onTape 4 = .ok (.iload_n 1, 1) := dk_27 (dk_at dksX1_onTape_0 4 rfl rfl)
theorem dX1_onTape_5 : decode cX1_onTape 5 = .ok (.baload, 1) := dk_51 (dk_at dksX1_onTape_0 5 rfl rfl)
theorem dX1_onTape_6 : decode cX1_onTape 6 = .ok (.sipush 255, 3) := dk_17 0 255 (dk_at dksX1_onTape_0 6 rfl rfl)
theorem dX1_onTape_9 : decode cX1_onTape 9 = .ok (.iand, 1) := dk_126 (dk_at dksX1_onTape_0 9 rfl rfl)
theorem dX1_onTape_10 : decode cX1_onTape 10 = .ok (.ireturn, 1) := dk_172 (dk_at dksX1_onTape_0 10 rfl rfl)
set_option maxHeartbeats 4000000 in
set_option maxRecDepth 100000 in
noncomputable def fn_X1_onTape (l0 : Option Nat) (l1 : Int32) (h : cz_H) : cz_Z := cz_getR h l0 [(0, 0)] (fun r1 => cz_bald h r1 l1 (fun x2 => some (.inl (some (cz_i (x2 &&& 255))), h)))
set_option maxHeartbeats 4000000 in
set_option maxRecDepth 100000 in
theorem wk_X1_onTape {K : cz_K} {D : cz_D} {h0 : cz_H} {oh : cz_O × cz_H} {l0 : Option Nat} {l1 : Int32} {h : cz_H} (S : cz_S K D h0 cX1_onTape 2 "HeldCoats" ((Option.some Jvm.ClassFile.FieldType.int)) "onTape" ([])) : cz_T K D 2 h0 oh 2 (fn_X1_onTape l0 l1 h) h 0 [(0, cz_r l0), (1, cz_i l1)] [] := by
  unfold fn_X1_onTape
  refine ct_aload_n (k := 0) S dX1_onTape_0 rfl rfl ?_
  refine ct_getR S fw_X1_26 dX1_onTape_1 (fun r1 => ?_)
  refine ct_iload_n (k := 1) S dX1_onTape_4 rfl rfl ?_
  refine ct_bald S dX1_onTape_5 (fun x2 => ?_)
  refine ct_sipush (v := 255) S dX1_onTape_6 kS_255 ?_
  refine ct_iand S dX1_onTape_9 ?_
  exact ct_iret S rfl dX1_onTape_10
theorem mt_X1_onTape {l : Launch} {D : cz_D} {l0 : Option Nat} {l1 : Int32} {h : cz_H} {oh : cz_O × cz_H} (hz : fn_X1_onTape l0 l1 h = some oh) : cz_M l D yX1_onTape (ws_ yX1_onTape cX1_onTape 2 ((Option.some Jvm.ClassFile.FieldType.int))) 2 [cz_r l0, cz_i l1] h oh := cz_met (plainFor_of_name (by decide)) (Nat.le_of_ble_eq_true rfl) hz (fun K hl S => wk_X1_onTape S)
/-! HeldCoats.hooks()I -/
def dkwX1_hooks_8 : List UInt8 := [3, 172, 42, 29, 181, 0, 59, 42, 21, 4, 181, 0, 62, 28, 172]
abbrev dktX1_hooks_8 : List UInt8 := dkwX1_hooks_8 ++ []
def dkwX1_hooks_7 : List UInt8 := [128, 62, 21, 6, 154, 0, 10, 21, 4, 21, 7, 128, 54, 4, 132, 5, 1, 167, 255, 142, 28, 154, 0, 5]
abbrev dktX1_hooks_7 : List UInt8 := dkwX1_hooks_7 ++ dktX1_hooks_8
def dkwX1_hooks_6 : List UInt8 := [21, 9, 100, 184, 1, 72, 104, 61, 132, 9, 1, 167, 255, 234, 21, 6, 21, 8, 160, 0, 8, 29, 21, 7]
abbrev dktX1_hooks_6 : List UInt8 := dkwX1_hooks_6 ++ dktX1_hooks_7
def dkwX1_hooks_5 : List UInt8 := [54, 7, 21, 7, 184, 1, 23, 54, 8, 3, 54, 9, 21, 9, 21, 6, 162, 0, 21, 28, 3, 21, 8]
abbrev dktX1_hooks_5 : List UInt8 := dkwX1_hooks_5 ++ dktX1_hooks_6
def dkwX1_hooks_4 : List UInt8 := [21, 5, 160, 0, 6, 132, 6, 1, 132, 7, 1, 167, 255, 233, 42, 180, 0, 33, 21, 5, 182, 0, 189]
abbrev dktX1_hooks_4 : List UInt8 := dkwX1_hooks_4 ++ dktX1_hooks_5
def dkwX1_hooks_3 : List UInt8 := [182, 1, 70, 162, 0, 111, 3, 54, 6, 3, 54, 7, 21, 7, 27, 162, 0, 23, 42, 21, 7, 182, 1, 67]
abbrev dktX1_hooks_3 : List UInt8 := dkwX1_hooks_3 ++ dktX1_hooks_4
def dkwX1_hooks_2 : List UInt8 := [154, 0, 5, 2, 172, 132, 2, 1, 167, 255, 224, 4, 61, 3, 62, 3, 54, 4, 3, 54, 5, 21, 5, 42]
abbrev dktX1_hooks_2 : List UInt8 := dkwX1_hooks_2 ++ dktX1_hooks_3
def dkwX1_hooks_1 : List UInt8 := [162, 0, 33, 42, 28, 182, 1, 67, 16, 9, 159, 0, 17, 42, 42, 28, 182, 1, 67, 182, 0, 129]
abbrev dktX1_hooks_1 : List UInt8 := dkwX1_hooks_1 ++ dktX1_hooks_2
def dkwX1_hooks_0 : List UInt8 := [42, 182, 0, 85, 60, 27, 153, 0, 11, 27, 42, 182, 1, 14, 159, 0, 5, 2, 172, 3, 61, 28, 27]
abbrev dktX1_hooks_0 : List UInt8 := dkwX1_hooks_0 ++ dktX1_hooks_1
theorem dksX1_hooks_0 : cX1_hooks.data.toList.drop 0 = dktX1_hooks_0 := by decide +kernel
theorem dksX1_hooks_1 : cX1_hooks.data.toList.drop 23 = dktX1_hooks_1 := dk_seg dksX1_hooks_0 23 rfl rfl
theorem dksX1_hooks_2 : cX1_hooks.data.toList.drop 45 = dktX1_hooks_2 := dk_seg dksX1_hooks_1 22 rfl rfl
theorem dksX1_hooks_3 : cX1_hooks.data.toList.drop 69 = dktX1_hooks_3 := dk_seg dksX1_hooks_2 24 rfl rfl
theorem dksX1_hooks_4 : cX1_hooks.data.toList.drop 93 = dktX1_hooks_4 := dk_seg dksX1_hooks_3 24 rfl rfl
theorem dksX1_hooks_5 : cX1_hooks.data.toList.drop 116 = dktX1_hooks_5 := dk_seg dksX1_hooks_4 23 rfl rfl
theorem dksX1_hooks_6 : cX1_hooks.data.toList.drop 139 = dktX1_hooks_6 := dk_seg dksX1_hooks_5 23 rfl rfl
theorem dksX1_hooks_7 : cX1_hooks.data.toList.drop 163 = dktX1_hooks_7 := dk_seg dksX1_hooks_6 24 rfl rfl
theorem dksX1_hooks_8 : cX1_hooks.data.toList.drop 187 = dktX1_hooks_8 := dk_seg dksX1_hooks_7 24 rfl rfl
theorem dX1_hooks_0 : decode cX1_hooks 0 = .ok (.aload_n 0, 1) := dk_42 (dk_at dksX1_hooks_0 0 rfl rfl)
theorem dX1_hooks_1 : decode cX1_hooks 1 = .ok (.invokevirtual 85, 3) := dk_182 0 85 (dk_at dksX1_hooks_0 1 rfl rfl)
theorem dX1_hooks_4 : decode cX1_hooks 4 = .ok (.istore_n 1, 1) := dk_60 (dk_at dksX1_hooks_0 4 rfl rfl)
theorem dX1_hooks_5 : decode cX1_hooks 5 = .ok (.iload_n 1, 1) := dk_27 (dk_at dksX1_hooks_0 5 rfl rfl)
theorem dX1_hooks_6 : decode cX1_hooks 6 = .ok (.ifCond .eq 11, 3) := dk_153 0 11 (dk_at dksX1_hooks_0 6 rfl rfl)
theorem dX1_hooks_9 : decode cX1_hooks 9 = .ok (.iload_n 1, 1) := dk_27 (dk_at dksX1_hooks_0 9 rfl rfl)
theorem dX1_hooks_10 : decode cX1_hooks 10 = .ok (.aload_n 0, 1) := dk_42 (dk_at dksX1_hooks_0 10 rfl rfl)
theorem dX1_hooks_11 : decode cX1_hooks 11 = .ok (.invokevirtual 270, 3) := dk_182 1 14 (dk_at dksX1_hooks_0 11 rfl rfl)
theorem dX1_hooks_14 : decode cX1_hooks 14 = .ok (.if_icmp .eq 5, 3) := dk_159 0 5 (dk_at dksX1_hooks_0 14 rfl rfl)
theorem dX1_hooks_17 : decode cX1_hooks 17 = .ok (.iconst (-1), 1) := dk_2 (dk_at dksX1_hooks_0 17 rfl rfl)
theorem dX1_hooks_18 : decode cX1_hooks 18 = .ok (.ireturn, 1) := dk_172 (dk_at dksX1_hooks_0 18 rfl rfl)
theorem dX1_hooks_19 : decode cX1_hooks 19 = .ok (.iconst 0, 1) := dk_3 (dk_at dksX1_hooks_0 19 rfl rfl)
theorem dX1_hooks_20 : decode cX1_hooks 20 = .ok (.istore_n 2, 1) := dk_61 (dk_at dksX1_hooks_0 20 rfl rfl)
theorem dX1_hooks_21 : decode cX1_hooks 21 = .ok (.iload_n 2, 1) := dk_28 (dk_at dksX1_hooks_0 21 rfl rfl)
theorem dX1_hooks_22 : decode cX1_hooks 22 = .ok (.iload_n 1, 1) := dk_27 (dk_at dksX1_hooks_0 22 rfl rfl)
theorem dX1_hooks_23 : decode cX1_hooks 23 = .ok (.if_icmp .ge 33, 3) := dk_162 0 33 (dk_at dksX1_hooks_1 0 rfl rfl)
theorem dX1_hooks_26 : decode cX1_hooks 26 = .ok (.aload_n 0, 1) := dk_42 (dk_at dksX1_hooks_1 3 rfl rfl)
theorem dX1_hooks_27 : decode cX1_hooks 27 = .ok (.iload_n 2, 1) := dk_28 (dk_at dksX1_hooks_1 4 rfl rfl)
theorem dX1_hooks_28 : decode cX1_hooks 28 = .ok (.invokevirtual 323, 3) := dk_182 1 67 (dk_at dksX1_hooks_1 5 rfl rfl)
theorem dX1_hooks_31 : decode cX1_hooks 31 = .ok (.bipush 9, 2) := dk_16 9 (dk_at dksX1_hooks_1 8 rfl rfl)
theorem dX1_hooks_33 : decode cX1_hooks 33 = .ok (.if_icmp .eq 17, 3) := dk_159 0 17 (dk_at dksX1_hooks_1 10 rfl rfl)
theorem dX1_hooks_36 : decode cX1_hooks 36 = .ok (.aload_n 0, 1) := dk_42 (dk_at dksX1_hooks_1 13 rfl rfl)
theorem dX1_hooks_37 : decode cX1_hooks 37 = .ok (.aload_n 0, 1) := dk_42 (dk_at dksX1_hooks_1 14 rfl rfl)
theorem dX1_hooks_38 : decode cX1_hooks 38 = .ok (.iload_n 2, 1) := dk_28 (dk_at dksX1_hooks_1 15 rfl rfl)
theorem dX1_hooks_39 : decode cX1_hooks 39 = .ok (.invokevirtual 323, 3) := dk_182 1 67 (dk_at dksX1_hooks_1 16 rfl rfl)
theorem dX1_hooks_42 : decode cX1_hooks 42 = .ok (.invokevirtual 129, 3) := dk_182 0 129 (dk_at dksX1_hooks_1 19 rfl rfl)
theorem dX1_hooks_45 : decode cX1_hooks 45 = .ok (.ifCond .ne 5, 3) := dk_154 0 5 (dk_at dksX1_hooks_2 0 rfl rfl)
theorem dX1_hooks_48 : decode cX1_hooks 48 = .ok (.iconst (-1), 1) := dk_2 (dk_at dksX1_hooks_2 3 rfl rfl)
theorem dX1_hooks_49 : decode cX1_hooks 49 = .ok (.ireturn, 1) := dk_172 (dk_at dksX1_hooks_2 4 rfl rfl)
theorem dX1_hooks_50 : decode cX1_hooks 50 = .ok (.iinc 2 1, 3) := dk_132 2 1 (dk_at dksX1_hooks_2 5 rfl rfl)
theorem dX1_hooks_53 : decode cX1_hooks 53 = .ok (.goto (-32), 3) := dk_167 255 224 (dk_at dksX1_hooks_2 8 rfl rfl)
theorem dX1_hooks_56 : decode cX1_hooks 56 = .ok (.iconst 1, 1) := dk_4 (dk_at dksX1_hooks_2 11 rfl rfl)
theorem dX1_hooks_57 : decode cX1_hooks 57 = .ok (.istore_n 2, 1) := dk_61 (dk_at dksX1_hooks_2 12 rfl rfl)
theorem dX1_hooks_58 : decode cX1_hooks 58 = .ok (.iconst 0, 1) := dk_3 (dk_at dksX1_hooks_2 13 rfl rfl)
theorem dX1_hooks_59 : decode cX1_hooks 59 = .ok (.istore_n 3, 1) := dk_62 (dk_at dksX1_hooks_2 14 rfl rfl)
theorem dX1_hooks_60 : decode cX1_hooks 60 = .ok (.iconst 0, 1) := dk_3 (dk_at dksX1_hooks_2 15 rfl rfl)
theorem dX1_hooks_61 : decode cX1_hooks 61 = .ok (.istore 4, 2) := dk_54 4 (dk_at dksX1_hooks_2 16 rfl rfl)
theorem dX1_hooks_63 : decode cX1_hooks 63 = .ok (.iconst 0, 1) := dk_3 (dk_at dksX1_hooks_2 18 rfl rfl)
theorem dX1_hooks_64 : decode cX1_hooks 64 = .ok (.istore 5, 2) := dk_54 5 (dk_at dksX1_hooks_2 19 rfl rfl)
theorem dX1_hooks_66 : decode cX1_hooks 66 = .ok (.iload 5, 2) := dk_21 5 (dk_at dksX1_hooks_2 21 rfl rfl)
theorem dX1_hooks_68 : decode cX1_hooks 68 = .ok (.aload_n 0, 1) := dk_42 (dk_at dksX1_hooks_2 23 rfl rfl)
theorem dX1_hooks_69 : decode cX1_hooks 69 = .ok (.invokevirtual 326, 3) := dk_182 1 70 (dk_at dksX1_hooks_3 0 rfl rfl)
theorem dX1_hooks_72 : decode cX1_hooks 72 = .ok (.if_icmp .ge 111, 3) := dk_162 0 111 (dk_at dksX1_hooks_3 3 rfl rfl)
theorem dX1_hooks_75 : decode cX1_hooks 75 = .ok (.iconst 0, 1) := dk_3 (dk_at dksX1_hooks_3 6 rfl rfl)
theorem dX1_hooks_76 : decode cX1_hooks 76 = .ok (.istore 6, 2) := dk_54 6 (dk_at dksX1_hooks_3 7 rfl rfl)
theorem dX1_hooks_78 : decode cX1_hooks 78 = .ok (.iconst 0, 1) := dk_3 (dk_at dksX1_hooks_3 9 rfl rfl)
theorem dX1_hooks_79 : decode cX1_hooks 79 = .ok (.istore 7, 2) := dk_54 7 (dk_at dksX1_hooks_3 10 rfl rfl)
theorem dX1_hooks_81 : decode cX1_hooks 81 = .ok (.iload 7, 2) := dk_21 7 (dk_at dksX1_hooks_3 12 rfl rfl)
theorem dX1_hooks_83 : decode cX1_hooks 83 = .ok (.iload_n 1, 1) := dk_27 (dk_at dksX1_hooks_3 14 rfl rfl)
theorem dX1_hooks_84 : decode cX1_hooks 84 = .ok (.if_icmp .ge 23, 3) := dk_162 0 23 (dk_at dksX1_hooks_3 15 rfl rfl)
theorem dX1_hooks_87 : decode cX1_hooks 87 = .ok (.aload_n 0, 1) := dk_42 (dk_at dksX1_hooks_3 18 rfl rfl)
theorem dX1_hooks_88 : decode cX1_hooks 88 = .ok (.iload 7, 2) := dk_21 7 (dk_at dksX1_hooks_3 19 rfl rfl)
theorem dX1_hooks_90 : decode cX1_hooks 90 = .ok (.invokevirtual 323, 3) := dk_182 1 67 (dk_at dksX1_hooks_3 21 rfl rfl)
theorem dX1_hooks_93 : decode cX1_hooks 93 = .ok (.iload 5, 2) := dk_21 5 (dk_at dksX1_hooks_4 0 rfl rfl)
theorem dX1_hooks_95 : decode cX1_hooks 95 = .ok (.if_icmp .ne 6, 3) := dk_160 0 6 (dk_at dksX1_hooks_4 2 rfl rfl)
theorem dX1_hooks_98 : decode cX1_hooks 98 = .ok (.iinc 6 1, 3) := dk_132 6 1 (dk_at dksX1_hooks_4 5 rfl rfl)
theorem dX1_hooks_101 : decode cX1_hooks 101 = .ok (.iinc 7 1, 3) := dk_132 7 1 (dk_at dksX1_hooks_4 8 rfl rfl)
theorem dX1_hooks_104 : decode cX1_hooks 104 = .ok (.goto (-23), 3) := dk_167 255 233 (dk_at dksX1_hooks_4 11 rfl rfl)
theorem dX1_hooks_107 : decode cX1_hooks 107 = .ok (.aload_n 0, 1) := dk_42 (dk_at dksX1_hooks_4 14 rfl rfl)
theorem dX1_hooks_108 : decode cX1_hooks 108 = .ok (.getfield 33, 3) := dk_180 0 33 (dk_at dksX1_hooks_4 15 rfl rfl)
theorem dX1_hooks_111 : decode cX1_hooks 111 = .ok (.iload 5, 2) := dk_21 5 (dk_at dksX1_hooks_4 18 rfl rfl)
theorem dX1_hooks_113 : decode cX1_hooks 113 = .ok (.invokevirtual 189, 3) := dk_182 0 189 (dk_at dksX1_hooks_4 20 rfl rfl)
theorem dX1_hooks_116 : decode cX1_hooks 116 = .ok (.istore 7, 2) := dk_54 7 (dk_at dksX1_hooks_5 0 rfl rfl)
theorem dX1_hooks_118 : decode cX1_hooks 118 = .ok (.iload 7, 2) := dk_21 7 (dk_at dksX1_hooks_5 2 rfl rfl)
theorem dX1_hooks_120 : decode cX1_hooks 120 = .ok (.invokestatic 279, 3) := dk_184 1 23 (dk_at dksX1_hooks_5 4 rfl rfl)
theorem dX1_hooks_123 : decode cX1_hooks 123 = .ok (.istore 8, 2) := dk_54 8 (dk_at dksX1_hooks_5 7 rfl rfl)
theorem dX1_hooks_125 : decode cX1_hooks 125 = .ok (.iconst 0, 1) := dk_3 (dk_at dksX1_hooks_5 9 rfl rfl)
theorem dX1_hooks_126 : decode cX1_hooks 126 = .ok (.istore 9, 2) := dk_54 9 (dk_at dksX1_hooks_5 10 rfl rfl)
theorem dX1_hooks_128 : decode cX1_hooks 128 = .ok (.iload 9, 2) := dk_21 9 (dk_at dksX1_hooks_5 12 rfl rfl)
theorem dX1_hooks_130 : decode cX1_hooks 130 = .ok (.iload 6, 2) := dk_21 6 (dk_at dksX1_hooks_5 14 rfl rfl)
theorem dX1_hooks_132 : decode cX1_hooks 132 = .ok (.if_icmp .ge 21, 3) := dk_162 0 21 (dk_at dksX1_hooks_5 16 rfl rfl)
theorem dX1_hooks_135 : decode cX1_hooks 135 = .ok (.iload_n 2, 1) := dk_28 (dk_at dksX1_hooks_5 19 rfl rfl)
theorem dX1_hooks_136 : decode cX1_hooks 136 = .ok (.iconst 0, 1) := dk_3 (dk_at dksX1_hooks_5 20 rfl rfl)
theorem dX1_hooks_137 : decode cX1_hooks 137 = .ok (.iload 8, 2) := dk_21 8 (dk_at dksX1_hooks_5 21 rfl rfl)
theorem dX1_hooks_139 : decode cX1_hooks 139 = .ok (.iload 9, 2) := dk_21 9 (dk_at dksX1_hooks_6 0 rfl rfl)
theorem dX1_hooks_141 : decode cX1_hooks 141 = .ok (.isub, 1) := dk_100 (dk_at dksX1_hooks_6 2 rfl rfl)
theorem dX1_hooks_142 : decode cX1_hooks 142 = .ok (.invokestatic 328, 3) := dk_184 1 72 (dk_at dksX1_hooks_6 3 rfl rfl)
theorem dX1_hooks_145 : decode cX1_hooks 145 = .ok (.imul, 1) := dk_104 (dk_at dksX1_hooks_6 6 rfl rfl)
theorem dX1_hooks_146 : decode cX1_hooks 146 = .ok (.istore_n 2, 1) := dk_61 (dk_at dksX1_hooks_6 7 rfl rfl)
theorem dX1_hooks_147 : decode cX1_hooks 147 = .ok (.iinc 9 1, 3) := dk_132 9 1 (dk_at dksX1_hooks_6 8 rfl rfl)
theorem dX1_hooks_150 : decode cX1_hooks 150 = .ok (.goto (-22), 3) := dk_167 255 234 (dk_at dksX1_hooks_6 11 rfl rfl)
theorem dX1_hooks_153 : decode cX1_hooks 153 = .ok (.iload 6, 2) := dk_21 6 (dk_at dksX1_hooks_6 14 rfl rfl)
theorem dX1_hooks_155 : decode cX1_hooks 155 = .ok (.iload 8, 2) := dk_21 8 (dk_at dksX1_hooks_6 16 rfl rfl)
theorem dX1_hooks_157 : decode cX1_hooks 157 = .ok (.if_icmp .ne 8, 3) := dk_160 0 8 (dk_at dksX1_hooks_6 18 rfl rfl)
theorem dX1_hooks_160 : decode cX1_hooks 160 = .ok (.iload_n 3, 1) := dk_29 (dk_at dksX1_hooks_6 21 rfl rfl)
theorem dX1_hooks_161 : decode cX1_hooks 161 = .ok (.iload 7, 2) := dk_21 7 (dk_at dksX1_hooks_6 22 rfl rfl)
theorem dX1_hooks_163 : decode cX1_hooks 163 = .ok (.ior, 1) := dk_128 (dk_at dksX1_hooks_7 0 rfl rfl)
theorem dX1_hooks_164 : decode cX1_hooks 164 = .ok (.istore_n 3, 1) := dk_62 (dk_at dksX1_hooks_7 1 rfl rfl)
theorem dX1_hooks_165 : decode cX1_hooks 165 = .ok (.iload 6, 2) := dk_21 6 (dk_at dksX1_hooks_7 2 rfl rfl)
theorem dX1_hooks_167 : decode cX1_hooks 167 = .ok (.ifCond .ne 10, 3) := dk_154 0 10 (dk_at dksX1_hooks_7 4 rfl rfl)
theorem dX1_hooks_170 : decode cX1_hooks 170 = .ok (.iload 4, 2) := dk_21 4 (dk_at dksX1_hooks_7 7 rfl rfl)
theorem dX1_hooks_172 : decode cX1_hooks 172 = .ok (.iload 7, 2) := dk_21 7 (dk_at dksX1_hooks_7 9 rfl rfl)
theorem dX1_hooks_174 : decode cX1_hooks 174 = .ok (.ior, 1) := dk_128 (dk_at dksX1_hooks_7 11 rfl rfl)
theorem dX1_hooks_175 : decode cX1_hooks 175 = .ok (.istore 4, 2) := dk_54 4 (dk_at dksX1_hooks_7 12 rfl rfl)
theorem dX1_hooks_177 : decode cX1_hooks 177 = .ok (.iinc 5 1, 3) := dk_132 5 1 (dk_at dksX1_hooks_7 14 rfl rfl)
theorem dX1_hooks_180 : decode cX1_hooks 180 = .ok (.goto (-114), 3) := dk_167 255 142 (dk_at dksX1_hooks_7 17 rfl rfl)
theorem dX1_hooks_183 : decode cX1_hooks 183 = .ok (.iload_n 2, 1) := dk_28 (dk_at dksX1_hooks_7 20 rfl rfl)
theorem dX1_hooks_184 : decode cX1_hooks 184 = .ok (.ifCond .ne 5, 3) := dk_154 0 5 (dk_at dksX1_hooks_7 21 rfl rfl)
theorem dX1_hooks_187 : decode cX1_hooks 187 = .ok (.iconst 0, 1) := dk_3 (dk_at dksX1_hooks_8 0 rfl rfl)
theorem dX1_hooks_188 : decode cX1_hooks 188 = .ok (.ireturn, 1) := dk_172 (dk_at dksX1_hooks_8 1 rfl rfl)
theorem dX1_hooks_189 : decode cX1_hooks 189 = .ok (.aload_n 0, 1) := dk_42 (dk_at dksX1_hooks_8 2 rfl rfl)
theorem dX1_hooks_190 : decode cX1_hooks 190 = .ok (.iload_n 3, 1) := dk_29 (dk_at dksX1_hooks_8 3 rfl rfl)
theorem dX1_hooks_191 : decode cX1_hooks 191 = .ok (.putfield 59, 3) := dk_181 0 59 (dk_at dksX1_hooks_8 4 rfl rfl)
theorem dX1_hooks_194 : decode cX1_hooks 194 = .ok (.aload_n 0, 1) := dk_42 (dk_at dksX1_hooks_8 7 rfl rfl)
theorem dX1_hooks_195 : decode cX1_hooks 195 = .ok (.iload 4, 2) := dk_21 4 (dk_at dksX1_hooks_8 8 rfl rfl)
theorem dX1_hooks_197 : decode cX1_hooks 197 = .ok (.putfield 62, 3) := dk_181 0 62 (dk_at dksX1_hooks_8 10 rfl rfl)
theorem dX1_hooks_200 : decode cX1_hooks 200 = .ok (.iload_n 2, 1) := dk_28 (dk_at dksX1_hooks_8 13 rfl rfl)
theorem dX1_hooks_201 : decode cX1_hooks 201 = .ok (.ireturn, 1) := dk_172 (dk_at dksX1_hooks_8 14 rfl rfl)
theorem se_HeldCoats_onTape__I_I_HeldCoats : ∀ c ∈ ([0] : List Nat), ∃ q : vw_C, cz_cl[c]? = some q ∧ Cond.selects q.1 (⟨"HeldCoats", "onTape", "(I)I"⟩ : MethodName) (⟨"HeldCoats", "onTape", "(I)I"⟩ : MethodName) ∈ lw_all := List.forall_mem_cons.mpr ⟨⟨_, cz_cl0, qs29⟩, fun _ h => absurd h List.not_mem_nil⟩
theorem md_X1_onTape : cz_md yX1_onTape 2 (ws_ yX1_onTape cX1_onTape 2 ((Option.some Jvm.ClassFile.FieldType.int))) 1 := ⟨cz_ws_code q1468, q113, ⟨by decide, by decide, by decide +kernel⟩, by decide⟩
theorem fw_X1_59 : cz_FW "HeldCoats" 59 [(0, 13)] "I" := ⟨"HeldCoats", "surely", Or.inl q393, List.forall_mem_cons.mpr ⟨⟨RX1, TX1, 18, rfl, by decide, rfl, rfl, Or.inl rfl⟩, fun _ h => absurd h List.not_mem_nil⟩, by decide⟩
theorem fp_X1_m_0_13 {nm : String} : cz_FP "HeldCoats" nm [(0, 13)] := List.forall_mem_cons.mpr ⟨⟨RX1, TX1, 18, rfl, Or.inl rfl⟩, fun _ h => absurd h List.not_mem_nil⟩
theorem fw_X1_62 : cz_FW "HeldCoats" 62 [(0, 14)] "I" := ⟨"HeldCoats", "never", Or.inl q394, List.forall_mem_cons.mpr ⟨⟨RX1, TX1, 18, rfl, by decide, rfl, rfl, Or.inl rfl⟩, fun _ h => absurd h List.not_mem_nil⟩, by decide⟩
theorem fp_X1_m_0_14 {nm : String} : cz_FP "HeldCoats" nm [(0, 14)] := List.forall_mem_cons.mpr ⟨⟨RX1, TX1, 18, rfl, Or.inl rfl⟩, fun _ h => absurd h List.not_mem_nil⟩
set_option maxHeartbeats 4000000 in
set_option maxRecDepth 100000 in
noncomputable def fn_X1_hooks_21 (l0 : Option Nat) (l1 : Int32) (k0 : cz_H → cz_Z) (k1 : cz_H → cz_Z) : Nat → Int32 → cz_H → cz_Z
  | 0, _, _ => none
  | n + 1, l2, h => (if l1 ≤ l2 then k1 h else cz_rc h l0 [0] (cz_cI (fn_X1_onTape l0 l2 h) (fun x24 h23 => (if x24 = 9 then cz_leti (l2 + 1) (fun x25 => fn_X1_hooks_21 l0 l1 k0 k1 n x25 h23) else cz_rc h23 l0 [0] (cz_cI (fn_X1_onTape l0 l2 h23) (fun x33 h32 => cz_rc h32 l0 [0] (cz_cI (fn_X1_isMan l0 x33 h32) (fun x41 h40 => (if x41 = 0 then k0 h40 else cz_leti (l2 + 1) (fun x42 => fn_X1_hooks_21 l0 l1 k0 k1 n x42 h40))))))))))
set_option maxHeartbeats 4000000 in
set_option maxRecDepth 100000 in
theorem wk_X1_hooks_21 {K : cz_K} {D : cz_D} {h0 : cz_H} {oh : cz_O × cz_H} {l0 : Option Nat} {l1 : Int32} {k0 : cz_H → cz_Z} {k1 : cz_H → cz_Z} (S : cz_S K D h0 cX1_hooks 10 "HeldCoats" ((Option.some Jvm.ClassFile.FieldType.int)) "hooks" ([])) (hk0 : ∀ (h : cz_H), cz_T K D 6 h0 oh 10 (k0 h) h 48 [] []) (hk1 : ∀ (h : cz_H), cz_T K D 6 h0 oh 10 (k1 h) h 56 [(0, cz_r l0), (1, cz_i l1)] []) : ∀ (n : Nat) (l2 : Int32) (h : cz_H), cz_T K D 6 h0 oh 10 (fn_X1_hooks_21 l0 l1 k0 k1 n l2 h) h 21 [(0, cz_r l0), (1, cz_i l1), (2, cz_i l2)] [] := by
  intro n
  induction n with
  | zero => intros; exact ct_none
  | succ n ih =>
    intro l2 h
    rw [fn_X1_hooks_21]
    refine ct_iload_n (k := 2) S dX1_hooks_21 rfl rfl ?_
    refine ct_iload_n (k := 1) S dX1_hooks_22 rfl rfl ?_
    refine ct_icmp_ge (tgt := 56) S dX1_hooks_23 (by decide) ?_ ?_
    · exact ct_sub [0, 1] rfl (hk1 h)
    · refine ct_aload_n (k := 0) S dX1_hooks_26 rfl rfl ?_
      refine ct_iload_n (k := 2) S dX1_hooks_27 rfl rfl ?_
      refine ct_rc (fun b17 ci18 V19 hb20 hc21 hi22 => ?_)
      refine ct_cI (st := []) (cg_virtual (av := [cz_i l2]) S hb20 hc21 hi22 (fun _ e => mt_X1_onTape e) md_X1_onTape q1465 q1467 se_HeldCoats_onTape__I_I_HeldCoats (by decide) (Nat.le_of_ble_eq_true rfl) rfl dX1_hooks_28) (fun x24 h23 => ?_)
      refine ct_bipush (v := 9) S dX1_hooks_31 kB_9 ?_
      refine ct_icmp_eq (tgt := 50) S dX1_hooks_33 (by decide) ?_ ?_
      · refine ct_iincL (j := 2) (L2 := fun x25 => [(2, cz_i x25), (0, cz_r l0), (1, cz_i l1)]) S dX1_hooks_50 rfl kI_1 (by decide) (fun _ => rfl) (fun x25 => ?_)
        refine ct_goto (tgt := 21) S dX1_hooks_53 (by decide) ?_
        exact ct_sub [1, 2, 0] rfl (ih x25 h23)
      · refine ct_aload_n (k := 0) S dX1_hooks_36 rfl rfl ?_
        refine ct_aload_n (k := 0) S dX1_hooks_37 rfl rfl ?_
        refine ct_iload_n (k := 2) S dX1_hooks_38 rfl rfl ?_
        refine ct_rc (fun b26 ci27 V28 hb29 hc30 hi31 => ?_)
        refine ct_cI (st := [cz_r l0]) (cg_virtual (av := [cz_i l2]) S hb29 hc30 hi31 (fun _ e => mt_X1_onTape e) md_X1_onTape q1465 q1467 se_HeldCoats_onTape__I_I_HeldCoats (by decide) (Nat.le_of_ble_eq_true rfl) rfl dX1_hooks_39) (fun x33 h32 => ?_)
        refine ct_rc (fun b34 ci35 V36 hb37 hc38 hi39 => ?_)
        refine ct_cI (st := []) (cg_virtual (av := [cz_i x33]) S hb37 hc38 hi39 (fun _ e => mt_X1_isMan e) md_X1_isMan q1309 q1311 se_HeldCoats_isMan__I_Z_HeldCoats (by decide) (Nat.le_of_ble_eq_true rfl) rfl dX1_hooks_42) (fun x41 h40 => ?_)
        refine ct_if_ne (tgt := 50) S dX1_hooks_45 (by decide) ?_ ?_
        · refine ct_iincL (j := 2) (L2 := fun x42 => [(2, cz_i x42), (0, cz_r l0), (1, cz_i l1)]) S dX1_hooks_50 rfl kI_1 (by decide) (fun _ => rfl) (fun x42 => ?_)
          refine ct_goto (tgt := 21) S dX1_hooks_53 (by decide) ?_
          exact ct_sub [1, 2, 0] rfl (ih x42 h40)
        · exact ct_sub [] rfl (hk0 h40)
set_option maxHeartbeats 4000000 in
set_option maxRecDepth 100000 in
noncomputable def fn_X1_hooks_81 (l0 : Option Nat) (l1 : Int32) (l5 : Int32) (k0 : Int32 → cz_H → cz_Z) : Nat → Int32 → Int32 → cz_H → cz_Z
  | 0, _, _, _ => none
  | n + 1, l6, l7, h => (if l1 ≤ l7 then k0 l6 h else cz_rc h l0 [0] (cz_cI (fn_X1_onTape l0 l7 h) (fun x60 h59 => (if x60 = l5 then cz_leti (l6 + 1) (fun x62 => cz_leti (l7 + 1) (fun x63 => fn_X1_hooks_81 l0 l1 l5 k0 n x62 x63 h59)) else cz_leti (l7 + 1) (fun x61 => fn_X1_hooks_81 l0 l1 l5 k0 n l6 x61 h59)))))
set_option maxHeartbeats 4000000 in
set_option maxRecDepth 100000 in
theorem wk_X1_hooks_81 {K : cz_K} {D : cz_D} {h0 : cz_H} {oh : cz_O × cz_H} {l0 : Option Nat} {l1 : Int32} {l5 : Int32} {l2 : Int32} {l3 : Int32} {l4 : Int32} {k0 : Int32 → cz_H → cz_Z} (S : cz_S K D h0 cX1_hooks 10 "HeldCoats" ((Option.some Jvm.ClassFile.FieldType.int)) "hooks" ([])) (hk0 : ∀ (e6 : Int32) (h : cz_H), cz_T K D 6 h0 oh 10 (k0 e6 h) h 107 [(0, cz_r l0), (1, cz_i l1), (2, cz_i l2), (3, cz_i l3), (4, cz_i l4), (5, cz_i l5), (6, cz_i e6)] []) : ∀ (n : Nat) (l6 : Int32) (l7 : Int32) (h : cz_H), cz_T K D 6 h0 oh 10 (fn_X1_hooks_81 l0 l1 l5 k0 n l6 l7 h) h 81 [(0, cz_r l0), (1, cz_i l1), (2, cz_i l2), (3, cz_i l3), (4, cz_i l4), (5, cz_i l5), (6, cz_i l6), (7, cz_i l7)] [] := by
  intro n
  induction n with
  | zero => intros; exact ct_none
  | succ n ih =>
    intro l6 l7 h
    rw [fn_X1_hooks_81]
    refine ct_iload (k := 7) S dX1_hooks_81 rfl ?_
    refine ct_iload_n (k := 1) S dX1_hooks_83 rfl rfl ?_
    refine ct_icmp_ge (tgt := 107) S dX1_hooks_84 (by decide) ?_ ?_
    · exact ct_sub [0, 1, 2, 3, 4, 5, 6] rfl (hk0 l6 h)
    · refine ct_aload_n (k := 0) S dX1_hooks_87 rfl rfl ?_
      refine ct_iload (k := 7) S dX1_hooks_88 rfl ?_
      refine ct_rc (fun b53 ci54 V55 hb56 hc57 hi58 => ?_)
      refine ct_cI (st := []) (cg_virtual (av := [cz_i l7]) S hb56 hc57 hi58 (fun _ e => mt_X1_onTape e) md_X1_onTape q1465 q1467 se_HeldCoats_onTape__I_I_HeldCoats (by decide) (Nat.le_of_ble_eq_true rfl) rfl dX1_hooks_90) (fun x60 h59 => ?_)
      refine ct_iload (k := 5) S dX1_hooks_93 rfl ?_
      refine ct_icmp_ne (tgt := 101) S dX1_hooks_95 (by decide) ?_ ?_
      · refine ct_iincL (j := 7) (L2 := fun x61 => [(7, cz_i x61), (0, cz_r l0), (1, cz_i l1), (2, cz_i l2), (3, cz_i l3), (4, cz_i l4), (5, cz_i l5), (6, cz_i l6)]) S dX1_hooks_101 rfl kI_1 (by decide) (fun _ => rfl) (fun x61 => ?_)
        refine ct_goto (tgt := 81) S dX1_hooks_104 (by decide) ?_
        exact ct_sub [1, 2, 3, 4, 5, 6, 7, 0] rfl (ih l6 x61 h59)
      · refine ct_iincL (j := 6) (L2 := fun x62 => [(6, cz_i x62), (0, cz_r l0), (1, cz_i l1), (2, cz_i l2), (3, cz_i l3), (4, cz_i l4), (5, cz_i l5), (7, cz_i l7)]) S dX1_hooks_98 rfl kI_1 (by decide) (fun _ => rfl) (fun x62 => ?_)
        refine ct_iincL (j := 7) (L2 := fun x63 => [(7, cz_i x63), (6, cz_i x62), (0, cz_r l0), (1, cz_i l1), (2, cz_i l2), (3, cz_i l3), (4, cz_i l4), (5, cz_i l5)]) S dX1_hooks_101 rfl kI_1 (by decide) (fun _ => rfl) (fun x63 => ?_)
        refine ct_goto (tgt := 81) S dX1_hooks_104 (by decide) ?_
        exact ct_sub [2, 3, 4, 5, 6, 7, 1, 0] rfl (ih x62 x63 h59)
set_option maxHeartbeats 4000000 in
set_option maxRecDepth 100000 in
noncomputable def fn_X1_hooks_128 (l6 : Int32) (l8 : Int32) (k0 : Int32 → cz_H → cz_Z) : Nat → Int32 → Int32 → cz_H → cz_Z
  | 0, _, _, _ => none
  | n + 1, l2, l9, h => (if l6 ≤ l9 then k0 l2 h else cz_cI (fn_J11_max 0 (l8 - l9) h) (fun x78 h77 => cz_leti (l2 * x78) (fun x79 => cz_leti (l9 + 1) (fun x80 => fn_X1_hooks_128 l6 l8 k0 n x79 x80 h77))))
set_option maxHeartbeats 4000000 in
set_option maxRecDepth 100000 in
theorem wk_X1_hooks_128 {K : cz_K} {D : cz_D} {h0 : cz_H} {oh : cz_O × cz_H} {l6 : Int32} {l8 : Int32} {l0 : Option Nat} {l1 : Int32} {l3 : Int32} {l4 : Int32} {l5 : Int32} {l7 : Int32} {k0 : Int32 → cz_H → cz_Z} (S : cz_S K D h0 cX1_hooks 10 "HeldCoats" ((Option.some Jvm.ClassFile.FieldType.int)) "hooks" ([])) (hk0 : ∀ (e2 : Int32) (h : cz_H), cz_T K D 6 h0 oh 10 (k0 e2 h) h 153 [(0, cz_r l0), (1, cz_i l1), (2, cz_i e2), (3, cz_i l3), (4, cz_i l4), (5, cz_i l5), (6, cz_i l6), (7, cz_i l7), (8, cz_i l8)] []) : ∀ (n : Nat) (l2 : Int32) (l9 : Int32) (h : cz_H), cz_T K D 6 h0 oh 10 (fn_X1_hooks_128 l6 l8 k0 n l2 l9 h) h 128 [(0, cz_r l0), (1, cz_i l1), (2, cz_i l2), (3, cz_i l3), (4, cz_i l4), (5, cz_i l5), (6, cz_i l6), (7, cz_i l7), (8, cz_i l8), (9, cz_i l9)] [] := by
  intro n
  induction n with
  | zero => intros; exact ct_none
  | succ n ih =>
    intro l2 l9 h
    rw [fn_X1_hooks_128]
    refine ct_iload (k := 9) S dX1_hooks_128 rfl ?_
    refine ct_iload (k := 6) S dX1_hooks_130 rfl ?_
    refine ct_icmp_ge (tgt := 153) S dX1_hooks_132 (by decide) ?_ ?_
    · exact ct_sub [0, 1, 2, 3, 4, 5, 6, 7, 8] rfl (hk0 l2 h)
    · refine ct_iload_n (k := 2) S dX1_hooks_135 rfl rfl ?_
      refine ct_iconst (v := 0) S dX1_hooks_136 kI_0 ?_
      refine ct_iload (k := 8) S dX1_hooks_137 rfl ?_
      refine ct_iload (k := 9) S dX1_hooks_139 rfl ?_
      refine ct_isub S dX1_hooks_141 ?_
      refine ct_cI (st := [cz_i l2]) (cg_static (av := [cz_i 0, cz_i (l8 - l9)]) S (fun _ e => mt_J11_max e) md_J11_max (Or.inl q1473) q582 (by decide) (Nat.le_of_ble_eq_true rfl) rfl dX1_hooks_142) (fun x78 h77 => ?_)
      refine ct_imul S dX1_hooks_145 ?_
      refine ct_leti (fun x79 => ?_)
      refine ct_istore_n (L' := [(2, cz_i x79), (0, cz_r l0), (1, cz_i l1), (3, cz_i l3), (4, cz_i l4), (5, cz_i l5), (6, cz_i l6), (7, cz_i l7), (8, cz_i l8), (9, cz_i l9)]) S dX1_hooks_146 rfl (by decide) rfl ?_
      refine ct_iincL (j := 9) (L2 := fun x80 => [(9, cz_i x80), (2, cz_i x79), (0, cz_r l0), (1, cz_i l1), (3, cz_i l3), (4, cz_i l4), (5, cz_i l5), (6, cz_i l6), (7, cz_i l7), (8, cz_i l8)]) S dX1_hooks_147 rfl kI_1 (by decide) (fun _ => rfl) (fun x80 => ?_)
      refine ct_goto (tgt := 128) S dX1_hooks_150 (by decide) ?_
      exact ct_sub [2, 3, 1, 4, 5, 6, 7, 8, 9, 0] rfl (ih x79 x80 h77)
set_option maxHeartbeats 4000000 in
set_option maxRecDepth 100000 in
noncomputable def fn_X1_hooks_66 (l0 : Option Nat) (l1 : Int32) (k0 : Int32 → Int32 → Int32 → cz_H → cz_Z) : Nat → Int32 → Int32 → Int32 → Int32 → cz_H → cz_Z
  | 0, _, _, _, _, _ => none
  | n + 1, l2, l3, l4, l5, h => cz_rc h l0 [0] (cz_cI (fn_X1_men l0 h) (fun x52 h51 => (if x52 ≤ l5 then k0 l2 l3 l4 h51 else fn_X1_hooks_81 l0 l1 l5 (fun (e64 : Int32) (h65 : cz_H) => cz_getR h65 l0 [(0, 3)] (fun r66 => cz_rc h65 r66 [1] (cz_cI (fn_X2_coatsOf r66 l5 h65) (fun x74 h73 => cz_cI (fn_J17_bitCount x74 h73) (fun x76 h75 => fn_X1_hooks_128 e64 x76 (fun (e81 : Int32) (h82 : cz_H) => cz_jn (fun (v83 : Int32) (h84 : cz_H) => (if e64 = 0 then cz_leti (l4 ||| x74) (fun x86 => cz_leti (l5 + 1) (fun x87 => fn_X1_hooks_66 l0 l1 k0 n e81 v83 x86 x87 h84)) else cz_leti (l5 + 1) (fun x85 => fn_X1_hooks_66 l0 l1 k0 n e81 v83 l4 x85 h84))) (fun j88 => (if e64 = x76 then cz_leti (l3 ||| x74) (fun x89 => j88 x89 h82) else j88 l3 h82))) 1000 l2 0 h75))))) 1000 0 0 h51)))
set_option maxHeartbeats 4000000 in
set_option maxRecDepth 100000 in
theorem wk_X1_hooks_66 {K : cz_K} {D : cz_D} {h0 : cz_H} {oh : cz_O × cz_H} {l0 : Option Nat} {l1 : Int32} {k0 : Int32 → Int32 → Int32 → cz_H → cz_Z} (S : cz_S K D h0 cX1_hooks 10 "HeldCoats" ((Option.some Jvm.ClassFile.FieldType.int)) "hooks" ([])) (hk0 : ∀ (e2 : Int32) (e3 : Int32) (e4 : Int32) (h : cz_H), cz_T K D 6 h0 oh 10 (k0 e2 e3 e4 h) h 183 [(0, cz_r l0), (2, cz_i e2), (3, cz_i e3), (4, cz_i e4)] []) : ∀ (n : Nat) (l2 : Int32) (l3 : Int32) (l4 : Int32) (l5 : Int32) (h : cz_H), cz_T K D 6 h0 oh 10 (fn_X1_hooks_66 l0 l1 k0 n l2 l3 l4 l5 h) h 66 [(0, cz_r l0), (1, cz_i l1), (2, cz_i l2), (3, cz_i l3), (4, cz_i l4), (5, cz_i l5)] [] := by
  intro n
  induction n with
  | zero => intros; exact ct_none
  | succ n ih =>
    intro l2 l3 l4 l5 h
    rw [fn_X1_hooks_66]
    refine ct_iload (k := 5) S dX1_hooks_66 rfl ?_
    refine ct_aload_n (k := 0) S dX1_hooks_68 rfl rfl ?_
    refine ct_rc (fun b45 ci46 V47 hb48 hc49 hi50 => ?_)
    refine ct_cI (st := [cz_i l5]) (cg_virtual (av := []) S hb48 hc49 hi50 (fun _ e => mt_X1_men e) md_X1_men q1469 q1471 se_HeldCoats_men___I_HeldCoats (by decide) (Nat.le_of_ble_eq_true rfl) rfl dX1_hooks_69) (fun x52 h51 => ?_)
    refine ct_icmp_ge (tgt := 183) S dX1_hooks_72 (by decide) ?_ ?_
    · exact ct_sub [0, 2, 3, 4] rfl (hk0 l2 l3 l4 h51)
    · refine ct_iconst (v := 0) S dX1_hooks_75 kI_0 ?_
      refine ct_istore (L' := [(6, cz_i 0), (0, cz_r l0), (1, cz_i l1), (2, cz_i l2), (3, cz_i l3), (4, cz_i l4), (5, cz_i l5)]) S dX1_hooks_76 (by decide) rfl ?_
      refine ct_iconst (v := 0) S dX1_hooks_78 kI_0 ?_
      refine ct_istore (L' := [(7, cz_i 0), (6, cz_i 0), (0, cz_r l0), (1, cz_i l1), (2, cz_i l2), (3, cz_i l3), (4, cz_i l4), (5, cz_i l5)]) S dX1_hooks_79 (by decide) rfl ?_
      refine ct_sub [2, 3, 4, 5, 6, 7, 1, 0] (L' := [(0, cz_r l0), (1, cz_i l1), (2, cz_i l2), (3, cz_i l3), (4, cz_i l4), (5, cz_i l5), (6, cz_i 0), (7, cz_i 0)]) rfl (wk_X1_hooks_81 S ?_ 1000 0 0 h51)
      · intro e64 h65
        refine ct_aload_n (k := 0) S dX1_hooks_107 rfl rfl ?_
        refine ct_getR S fw_X1_33 dX1_hooks_108 (fun r66 => ?_)
        refine ct_iload (k := 5) S dX1_hooks_111 rfl ?_
        refine ct_rc (fun b67 ci68 V69 hb70 hc71 hi72 => ?_)
        refine ct_cI (st := []) (cg_virtual (av := [cz_i l5]) S hb70 hc71 hi72 (fun _ e => mt_X2_coatsOf e) md_X2_coatsOf q1367 q1368 se_HeldCoats_Capital_coatsOf__I_I_HeldCoats_Capital (by decide) (Nat.le_of_ble_eq_true rfl) rfl dX1_hooks_113) (fun x74 h73 => ?_)
        refine ct_istore (L' := [(7, cz_i x74), (0, cz_r l0), (1, cz_i l1), (2, cz_i l2), (3, cz_i l3), (4, cz_i l4), (5, cz_i l5), (6, cz_i e64)]) S dX1_hooks_116 (by decide) rfl ?_
        refine ct_iload (k := 0) S dX1_hooks_118 rfl ?_
        refine ct_cI (st := []) (cg_static (av := [cz_i x74]) S (fun _ e => mt_J17_bitCount e) md_J17_bitCount (Or.inl q1375) q1376 (by decide) (Nat.le_of_ble_eq_true rfl) rfl dX1_hooks_120) (fun x76 h75 => ?_)
        refine ct_istore (L' := [(8, cz_i x76), (7, cz_i x74), (0, cz_r l0), (1, cz_i l1), (2, cz_i l2), (3, cz_i l3), (4, cz_i l4), (5, cz_i l5), (6, cz_i e64)]) S dX1_hooks_123 (by decide) rfl ?_
        refine ct_iconst (v := 0) S dX1_hooks_125 kI_0 ?_
        refine ct_istore (L' := [(9, cz_i 0), (8, cz_i x76), (7, cz_i x74), (0, cz_r l0), (1, cz_i l1), (2, cz_i l2), (3, cz_i l3), (4, cz_i l4), (5, cz_i l5), (6, cz_i e64)]) S dX1_hooks_126 (by decide) rfl ?_
        refine ct_sub [3, 4, 5, 6, 7, 8, 9, 2, 1, 0] (L' := [(0, cz_r l0), (1, cz_i l1), (2, cz_i l2), (3, cz_i l3), (4, cz_i l4), (5, cz_i l5), (6, cz_i e64), (7, cz_i x74), (8, cz_i x76), (9, cz_i 0)]) rfl (wk_X1_hooks_128 S ?_ 1000 l2 0 h75)
        · intro e81 h82
          refine ct_iload (k := 6) S dX1_hooks_153 rfl ?_
          refine ct_iload (k := 8) S dX1_hooks_155 rfl ?_
          refine ct_jnP (fun j88 => ∀ (v83 : Int32) (h84 : cz_H), cz_T K D 6 h0 oh 10 (j88 v83 h84) h84 165 [(0, cz_r l0), (1, cz_i l1), (2, cz_i e81), (3, cz_i v83), (4, cz_i l4), (5, cz_i l5), (6, cz_i e64), (7, cz_i x74)] []) (fun v83 h84 => ?_) (fun j88 Hj88 => ?_)
          · refine ct_iload (k := 6) S dX1_hooks_165 rfl ?_
            refine ct_if_ne (tgt := 177) S dX1_hooks_167 (by decide) ?_ ?_
            · refine ct_iincL (j := 5) (L2 := fun x85 => [(5, cz_i x85), (0, cz_r l0), (1, cz_i l1), (2, cz_i e81), (3, cz_i v83), (4, cz_i l4), (6, cz_i e64), (7, cz_i x74)]) S dX1_hooks_177 rfl kI_1 (by decide) (fun _ => rfl) (fun x85 => ?_)
              refine ct_goto (tgt := 66) S dX1_hooks_180 (by decide) ?_
              exact ct_sub [1, 2, 3, 4, 5, 0] rfl (ih e81 v83 l4 x85 h84)
            · refine ct_iload (k := 4) S dX1_hooks_170 rfl ?_
              refine ct_iload (k := 7) S dX1_hooks_172 rfl ?_
              refine ct_ior S dX1_hooks_174 ?_
              refine ct_leti (fun x86 => ?_)
              refine ct_istore (L' := [(4, cz_i x86), (0, cz_r l0), (1, cz_i l1), (2, cz_i e81), (3, cz_i v83), (5, cz_i l5), (6, cz_i e64), (7, cz_i x74)]) S dX1_hooks_175 (by decide) rfl ?_
              refine ct_iincL (j := 5) (L2 := fun x87 => [(5, cz_i x87), (4, cz_i x86), (0, cz_r l0), (1, cz_i l1), (2, cz_i e81), (3, cz_i v83), (6, cz_i e64), (7, cz_i x74)]) S dX1_hooks_177 rfl kI_1 (by decide) (fun _ => rfl) (fun x87 => ?_)
              refine ct_goto (tgt := 66) S dX1_hooks_180 (by decide) ?_
              exact ct_sub [2, 3, 4, 5, 1, 0] rfl (ih e81 v83 x86 x87 h84)
          · refine ct_icmp_ne (tgt := 165) S dX1_hooks_157 (by decide) ?_ ?_
            · exact ct_sub [0, 1, 2, 3, 4, 5, 6, 7] rfl (Hj88 l3 h82)
            · refine ct_iload_n (k := 3) S dX1_hooks_160 rfl rfl ?_
              refine ct_iload (k := 7) S dX1_hooks_161 rfl ?_
              refine ct_ior S dX1_hooks_163 ?_
              refine ct_leti (fun x89 => ?_)
              refine ct_istore_n (L' := [(3, cz_i x89), (0, cz_r l0), (1, cz_i l1), (2, cz_i e81), (4, cz_i l4), (5, cz_i l5), (6, cz_i e64), (7, cz_i x74), (8, cz_i x76)]) S dX1_hooks_164 rfl (by decide) rfl ?_
              exact ct_sub [1, 2, 3, 0, 4, 5, 6, 7] rfl (Hj88 x89 h82)
set_option maxHeartbeats 4000000 in
set_option maxRecDepth 100000 in
noncomputable def fn_X1_hooks (l0 : Option Nat) (h : cz_H) : cz_Z := cz_rc h l0 [0] (cz_cI (fn_X1_take l0 h) (fun x8 h7 => (if x8 = 0 then some (.inl (some (cz_i (-1))), h7) else cz_rc h7 l0 [0] (cz_cI (fn_X1_seats l0 h7) (fun x16 h15 => (if x8 = x16 then fn_X1_hooks_21 l0 x8 (fun (h43 : cz_H) => some (.inl (some (cz_i (-1))), h43)) (fun (h44 : cz_H) => fn_X1_hooks_66 l0 x8 (fun (e90 : Int32) (e91 : Int32) (e92 : Int32) (h93 : cz_H) => (if e90 = 0 then some (.inl (some (cz_i 0)), h93) else cz_put h93 l0 [(0, 13)] (cz_i e91) (fun h94 => cz_put h94 l0 [(0, 14)] (cz_i e92) (fun h95 => some (.inl (some (cz_i e90)), h95))))) 1000 1 0 0 0 h44) 1000 0 h15 else some (.inl (some (cz_i (-1))), h15)))))))
set_option maxHeartbeats 4000000 in
set_option maxRecDepth 100000 in
theorem wk_X1_hooks {K : cz_K} {D : cz_D} {h0 : cz_H} {oh : cz_O × cz_H} {l0 : Option Nat} {h : cz_H} (S : cz_S K D h0 cX1_hooks 10 "HeldCoats" ((Option.some Jvm.ClassFile.FieldType.int)) "hooks" ([])) : cz_T K D 6 h0 oh 10 (fn_X1_hooks l0 h) h 0 [(0, cz_r l0)] [] := by
  unfold fn_X1_hooks
  refine ct_aload_n (k := 0) S dX1_hooks_0 rfl rfl ?_
  refine ct_rc (fun b1 ci2 V3 hb4 hc5 hi6 => ?_)
  refine ct_cI (st := []) (cg_virtual (av := []) S hb4 hc5 hi6 (fun _ e => mt_X1_take e) md_X1_take q452 q454 se_HeldCoats_take___I_HeldCoats (by decide) (Nat.le_of_ble_eq_true rfl) rfl dX1_hooks_1) (fun x8 h7 => ?_)
  refine ct_istore_n (L' := [(1, cz_i x8), (0, cz_r l0)]) S dX1_hooks_4 rfl (by decide) rfl ?_
  refine ct_iload_n (k := 0) S dX1_hooks_5 rfl rfl ?_
  refine ct_if_eq (tgt := 17) S dX1_hooks_6 (by decide) ?_ ?_
  · refine ct_iconst (v := (-1)) S dX1_hooks_17 kI_m1 ?_
    exact ct_iret S rfl dX1_hooks_18
  · refine ct_iload_n (k := 0) S dX1_hooks_9 rfl rfl ?_
    refine ct_aload_n (k := 1) S dX1_hooks_10 rfl rfl ?_
    refine ct_rc (fun b9 ci10 V11 hb12 hc13 hi14 => ?_)
    refine ct_cI (st := [cz_i x8]) (cg_virtual (av := []) S hb12 hc13 hi14 (fun _ e => mt_X1_seats e) md_X1_seats q1385 q1387 se_HeldCoats_seats___I_HeldCoats (by decide) (Nat.le_of_ble_eq_true rfl) rfl dX1_hooks_11) (fun x16 h15 => ?_)
    refine ct_icmp_eq (tgt := 19) S dX1_hooks_14 (by decide) ?_ ?_
    · refine ct_iconst (v := 0) S dX1_hooks_19 kI_0 ?_
      refine ct_istore_n (L' := [(2, cz_i 0), (1, cz_i x8), (0, cz_r l0)]) S dX1_hooks_20 rfl (by decide) rfl ?_
      refine ct_sub [2, 1, 0] (L' := [(0, cz_r l0), (1, cz_i x8), (2, cz_i 0)]) rfl (wk_X1_hooks_21 S ?_ ?_ 1000 0 h15)
      · intro h43
        refine ct_iconst (v := (-1)) S dX1_hooks_48 kI_m1 ?_
        exact ct_iret S rfl dX1_hooks_49
      · intro h44
        refine ct_iconst (v := 1) S dX1_hooks_56 kI_1 ?_
        refine ct_istore_n (L' := [(2, cz_i 1), (0, cz_r l0), (1, cz_i x8)]) S dX1_hooks_57 rfl (by decide) rfl ?_
        refine ct_iconst (v := 0) S dX1_hooks_58 kI_0 ?_
        refine ct_istore_n (L' := [(3, cz_i 0), (2, cz_i 1), (0, cz_r l0), (1, cz_i x8)]) S dX1_hooks_59 rfl (by decide) rfl ?_
        refine ct_iconst (v := 0) S dX1_hooks_60 kI_0 ?_
        refine ct_istore (L' := [(4, cz_i 0), (3, cz_i 0), (2, cz_i 1), (0, cz_r l0), (1, cz_i x8)]) S dX1_hooks_61 (by decide) rfl ?_
        refine ct_iconst (v := 0) S dX1_hooks_63 kI_0 ?_
        refine ct_istore (L' := [(5, cz_i 0), (4, cz_i 0), (3, cz_i 0), (2, cz_i 1), (0, cz_r l0), (1, cz_i x8)]) S dX1_hooks_64 (by decide) rfl ?_
        refine ct_sub [4, 5, 3, 2, 1, 0] (L' := [(0, cz_r l0), (1, cz_i x8), (2, cz_i 1), (3, cz_i 0), (4, cz_i 0), (5, cz_i 0)]) rfl (wk_X1_hooks_66 S ?_ 1000 1 0 0 0 h44)
        · intro e90 e91 e92 h93
          refine ct_iload_n (k := 1) S dX1_hooks_183 rfl rfl ?_
          refine ct_if_ne (tgt := 189) S dX1_hooks_184 (by decide) ?_ ?_
          · refine ct_aload_n (k := 0) S dX1_hooks_189 rfl rfl ?_
            refine ct_iload_n (k := 2) S dX1_hooks_190 rfl rfl ?_
            refine ct_put S fw_X1_59 fp_X1_m_0_13 (cz_fits_i pd_I) dX1_hooks_191 (fun h94 => ?_)
            refine ct_aload_n (k := 0) S dX1_hooks_194 rfl rfl ?_
            refine ct_iload (k := 3) S dX1_hooks_195 rfl ?_
            refine ct_put S fw_X1_62 fp_X1_m_0_14 (cz_fits_i pd_I) dX1_hooks_197 (fun h95 => ?_)
            refine ct_iload_n (k := 1) S dX1_hooks_200 rfl rfl ?_
            exact ct_iret S rfl dX1_hooks_201
          · refine ct_iconst (v := 0) S dX1_hooks_187 kI_0 ?_
            exact ct_iret S rfl dX1_hooks_188
    · refine ct_iconst (v := (-1)) S dX1_hooks_17 kI_m1 ?_
      exact ct_iret S rfl dX1_hooks_18
theorem mt_X1_hooks {l : Launch} {D : cz_D} {l0 : Option Nat} {h : cz_H} {oh : cz_O × cz_H} (hz : fn_X1_hooks l0 h = some oh) : cz_M l D yX1_hooks (ws_ yX1_hooks cX1_hooks 10 ((Option.some Jvm.ClassFile.FieldType.int))) 6 [cz_r l0] h oh := cz_met (plainFor_of_name (by decide)) (Nat.le_of_ble_eq_true rfl) hz (fun K hl S => wk_X1_hooks S)
/-! HeldCoats.image(I)Z -/
def dkwX1_image_2 : List UInt8 := [180, 0, 42, 182, 0, 232, 87, 4, 172]
abbrev dktX1_image_2 : List UInt8 := dkwX1_image_2 ++ []
def dkwX1_image_1 : List UInt8 := [42, 180, 0, 74, 27, 50, 42, 180, 0, 101, 181, 1, 107, 42, 180, 0, 74, 27, 50, 180, 1, 108, 42]
abbrev dktX1_image_1 : List UInt8 := dkwX1_image_1 ++ dktX1_image_2
def dkwX1_image_0 : List UInt8 := [27, 3, 4, 184, 0, 162, 154, 0, 5, 3, 172, 42, 180, 0, 74, 27, 50, 42, 180, 0, 33, 181, 1, 106]
abbrev dktX1_image_0 : List UInt8 := dkwX1_image_0 ++ dktX1_image_1
theorem dksX1_image_0 : cX1_image.data.toList.drop 0 = dktX1_image_0 := by decide +kernel
theorem dksX1_image_1 : cX1_image.data.toList.drop 24 = dktX1_image_1 := dk_seg dksX1_image_0 24 rfl rfl
theorem dksX1_image_2 : cX1_image.data.toList.drop 47 = dktX1_image_2 := dk_seg dksX1_image_1 23 rfl rfl
theorem dX1_image_0 : decode cX1_image 0 = .ok (.iload_n 1, 1) := dk_27 (dk_at dksX1_image_0 0 rfl rfl)
theorem dX1_image_1 : decode cX1_image 1 = .ok (.iconst 0, 1) := dk_3 (dk_at dksX1_image_0 1 rfl rfl)
theorem dX1_image_2 : decode cX1_image 2 = .ok (.iconst 1, 1) := dk_4 (dk_at dksX1_image_0 2 rfl rfl)
theorem dX1_image_3 : decode cX1_image 3 = .ok (.invokestatic 162, 3) := dk_184 0 162 (dk_at dksX1_image_0 3 rfl rfl)
theorem dX1_image_6 : decode cX1_image 6 = .ok (.ifCond .ne 5, 3) := dk_154 0 5 (dk_at dksX1_image_0 6 rfl rfl)
theorem dX1_image_9 : decode cX1_image 9 = .ok (.iconst 0, 1) := dk_3 (dk_at dksX1_image_0 9 rfl rfl)
theorem dX1_image_10 : decode cX1_image 10 = .ok (.ireturn, 1) := dk_172 (dk_at dksX1_image_0 10 rfl rfl)
theorem dX1_image_11 : decode cX1_image 11 = .ok (.aload_n 0, 1) := dk_42 (dk_at dksX1_image_0 11 rfl rfl)
theorem dX1_image_12 : decode cX1_image 12 = .ok (.getfield 74, 3) := dk_180 0 74 (dk_at dksX1_image_0 12 rfl rfl)
theorem dX1_image_15 : decode cX1_image 15 = .ok (.iload_n 1, 1) := dk_27 (dk_at dksX1_image_0 15 rfl rfl)
theorem dX1_image_16 : decode cX1_image 16 = .ok (.aaload, 1) := dk_50 (dk_at dksX1_image_0 16 rfl rfl)
theorem dX1_image_17 : decode cX1_image 17 = .ok (.aload_n 0, 1) := dk_42 (dk_at dksX1_image_0 17 rfl rfl)
theorem dX1_image_18 : decode cX1_image 18 = .ok (.getfield 33, 3) := dk_180 0 33 (dk_at dksX1_image_0 18 rfl rfl)
theorem dX1_image_21 : decode cX1_image 21 = .ok (.putfield 362, 3) := dk_181 1 106 (dk_at dksX1_image_0 21 rfl rfl)
theorem dX1_image_24 : decode cX1_image 24 = .ok (.aload_n 0, 1) := dk_42 (dk_at dksX1_image_1 0 rfl rfl)
theorem dX1_image_25 : decode cX1_image 25 = .ok (.getfield 74, 3) := dk_180 0 74 (dk_at dksX1_image_1 1 rfl rfl)
theorem dX1_image_28 : decode cX1_image 28 = .ok (.iload_n 1, 1) := dk_27 (dk_at dksX1_image_1 4 rfl rfl)
theorem dX1_image_29 : decode cX1_image 29 = .ok (.aaload, 1) := dk_50 (dk_at dksX1_image_1 5 rfl rfl)
theorem dX1_image_30 : decode cX1_image 30 = .ok (.aload_n 0, 1) := dk_42 (dk_at dksX1_image_1 6 rfl rfl)
theorem dX1_image_31 : decode cX1_image 31 = .ok (.getfield 101, 3) := dk_180 0 101 (dk_at dksX1_image_1 7 rfl rfl)
theorem dX1_image_34 : decode cX1_image 34 = .ok (.putfield 363, 3) := dk_181 1 107 (dk_at dksX1_image_1 10 rfl rfl)
theorem dX1_image_37 : decode cX1_image 37 = .ok (.aload_n 0, 1) := dk_42 (dk_at dksX1_image_1 13 rfl rfl)
theorem dX1_image_38 : decode cX1_image 38 = .ok (.getfield 74, 3) := dk_180 0 74 (dk_at dksX1_image_1 14 rfl rfl)
theorem dX1_image_41 : decode cX1_image 41 = .ok (.iload_n 1, 1) := dk_27 (dk_at dksX1_image_1 17 rfl rfl)
theorem dX1_image_42 : decode cX1_image 42 = .ok (.aaload, 1) := dk_50 (dk_at dksX1_image_1 18 rfl rfl)
theorem dX1_image_43 : decode cX1_image 43 = .ok (.getfield 364, 3) := dk_180 1 108 (dk_at dksX1_image_1 19 rfl rfl)
theorem dX1_image_46 : decode cX1_image 46 = .ok (.aload_n 0, 1) := dk_42 (dk_at dksX1_image_1 22 rfl rfl)
theorem dX1_image_47 : decode cX1_image 47 = .ok (.getfield 42, 3) := dk_180 0 42 (dk_at dksX1_image_2 0 rfl rfl)
theorem dX1_image_50 : decode cX1_image 50 = .ok (.invokevirtual 232, 3) := dk_182 0 232 (dk_at dksX1_image_2 3 rfl rfl)
theorem dX1_image_53 : decode cX1_image 53 = .ok (.pop, 1) := dk_87 (dk_at dksX1_image_2 6 rfl rfl)
theorem dX1_image_54 : decode cX1_image 54 = .ok (.iconst 1, 1) := dk_4 (dk_at dksX1_image_2 7 rfl rfl)
theorem dX1_image_55 : decode cX1_image 55 = .ok (.ireturn, 1) := dk_172 (dk_at dksX1_image_2 8 rfl rfl)
theorem fw_X1_74 : cz_FW "HeldCoats" 74 [(0, 17)] "[LHeldCoats$Kept;" := ⟨"HeldCoats", "kept", Or.inl q397, List.forall_mem_cons.mpr ⟨⟨RX1, TX1, 18, rfl, by decide, rfl, rfl, Or.inl rfl⟩, fun _ h => absurd h List.not_mem_nil⟩, by decide⟩
theorem fw_X1_362 : cz_FW "HeldCoats" 362 [(4, 0)] "LHeldCoats$Capital;" := ⟨"HeldCoats$Kept", "capital", Or.inr ⟨_, q369⟩, List.forall_mem_cons.mpr ⟨⟨RX4, TX4, 3, rfl, by decide, rfl, rfl, Or.inl rfl⟩, fun _ h => absurd h List.not_mem_nil⟩, by decide⟩
theorem fp_X1_m_4_0 {nm : String} : cz_FP "HeldCoats" nm [(4, 0)] := List.forall_mem_cons.mpr ⟨⟨RX4, TX4, 3, rfl, Or.inl rfl⟩, fun _ h => absurd h List.not_mem_nil⟩
theorem fw_X1_363 : cz_FW "HeldCoats" 363 [(4, 1)] "LHeldCoats$Cond;" := ⟨"HeldCoats$Kept", "sentence", Or.inr ⟨_, q370⟩, List.forall_mem_cons.mpr ⟨⟨RX4, TX4, 3, rfl, by decide, rfl, rfl, Or.inl rfl⟩, fun _ h => absurd h List.not_mem_nil⟩, by decide⟩
theorem fp_X1_m_4_1 {nm : String} : cz_FP "HeldCoats" nm [(4, 1)] := List.forall_mem_cons.mpr ⟨⟨RX4, TX4, 3, rfl, Or.inl rfl⟩, fun _ h => absurd h List.not_mem_nil⟩
theorem fw_X1_364 : cz_FW "HeldCoats" 364 [(4, 2)] "LHeldCoats$Reign;" := ⟨"HeldCoats$Kept", "reign", Or.inr ⟨_, q372⟩, List.forall_mem_cons.mpr ⟨⟨RX4, TX4, 3, rfl, by decide, rfl, rfl, Or.inl rfl⟩, fun _ h => absurd h List.not_mem_nil⟩, by decide⟩
set_option maxHeartbeats 4000000 in
set_option maxRecDepth 100000 in
noncomputable def fn_X1_image (l0 : Option Nat) (l1 : Int32) (h : cz_H) : cz_Z := cz_cI (fn_X1_isIn l1 0 1 h) (fun x2 h1 => (if x2 = 0 then some (.inl (some (cz_i 0)), h1) else cz_getR h1 l0 [(0, 17)] (fun r3 => cz_aald h1 r3 l1 (fun r4 => cz_getR h1 l0 [(0, 3)] (fun r5 => cz_put h1 r4 [(4, 0)] (cz_r r5) (fun h6 => cz_getR h6 l0 [(0, 17)] (fun r7 => cz_aald h6 r7 l1 (fun r8 => cz_getR h6 l0 [(0, 6)] (fun r9 => cz_put h6 r8 [(4, 1)] (cz_r r9) (fun h10 => cz_getR h10 l0 [(0, 17)] (fun r11 => cz_aald h10 r11 l1 (fun r12 => cz_getR h10 r12 [(4, 2)] (fun r13 => cz_getR h10 l0 [(0, 4)] (fun r14 => cz_rc h10 r13 [3] (cz_cR (fn_X3_as r13 r14 h10) (fun r22 h21 => some (.inl (some (cz_i 1)), h21)))))))))))))))))
set_option maxHeartbeats 4000000 in
set_option maxRecDepth 100000 in
theorem wk_X1_image {K : cz_K} {D : cz_D} {h0 : cz_H} {oh : cz_O × cz_H} {l0 : Option Nat} {l1 : Int32} {h : cz_H} (S : cz_S K D h0 cX1_image 2 "HeldCoats" ((Option.some Jvm.ClassFile.FieldType.boolean)) "image" ([])) : cz_T K D 4 h0 oh 2 (fn_X1_image l0 l1 h) h 0 [(0, cz_r l0), (1, cz_i l1)] [] := by
  unfold fn_X1_image
  refine ct_iload_n (k := 1) S dX1_image_0 rfl rfl ?_
  refine ct_iconst (v := 0) S dX1_image_1 kI_0 ?_
  refine ct_iconst (v := 1) S dX1_image_2 kI_1 ?_
  refine ct_cI (st := []) (cg_static (av := [cz_i l1, cz_i 0, cz_i 1]) S (fun _ e => mt_X1_isIn e) md_X1_isIn (Or.inl q1355) q929 (by decide) (Nat.le_of_ble_eq_true rfl) rfl dX1_image_3) (fun x2 h1 => ?_)
  refine ct_if_ne (tgt := 11) S dX1_image_6 (by decide) ?_ ?_
  · refine ct_aload_n (k := 0) S dX1_image_11 rfl rfl ?_
    refine ct_getR S fw_X1_74 dX1_image_12 (fun r3 => ?_)
    refine ct_iload_n (k := 1) S dX1_image_15 rfl rfl ?_
    refine ct_aald S dX1_image_16 (fun r4 => ?_)
    refine ct_aload_n (k := 0) S dX1_image_17 rfl rfl ?_
    refine ct_getR S fw_X1_33 dX1_image_18 (fun r5 => ?_)
    refine ct_put S fw_X1_362 fp_X1_m_4_0 (cz_fits_r pd_LHeldCoats_Capital_) dX1_image_21 (fun h6 => ?_)
    refine ct_aload_n (k := 0) S dX1_image_24 rfl rfl ?_
    refine ct_getR S fw_X1_74 dX1_image_25 (fun r7 => ?_)
    refine ct_iload_n (k := 1) S dX1_image_28 rfl rfl ?_
    refine ct_aald S dX1_image_29 (fun r8 => ?_)
    refine ct_aload_n (k := 0) S dX1_image_30 rfl rfl ?_
    refine ct_getR S fw_X1_101 dX1_image_31 (fun r9 => ?_)
    refine ct_put S fw_X1_363 fp_X1_m_4_1 (cz_fits_r pd_LHeldCoats_Cond_) dX1_image_34 (fun h10 => ?_)
    refine ct_aload_n (k := 0) S dX1_image_37 rfl rfl ?_
    refine ct_getR S fw_X1_74 dX1_image_38 (fun r11 => ?_)
    refine ct_iload_n (k := 1) S dX1_image_41 rfl rfl ?_
    refine ct_aald S dX1_image_42 (fun r12 => ?_)
    refine ct_getR S fw_X1_364 dX1_image_43 (fun r13 => ?_)
    refine ct_aload_n (k := 0) S dX1_image_46 rfl rfl ?_
    refine ct_getR S fw_X1_42 dX1_image_47 (fun r14 => ?_)
    refine ct_rc (fun b15 ci16 V17 hb18 hc19 hi20 => ?_)
    refine ct_cR (st := []) (cg_virtual (av := [cz_r r14]) S hb18 hc19 hi20 (fun _ e => mt_X3_as e) md_X3_as q1190 q1191 se_HeldCoats_Reign_as__LHeldCoats_Reign__LHeldCoats_Reign__HeldCoats_Reign (by decide) (Nat.le_of_ble_eq_true rfl) rfl dX1_image_50) (fun r22 h21 => ?_)
    refine ct_pop S dX1_image_53 rfl ?_
    refine ct_iconst (v := 1) S dX1_image_54 kI_1 ?_
    exact ct_zr (ty := .boolean) S rfl rfl dX1_image_55
  · refine ct_iconst (v := 0) S dX1_image_9 kI_0 ?_
    exact ct_zr (ty := .boolean) S rfl rfl dX1_image_10
theorem mt_X1_image {l : Launch} {D : cz_D} {l0 : Option Nat} {l1 : Int32} {h : cz_H} {oh : cz_O × cz_H} (hz : fn_X1_image l0 l1 h = some oh) : cz_M l D yX1_image (ws_ yX1_image cX1_image 2 ((Option.some Jvm.ClassFile.FieldType.boolean))) 4 [cz_r l0, cz_i l1] h oh := cz_met (plainFor_of_name (by decide)) (Nat.le_of_ble_eq_true rfl) hz (fun K hl S => wk_X1_image S)
/-! HeldCoats$Reign.<init>()V -/
def dkwX3_init_2 : List UInt8 := [188, 10, 181, 0, 27, 42, 16, 6, 188, 10, 181, 0, 30, 177]
abbrev dktX3_init_2 : List UInt8 := dkwX3_init_2 ++ []
def dkwX3_init_1 : List UInt8 := [188, 10, 181, 0, 18, 42, 16, 8, 188, 10, 181, 0, 21, 42, 16, 8, 188, 10, 181, 0, 24, 42, 16, 6]
abbrev dktX3_init_1 : List UInt8 := dkwX3_init_1 ++ dktX3_init_2
def dkwX3_init_0 : List UInt8 := [42, 183, 0, 3, 42, 16, 8, 188, 10, 181, 0, 9, 42, 16, 8, 188, 10, 181, 0, 15, 42, 16, 8]
abbrev dktX3_init_0 : List UInt8 := dkwX3_init_0 ++ dktX3_init_1
theorem dksX3_init_0 : cX3_init.data.toList.drop 0 = dktX3_init_0 := by decide +kernel
theorem dksX3_init_1 : cX3_init.data.toList.drop 23 = dktX3_init_1 := dk_seg dksX3_init_0 23 rfl rfl
theorem dksX3_init_2 : cX3_init.data.toList.drop 47 = dktX3_init_2 := dk_seg dksX3_init_1 24 rfl rfl
theorem dX3_init_0 : decode cX3_init 0 = .ok (.aload_n 0, 1) := dk_42 (dk_at dksX3_init_0 0 rfl rfl)
theorem dX3_init_1 : decode cX3_init 1 = .ok (.invokespecial 3, 3) := dk_183 0 3 (dk_at dksX3_init_0 1 rfl rfl)
theorem dX3_init_4 : decode cX3_init 4 = .ok (.aload_n 0, 1) := dk_42 (dk_at dksX3_init_0 4 rfl rfl)
theorem dX3_init_5 : decode cX3_init 5 = .ok (.bipush 8, 2) := dk_16 8 (dk_at dksX3_init_0 5 rfl rfl)
theorem dX3_init_7 : decode cX3_init 7 = .ok (.newarray .int, 2) := dk_188_10 (dk_at dksX3_init_0 7 rfl rfl)
theorem dX3_init_9 : decode cX3_init 9 = .ok (.putfield 9, 3) := dk_181 0 9 (dk_at dksX3_init_0 9 rfl rfl)
theorem dX3_init_12 : decode cX3_init 12 = .ok (.aload_n 0, 1) := dk_42 (dk_at dksX3_init_0 12 rfl rfl)
theorem dX3_init_13 : decode cX3_init 13 = .ok (.bipush 8, 2) := dk_16 8 (dk_at dksX3_init_0 13 rfl rfl)
theorem dX3_init_15 : decode cX3_init 15 = .ok (.newarray .int, 2) := dk_188_10 (dk_at dksX3_init_0 15 rfl rfl)
theorem dX3_init_17 : decode cX3_init 17 = .ok (.putfield 15, 3) := dk_181 0 15 (dk_at dksX3_init_0 17 rfl rfl)
theorem dX3_init_20 : decode cX3_init 20 = .ok (.aload_n 0, 1) := dk_42 (dk_at dksX3_init_0 20 rfl rfl)
theorem dX3_init_21 : decode cX3_init 21 = .ok (.bipush 8, 2) := dk_16 8 (dk_at dksX3_init_0 21 rfl rfl)
theorem dX3_init_23 : decode cX3_init 23 = .ok (.newarray .int, 2) := dk_188_10 (dk_at dksX3_init_1 0 rfl rfl)
theorem dX3_init_25 : decode cX3_init 25 = .ok (.putfield 18, 3) := dk_181 0 18 (dk_at dksX3_init_1 2 rfl rfl)
theorem dX3_init_28 : decode cX3_init 28 = .ok (.aload_n 0, 1) := dk_42 (dk_at dksX3_init_1 5 rfl rfl)
theorem dX3_init_29 : decode cX3_init 29 = .ok (.bipush 8, 2) := dk_16 8 (dk_at dksX3_init_1 6 rfl rfl)
theorem dX3_init_31 : decode cX3_init 31 = .ok (.newarray .int, 2) := dk_188_10 (dk_at dksX3_init_1 8 rfl rfl)
theorem dX3_init_33 : decode cX3_init 33 = .ok (.putfield 21, 3) := dk_181 0 21 (dk_at dksX3_init_1 10 rfl rfl)
theorem dX3_init_36 : decode cX3_init 36 = .ok (.aload_n 0, 1) := dk_42 (dk_at dksX3_init_1 13 rfl rfl)
theorem dX3_init_37 : decode cX3_init 37 = .ok (.bipush 8, 2) := dk_16 8 (dk_at dksX3_init_1 14 rfl rfl)
theorem dX3_init_39 : decode cX3_init 39 = .ok (.newarray .int, 2) := dk_188_10 (dk_at dksX3_init_1 16 rfl rfl)
theorem dX3_init_41 : decode cX3_init 41 = .ok (.putfield 24, 3) := dk_181 0 24 (dk_at dksX3_init_1 18 rfl rfl)
theorem dX3_init_44 : decode cX3_init 44 = .ok (.aload_n 0, 1) := dk_42 (dk_at dksX3_init_1 21 rfl rfl)
theorem dX3_init_45 : decode cX3_init 45 = .ok (.bipush 6, 2) := dk_16 6 (dk_at dksX3_init_1 22 rfl rfl)
theorem dX3_init_47 : decode cX3_init 47 = .ok (.newarray .int, 2) := dk_188_10 (dk_at dksX3_init_2 0 rfl rfl)
theorem dX3_init_49 : decode cX3_init 49 = .ok (.putfield 27, 3) := dk_181 0 27 (dk_at dksX3_init_2 2 rfl rfl)
theorem dX3_init_52 : decode cX3_init 52 = .ok (.aload_n 0, 1) := dk_42 (dk_at dksX3_init_2 5 rfl rfl)
theorem dX3_init_53 : decode cX3_init 53 = .ok (.bipush 6, 2) := dk_16 6 (dk_at dksX3_init_2 6 rfl rfl)
theorem dX3_init_55 : decode cX3_init 55 = .ok (.newarray .int, 2) := dk_188_10 (dk_at dksX3_init_2 8 rfl rfl)
theorem dX3_init_57 : decode cX3_init 57 = .ok (.putfield 30, 3) := dk_181 0 30 (dk_at dksX3_init_2 10 rfl rfl)
theorem dX3_init_60 : decode cX3_init 60 = .ok (.return_, 1) := dk_177 (dk_at dksX3_init_2 13 rfl rfl)
theorem fp_X3_i_3_6 : cz_FP "HeldCoats$Reign" "<init>" [(3, 6)] := List.forall_mem_cons.mpr ⟨⟨RX3, TX3, 14, rfl, Or.inr ⟨rfl, rfl, rfl⟩⟩, fun _ h => absurd h List.not_mem_nil⟩
theorem fp_X3_i_3_7 : cz_FP "HeldCoats$Reign" "<init>" [(3, 7)] := List.forall_mem_cons.mpr ⟨⟨RX3, TX3, 14, rfl, Or.inr ⟨rfl, rfl, rfl⟩⟩, fun _ h => absurd h List.not_mem_nil⟩
theorem fp_X3_i_3_8 : cz_FP "HeldCoats$Reign" "<init>" [(3, 8)] := List.forall_mem_cons.mpr ⟨⟨RX3, TX3, 14, rfl, Or.inr ⟨rfl, rfl, rfl⟩⟩, fun _ h => absurd h List.not_mem_nil⟩
theorem fp_X3_i_3_9 : cz_FP "HeldCoats$Reign" "<init>" [(3, 9)] := List.forall_mem_cons.mpr ⟨⟨RX3, TX3, 14, rfl, Or.inr ⟨rfl, rfl, rfl⟩⟩, fun _ h => absurd h List.not_mem_nil⟩
theorem fp_X3_i_3_10 : cz_FP "HeldCoats$Reign" "<init>" [(3, 10)] := List.forall_mem_cons.mpr ⟨⟨RX3, TX3, 14, rfl, Or.inr ⟨rfl, rfl, rfl⟩⟩, fun _ h => absurd h List.not_mem_nil⟩
theorem fp_X3_i_3_11 : cz_FP "HeldCoats$Reign" "<init>" [(3, 11)] := List.forall_mem_cons.mpr ⟨⟨RX3, TX3, 14, rfl, Or.inr ⟨rfl, rfl, rfl⟩⟩, fun _ h => absurd h List.not_mem_nil⟩
theorem fp_X3_i_3_12 : cz_FP "HeldCoats$Reign" "<init>" [(3, 12)] := List.forall_mem_cons.mpr ⟨⟨RX3, TX3, 14, rfl, Or.inr ⟨rfl, rfl, rfl⟩⟩, fun _ h => absurd h List.not_mem_nil⟩
set_option maxHeartbeats 4000000 in
set_option maxRecDepth 100000 in
noncomputable def fn_X3_init (l0 : Option Nat) (h : cz_H) : cz_Z := cz_nn' l0 (cz_newi h 0 8 (fun r1 h2 => cz_put h2 l0 [(3, 6)] (cz_r r1) (fun h3 => cz_newi h3 0 8 (fun r4 h5 => cz_put h5 l0 [(3, 7)] (cz_r r4) (fun h6 => cz_newi h6 0 8 (fun r7 h8 => cz_put h8 l0 [(3, 8)] (cz_r r7) (fun h9 => cz_newi h9 0 8 (fun r10 h11 => cz_put h11 l0 [(3, 9)] (cz_r r10) (fun h12 => cz_newi h12 0 8 (fun r13 h14 => cz_put h14 l0 [(3, 10)] (cz_r r13) (fun h15 => cz_newi h15 0 6 (fun r16 h17 => cz_put h17 l0 [(3, 11)] (cz_r r16) (fun h18 => cz_newi h18 0 6 (fun r19 h20 => cz_put h20 l0 [(3, 12)] (cz_r r19) (fun h21 => some (.inl none, h21))))))))))))))))
set_option maxHeartbeats 4000000 in
set_option maxRecDepth 100000 in
theorem wk_X3_init {K : cz_K} {D : cz_D} {h0 : cz_H} {oh : cz_O × cz_H} {l0 : Option Nat} {h : cz_H} (S : cz_S K D h0 cX3_init 1 "HeldCoats$Reign" ((Option.none : Option Jvm.ClassFile.FieldType)) "<init>" ([])) : cz_T K D 3 h0 oh 1 (fn_X3_init l0 h) h 0 [(0, cz_r l0)] [] := by
  unfold fn_X3_init
  refine ct_aload_n (k := 0) S dX3_init_0 rfl rfl ?_
  refine ct_oinit S q269 q165 q166 (by decide) (Nat.le_of_ble_eq_true rfl) dX3_init_1 ?_
  refine ct_aload_n (k := 0) S dX3_init_4 rfl rfl ?_
  refine ct_bipush (v := 8) S dX3_init_5 kB_8 ?_
  refine ct_newi_int S dX3_init_7 (fun r1 h2 => ?_)
  refine ct_put S fw_X3_9 fp_X3_i_3_6 (cz_fits_a pd__I) dX3_init_9 (fun h3 => ?_)
  refine ct_aload_n (k := 0) S dX3_init_12 rfl rfl ?_
  refine ct_bipush (v := 8) S dX3_init_13 kB_8 ?_
  refine ct_newi_int S dX3_init_15 (fun r4 h5 => ?_)
  refine ct_put S fw_X3_15 fp_X3_i_3_7 (cz_fits_a pd__I) dX3_init_17 (fun h6 => ?_)
  refine ct_aload_n (k := 0) S dX3_init_20 rfl rfl ?_
  refine ct_bipush (v := 8) S dX3_init_21 kB_8 ?_
  refine ct_newi_int S dX3_init_23 (fun r7 h8 => ?_)
  refine ct_put S fw_X3_18 fp_X3_i_3_8 (cz_fits_a pd__I) dX3_init_25 (fun h9 => ?_)
  refine ct_aload_n (k := 0) S dX3_init_28 rfl rfl ?_
  refine ct_bipush (v := 8) S dX3_init_29 kB_8 ?_
  refine ct_newi_int S dX3_init_31 (fun r10 h11 => ?_)
  refine ct_put S fw_X3_21 fp_X3_i_3_9 (cz_fits_a pd__I) dX3_init_33 (fun h12 => ?_)
  refine ct_aload_n (k := 0) S dX3_init_36 rfl rfl ?_
  refine ct_bipush (v := 8) S dX3_init_37 kB_8 ?_
  refine ct_newi_int S dX3_init_39 (fun r13 h14 => ?_)
  refine ct_put S fw_X3_24 fp_X3_i_3_10 (cz_fits_a pd__I) dX3_init_41 (fun h15 => ?_)
  refine ct_aload_n (k := 0) S dX3_init_44 rfl rfl ?_
  refine ct_bipush (v := 6) S dX3_init_45 kB_6 ?_
  refine ct_newi_int S dX3_init_47 (fun r16 h17 => ?_)
  refine ct_put S fw_X3_27 fp_X3_i_3_11 (cz_fits_a pd__I) dX3_init_49 (fun h18 => ?_)
  refine ct_aload_n (k := 0) S dX3_init_52 rfl rfl ?_
  refine ct_bipush (v := 6) S dX3_init_53 kB_6 ?_
  refine ct_newi_int S dX3_init_55 (fun r19 h20 => ?_)
  refine ct_put S fw_X3_30 fp_X3_i_3_12 (cz_fits_a pd__I) dX3_init_57 (fun h21 => ?_)
  exact ct_vret S rfl dX3_init_60
theorem mt_X3_init {l : Launch} {D : cz_D} {l0 : Option Nat} {h : cz_H} {oh : cz_O × cz_H} (hz : fn_X3_init l0 h = some oh) : cz_M l D yX3_init (ws_ yX3_init cX3_init 1 ((Option.none : Option Jvm.ClassFile.FieldType))) 3 [cz_r l0] h oh := cz_met (plainFor_of_name (by decide)) (Nat.le_of_ble_eq_true rfl) hz (fun K hl S => wk_X3_init S)
/-! HeldCoats$Kept.<init>()V -/
def dkwX4_init_0 : List UInt8 := [42, 183, 0, 1, 42, 187, 0, 7, 89, 183, 0, 9, 181, 0, 10, 177]
abbrev dktX4_init_0 : List UInt8 := dkwX4_init_0 ++ []
theorem dksX4_init_0 : cX4_init.data.toList.drop 0 = dktX4_init_0 := by decide +kernel
theorem dX4_init_0 : decode cX4_init 0 = .ok (.aload_n 0, 1) := dk_42 (dk_at dksX4_init_0 0 rfl rfl)
theorem dX4_init_1 : decode cX4_init 1 = .ok (.invokespecial 1, 3) := dk_183 0 1 (dk_at dksX4_init_0 1 rfl rfl)
theorem dX4_init_4 : decode cX4_init 4 = .ok (.aload_n 0, 1) := dk_42 (dk_at dksX4_init_0 4 rfl rfl)
theorem dX4_init_5 : decode cX4_init 5 = .ok (.new 7, 3) := dk_187 0 7 (dk_at dksX4_init_0 5 rfl rfl)
theorem dX4_init_8 : decode cX4_init 8 = .ok (.dup, 1) := dk_89 (dk_at dksX4_init_0 8 rfl rfl)
theorem dX4_init_9 : decode cX4_init 9 = .ok (.invokespecial 9, 3) := dk_183 0 9 (dk_at dksX4_init_0 9 rfl rfl)
theorem dX4_init_12 : decode cX4_init 12 = .ok (.putfield 10, 3) := dk_181 0 10 (dk_at dksX4_init_0 12 rfl rfl)
theorem dX4_init_15 : decode cX4_init 15 = .ok (.return_, 1) := dk_177 (dk_at dksX4_init_0 15 rfl rfl)
theorem nh_HeldCoats_Reign__init____V : cz_nh ⟨"HeldCoats$Reign", "<init>", "()V"⟩ 0 := ⟨by decide, by decide, by decide +kernel⟩
theorem fw_X4_10 : cz_FW "HeldCoats$Kept" 10 [(4, 2)] "LHeldCoats$Reign;" := ⟨"HeldCoats$Kept", "reign", Or.inl q371, List.forall_mem_cons.mpr ⟨⟨RX4, TX4, 3, rfl, by decide, rfl, rfl, Or.inl rfl⟩, fun _ h => absurd h List.not_mem_nil⟩, by decide⟩
theorem fp_X4_i_4_2 : cz_FP "HeldCoats$Kept" "<init>" [(4, 2)] := List.forall_mem_cons.mpr ⟨⟨RX4, TX4, 3, rfl, Or.inr ⟨rfl, rfl, rfl⟩⟩, fun _ h => absurd h List.not_mem_nil⟩
theorem pd_LHeldCoats_Reign_ : parseFieldDescriptor "LHeldCoats$Reign;" = some (.object "HeldCoats$Reign") := by decide +kernel
set_option maxHeartbeats 4000000 in
set_option maxRecDepth 100000 in
noncomputable def fn_X4_init (l0 : Option Nat) (h : cz_H) : cz_Z := cz_nn' l0 (cz_newo h 3 14 (fun r1 h2 => cz_nn' r1 (cz_cV (fn_X3_init r1 h2) (fun h5 => cz_put h5 l0 [(4, 2)] (cz_r r1) (fun h6 => some (.inl none, h6))))))
set_option maxHeartbeats 4000000 in
set_option maxRecDepth 100000 in
theorem wk_X4_init {K : cz_K} {D : cz_D} {h0 : cz_H} {oh : cz_O × cz_H} {l0 : Option Nat} {h : cz_H} (S : cz_S K D h0 cX4_init 1 "HeldCoats$Kept" ((Option.none : Option Jvm.ClassFile.FieldType)) "<init>" ([])) : cz_T K D 4 h0 oh 1 (fn_X4_init l0 h) h 0 [(0, cz_r l0)] [] := by
  unfold fn_X4_init
  refine ct_aload_n (k := 0) S dX4_init_0 rfl rfl ?_
  refine ct_oinit S q366 q165 q166 (by decide) (Nat.le_of_ble_eq_true rfl) dX4_init_1 ?_
  refine ct_aload_n (k := 0) S dX4_init_4 rfl rfl ?_
  refine ct_newo S (by decide) cz_cl3 q367 dX4_init_5 (fun r1 h2 => ?_)
  refine ct_dup S dX4_init_8 rfl ?_
  refine ct_nn (fun b3 hb4 => ?_)
  refine ct_cV (st := [cz_r r1, cz_r l0]) (cg_init (av := []) S hb4 (fun _ e => mt_X3_init e) q268 (Or.inr ⟨_, q368⟩) rfl q267 q118 nh_HeldCoats_Reign__init____V (by decide) (by decide) (Nat.le_of_ble_eq_true rfl) rfl dX4_init_9) (fun h5 => ?_)
  refine ct_put S fw_X4_10 fp_X4_i_4_2 (cz_fits_r pd_LHeldCoats_Reign_) dX4_init_12 (fun h6 => ?_)
  exact ct_vret S rfl dX4_init_15
theorem mt_X4_init {l : Launch} {D : cz_D} {l0 : Option Nat} {h : cz_H} {oh : cz_O × cz_H} (hz : fn_X4_init l0 h = some oh) : cz_M l D yX4_init (ws_ yX4_init cX4_init 1 ((Option.none : Option Jvm.ClassFile.FieldType))) 4 [cz_r l0] h oh := cz_met (plainFor_of_name (by decide)) (Nat.le_of_ble_eq_true rfl) hz (fun K hl S => wk_X4_init S)
/-! HeldCoats.<init>()V -/
def dkwX1_init_7 : List UInt8 := [132, 1, 1, 167, 255, 234, 177]
abbrev dktX1_init_7 : List UInt8 := dkwX1_init_7 ++ []
def dkwX1_init_6 : List UInt8 := [181, 0, 74, 3, 60, 27, 16, 8, 162, 0, 22, 42, 180, 0, 49, 27, 187, 0, 8, 89, 183, 0, 37, 83]
abbrev dktX1_init_6 : List UInt8 := dkwX1_init_6 ++ dktX1_init_7
def dkwX1_init_5 : List UInt8 := [189, 0, 71, 89, 3, 187, 0, 71, 89, 183, 0, 73, 83, 89, 4, 187, 0, 71, 89, 183, 0, 73, 83]
abbrev dktX1_init_5 : List UInt8 := dkwX1_init_5 ++ dktX1_init_6
def dkwX1_init_4 : List UInt8 := [7, 188, 10, 89, 3, 2, 79, 89, 4, 2, 79, 89, 5, 2, 79, 89, 6, 2, 79, 181, 0, 68, 42, 5]
abbrev dktX1_init_4 : List UInt8 := dkwX1_init_4 ++ dktX1_init_5
def dkwX1_init_3 : List UInt8 := [181, 0, 53, 42, 2, 181, 0, 56, 42, 2, 181, 0, 59, 42, 2, 181, 0, 62, 42, 2, 181, 0, 65, 42]
abbrev dktX1_init_3 : List UInt8 := dkwX1_init_3 ++ dktX1_init_4
def dkwX1_init_2 : List UInt8 := [183, 0, 37, 42, 180, 0, 33, 182, 0, 38, 181, 0, 46, 42, 16, 8, 189, 0, 8, 181, 0, 49, 42, 2]
abbrev dktX1_init_2 : List UInt8 := dkwX1_init_2 ++ dktX1_init_3
def dkwX1_init_1 : List UInt8 := [42, 187, 0, 8, 89, 183, 0, 37, 42, 180, 0, 33, 182, 0, 38, 181, 0, 42, 42, 187, 0, 8, 89]
abbrev dktX1_init_1 : List UInt8 := dkwX1_init_1 ++ dktX1_init_2
def dkwX1_init_0 : List UInt8 := [42, 183, 0, 23, 42, 17, 3, 172, 188, 8, 181, 0, 26, 42, 187, 0, 30, 89, 183, 0, 32, 181, 0, 33]
abbrev dktX1_init_0 : List UInt8 := dkwX1_init_0 ++ dktX1_init_1
theorem dksX1_init_0 : cX1_init.data.toList.drop 0 = dktX1_init_0 := by decide +kernel
theorem dksX1_init_1 : cX1_init.data.toList.drop 24 = dktX1_init_1 := dk_seg dksX1_init_0 24 rfl rfl
theorem dksX1_init_2 : cX1_init.data.toList.drop 47 = dktX1_init_2 := dk_seg dksX1_init_1 23 rfl rfl
theorem dksX1_init_3 : cX1_init.data.toList.drop 71 = dktX1_init_3 := dk_seg dksX1_init_2 24 rfl rfl
theorem dksX1_init_4 : cX1_init.data.toList.drop 95 = dktX1_init_4 := dk_seg dksX1_init_3 24 rfl rfl
theorem dksX1_init_5 : cX1_init.data.toList.drop 119 = dktX1_init_5 := dk_seg dksX1_init_4 24 rfl rfl
theorem dksX1_init_6 : cX1_init.data.toList.drop 142 = dktX1_init_6 := dk_seg dksX1_init_5 23 rfl rfl
theorem dksX1_init_7 : cX1_init.data.toList.drop 166 = dktX1_init_7 := dk_seg dksX1_init_6 24 rfl rfl
theorem dX1_init_0 : decode cX1_init 0 = .ok (.aload_n 0, 1) := dk_42 (dk_at dksX1_init_0 0 rfl rfl)
theorem dX1_init_1 : decode cX1_init 1 = .ok (.invokespecial 23, 3) := dk_183 0 23 (dk_at dksX1_init_0 1 rfl rfl)
theorem dX1_init_4 : decode cX1_init 4 = .ok (.aload_n 0, 1) := dk_42 (dk_at dksX1_init_0 4 rfl rfl)
theorem dX1_init_5 : decode cX1_init 5 = .ok (.sipush 940, 3) := dk_17 3 172 (dk_at dksX1_init_0 5 rfl rfl)
theorem dX1_init_8 : decode cX1_init 8 = .ok (.newarray .byte, 2) := dk_188_8 (dk_at dksX1_init_0 8 rfl rfl)
theorem dX1_init_10 : decode cX1_init 10 = .ok (.putfield 26, 3) := dk_181 0 26 (dk_at dksX1_init_0 10 rfl rfl)
theorem dX1_init_13 : decode cX1_init 13 = .ok (.aload_n 0, 1) := dk_42 (dk_at dksX1_init_0 13 rfl rfl)
theorem dX1_init_14 : decode cX1_init 14 = .ok (.new 30, 3) := dk_187 0 30 (dk_at dksX1_init_0 14 rfl rfl)
theorem dX1_init_17 : decode cX1_init 17 = .ok (.dup, 1) := dk_89 (dk_at dksX1_init_0 17 rfl rfl)
theorem dX1_init_18 : decode cX1_init 18 = .ok (.invokespecial 32, 3) := dk_183 0 32 (dk_at dksX1_init_0 18 rfl rfl)
theorem dX1_init_21 : decode cX1_init 21 = .ok (.putfield 33, 3) := dk_181 0 33 (dk_at dksX1_init_0 21 rfl rfl)
theorem dX1_init_24 : decode cX1_init 24 = .ok (.aload_n 0, 1) := dk_42 (dk_at dksX1_init_1 0 rfl rfl)
theorem dX1_init_25 : decode cX1_init 25 = .ok (.new 8, 3) := dk_187 0 8 (dk_at dksX1_init_1 1 rfl rfl)
theorem dX1_init_28 : decode cX1_init 28 = .ok (.dup, 1) := dk_89 (dk_at dksX1_init_1 4 rfl rfl)
theorem dX1_init_29 : decode cX1_init 29 = .ok (.invokespecial 37, 3) := dk_183 0 37 (dk_at dksX1_init_1 5 rfl rfl)
theorem dX1_init_32 : decode cX1_init 32 = .ok (.aload_n 0, 1) := dk_42 (dk_at dksX1_init_1 8 rfl rfl)
theorem dX1_init_33 : decode cX1_init 33 = .ok (.getfield 33, 3) := dk_180 0 33 (dk_at dksX1_init_1 9 rfl rfl)
theorem dX1_init_36 : decode cX1_init 36 = .ok (.invokevirtual 38, 3) := dk_182 0 38 (dk_at dksX1_init_1 12 rfl rfl)
theorem dX1_init_39 : decode cX1_init 39 = .ok (.putfield 42, 3) := dk_181 0 42 (dk_at dksX1_init_1 15 rfl rfl)
theorem dX1_init_42 : decode cX1_init 42 = .ok (.aload_n 0, 1) := dk_42 (dk_at dksX1_init_1 18 rfl rfl)
theorem dX1_init_43 : decode cX1_init 43 = .ok (.new 8, 3) := dk_187 0 8 (dk_at dksX1_init_1 19 rfl rfl)
theorem dX1_init_46 : decode cX1_init 46 = .ok (.dup, 1) := dk_89 (dk_at dksX1_init_1 22 rfl rfl)
theorem dX1_init_47 : decode cX1_init 47 = .ok (.invokespecial 37, 3) := dk_183 0 37 (dk_at dksX1_init_2 0 rfl rfl)
theorem dX1_init_50 : decode cX1_init 50 = .ok (.aload_n 0, 1) := dk_42 (dk_at dksX1_init_2 3 rfl rfl)
theorem dX1_init_51 : decode cX1_init 51 = .ok (.getfield 33, 3) := dk_180 0 33 (dk_at dksX1_init_2 4 rfl rfl)
theorem dX1_init_54 : decode cX1_init 54 = .ok (.invokevirtual 38, 3) := dk_182 0 38 (dk_at dksX1_init_2 7 rfl rfl)
theorem dX1_init_57 : decode cX1_init 57 = .ok (.putfield 46, 3) := dk_181 0 46 (dk_at dksX1_init_2 10 rfl rfl)
theorem dX1_init_60 : decode cX1_init 60 = .ok (.aload_n 0, 1) := dk_42 (dk_at dksX1_init_2 13 rfl rfl)
theorem dX1_init_61 : decode cX1_init 61 = .ok (.bipush 8, 2) := dk_16 8 (dk_at dksX1_init_2 14 rfl rfl)
theorem dX1_init_63 : decode cX1_init 63 = .ok (.anewarray 8, 3) := dk_189 0 8 (dk_at dksX1_init_2 16 rfl rfl)
theorem dX1_init_66 : decode cX1_init 66 = .ok (.putfield 49, 3) := dk_181 0 49 (dk_at dksX1_init_2 19 rfl rfl)
theorem dX1_init_69 : decode cX1_init 69 = .ok (.aload_n 0, 1) := dk_42 (dk_at dksX1_init_2 22 rfl rfl)
theorem dX1_init_70 : decode cX1_init 70 = .ok (.iconst (-1), 1) := dk_2 (dk_at dksX1_init_2 23 rfl rfl)
theorem dX1_init_71 : decode cX1_init 71 = .ok (.putfield 53, 3) := dk_181 0 53 (dk_at dksX1_init_3 0 rfl rfl)
theorem dX1_init_74 : decode cX1_init 74 = .ok (.aload_n 0, 1) := dk_42 (dk_at dksX1_init_3 3 rfl rfl)
theorem dX1_init_75 : decode cX1_init 75 = .ok (.iconst (-1), 1) := dk_2 (dk_at dksX1_init_3 4 rfl rfl)
theorem dX1_init_76 : decode cX1_init 76 = .ok (.putfield 56, 3) := dk_181 0 56 (dk_at dksX1_init_3 5 rfl rfl)
theorem dX1_init_79 : decode cX1_init 79 = .ok (.aload_n 0, 1) := dk_42 (dk_at dksX1_init_3 8 rfl rfl)
theorem dX1_init_80 : decode cX1_init 80 = .ok (.iconst (-1), 1) := dk_2 (dk_at dksX1_init_3 9 rfl rfl)
theorem dX1_init_81 : decode cX1_init 81 = .ok (.putfield 59, 3) := dk_181 0 59 (dk_at dksX1_init_3 10 rfl rfl)
theorem dX1_init_84 : decode cX1_init 84 = .ok (.aload_n 0, 1) := dk_42 (dk_at dksX1_init_3 13 rfl rfl)
theorem dX1_init_85 : decode cX1_init 85 = .ok (.iconst (-1), 1) := dk_2 (dk_at dksX1_init_3 14 rfl rfl)
theorem dX1_init_86 : decode cX1_init 86 = .ok (.putfield 62, 3) := dk_181 0 62 (dk_at dksX1_init_3 15 rfl rfl)
theorem dX1_init_89 : decode cX1_init 89 = .ok (.aload_n 0, 1) := dk_42 (dk_at dksX1_init_3 18 rfl rfl)
theorem dX1_init_90 : decode cX1_init 90 = .ok (.iconst (-1), 1) := dk_2 (dk_at dksX1_init_3 19 rfl rfl)
theorem dX1_init_91 : decode cX1_init 91 = .ok (.putfield 65, 3) := dk_181 0 65 (dk_at dksX1_init_3 20 rfl rfl)
theorem dX1_init_94 : decode cX1_init 94 = .ok (.aload_n 0, 1) := dk_42 (dk_at dksX1_init_3 23 rfl rfl)
theorem dX1_init_95 : decode cX1_init 95 = .ok (.iconst 4, 1) := dk_7 (dk_at dksX1_init_4 0 rfl rfl)
theorem dX1_init_96 : decode cX1_init 96 = .ok (.newarray .int, 2) := dk_188_10 (dk_at dksX1_init_4 1 rfl rfl)
theorem dX1_init_98 : decode cX1_init 98 = .ok (.dup, 1) := dk_89 (dk_at dksX1_init_4 3 rfl rfl)
theorem dX1_init_99 : decode cX1_init 99 = .ok (.iconst 0, 1) := dk_3 (dk_at dksX1_init_4 4 rfl rfl)
theorem dX1_init_100 : decode cX1_init 100 = .ok (.iconst (-1), 1) := dk_2 (dk_at dksX1_init_4 5 rfl rfl)
theorem dX1_init_101 : decode cX1_init 101 = .ok (.iastore, 1) := dk_79 (dk_at dksX1_init_4 6 rfl rfl)
theorem dX1_init_102 : decode cX1_init 102 = .ok (.dup, 1) := dk_89 (dk_at dksX1_init_4 7 rfl rfl)
theorem dX1_init_103 : decode cX1_init 103 = .ok (.iconst 1, 1) := dk_4 (dk_at dksX1_init_4 8 rfl rfl)
theorem dX1_init_104 : decode cX1_init 104 = .ok (.iconst (-1), 1) := dk_2 (dk_at dksX1_init_4 9 rfl rfl)
theorem dX1_init_105 : decode cX1_init 105 = .ok (.iastore, 1) := dk_79 (dk_at dksX1_init_4 10 rfl rfl)
theorem dX1_init_106 : decode cX1_init 106 = .ok (.dup, 1) := dk_89 (dk_at dksX1_init_4 11 rfl rfl)
theorem dX1_init_107 : decode cX1_init 107 = .ok (.iconst 2, 1) := dk_5 (dk_at dksX1_init_4 12 rfl rfl)
theorem dX1_init_108 : decode cX1_init 108 = .ok (.iconst (-1), 1) := dk_2 (dk_at dksX1_init_4 13 rfl rfl)
theorem dX1_init_109 : decode cX1_init 109 = .ok (.iastore, 1) := dk_79 (dk_at dksX1_init_4 14 rfl rfl)
theorem dX1_init_110 : decode cX1_init 110 = .ok (.dup, 1) := dk_89 (dk_at dksX1_init_4 15 rfl rfl)
theorem dX1_init_111 : decode cX1_init 111 = .ok (.iconst 3, 1) := dk_6 (dk_at dksX1_init_4 16 rfl rfl)
theorem dX1_init_112 : decode cX1_init 112 = .ok (.iconst (-1), 1) := dk_2 (dk_at dksX1_init_4 17 rfl rfl)
theorem dX1_init_113 : decode cX1_init 113 = .ok (.iastore, 1) := dk_79 (dk_at dksX1_init_4 18 rfl rfl)
theorem dX1_init_114 : decode cX1_init 114 = .ok (.putfield 68, 3) := dk_181 0 68 (dk_at dksX1_init_4 19 rfl rfl)
theorem dX1_init_117 : decode cX1_init 117 = .ok (.aload_n 0, 1) := dk_42 (dk_at dksX1_init_4 22 rfl rfl)
theorem dX1_init_118 : decode cX1_init 118 = .ok (.iconst 2, 1) := dk_5 (dk_at dksX1_init_4 23 rfl rfl)
theorem dX1_init_119 : decode cX1_init 119 = .ok (.anewarray 71, 3) := dk_189 0 71 (dk_at dksX1_init_5 0 rfl rfl)
theorem dX1_init_122 : decode cX1_init 122 = .ok (.dup, 1) := dk_89 (dk_at dksX1_init_5 3 rfl rfl)
theorem dX1_init_123 : decode cX1_init 123 = .ok (.iconst 0, 1) := dk_3 (dk_at dksX1_init_5 4 rfl rfl)
theorem dX1_init_124 : decode cX1_init 124 = .ok (.new 71, 3) := dk_187 0 71 (dk_at dksX1_init_5 5 rfl rfl)
theorem dX1_init_127 : decode cX1_init 127 = .ok (.dup, 1) := dk_89 (dk_at dksX1_init_5 8 rfl rfl)
theorem dX1_init_128 : decode cX1_init 128 = .ok (.invokespecial 73, 3) := dk_183 0 73 (dk_at dksX1_init_5 9 rfl rfl)
theorem dX1_init_131 : decode cX1_init 131 = .ok (.aastore, 1) := dk_83 (dk_at dksX1_init_5 12 rfl rfl)
theorem dX1_init_132 : decode cX1_init 132 = .ok (.dup, 1) := dk_89 (dk_at dksX1_init_5 13 rfl rfl)
theorem dX1_init_133 : decode cX1_init 133 = .ok (.iconst 1, 1) := dk_4 (dk_at dksX1_init_5 14 rfl rfl)
theorem dX1_init_134 : decode cX1_init 134 = .ok (.new 71, 3) := dk_187 0 71 (dk_at dksX1_init_5 15 rfl rfl)
theorem dX1_init_137 : decode cX1_init 137 = .ok (.dup, 1) := dk_89 (dk_at dksX1_init_5 18 rfl rfl)
theorem dX1_init_138 : decode cX1_init 138 = .ok (.invokespecial 73, 3) := dk_183 0 73 (dk_at dksX1_init_5 19 rfl rfl)
theorem dX1_init_141 : decode cX1_init 141 = .ok (.aastore, 1) := dk_83 (dk_at dksX1_init_5 22 rfl rfl)
theorem dX1_init_142 : decode cX1_init 142 = .ok (.putfield 74, 3) := dk_181 0 74 (dk_at dksX1_init_6 0 rfl rfl)
theorem dX1_init_145 : decode cX1_init 145 = .ok (.iconst 0, 1) := dk_3 (dk_at dksX1_init_6 3 rfl rfl)
theorem dX1_init_146 : decode cX1_init 146 = .ok (.istore_n 1, 1) := dk_60 (dk_at dksX1_init_6 4 rfl rfl)
theorem dX1_init_147 : decode cX1_init 147 = .ok (.iload_n 1, 1) := dk_27 (dk_at dksX1_init_6 5 rfl rfl)
theorem dX1_init_148 : decode cX1_init 148 = .ok (.bipush 8, 2) := dk_16 8 (dk_at dksX1_init_6 6 rfl rfl)
theorem dX1_init_150 : decode cX1_init 150 = .ok (.if_icmp .ge 22, 3) := dk_162 0 22 (dk_at dksX1_init_6 8 rfl rfl)
theorem dX1_init_153 : decode cX1_init 153 = .ok (.aload_n 0, 1) := dk_42 (dk_at dksX1_init_6 11 rfl rfl)
theorem dX1_init_154 : decode cX1_init 154 = .ok (.getfield 49, 3) := dk_180 0 49 (dk_at dksX1_init_6 12 rfl rfl)
theorem dX1_init_157 : decode cX1_init 157 = .ok (.iload_n 1, 1) := dk_27 (dk_at dksX1_init_6 15 rfl rfl)
theorem dX1_init_158 : decode cX1_init 158 = .ok (.new 8, 3) := dk_187 0 8 (dk_at dksX1_init_6 16 rfl rfl)
theorem dX1_init_161 : decode cX1_init 161 = .ok (.dup, 1) := dk_89 (dk_at dksX1_init_6 19 rfl rfl)
theorem dX1_init_162 : decode cX1_init 162 = .ok (.invokespecial 37, 3) := dk_183 0 37 (dk_at dksX1_init_6 20 rfl rfl)
theorem dX1_init_165 : decode cX1_init 165 = .ok (.aastore, 1) := dk_83 (dk_at dksX1_init_6 23 rfl rfl)
theorem dX1_init_166 : decode cX1_init 166 = .ok (.iinc 1 1, 3) := dk_132 1 1 (dk_at dksX1_init_7 0 rfl rfl)
theorem dX1_init_169 : decode cX1_init 169 = .ok (.goto (-22), 3) := dk_167 255 234 (dk_at dksX1_init_7 3 rfl rfl)
theorem dX1_init_172 : decode cX1_init 172 = .ok (.return_, 1) := dk_177 (dk_at dksX1_init_7 6 rfl rfl)
theorem fp_X1_i_0_0 : cz_FP "HeldCoats" "<init>" [(0, 0)] := List.forall_mem_cons.mpr ⟨⟨RX1, TX1, 18, rfl, Or.inr ⟨rfl, rfl, rfl⟩⟩, fun _ h => absurd h List.not_mem_nil⟩
theorem fp_X1_i_0_3 : cz_FP "HeldCoats" "<init>" [(0, 3)] := List.forall_mem_cons.mpr ⟨⟨RX1, TX1, 18, rfl, Or.inl rfl⟩, fun _ h => absurd h List.not_mem_nil⟩
theorem fp_X1_i_0_4 : cz_FP "HeldCoats" "<init>" [(0, 4)] := List.forall_mem_cons.mpr ⟨⟨RX1, TX1, 18, rfl, Or.inr ⟨rfl, rfl, rfl⟩⟩, fun _ h => absurd h List.not_mem_nil⟩
theorem fp_X1_i_0_5 : cz_FP "HeldCoats" "<init>" [(0, 5)] := List.forall_mem_cons.mpr ⟨⟨RX1, TX1, 18, rfl, Or.inr ⟨rfl, rfl, rfl⟩⟩, fun _ h => absurd h List.not_mem_nil⟩
theorem fp_X1_i_0_7 : cz_FP "HeldCoats" "<init>" [(0, 7)] := List.forall_mem_cons.mpr ⟨⟨RX1, TX1, 18, rfl, Or.inr ⟨rfl, rfl, rfl⟩⟩, fun _ h => absurd h List.not_mem_nil⟩
theorem pd__LHeldCoats_Reign_ : parseFieldDescriptor "[LHeldCoats$Reign;" = some (.array (.object "HeldCoats$Reign")) := by decide +kernel
theorem fp_X1_i_0_9 : cz_FP "HeldCoats" "<init>" [(0, 9)] := List.forall_mem_cons.mpr ⟨⟨RX1, TX1, 18, rfl, Or.inl rfl⟩, fun _ h => absurd h List.not_mem_nil⟩
theorem fw_X1_56 : cz_FW "HeldCoats" 56 [(0, 10)] "I" := ⟨"HeldCoats", "turns", Or.inl q390, List.forall_mem_cons.mpr ⟨⟨RX1, TX1, 18, rfl, by decide, rfl, rfl, Or.inl rfl⟩, fun _ h => absurd h List.not_mem_nil⟩, by decide⟩
theorem fp_X1_i_0_10 : cz_FP "HeldCoats" "<init>" [(0, 10)] := List.forall_mem_cons.mpr ⟨⟨RX1, TX1, 18, rfl, Or.inl rfl⟩, fun _ h => absurd h List.not_mem_nil⟩
theorem fp_X1_i_0_13 : cz_FP "HeldCoats" "<init>" [(0, 13)] := List.forall_mem_cons.mpr ⟨⟨RX1, TX1, 18, rfl, Or.inl rfl⟩, fun _ h => absurd h List.not_mem_nil⟩
theorem fp_X1_i_0_14 : cz_FP "HeldCoats" "<init>" [(0, 14)] := List.forall_mem_cons.mpr ⟨⟨RX1, TX1, 18, rfl, Or.inl rfl⟩, fun _ h => absurd h List.not_mem_nil⟩
theorem fw_X1_65 : cz_FW "HeldCoats" 65 [(0, 15)] "I" := ⟨"HeldCoats", "price", Or.inl q395, List.forall_mem_cons.mpr ⟨⟨RX1, TX1, 18, rfl, by decide, rfl, rfl, Or.inl rfl⟩, fun _ h => absurd h List.not_mem_nil⟩, by decide⟩
theorem fp_X1_i_0_15 : cz_FP "HeldCoats" "<init>" [(0, 15)] := List.forall_mem_cons.mpr ⟨⟨RX1, TX1, 18, rfl, Or.inl rfl⟩, fun _ h => absurd h List.not_mem_nil⟩
theorem fp_X1_i_0_16 : cz_FP "HeldCoats" "<init>" [(0, 16)] := List.forall_mem_cons.mpr ⟨⟨RX1, TX1, 18, rfl, Or.inr ⟨rfl, rfl, rfl⟩⟩, fun _ h => absurd h List.not_mem_nil⟩
theorem nh_HeldCoats_Kept__init____V : cz_nh ⟨"HeldCoats$Kept", "<init>", "()V"⟩ 0 := ⟨by decide, by decide, by decide +kernel⟩
theorem fp_X1_i_0_17 : cz_FP "HeldCoats" "<init>" [(0, 17)] := List.forall_mem_cons.mpr ⟨⟨RX1, TX1, 18, rfl, Or.inr ⟨rfl, rfl, rfl⟩⟩, fun _ h => absurd h List.not_mem_nil⟩
theorem pd__LHeldCoats_Kept_ : parseFieldDescriptor "[LHeldCoats$Kept;" = some (.array (.object "HeldCoats$Kept")) := by decide +kernel
set_option maxHeartbeats 4000000 in
set_option maxRecDepth 100000 in
noncomputable def fn_X1_init_147 (l0 : Option Nat) (k0 : cz_H → cz_Z) : Nat → Int32 → cz_H → cz_Z
  | 0, _, _ => none
  | n + 1, l1, h => (if (8 : Int32) ≤ l1 then k0 h else cz_getR h l0 [(0, 7)] (fun r70 => cz_newo h 3 14 (fun r71 h72 => cz_nn' r71 (cz_cV (fn_X3_init r71 h72) (fun h75 => cz_aast h75 r70 l1 r71 (fun h76 => cz_leti (l1 + 1) (fun x77 => fn_X1_init_147 l0 k0 n x77 h76)))))))
set_option maxHeartbeats 4000000 in
set_option maxRecDepth 100000 in
theorem wk_X1_init_147 {K : cz_K} {D : cz_D} {h0 : cz_H} {oh : cz_O × cz_H} {l0 : Option Nat} {k0 : cz_H → cz_Z} (S : cz_S K D h0 cX1_init 2 "HeldCoats" ((Option.none : Option Jvm.ClassFile.FieldType)) "<init>" ([])) (hk0 : ∀ (h : cz_H), cz_T K D 7 h0 oh 2 (k0 h) h 172 [] []) : ∀ (n : Nat) (l1 : Int32) (h : cz_H), cz_T K D 7 h0 oh 2 (fn_X1_init_147 l0 k0 n l1 h) h 147 [(0, cz_r l0), (1, cz_i l1)] [] := by
  intro n
  induction n with
  | zero => intros; exact ct_none
  | succ n ih =>
    intro l1 h
    rw [fn_X1_init_147]
    refine ct_iload_n (k := 1) S dX1_init_147 rfl rfl ?_
    refine ct_bipush (v := 8) S dX1_init_148 kB_8 ?_
    refine ct_icmp_ge (tgt := 172) S dX1_init_150 (by decide) ?_ ?_
    · exact ct_sub [] rfl (hk0 h)
    · refine ct_aload_n (k := 0) S dX1_init_153 rfl rfl ?_
      refine ct_getR S fw_X1_49 dX1_init_154 (fun r70 => ?_)
      refine ct_iload_n (k := 1) S dX1_init_157 rfl rfl ?_
      refine ct_newo S (by decide) cz_cl3 q264 dX1_init_158 (fun r71 h72 => ?_)
      refine ct_dup S dX1_init_161 rfl ?_
      refine ct_nn (fun b73 hb74 => ?_)
      refine ct_cV (st := [cz_r r71, cz_i l1, cz_r r70]) (cg_init (av := []) S hb74 (fun _ e => mt_X3_init e) q268 (Or.inr ⟨_, q266⟩) rfl q267 q118 nh_HeldCoats_Reign__init____V (by decide) (by decide) (Nat.le_of_ble_eq_true rfl) rfl dX1_init_162) (fun h75 => ?_)
      refine ct_aast S dX1_init_165 (fun h76 => ?_)
      refine ct_iincL (j := 1) (L2 := fun x77 => [(1, cz_i x77), (0, cz_r l0)]) S dX1_init_166 rfl kI_1 (by decide) (fun _ => rfl) (fun x77 => ?_)
      refine ct_goto (tgt := 147) S dX1_init_169 (by decide) ?_
      exact ct_sub [1, 0] rfl (ih x77 h76)
set_option maxHeartbeats 4000000 in
set_option maxRecDepth 100000 in
noncomputable def fn_X1_init (l0 : Option Nat) (h : cz_H) : cz_Z := cz_nn' l0 (cz_newi h 1 940 (fun r1 h2 => cz_put h2 l0 [(0, 0)] (cz_r r1) (fun h3 => cz_newo h3 1 11 (fun r4 h5 => cz_nn' r4 (cz_cV (fn_X2_init r4 h5) (fun h8 => cz_put h8 l0 [(0, 3)] (cz_r r4) (fun h9 => cz_newo h9 3 14 (fun r10 h11 => cz_nn' r10 (cz_cV (fn_X3_init r10 h11) (fun h14 => cz_getR h14 l0 [(0, 3)] (fun r15 => cz_rc h14 r10 [3] (cz_cR (fn_X3_begin r10 r15 h14) (fun r23 h22 => cz_put h22 l0 [(0, 4)] (cz_r r23) (fun h24 => cz_newo h24 3 14 (fun r25 h26 => cz_nn' r25 (cz_cV (fn_X3_init r25 h26) (fun h29 => cz_getR h29 l0 [(0, 3)] (fun r30 => cz_rc h29 r25 [3] (cz_cR (fn_X3_begin r25 r30 h29) (fun r38 h37 => cz_put h37 l0 [(0, 5)] (cz_r r38) (fun h39 => cz_newa h39 5 8 (fun r40 h41 => cz_put h41 l0 [(0, 7)] (cz_r r40) (fun h42 => cz_put h42 l0 [(0, 9)] (cz_i (-1)) (fun h43 => cz_put h43 l0 [(0, 10)] (cz_i (-1)) (fun h44 => cz_put h44 l0 [(0, 13)] (cz_i (-1)) (fun h45 => cz_put h45 l0 [(0, 14)] (cz_i (-1)) (fun h46 => cz_put h46 l0 [(0, 15)] (cz_i (-1)) (fun h47 => cz_newi h47 0 4 (fun r48 h49 => cz_iast h49 r48 0 (-1) (fun h50 => cz_iast h50 r48 1 (-1) (fun h51 => cz_iast h51 r48 2 (-1) (fun h52 => cz_iast h52 r48 3 (-1) (fun h53 => cz_put h53 l0 [(0, 16)] (cz_r r48) (fun h54 => cz_newa h54 6 2 (fun r55 h56 => cz_newo h56 4 3 (fun r57 h58 => cz_nn' r57 (cz_cV (fn_X4_init r57 h58) (fun h61 => cz_aast h61 r55 0 r57 (fun h62 => cz_newo h62 4 3 (fun r63 h64 => cz_nn' r63 (cz_cV (fn_X4_init r63 h64) (fun h67 => cz_aast h67 r55 1 r63 (fun h68 => cz_put h68 l0 [(0, 17)] (cz_r r55) (fun h69 => fn_X1_init_147 l0 (fun (h78 : cz_H) => some (.inl none, h78)) 1000 0 h69))))))))))))))))))))))))))))))))))))))))))))
set_option maxHeartbeats 4000000 in
set_option maxRecDepth 100000 in
theorem wk_X1_init {K : cz_K} {D : cz_D} {h0 : cz_H} {oh : cz_O × cz_H} {l0 : Option Nat} {h : cz_H} (S : cz_S K D h0 cX1_init 2 "HeldCoats" ((Option.none : Option Jvm.ClassFile.FieldType)) "<init>" ([])) : cz_T K D 7 h0 oh 2 (fn_X1_init l0 h) h 0 [(0, cz_r l0)] [] := by
  unfold fn_X1_init
  refine ct_aload_n (k := 0) S dX1_init_0 rfl rfl ?_
  refine ct_oinit S q164 q165 q166 (by decide) (Nat.le_of_ble_eq_true rfl) dX1_init_1 ?_
  refine ct_aload_n (k := 0) S dX1_init_4 rfl rfl ?_
  refine ct_sipush (v := 940) S dX1_init_5 kS_940 ?_
  refine ct_newi_byte S dX1_init_8 (fun r1 h2 => ?_)
  refine ct_put S fw_X1_26 fp_X1_i_0_0 (cz_fits_a pd__B) dX1_init_10 (fun h3 => ?_)
  refine ct_aload_n (k := 0) S dX1_init_13 rfl rfl ?_
  refine ct_newo S (by decide) cz_cl1 q167 dX1_init_14 (fun r4 h5 => ?_)
  refine ct_dup S dX1_init_17 rfl ?_
  refine ct_nn (fun b6 hb7 => ?_)
  refine ct_cV (st := [cz_r r4, cz_r l0]) (cg_init (av := []) S hb7 (fun _ e => mt_X2_init e) q171 (Or.inr ⟨_, q169⟩) rfl q170 q114 nh_HeldCoats_Capital__init____V (by decide) (by decide) (Nat.le_of_ble_eq_true rfl) rfl dX1_init_18) (fun h8 => ?_)
  refine ct_put S fw_X1_33 fp_X1_i_0_3 (cz_fits_r pd_LHeldCoats_Capital_) dX1_init_21 (fun h9 => ?_)
  refine ct_aload_n (k := 0) S dX1_init_24 rfl rfl ?_
  refine ct_newo S (by decide) cz_cl3 q264 dX1_init_25 (fun r10 h11 => ?_)
  refine ct_dup S dX1_init_28 rfl ?_
  refine ct_nn (fun b12 hb13 => ?_)
  refine ct_cV (st := [cz_r r10, cz_r l0]) (cg_init (av := []) S hb13 (fun _ e => mt_X3_init e) q268 (Or.inr ⟨_, q266⟩) rfl q267 q118 nh_HeldCoats_Reign__init____V (by decide) (by decide) (Nat.le_of_ble_eq_true rfl) rfl dX1_init_29) (fun h14 => ?_)
  refine ct_aload_n (k := 0) S dX1_init_32 rfl rfl ?_
  refine ct_getR S fw_X1_33 dX1_init_33 (fun r15 => ?_)
  refine ct_rc (fun b16 ci17 V18 hb19 hc20 hi21 => ?_)
  refine ct_cR (st := [cz_r l0]) (cg_virtual (av := [cz_r r15]) S hb19 hc20 hi21 (fun _ e => mt_X3_begin e) md_X3_begin q329 q330 se_HeldCoats_Reign_begin__LHeldCoats_Capital__LHeldCoats_Reign__HeldCoats_Reign (by decide) (Nat.le_of_ble_eq_true rfl) rfl dX1_init_36) (fun r23 h22 => ?_)
  refine ct_put S fw_X1_42 fp_X1_i_0_4 (cz_fits_r pd_LHeldCoats_Reign_) dX1_init_39 (fun h24 => ?_)
  refine ct_aload_n (k := 0) S dX1_init_42 rfl rfl ?_
  refine ct_newo S (by decide) cz_cl3 q264 dX1_init_43 (fun r25 h26 => ?_)
  refine ct_dup S dX1_init_46 rfl ?_
  refine ct_nn (fun b27 hb28 => ?_)
  refine ct_cV (st := [cz_r r25, cz_r l0]) (cg_init (av := []) S hb28 (fun _ e => mt_X3_init e) q268 (Or.inr ⟨_, q266⟩) rfl q267 q118 nh_HeldCoats_Reign__init____V (by decide) (by decide) (Nat.le_of_ble_eq_true rfl) rfl dX1_init_47) (fun h29 => ?_)
  refine ct_aload_n (k := 0) S dX1_init_50 rfl rfl ?_
  refine ct_getR S fw_X1_33 dX1_init_51 (fun r30 => ?_)
  refine ct_rc (fun b31 ci32 V33 hb34 hc35 hi36 => ?_)
  refine ct_cR (st := [cz_r l0]) (cg_virtual (av := [cz_r r30]) S hb34 hc35 hi36 (fun _ e => mt_X3_begin e) md_X3_begin q329 q330 se_HeldCoats_Reign_begin__LHeldCoats_Capital__LHeldCoats_Reign__HeldCoats_Reign (by decide) (Nat.le_of_ble_eq_true rfl) rfl dX1_init_54) (fun r38 h37 => ?_)
  refine ct_put S fw_X1_46 fp_X1_i_0_5 (cz_fits_r pd_LHeldCoats_Reign_) dX1_init_57 (fun h39 => ?_)
  refine ct_aload_n (k := 0) S dX1_init_60 rfl rfl ?_
  refine ct_bipush (v := 8) S dX1_init_61 kB_8 ?_
  refine ct_newa5 S q264 dX1_init_63 (fun r40 h41 => ?_)
  refine ct_put S fw_X1_49 fp_X1_i_0_7 (cz_fits_a pd__LHeldCoats_Reign_) dX1_init_66 (fun h42 => ?_)
  refine ct_aload_n (k := 0) S dX1_init_69 rfl rfl ?_
  refine ct_iconst (v := (-1)) S dX1_init_70 kI_m1 ?_
  refine ct_put S fw_X1_53 fp_X1_i_0_9 (cz_fits_i pd_I) dX1_init_71 (fun h43 => ?_)
  refine ct_aload_n (k := 0) S dX1_init_74 rfl rfl ?_
  refine ct_iconst (v := (-1)) S dX1_init_75 kI_m1 ?_
  refine ct_put S fw_X1_56 fp_X1_i_0_10 (cz_fits_i pd_I) dX1_init_76 (fun h44 => ?_)
  refine ct_aload_n (k := 0) S dX1_init_79 rfl rfl ?_
  refine ct_iconst (v := (-1)) S dX1_init_80 kI_m1 ?_
  refine ct_put S fw_X1_59 fp_X1_i_0_13 (cz_fits_i pd_I) dX1_init_81 (fun h45 => ?_)
  refine ct_aload_n (k := 0) S dX1_init_84 rfl rfl ?_
  refine ct_iconst (v := (-1)) S dX1_init_85 kI_m1 ?_
  refine ct_put S fw_X1_62 fp_X1_i_0_14 (cz_fits_i pd_I) dX1_init_86 (fun h46 => ?_)
  refine ct_aload_n (k := 0) S dX1_init_89 rfl rfl ?_
  refine ct_iconst (v := (-1)) S dX1_init_90 kI_m1 ?_
  refine ct_put S fw_X1_65 fp_X1_i_0_15 (cz_fits_i pd_I) dX1_init_91 (fun h47 => ?_)
  refine ct_aload_n (k := 0) S dX1_init_94 rfl rfl ?_
  refine ct_iconst (v := 4) S dX1_init_95 kI_4 ?_
  refine ct_newi_int S dX1_init_96 (fun r48 h49 => ?_)
  refine ct_dup S dX1_init_98 rfl ?_
  refine ct_iconst (v := 0) S dX1_init_99 kI_0 ?_
  refine ct_iconst (v := (-1)) S dX1_init_100 kI_m1 ?_
  refine ct_iast S dX1_init_101 (fun h50 => ?_)
  refine ct_dup S dX1_init_102 rfl ?_
  refine ct_iconst (v := 1) S dX1_init_103 kI_1 ?_
  refine ct_iconst (v := (-1)) S dX1_init_104 kI_m1 ?_
  refine ct_iast S dX1_init_105 (fun h51 => ?_)
  refine ct_dup S dX1_init_106 rfl ?_
  refine ct_iconst (v := 2) S dX1_init_107 kI_2 ?_
  refine ct_iconst (v := (-1)) S dX1_init_108 kI_m1 ?_
  refine ct_iast S dX1_init_109 (fun h52 => ?_)
  refine ct_dup S dX1_init_110 rfl ?_
  refine ct_iconst (v := 3) S dX1_init_111 kI_3 ?_
  refine ct_iconst (v := (-1)) S dX1_init_112 kI_m1 ?_
  refine ct_iast S dX1_init_113 (fun h53 => ?_)
  refine ct_put S fw_X1_68 fp_X1_i_0_16 (cz_fits_a pd__I) dX1_init_114 (fun h54 => ?_)
  refine ct_aload_n (k := 0) S dX1_init_117 rfl rfl ?_
  refine ct_iconst (v := 2) S dX1_init_118 kI_2 ?_
  refine ct_newa6 S q360 dX1_init_119 (fun r55 h56 => ?_)
  refine ct_dup S dX1_init_122 rfl ?_
  refine ct_iconst (v := 0) S dX1_init_123 kI_0 ?_
  refine ct_newo S (by decide) cz_cl4 q360 dX1_init_124 (fun r57 h58 => ?_)
  refine ct_dup S dX1_init_127 rfl ?_
  refine ct_nn (fun b59 hb60 => ?_)
  refine ct_cV (st := [cz_r r57, cz_i 0, cz_r r55, cz_r r55, cz_r l0]) (cg_init (av := []) S hb60 (fun _ e => mt_X4_init e) q365 (Or.inr ⟨_, q363⟩) rfl q364 q122 nh_HeldCoats_Kept__init____V (by decide) (by decide) (Nat.le_of_ble_eq_true rfl) rfl dX1_init_128) (fun h61 => ?_)
  refine ct_aast S dX1_init_131 (fun h62 => ?_)
  refine ct_dup S dX1_init_132 rfl ?_
  refine ct_iconst (v := 1) S dX1_init_133 kI_1 ?_
  refine ct_newo S (by decide) cz_cl4 q360 dX1_init_134 (fun r63 h64 => ?_)
  refine ct_dup S dX1_init_137 rfl ?_
  refine ct_nn (fun b65 hb66 => ?_)
  refine ct_cV (st := [cz_r r63, cz_i 1, cz_r r55, cz_r r55, cz_r l0]) (cg_init (av := []) S hb66 (fun _ e => mt_X4_init e) q365 (Or.inr ⟨_, q363⟩) rfl q364 q122 nh_HeldCoats_Kept__init____V (by decide) (by decide) (Nat.le_of_ble_eq_true rfl) rfl dX1_init_138) (fun h67 => ?_)
  refine ct_aast S dX1_init_141 (fun h68 => ?_)
  refine ct_put S fw_X1_74 fp_X1_i_0_17 (cz_fits_a pd__LHeldCoats_Kept_) dX1_init_142 (fun h69 => ?_)
  refine ct_iconst (v := 0) S dX1_init_145 kI_0 ?_
  refine ct_istore_n (L' := [(1, cz_i 0), (0, cz_r l0)]) S dX1_init_146 rfl (by decide) rfl ?_
  refine ct_sub [1, 0] (L' := [(0, cz_r l0), (1, cz_i 0)]) rfl (wk_X1_init_147 S ?_ 1000 0 h69)
  · intro h78
    exact ct_vret S rfl dX1_init_172
theorem mt_X1_init {l : Launch} {D : cz_D} {l0 : Option Nat} {h : cz_H} {oh : cz_O × cz_H} (hz : fn_X1_init l0 h = some oh) : cz_M l D yX1_init (ws_ yX1_init cX1_init 2 ((Option.none : Option Jvm.ClassFile.FieldType))) 7 [cz_r l0] h oh := cz_met (plainFor_of_name (by decide)) (Nat.le_of_ble_eq_true rfl) hz (fun K hl S => wk_X1_init S)
/-! HeldCoats.does(LHeldCoats$Act;)I -/
def dkwX1_does_1 : List UInt8 := [172, 42, 182, 0, 242, 42, 180, 0, 42, 42, 180, 0, 46, 182, 0, 232, 87, 3, 172]
abbrev dktX1_does_1 : List UInt8 := dkwX1_does_1 ++ []
def dkwX1_does_0 : List UInt8 := [43, 42, 180, 0, 46, 42, 180, 0, 42, 182, 0, 232, 182, 0, 236, 61, 28, 153, 0, 8, 28, 16, 10, 112]
abbrev dktX1_does_0 : List UInt8 := dkwX1_does_0 ++ dktX1_does_1
theorem dksX1_does_0 : cX1_does.data.toList.drop 0 = dktX1_does_0 := by decide +kernel
theorem dksX1_does_1 : cX1_does.data.toList.drop 24 = dktX1_does_1 := dk_seg dksX1_does_0 24 rfl rfl
theorem dX1_does_0 : decode cX1_does 0 = .ok (.aload_n 1, 1) := dk_43 (dk_at dksX1_does_0 0 rfl rfl)
theorem dX1_does_1 : decode cX1_does 1 = .ok (.aload_n 0, 1) := dk_42 (dk_at dksX1_does_0 1 rfl rfl)
theorem dX1_does_2 : decode cX1_does 2 = .ok (.getfield 46, 3) := dk_180 0 46 (dk_at dksX1_does_0 2 rfl rfl)
theorem dX1_does_5 : decode cX1_does 5 = .ok (.aload_n 0, 1) := dk_42 (dk_at dksX1_does_0 5 rfl rfl)
theorem dX1_does_6 : decode cX1_does 6 = .ok (.getfield 42, 3) := dk_180 0 42 (dk_at dksX1_does_0 6 rfl rfl)
theorem dX1_does_9 : decode cX1_does 9 = .ok (.invokevirtual 232, 3) := dk_182 0 232 (dk_at dksX1_does_0 9 rfl rfl)
theorem dX1_does_12 : decode cX1_does 12 = .ok (.invokevirtual 236, 3) := dk_182 0 236 (dk_at dksX1_does_0 12 rfl rfl)
theorem dX1_does_15 : decode cX1_does 15 = .ok (.istore_n 2, 1) := dk_61 (dk_at dksX1_does_0 15 rfl rfl)
theorem dX1_does_16 : decode cX1_does 16 = .ok (.iload_n 2, 1) := dk_28 (dk_at dksX1_does_0 16 rfl rfl)
theorem dX1_does_17 : decode cX1_does 17 = .ok (.ifCond .eq 8, 3) := dk_153 0 8 (dk_at dksX1_does_0 17 rfl rfl)
theorem dX1_does_20 : decode cX1_does 20 = .ok (.iload_n 2, 1) := dk_28 (dk_at dksX1_does_0 20 rfl rfl)
theorem dX1_does_21 : decode cX1_does 21 = .ok (.bipush 10, 2) := dk_16 10 (dk_at dksX1_does_0 21 rfl rfl)
theorem dX1_does_23 : decode cX1_does 23 = .ok (.irem, 1) := dk_112 (dk_at dksX1_does_0 23 rfl rfl)
theorem dX1_does_24 : decode cX1_does 24 = .ok (.ireturn, 1) := dk_172 (dk_at dksX1_does_1 0 rfl rfl)
theorem dX1_does_25 : decode cX1_does 25 = .ok (.aload_n 0, 1) := dk_42 (dk_at dksX1_does_1 1 rfl rfl)
theorem dX1_does_26 : decode cX1_does 26 = .ok (.invokevirtual 242, 3) := dk_182 0 242 (dk_at dksX1_does_1 2 rfl rfl)
theorem dX1_does_29 : decode cX1_does 29 = .ok (.aload_n 0, 1) := dk_42 (dk_at dksX1_does_1 5 rfl rfl)
theorem dX1_does_30 : decode cX1_does 30 = .ok (.getfield 42, 3) := dk_180 0 42 (dk_at dksX1_does_1 6 rfl rfl)
theorem dX1_does_33 : decode cX1_does 33 = .ok (.aload_n 0, 1) := dk_42 (dk_at dksX1_does_1 9 rfl rfl)
theorem dX1_does_34 : decode cX1_does 34 = .ok (.getfield 46, 3) := dk_180 0 46 (dk_at dksX1_does_1 10 rfl rfl)
theorem dX1_does_37 : decode cX1_does 37 = .ok (.invokevirtual 232, 3) := dk_182 0 232 (dk_at dksX1_does_1 13 rfl rfl)
theorem dX1_does_40 : decode cX1_does 40 = .ok (.pop, 1) := dk_87 (dk_at dksX1_does_1 16 rfl rfl)
theorem dX1_does_41 : decode cX1_does 41 = .ok (.iconst 0, 1) := dk_3 (dk_at dksX1_does_1 17 rfl rfl)
theorem dX1_does_42 : decode cX1_does 42 = .ok (.ireturn, 1) := dk_172 (dk_at dksX1_does_1 18 rfl rfl)
set_option maxHeartbeats 4000000 in
set_option maxRecDepth 100000 in
noncomputable def fn_X1_does (l0 : Option Nat) (l1 : Option Nat) (h : cz_H) : cz_Z := cz_getR h l0 [(0, 5)] (fun r1 => cz_getR h l0 [(0, 4)] (fun r2 => cz_rc h r1 [3] (cz_cR (fn_X3_as r1 r2 h) (fun r10 h9 => cz_cI (fn_disp_does l1 r10 h9) (fun x18 h17 => (if x18 = 0 then cz_rc h17 l0 [0] (cz_cV (fn_X1_snap l0 h17) (fun h25 => cz_getR h25 l0 [(0, 4)] (fun r26 => cz_getR h25 l0 [(0, 5)] (fun r27 => cz_rc h25 r26 [3] (cz_cR (fn_X3_as r26 r27 h25) (fun r35 h34 => some (.inl (some (cz_i 0)), h34))))))) else if (10 : Int32) = 0 then none else some (.inl (some (cz_i (x18 - x18 / 10 * 10))), h17)))))))
set_option maxHeartbeats 4000000 in
set_option maxRecDepth 100000 in
theorem wk_X1_does {K : cz_K} {D : cz_D} {h0 : cz_H} {oh : cz_O × cz_H} {l0 : Option Nat} {l1 : Option Nat} {h : cz_H} (S : cz_S K D h0 cX1_does 3 "HeldCoats" ((Option.some Jvm.ClassFile.FieldType.int)) "does" ([])) : cz_T K D 12 h0 oh 3 (fn_X1_does l0 l1 h) h 0 [(0, cz_r l0), (1, cz_r l1)] [] := by
  unfold fn_X1_does
  refine ct_aload_n (k := 1) S dX1_does_0 rfl rfl ?_
  refine ct_aload_n (k := 0) S dX1_does_1 rfl rfl ?_
  refine ct_getR S fw_X1_46 dX1_does_2 (fun r1 => ?_)
  refine ct_aload_n (k := 0) S dX1_does_5 rfl rfl ?_
  refine ct_getR S fw_X1_42 dX1_does_6 (fun r2 => ?_)
  refine ct_rc (fun b3 ci4 V5 hb6 hc7 hi8 => ?_)
  refine ct_cR (st := [cz_r l1]) (cg_virtual (av := [cz_r r2]) S hb6 hc7 hi8 (fun _ e => mt_X3_as e) md_X3_as q1190 q1191 se_HeldCoats_Reign_as__LHeldCoats_Reign__LHeldCoats_Reign__HeldCoats_Reign (by decide) (Nat.le_of_ble_eq_true rfl) rfl dX1_does_9) (fun r10 h9 => ?_)
  refine ct_cI (st := []) (cg_disp (owner := "HeldCoats$Act") (av := [cz_r r10]) S (fun _ e => mt_disp_does e) q1198 q1200 q1199 ⟨by decide, by decide⟩ nh_HeldCoats_Act_does__LHeldCoats_Reign__I (by decide) (Nat.le_of_ble_eq_true rfl) rfl dX1_does_12) (fun x18 h17 => ?_)
  refine ct_istore_n (L' := [(2, cz_i x18), (0, cz_r l0), (1, cz_r l1)]) S dX1_does_15 rfl (by decide) rfl ?_
  refine ct_iload_n (k := 0) S dX1_does_16 rfl rfl ?_
  refine ct_if_eq (tgt := 25) S dX1_does_17 (by decide) ?_ ?_
  · refine ct_aload_n (k := 1) S dX1_does_25 rfl rfl ?_
    refine ct_rc (fun b19 ci20 V21 hb22 hc23 hi24 => ?_)
    refine ct_cV (st := []) (cg_virtual (av := []) S hb22 hc23 hi24 (fun _ e => mt_X1_snap e) md_X1_snap q1301 q1303 se_HeldCoats_snap___V_HeldCoats (by decide) (Nat.le_of_ble_eq_true rfl) rfl dX1_does_26) (fun h25 => ?_)
    refine ct_aload_n (k := 1) S dX1_does_29 rfl rfl ?_
    refine ct_getR S fw_X1_42 dX1_does_30 (fun r26 => ?_)
    refine ct_aload_n (k := 1) S dX1_does_33 rfl rfl ?_
    refine ct_getR S fw_X1_46 dX1_does_34 (fun r27 => ?_)
    refine ct_rc (fun b28 ci29 V30 hb31 hc32 hi33 => ?_)
    refine ct_cR (st := []) (cg_virtual (av := [cz_r r27]) S hb31 hc32 hi33 (fun _ e => mt_X3_as e) md_X3_as q1190 q1191 se_HeldCoats_Reign_as__LHeldCoats_Reign__LHeldCoats_Reign__HeldCoats_Reign (by decide) (Nat.le_of_ble_eq_true rfl) rfl dX1_does_37) (fun r35 h34 => ?_)
    refine ct_pop S dX1_does_40 rfl ?_
    refine ct_iconst (v := 0) S dX1_does_41 kI_0 ?_
    exact ct_iret S rfl dX1_does_42
  · refine ct_iload_n (k := 0) S dX1_does_20 rfl rfl ?_
    refine ct_bipush (v := 10) S dX1_does_21 kB_10 ?_
    refine ct_irem S dX1_does_23 ?_
    exact ct_iret S rfl dX1_does_24
theorem mt_X1_does {l : Launch} {D : cz_D} {l0 : Option Nat} {l1 : Option Nat} {h : cz_H} {oh : cz_O × cz_H} (hz : fn_X1_does l0 l1 h = some oh) : cz_M l D yX1_does (ws_ yX1_does cX1_does 3 ((Option.some Jvm.ClassFile.FieldType.int))) 12 [cz_r l0, cz_r l1] h oh := cz_met (plainFor_of_name (by decide)) (Nat.le_of_ble_eq_true rfl) hz (fun K hl S => wk_X1_does S)
/-! HeldCoats.keep(I)I -/
def dkwX1_keep_1 : List UInt8 := [172]
abbrev dktX1_keep_1 : List UInt8 := dkwX1_keep_1 ++ []
def dkwX1_keep_0 : List UInt8 := [42, 27, 182, 0, 195, 153, 0, 18, 42, 187, 1, 3, 89, 27, 183, 1, 5, 182, 0, 250, 167, 0, 4, 2]
abbrev dktX1_keep_0 : List UInt8 := dkwX1_keep_0 ++ dktX1_keep_1
theorem dksX1_keep_0 : cX1_keep.data.toList.drop 0 = dktX1_keep_0 := by decide +kernel
theorem dksX1_keep_1 : cX1_keep.data.toList.drop 24 = dktX1_keep_1 := dk_seg dksX1_keep_0 24 rfl rfl
theorem dX1_keep_0 : decode cX1_keep 0 = .ok (.aload_n 0, 1) := dk_42 (dk_at dksX1_keep_0 0 rfl rfl)
theorem dX1_keep_1 : decode cX1_keep 1 = .ok (.iload_n 1, 1) := dk_27 (dk_at dksX1_keep_0 1 rfl rfl)
theorem dX1_keep_2 : decode cX1_keep 2 = .ok (.invokevirtual 195, 3) := dk_182 0 195 (dk_at dksX1_keep_0 2 rfl rfl)
theorem dX1_keep_5 : decode cX1_keep 5 = .ok (.ifCond .eq 18, 3) := dk_153 0 18 (dk_at dksX1_keep_0 5 rfl rfl)
theorem dX1_keep_8 : decode cX1_keep 8 = .ok (.aload_n 0, 1) := dk_42 (dk_at dksX1_keep_0 8 rfl rfl)
theorem dX1_keep_9 : decode cX1_keep 9 = .ok (.new 259, 3) := dk_187 1 3 (dk_at dksX1_keep_0 9 rfl rfl)
theorem dX1_keep_12 : decode cX1_keep 12 = .ok (.dup, 1) := dk_89 (dk_at dksX1_keep_0 12 rfl rfl)
theorem dX1_keep_13 : decode cX1_keep 13 = .ok (.iload_n 1, 1) := dk_27 (dk_at dksX1_keep_0 13 rfl rfl)
theorem dX1_keep_14 : decode cX1_keep 14 = .ok (.invokespecial 261, 3) := dk_183 1 5 (dk_at dksX1_keep_0 14 rfl rfl)
theorem dX1_keep_17 : decode cX1_keep 17 = .ok (.invokevirtual 250, 3) := dk_182 0 250 (dk_at dksX1_keep_0 17 rfl rfl)
theorem dX1_keep_20 : decode cX1_keep 20 = .ok (.goto 4, 3) := dk_167 0 4 (dk_at dksX1_keep_0 20 rfl rfl)
theorem dX1_keep_23 : decode cX1_keep 23 = .ok (.iconst (-1), 1) := dk_2 (dk_at dksX1_keep_0 23 rfl rfl)
theorem dX1_keep_24 : decode cX1_keep 24 = .ok (.ireturn, 1) := dk_172 (dk_at dksX1_keep_1 0 rfl rfl)
theorem se_HeldCoats_does__LHeldCoats_Act__I_HeldCoats : ∀ c ∈ ([0] : List Nat), ∃ q : vw_C, cz_cl[c]? = some q ∧ Cond.selects q.1 (⟨"HeldCoats", "does", "(LHeldCoats$Act;)I"⟩ : MethodName) (⟨"HeldCoats", "does", "(LHeldCoats$Act;)I"⟩ : MethodName) ∈ lw_all := List.forall_mem_cons.mpr ⟨⟨_, cz_cl0, qs16⟩, fun _ h => absurd h List.not_mem_nil⟩
theorem md_X1_does : cz_md yX1_does 3 (ws_ yX1_does cX1_does 3 ((Option.some Jvm.ClassFile.FieldType.int))) 1 := ⟨cz_ws_code q1189, q113, ⟨by decide, by decide, by decide +kernel⟩, by decide⟩
set_option maxHeartbeats 4000000 in
set_option maxRecDepth 100000 in
noncomputable def fn_X1_keep (l0 : Option Nat) (l1 : Int32) (h : cz_H) : cz_Z := cz_rc h l0 [0] (cz_cI (fn_X1_isCoat l0 l1 h) (fun x8 h7 => (if x8 = 0 then some (.inl (some (cz_i (-1))), h7) else cz_newo h7 15 1 (fun r9 h10 => cz_nn' r9 (cz_cV (fn_X17_init r9 l1 h10) (fun h13 => cz_rc h13 l0 [0] (cz_cI (fn_X1_does l0 r9 h13) (fun x21 h20 => some (.inl (some (cz_i x21)), h20)))))))))
set_option maxHeartbeats 4000000 in
set_option maxRecDepth 100000 in
theorem wk_X1_keep {K : cz_K} {D : cz_D} {h0 : cz_H} {oh : cz_O × cz_H} {l0 : Option Nat} {l1 : Int32} {h : cz_H} (S : cz_S K D h0 cX1_keep 2 "HeldCoats" ((Option.some Jvm.ClassFile.FieldType.int)) "keep" ([])) : cz_T K D 13 h0 oh 2 (fn_X1_keep l0 l1 h) h 0 [(0, cz_r l0), (1, cz_i l1)] [] := by
  unfold fn_X1_keep
  refine ct_aload_n (k := 0) S dX1_keep_0 rfl rfl ?_
  refine ct_iload_n (k := 1) S dX1_keep_1 rfl rfl ?_
  refine ct_rc (fun b1 ci2 V3 hb4 hc5 hi6 => ?_)
  refine ct_cI (st := []) (cg_virtual (av := [cz_i l1]) S hb4 hc5 hi6 (fun _ e => mt_X1_isCoat e) md_X1_isCoat q1142 q1144 se_HeldCoats_isCoat__I_Z_HeldCoats (by decide) (Nat.le_of_ble_eq_true rfl) rfl dX1_keep_2) (fun x8 h7 => ?_)
  refine ct_if_eq (tgt := 23) S dX1_keep_5 (by decide) ?_ ?_
  · refine ct_iconst (v := (-1)) S dX1_keep_23 kI_m1 ?_
    exact ct_iret S rfl dX1_keep_24
  · refine ct_aload_n (k := 0) S dX1_keep_8 rfl rfl ?_
    refine ct_newo S (by decide) cz_cl15 q1343 dX1_keep_9 (fun r9 h10 => ?_)
    refine ct_dup S dX1_keep_12 rfl ?_
    refine ct_iload_n (k := 1) S dX1_keep_13 rfl rfl ?_
    refine ct_nn (fun b11 hb12 => ?_)
    refine ct_cV (st := [cz_r r9, cz_r l0]) (cg_init (av := [cz_i l1]) S hb12 (fun _ e => mt_X17_init e) q1347 (Or.inl q1345) rfl q1346 q147 nh_HeldCoats_Stored__init___I_V (by decide) (by decide) (Nat.le_of_ble_eq_true rfl) rfl dX1_keep_14) (fun h13 => ?_)
    refine ct_rc (fun b14 ci15 V16 hb17 hc18 hi19 => ?_)
    refine ct_cI (st := []) (cg_virtual (av := [cz_r r9]) S hb17 hc18 hi19 (fun _ e => mt_X1_does e) md_X1_does q1186 q1188 se_HeldCoats_does__LHeldCoats_Act__I_HeldCoats (by decide) (Nat.le_of_ble_eq_true rfl) rfl dX1_keep_17) (fun x21 h20 => ?_)
    refine ct_goto (tgt := 24) S dX1_keep_20 (by decide) ?_
    exact ct_iret S rfl dX1_keep_24
theorem mt_X1_keep {l : Launch} {D : cz_D} {l0 : Option Nat} {l1 : Int32} {h : cz_H} {oh : cz_O × cz_H} (hz : fn_X1_keep l0 l1 h = some oh) : cz_M l D yX1_keep (ws_ yX1_keep cX1_keep 2 ((Option.some Jvm.ClassFile.FieldType.int))) 13 [cz_r l0, cz_i l1] h oh := cz_met (plainFor_of_name (by decide)) (Nat.le_of_ble_eq_true rfl) hz (fun K hl S => wk_X1_keep S)
/-! HeldCoats.laid()I -/
theorem dX1_laid_0 : decode cX1_laid 0 = .ok (.aload_n 0, 1) := by decide +kernel
theorem dX1_laid_1 : decode cX1_laid 1 = .ok (.getfield 53, 3) := by decide +kernel
theorem dX1_laid_4 : decode cX1_laid 4 = .ok (.ireturn, 1) := by decide +kernel
set_option maxHeartbeats 4000000 in
set_option maxRecDepth 100000 in
noncomputable def fn_X1_laid (l0 : Option Nat) (h : cz_H) : cz_Z := cz_getI h l0 [(0, 9)] (fun x1 => some (.inl (some (cz_i x1)), h))
set_option maxHeartbeats 4000000 in
set_option maxRecDepth 100000 in
theorem wk_X1_laid {K : cz_K} {D : cz_D} {h0 : cz_H} {oh : cz_O × cz_H} {l0 : Option Nat} {h : cz_H} (S : cz_S K D h0 cX1_laid 1 "HeldCoats" ((Option.some Jvm.ClassFile.FieldType.int)) "laid" ([])) : cz_T K D 2 h0 oh 1 (fn_X1_laid l0 h) h 0 [(0, cz_r l0)] [] := by
  unfold fn_X1_laid
  refine ct_aload_n (k := 0) S dX1_laid_0 rfl rfl ?_
  refine ct_getI S fw_X1_53 dX1_laid_1 (fun x1 => ?_)
  exact ct_iret S rfl dX1_laid_4
theorem mt_X1_laid {l : Launch} {D : cz_D} {l0 : Option Nat} {h : cz_H} {oh : cz_O × cz_H} (hz : fn_X1_laid l0 h = some oh) : cz_M l D yX1_laid (ws_ yX1_laid cX1_laid 1 ((Option.some Jvm.ClassFile.FieldType.int))) 2 [cz_r l0] h oh := cz_met (plainFor_of_name (by decide)) (Nat.le_of_ble_eq_true rfl) hz (fun K hl S => wk_X1_laid S)
/-! HeldCoats$Capital.isSeat(I)Z -/
def dkwX2_isSeat_0 : List UInt8 := [27, 3, 42, 180, 0, 24, 182, 0, 41, 4, 100, 184, 0, 45, 172]
abbrev dktX2_isSeat_0 : List UInt8 := dkwX2_isSeat_0 ++ []
theorem dksX2_isSeat_0 : cX2_isSeat.data.toList.drop 0 = dktX2_isSeat_0 := by decide +kernel
theorem dX2_isSeat_0 : decode cX2_isSeat 0 = .ok (.iload_n 1, 1) := dk_27 (dk_at dksX2_isSeat_0 0 rfl rfl)
theorem dX2_isSeat_1 : decode cX2_isSeat 1 = .ok (.iconst 0, 1) := dk_3 (dk_at dksX2_isSeat_0 1 rfl rfl)
theorem dX2_isSeat_2 : decode cX2_isSeat 2 = .ok (.aload_n 0, 1) := dk_42 (dk_at dksX2_isSeat_0 2 rfl rfl)
theorem dX2_isSeat_3 : decode cX2_isSeat 3 = .ok (.getfield 24, 3) := dk_180 0 24 (dk_at dksX2_isSeat_0 3 rfl rfl)
theorem dX2_isSeat_6 : decode cX2_isSeat 6 = .ok (.invokevirtual 41, 3) := dk_182 0 41 (dk_at dksX2_isSeat_0 6 rfl rfl)
theorem dX2_isSeat_9 : decode cX2_isSeat 9 = .ok (.iconst 1, 1) := dk_4 (dk_at dksX2_isSeat_0 9 rfl rfl)
theorem dX2_isSeat_10 : decode cX2_isSeat 10 = .ok (.isub, 1) := dk_100 (dk_at dksX2_isSeat_0 10 rfl rfl)
theorem dX2_isSeat_11 : decode cX2_isSeat 11 = .ok (.invokestatic 45, 3) := dk_184 0 45 (dk_at dksX2_isSeat_0 11 rfl rfl)
theorem dX2_isSeat_14 : decode cX2_isSeat 14 = .ok (.ireturn, 1) := dk_172 (dk_at dksX2_isSeat_0 14 rfl rfl)
set_option maxHeartbeats 4000000 in
set_option maxRecDepth 100000 in
noncomputable def fn_X2_isSeat (l0 : Option Nat) (l1 : Int32) (h : cz_H) : cz_Z := cz_getR h l0 [(1, 6)] (fun r1 => cz_rc h r1 [2] (cz_cI (fn_J2_size r1 h) (fun x9 h8 => cz_cI (fn_X1_isIn l1 0 (x9 - 1) h8) (fun x11 h10 => cz_ckz x11 (some (.inl (some (cz_i x11)), h10))))))
set_option maxHeartbeats 4000000 in
set_option maxRecDepth 100000 in
theorem wk_X2_isSeat {K : cz_K} {D : cz_D} {h0 : cz_H} {oh : cz_O × cz_H} {l0 : Option Nat} {l1 : Int32} {h : cz_H} (S : cz_S K D h0 cX2_isSeat 2 "HeldCoats$Capital" ((Option.some Jvm.ClassFile.FieldType.boolean)) "isSeat" ([])) : cz_T K D 3 h0 oh 2 (fn_X2_isSeat l0 l1 h) h 0 [(0, cz_r l0), (1, cz_i l1)] [] := by
  unfold fn_X2_isSeat
  refine ct_iload_n (k := 1) S dX2_isSeat_0 rfl rfl ?_
  refine ct_iconst (v := 0) S dX2_isSeat_1 kI_0 ?_
  refine ct_aload_n (k := 0) S dX2_isSeat_2 rfl rfl ?_
  refine ct_getR S fw_X2_24 dX2_isSeat_3 (fun r1 => ?_)
  refine ct_rc (fun b2 ci3 V4 hb5 hc6 hi7 => ?_)
  refine ct_cI (st := [cz_i 0, cz_i l1]) (cg_virtual (av := []) S hb5 hc6 hi7 (fun _ e => mt_J2_size e) md_J2_size q1090 q341 se_java_util_ArrayList_size___I_java_util_ArrayList (by decide) (Nat.le_of_ble_eq_true rfl) rfl dX2_isSeat_6) (fun x9 h8 => ?_)
  refine ct_iconst (v := 1) S dX2_isSeat_9 kI_1 ?_
  refine ct_isub S dX2_isSeat_10 ?_
  refine ct_cI (st := []) (cg_static (av := [cz_i l1, cz_i 0, cz_i (x9 - 1)]) S (fun _ e => mt_X1_isIn e) md_X1_isIn (Or.inr ⟨_, q1091⟩) q929 (by decide) (Nat.le_of_ble_eq_true rfl) rfl dX2_isSeat_11) (fun x11 h10 => ?_)
  refine ct_ckz (fun hx => ?_)
  exact ct_zr (ty := .boolean) S rfl (cz_nz hx) dX2_isSeat_14
theorem mt_X2_isSeat {l : Launch} {D : cz_D} {l0 : Option Nat} {l1 : Int32} {h : cz_H} {oh : cz_O × cz_H} (hz : fn_X2_isSeat l0 l1 h = some oh) : cz_M l D yX2_isSeat (ws_ yX2_isSeat cX2_isSeat 2 ((Option.some Jvm.ClassFile.FieldType.boolean))) 3 [cz_r l0, cz_i l1] h oh := cz_met (plainFor_of_name (by decide)) (Nat.le_of_ble_eq_true rfl) hz (fun K hl S => wk_X2_isSeat S)
/-! HeldCoats.isSeat(I)Z -/
def dkwX1_isSeat_0 : List UInt8 := [42, 180, 0, 33, 27, 182, 0, 119, 172]
abbrev dktX1_isSeat_0 : List UInt8 := dkwX1_isSeat_0 ++ []
theorem dksX1_isSeat_0 : cX1_isSeat.data.toList.drop 0 = dktX1_isSeat_0 := by decide +kernel
theorem dX1_isSeat_0 : decode cX1_isSeat 0 = .ok (.aload_n 0, 1) := dk_42 (dk_at dksX1_isSeat_0 0 rfl rfl)
theorem dX1_isSeat_1 : decode cX1_isSeat 1 = .ok (.getfield 33, 3) := dk_180 0 33 (dk_at dksX1_isSeat_0 1 rfl rfl)
theorem dX1_isSeat_4 : decode cX1_isSeat 4 = .ok (.iload_n 1, 1) := dk_27 (dk_at dksX1_isSeat_0 4 rfl rfl)
theorem dX1_isSeat_5 : decode cX1_isSeat 5 = .ok (.invokevirtual 119, 3) := dk_182 0 119 (dk_at dksX1_isSeat_0 5 rfl rfl)
theorem dX1_isSeat_8 : decode cX1_isSeat 8 = .ok (.ireturn, 1) := dk_172 (dk_at dksX1_isSeat_0 8 rfl rfl)
theorem se_HeldCoats_Capital_isSeat__I_Z_HeldCoats_Capital : ∀ c ∈ ([1] : List Nat), ∃ q : vw_C, cz_cl[c]? = some q ∧ Cond.selects q.1 (⟨"HeldCoats$Capital", "isSeat", "(I)Z"⟩ : MethodName) (⟨"HeldCoats$Capital", "isSeat", "(I)Z"⟩ : MethodName) ∈ lw_all := List.forall_mem_cons.mpr ⟨⟨_, cz_cl1, q1088⟩, fun _ h => absurd h List.not_mem_nil⟩
theorem md_X2_isSeat : cz_md yX2_isSeat 2 (ws_ yX2_isSeat cX2_isSeat 2 ((Option.some Jvm.ClassFile.FieldType.boolean))) 1 := ⟨cz_ws_code q1089, q114, ⟨by decide, by decide, by decide +kernel⟩, by decide⟩
set_option maxHeartbeats 4000000 in
set_option maxRecDepth 100000 in
noncomputable def fn_X1_isSeat (l0 : Option Nat) (l1 : Int32) (h : cz_H) : cz_Z := cz_getR h l0 [(0, 3)] (fun r1 => cz_rc h r1 [1] (cz_cI (fn_X2_isSeat r1 l1 h) (fun x9 h8 => cz_ckz x9 (some (.inl (some (cz_i x9)), h8)))))
set_option maxHeartbeats 4000000 in
set_option maxRecDepth 100000 in
theorem wk_X1_isSeat {K : cz_K} {D : cz_D} {h0 : cz_H} {oh : cz_O × cz_H} {l0 : Option Nat} {l1 : Int32} {h : cz_H} (S : cz_S K D h0 cX1_isSeat 2 "HeldCoats" ((Option.some Jvm.ClassFile.FieldType.boolean)) "isSeat" ([])) : cz_T K D 4 h0 oh 2 (fn_X1_isSeat l0 l1 h) h 0 [(0, cz_r l0), (1, cz_i l1)] [] := by
  unfold fn_X1_isSeat
  refine ct_aload_n (k := 0) S dX1_isSeat_0 rfl rfl ?_
  refine ct_getR S fw_X1_33 dX1_isSeat_1 (fun r1 => ?_)
  refine ct_iload_n (k := 1) S dX1_isSeat_4 rfl rfl ?_
  refine ct_rc (fun b2 ci3 V4 hb5 hc6 hi7 => ?_)
  refine ct_cI (st := []) (cg_virtual (av := [cz_i l1]) S hb5 hc6 hi7 (fun _ e => mt_X2_isSeat e) md_X2_isSeat q1086 q1087 se_HeldCoats_Capital_isSeat__I_Z_HeldCoats_Capital (by decide) (Nat.le_of_ble_eq_true rfl) rfl dX1_isSeat_5) (fun x9 h8 => ?_)
  refine ct_ckz (fun hx => ?_)
  exact ct_zr (ty := .boolean) S rfl (cz_nz hx) dX1_isSeat_8
theorem mt_X1_isSeat {l : Launch} {D : cz_D} {l0 : Option Nat} {l1 : Int32} {h : cz_H} {oh : cz_O × cz_H} (hz : fn_X1_isSeat l0 l1 h = some oh) : cz_M l D yX1_isSeat (ws_ yX1_isSeat cX1_isSeat 2 ((Option.some Jvm.ClassFile.FieldType.boolean))) 4 [cz_r l0, cz_i l1] h oh := cz_met (plainFor_of_name (by decide)) (Nat.le_of_ble_eq_true rfl) hz (fun K hl S => wk_X1_isSeat S)
/-! HeldCoats.lay(II)I -/
def dkwX1_lay_1 : List UInt8 := [183, 0, 247, 182, 0, 250, 167, 0, 4, 2, 172]
abbrev dktX1_lay_1 : List UInt8 := dkwX1_lay_1 ++ []
def dkwX1_lay_0 : List UInt8 := [42, 27, 182, 0, 195, 153, 0, 27, 42, 28, 182, 0, 145, 153, 0, 19, 42, 187, 0, 245, 89, 27, 28]
abbrev dktX1_lay_0 : List UInt8 := dkwX1_lay_0 ++ dktX1_lay_1
theorem dksX1_lay_0 : cX1_lay.data.toList.drop 0 = dktX1_lay_0 := by decide +kernel
theorem dksX1_lay_1 : cX1_lay.data.toList.drop 23 = dktX1_lay_1 := dk_seg dksX1_lay_0 23 rfl rfl
theorem dX1_lay_0 : decode cX1_lay 0 = .ok (.aload_n 0, 1) := dk_42 (dk_at dksX1_lay_0 0 rfl rfl)
theorem dX1_lay_1 : decode cX1_lay 1 = .ok (.iload_n 1, 1) := dk_27 (dk_at dksX1_lay_0 1 rfl rfl)
theorem dX1_lay_2 : decode cX1_lay 2 = .ok (.invokevirtual 195, 3) := dk_182 0 195 (dk_at dksX1_lay_0 2 rfl rfl)
theorem dX1_lay_5 : decode cX1_lay 5 = .ok (.ifCond .eq 27, 3) := dk_153 0 27 (dk_at dksX1_lay_0 5 rfl rfl)
theorem dX1_lay_8 : decode cX1_lay 8 = .ok (.aload_n 0, 1) := dk_42 (dk_at dksX1_lay_0 8 rfl rfl)
theorem dX1_lay_9 : decode cX1_lay 9 = .ok (.iload_n 2, 1) := dk_28 (dk_at dksX1_lay_0 9 rfl rfl)
theorem dX1_lay_10 : decode cX1_lay 10 = .ok (.invokevirtual 145, 3) := dk_182 0 145 (dk_at dksX1_lay_0 10 rfl rfl)
theorem dX1_lay_13 : decode cX1_lay 13 = .ok (.ifCond .eq 19, 3) := dk_153 0 19 (dk_at dksX1_lay_0 13 rfl rfl)
theorem dX1_lay_16 : decode cX1_lay 16 = .ok (.aload_n 0, 1) := dk_42 (dk_at dksX1_lay_0 16 rfl rfl)
theorem dX1_lay_17 : decode cX1_lay 17 = .ok (.new 245, 3) := dk_187 0 245 (dk_at dksX1_lay_0 17 rfl rfl)
theorem dX1_lay_20 : decode cX1_lay 20 = .ok (.dup, 1) := dk_89 (dk_at dksX1_lay_0 20 rfl rfl)
theorem dX1_lay_21 : decode cX1_lay 21 = .ok (.iload_n 1, 1) := dk_27 (dk_at dksX1_lay_0 21 rfl rfl)
theorem dX1_lay_22 : decode cX1_lay 22 = .ok (.iload_n 2, 1) := dk_28 (dk_at dksX1_lay_0 22 rfl rfl)
theorem dX1_lay_23 : decode cX1_lay 23 = .ok (.invokespecial 247, 3) := dk_183 0 247 (dk_at dksX1_lay_1 0 rfl rfl)
theorem dX1_lay_26 : decode cX1_lay 26 = .ok (.invokevirtual 250, 3) := dk_182 0 250 (dk_at dksX1_lay_1 3 rfl rfl)
theorem dX1_lay_29 : decode cX1_lay 29 = .ok (.goto 4, 3) := dk_167 0 4 (dk_at dksX1_lay_1 6 rfl rfl)
theorem dX1_lay_32 : decode cX1_lay 32 = .ok (.iconst (-1), 1) := dk_2 (dk_at dksX1_lay_1 9 rfl rfl)
theorem dX1_lay_33 : decode cX1_lay 33 = .ok (.ireturn, 1) := dk_172 (dk_at dksX1_lay_1 10 rfl rfl)
theorem se_HeldCoats_isSeat__I_Z_HeldCoats : ∀ c ∈ ([0] : List Nat), ∃ q : vw_C, cz_cl[c]? = some q ∧ Cond.selects q.1 (⟨"HeldCoats", "isSeat", "(I)Z"⟩ : MethodName) (⟨"HeldCoats", "isSeat", "(I)Z"⟩ : MethodName) ∈ lw_all := List.forall_mem_cons.mpr ⟨⟨_, cz_cl0, qs14⟩, fun _ h => absurd h List.not_mem_nil⟩
theorem md_X1_isSeat : cz_md yX1_isSeat 2 (ws_ yX1_isSeat cX1_isSeat 2 ((Option.some Jvm.ClassFile.FieldType.boolean))) 1 := ⟨cz_ws_code q1085, q113, ⟨by decide, by decide, by decide +kernel⟩, by decide⟩
set_option maxHeartbeats 4000000 in
set_option maxRecDepth 100000 in
noncomputable def fn_X1_lay (l0 : Option Nat) (l1 : Int32) (l2 : Int32) (h : cz_H) : cz_Z := cz_rc h l0 [0] (cz_cI (fn_X1_isCoat l0 l1 h) (fun x8 h7 => (if x8 = 0 then some (.inl (some (cz_i (-1))), h7) else cz_rc h7 l0 [0] (cz_cI (fn_X1_isSeat l0 l2 h7) (fun x16 h15 => (if x16 = 0 then some (.inl (some (cz_i (-1))), h15) else cz_newo h15 12 2 (fun r17 h18 => cz_nn' r17 (cz_cV (fn_X15_init r17 l1 l2 h18) (fun h21 => cz_rc h21 l0 [0] (cz_cI (fn_X1_does l0 r17 h21) (fun x29 h28 => some (.inl (some (cz_i x29)), h28))))))))))))
set_option maxHeartbeats 4000000 in
set_option maxRecDepth 100000 in
theorem wk_X1_lay {K : cz_K} {D : cz_D} {h0 : cz_H} {oh : cz_O × cz_H} {l0 : Option Nat} {l1 : Int32} {l2 : Int32} {h : cz_H} (S : cz_S K D h0 cX1_lay 3 "HeldCoats" ((Option.some Jvm.ClassFile.FieldType.int)) "lay" ([])) : cz_T K D 13 h0 oh 3 (fn_X1_lay l0 l1 l2 h) h 0 [(0, cz_r l0), (1, cz_i l1), (2, cz_i l2)] [] := by
  unfold fn_X1_lay
  refine ct_aload_n (k := 0) S dX1_lay_0 rfl rfl ?_
  refine ct_iload_n (k := 1) S dX1_lay_1 rfl rfl ?_
  refine ct_rc (fun b1 ci2 V3 hb4 hc5 hi6 => ?_)
  refine ct_cI (st := []) (cg_virtual (av := [cz_i l1]) S hb4 hc5 hi6 (fun _ e => mt_X1_isCoat e) md_X1_isCoat q1142 q1144 se_HeldCoats_isCoat__I_Z_HeldCoats (by decide) (Nat.le_of_ble_eq_true rfl) rfl dX1_lay_2) (fun x8 h7 => ?_)
  refine ct_if_eq (tgt := 32) S dX1_lay_5 (by decide) ?_ ?_
  · refine ct_iconst (v := (-1)) S dX1_lay_32 kI_m1 ?_
    exact ct_iret S rfl dX1_lay_33
  · refine ct_aload_n (k := 0) S dX1_lay_8 rfl rfl ?_
    refine ct_iload_n (k := 2) S dX1_lay_9 rfl rfl ?_
    refine ct_rc (fun b9 ci10 V11 hb12 hc13 hi14 => ?_)
    refine ct_cI (st := []) (cg_virtual (av := [cz_i l2]) S hb12 hc13 hi14 (fun _ e => mt_X1_isSeat e) md_X1_isSeat q1082 q1084 se_HeldCoats_isSeat__I_Z_HeldCoats (by decide) (Nat.le_of_ble_eq_true rfl) rfl dX1_lay_10) (fun x16 h15 => ?_)
    refine ct_if_eq (tgt := 32) S dX1_lay_13 (by decide) ?_ ?_
    · refine ct_iconst (v := (-1)) S dX1_lay_32 kI_m1 ?_
      exact ct_iret S rfl dX1_lay_33
    · refine ct_aload_n (k := 0) S dX1_lay_16 rfl rfl ?_
      refine ct_newo S (by decide) cz_cl12 q1150 dX1_lay_17 (fun r17 h18 => ?_)
      refine ct_dup S dX1_lay_20 rfl ?_
      refine ct_iload_n (k := 1) S dX1_lay_21 rfl rfl ?_
      refine ct_iload_n (k := 2) S dX1_lay_22 rfl rfl ?_
      refine ct_nn (fun b19 hb20 => ?_)
      refine ct_cV (st := [cz_r r17, cz_r l0]) (cg_init (av := [cz_i l1, cz_i l2]) S hb20 (fun _ e => mt_X15_init e) q1154 (Or.inl q1152) rfl q1153 q145 nh_HeldCoats_Lies__init___II_V (by decide) (by decide) (Nat.le_of_ble_eq_true rfl) rfl dX1_lay_23) (fun h21 => ?_)
      refine ct_rc (fun b22 ci23 V24 hb25 hc26 hi27 => ?_)
      refine ct_cI (st := []) (cg_virtual (av := [cz_r r17]) S hb25 hc26 hi27 (fun _ e => mt_X1_does e) md_X1_does q1186 q1188 se_HeldCoats_does__LHeldCoats_Act__I_HeldCoats (by decide) (Nat.le_of_ble_eq_true rfl) rfl dX1_lay_26) (fun x29 h28 => ?_)
      refine ct_goto (tgt := 33) S dX1_lay_29 (by decide) ?_
      exact ct_iret S rfl dX1_lay_33
theorem mt_X1_lay {l : Launch} {D : cz_D} {l0 : Option Nat} {l1 : Int32} {l2 : Int32} {h : cz_H} {oh : cz_O × cz_H} (hz : fn_X1_lay l0 l1 l2 h = some oh) : cz_M l D yX1_lay (ws_ yX1_lay cX1_lay 3 ((Option.some Jvm.ClassFile.FieldType.int))) 13 [cz_r l0, cz_i l1, cz_i l2] h oh := cz_met (plainFor_of_name (by decide)) (Nat.le_of_ble_eq_true rfl) hz (fun K hl S => wk_X1_lay S)
/-! HeldCoats.lend(II)I -/
def dkwX1_lend_1 : List UInt8 := [183, 1, 2, 182, 0, 250, 167, 0, 4, 2, 172]
abbrev dktX1_lend_1 : List UInt8 := dkwX1_lend_1 ++ []
def dkwX1_lend_0 : List UInt8 := [42, 27, 182, 0, 195, 153, 0, 27, 42, 28, 182, 0, 129, 153, 0, 19, 42, 187, 1, 0, 89, 27, 28]
abbrev dktX1_lend_0 : List UInt8 := dkwX1_lend_0 ++ dktX1_lend_1
theorem dksX1_lend_0 : cX1_lend.data.toList.drop 0 = dktX1_lend_0 := by decide +kernel
theorem dksX1_lend_1 : cX1_lend.data.toList.drop 23 = dktX1_lend_1 := dk_seg dksX1_lend_0 23 rfl rfl
theorem dX1_lend_0 : decode cX1_lend 0 = .ok (.aload_n 0, 1) := dk_42 (dk_at dksX1_lend_0 0 rfl rfl)
theorem dX1_lend_1 : decode cX1_lend 1 = .ok (.iload_n 1, 1) := dk_27 (dk_at dksX1_lend_0 1 rfl rfl)
theorem dX1_lend_2 : decode cX1_lend 2 = .ok (.invokevirtual 195, 3) := dk_182 0 195 (dk_at dksX1_lend_0 2 rfl rfl)
theorem dX1_lend_5 : decode cX1_lend 5 = .ok (.ifCond .eq 27, 3) := dk_153 0 27 (dk_at dksX1_lend_0 5 rfl rfl)
theorem dX1_lend_8 : decode cX1_lend 8 = .ok (.aload_n 0, 1) := dk_42 (dk_at dksX1_lend_0 8 rfl rfl)
theorem dX1_lend_9 : decode cX1_lend 9 = .ok (.iload_n 2, 1) := dk_28 (dk_at dksX1_lend_0 9 rfl rfl)
theorem dX1_lend_10 : decode cX1_lend 10 = .ok (.invokevirtual 129, 3) := dk_182 0 129 (dk_at dksX1_lend_0 10 rfl rfl)
theorem dX1_lend_13 : decode cX1_lend 13 = .ok (.ifCond .eq 19, 3) := dk_153 0 19 (dk_at dksX1_lend_0 13 rfl rfl)
theorem dX1_lend_16 : decode cX1_lend 16 = .ok (.aload_n 0, 1) := dk_42 (dk_at dksX1_lend_0 16 rfl rfl)
theorem dX1_lend_17 : decode cX1_lend 17 = .ok (.new 256, 3) := dk_187 1 0 (dk_at dksX1_lend_0 17 rfl rfl)
theorem dX1_lend_20 : decode cX1_lend 20 = .ok (.dup, 1) := dk_89 (dk_at dksX1_lend_0 20 rfl rfl)
theorem dX1_lend_21 : decode cX1_lend 21 = .ok (.iload_n 1, 1) := dk_27 (dk_at dksX1_lend_0 21 rfl rfl)
theorem dX1_lend_22 : decode cX1_lend 22 = .ok (.iload_n 2, 1) := dk_28 (dk_at dksX1_lend_0 22 rfl rfl)
theorem dX1_lend_23 : decode cX1_lend 23 = .ok (.invokespecial 258, 3) := dk_183 1 2 (dk_at dksX1_lend_1 0 rfl rfl)
theorem dX1_lend_26 : decode cX1_lend 26 = .ok (.invokevirtual 250, 3) := dk_182 0 250 (dk_at dksX1_lend_1 3 rfl rfl)
theorem dX1_lend_29 : decode cX1_lend 29 = .ok (.goto 4, 3) := dk_167 0 4 (dk_at dksX1_lend_1 6 rfl rfl)
theorem dX1_lend_32 : decode cX1_lend 32 = .ok (.iconst (-1), 1) := dk_2 (dk_at dksX1_lend_1 9 rfl rfl)
theorem dX1_lend_33 : decode cX1_lend 33 = .ok (.ireturn, 1) := dk_172 (dk_at dksX1_lend_1 10 rfl rfl)
set_option maxHeartbeats 4000000 in
set_option maxRecDepth 100000 in
noncomputable def fn_X1_lend (l0 : Option Nat) (l1 : Int32) (l2 : Int32) (h : cz_H) : cz_Z := cz_rc h l0 [0] (cz_cI (fn_X1_isCoat l0 l1 h) (fun x8 h7 => (if x8 = 0 then some (.inl (some (cz_i (-1))), h7) else cz_rc h7 l0 [0] (cz_cI (fn_X1_isMan l0 l2 h7) (fun x16 h15 => (if x16 = 0 then some (.inl (some (cz_i (-1))), h15) else cz_newo h15 14 2 (fun r17 h18 => cz_nn' r17 (cz_cV (fn_X16_init r17 l1 l2 h18) (fun h21 => cz_rc h21 l0 [0] (cz_cI (fn_X1_does l0 r17 h21) (fun x29 h28 => some (.inl (some (cz_i x29)), h28))))))))))))
set_option maxHeartbeats 4000000 in
set_option maxRecDepth 100000 in
theorem wk_X1_lend {K : cz_K} {D : cz_D} {h0 : cz_H} {oh : cz_O × cz_H} {l0 : Option Nat} {l1 : Int32} {l2 : Int32} {h : cz_H} (S : cz_S K D h0 cX1_lend 3 "HeldCoats" ((Option.some Jvm.ClassFile.FieldType.int)) "lend" ([])) : cz_T K D 13 h0 oh 3 (fn_X1_lend l0 l1 l2 h) h 0 [(0, cz_r l0), (1, cz_i l1), (2, cz_i l2)] [] := by
  unfold fn_X1_lend
  refine ct_aload_n (k := 0) S dX1_lend_0 rfl rfl ?_
  refine ct_iload_n (k := 1) S dX1_lend_1 rfl rfl ?_
  refine ct_rc (fun b1 ci2 V3 hb4 hc5 hi6 => ?_)
  refine ct_cI (st := []) (cg_virtual (av := [cz_i l1]) S hb4 hc5 hi6 (fun _ e => mt_X1_isCoat e) md_X1_isCoat q1142 q1144 se_HeldCoats_isCoat__I_Z_HeldCoats (by decide) (Nat.le_of_ble_eq_true rfl) rfl dX1_lend_2) (fun x8 h7 => ?_)
  refine ct_if_eq (tgt := 32) S dX1_lend_5 (by decide) ?_ ?_
  · refine ct_iconst (v := (-1)) S dX1_lend_32 kI_m1 ?_
    exact ct_iret S rfl dX1_lend_33
  · refine ct_aload_n (k := 0) S dX1_lend_8 rfl rfl ?_
    refine ct_iload_n (k := 2) S dX1_lend_9 rfl rfl ?_
    refine ct_rc (fun b9 ci10 V11 hb12 hc13 hi14 => ?_)
    refine ct_cI (st := []) (cg_virtual (av := [cz_i l2]) S hb12 hc13 hi14 (fun _ e => mt_X1_isMan e) md_X1_isMan q1309 q1311 se_HeldCoats_isMan__I_Z_HeldCoats (by decide) (Nat.le_of_ble_eq_true rfl) rfl dX1_lend_10) (fun x16 h15 => ?_)
    refine ct_if_eq (tgt := 32) S dX1_lend_13 (by decide) ?_ ?_
    · refine ct_iconst (v := (-1)) S dX1_lend_32 kI_m1 ?_
      exact ct_iret S rfl dX1_lend_33
    · refine ct_aload_n (k := 0) S dX1_lend_16 rfl rfl ?_
      refine ct_newo S (by decide) cz_cl14 q1330 dX1_lend_17 (fun r17 h18 => ?_)
      refine ct_dup S dX1_lend_20 rfl ?_
      refine ct_iload_n (k := 1) S dX1_lend_21 rfl rfl ?_
      refine ct_iload_n (k := 2) S dX1_lend_22 rfl rfl ?_
      refine ct_nn (fun b19 hb20 => ?_)
      refine ct_cV (st := [cz_r r17, cz_r l0]) (cg_init (av := [cz_i l1, cz_i l2]) S hb20 (fun _ e => mt_X16_init e) q1334 (Or.inl q1332) rfl q1333 q146 nh_HeldCoats_Lent__init___II_V (by decide) (by decide) (Nat.le_of_ble_eq_true rfl) rfl dX1_lend_23) (fun h21 => ?_)
      refine ct_rc (fun b22 ci23 V24 hb25 hc26 hi27 => ?_)
      refine ct_cI (st := []) (cg_virtual (av := [cz_r r17]) S hb25 hc26 hi27 (fun _ e => mt_X1_does e) md_X1_does q1186 q1188 se_HeldCoats_does__LHeldCoats_Act__I_HeldCoats (by decide) (Nat.le_of_ble_eq_true rfl) rfl dX1_lend_26) (fun x29 h28 => ?_)
      refine ct_goto (tgt := 33) S dX1_lend_29 (by decide) ?_
      exact ct_iret S rfl dX1_lend_33
theorem mt_X1_lend {l : Launch} {D : cz_D} {l0 : Option Nat} {l1 : Int32} {l2 : Int32} {h : cz_H} {oh : cz_O × cz_H} (hz : fn_X1_lend l0 l1 l2 h = some oh) : cz_M l D yX1_lend (ws_ yX1_lend cX1_lend 3 ((Option.some Jvm.ClassFile.FieldType.int))) 13 [cz_r l0, cz_i l1, cz_i l2] h oh := cz_met (plainFor_of_name (by decide)) (Nat.le_of_ble_eq_true rfl) hz (fun K hl S => wk_X1_lend S)
/-! HeldCoats.never()I -/
theorem dX1_never_0 : decode cX1_never 0 = .ok (.aload_n 0, 1) := by decide +kernel
theorem dX1_never_1 : decode cX1_never 1 = .ok (.getfield 62, 3) := by decide +kernel
theorem dX1_never_4 : decode cX1_never 4 = .ok (.ireturn, 1) := by decide +kernel
set_option maxHeartbeats 4000000 in
set_option maxRecDepth 100000 in
noncomputable def fn_X1_never (l0 : Option Nat) (h : cz_H) : cz_Z := cz_getI h l0 [(0, 14)] (fun x1 => some (.inl (some (cz_i x1)), h))
set_option maxHeartbeats 4000000 in
set_option maxRecDepth 100000 in
theorem wk_X1_never {K : cz_K} {D : cz_D} {h0 : cz_H} {oh : cz_O × cz_H} {l0 : Option Nat} {h : cz_H} (S : cz_S K D h0 cX1_never 1 "HeldCoats" ((Option.some Jvm.ClassFile.FieldType.int)) "never" ([])) : cz_T K D 2 h0 oh 1 (fn_X1_never l0 h) h 0 [(0, cz_r l0)] [] := by
  unfold fn_X1_never
  refine ct_aload_n (k := 0) S dX1_never_0 rfl rfl ?_
  refine ct_getI S fw_X1_62 dX1_never_1 (fun x1 => ?_)
  exact ct_iret S rfl dX1_never_4
theorem mt_X1_never {l : Launch} {D : cz_D} {l0 : Option Nat} {h : cz_H} {oh : cz_O × cz_H} (hz : fn_X1_never l0 h = some oh) : cz_M l D yX1_never (ws_ yX1_never cX1_never 1 ((Option.some Jvm.ClassFile.FieldType.int))) 2 [cz_r l0] h oh := cz_met (plainFor_of_name (by decide)) (Nat.le_of_ble_eq_true rfl) hz (fun K hl S => wk_X1_never S)
/-! HeldCoats.now(I)I -/
def dkwX1_now_5 : List UInt8 := [42, 180, 0, 42, 180, 0, 229, 172, 42, 180, 0, 42, 180, 0, 192, 172, 2, 172]
abbrev dktX1_now_5 : List UInt8 := dkwX1_now_5 ++ []
def dkwX1_now_4 : List UInt8 := [180, 0, 42, 4, 182, 0, 219, 172, 42, 180, 0, 42, 180, 0, 223, 172, 42, 180, 0, 42, 180, 0, 226, 172]
abbrev dktX1_now_4 : List UInt8 := dkwX1_now_4 ++ dktX1_now_5
def dkwX1_now_3 : List UInt8 := [180, 0, 33, 42, 180, 0, 42, 180, 0, 15, 182, 0, 216, 153, 0, 7, 4, 167, 0, 4, 3, 172, 42]
abbrev dktX1_now_3 : List UInt8 := dkwX1_now_3 ++ dktX1_now_4
def dkwX1_now_2 : List UInt8 := [42, 180, 0, 42, 180, 0, 15, 172, 42, 180, 0, 33, 42, 180, 0, 42, 180, 0, 15, 182, 0, 213, 172, 42]
abbrev dktX1_now_2 : List UInt8 := dkwX1_now_2 ++ dktX1_now_3
def dkwX1_now_1 : List UInt8 := [170, 0, 0, 0, 0, 0, 134, 0, 0, 0, 0, 0, 0, 0, 7, 0, 0, 0, 47, 0, 0, 0, 55, 0, 0, 0, 70, 0, 0, 0, 93, 0, 0, 0, 102, 0, 0, 0, 110, 0, 0, 0, 118, 0, 0, 0, 126]
abbrev dktX1_now_1 : List UInt8 := dkwX1_now_1 ++ dktX1_now_2
def dkwX1_now_0 : List UInt8 := [27]
abbrev dktX1_now_0 : List UInt8 := dkwX1_now_0 ++ dktX1_now_1
theorem dksX1_now_0 : cX1_now.data.toList.drop 0 = dktX1_now_0 := by decide +kernel
theorem dksX1_now_1 : cX1_now.data.toList.drop 1 = dktX1_now_1 := dk_seg dksX1_now_0 1 rfl rfl
theorem dksX1_now_2 : cX1_now.data.toList.drop 48 = dktX1_now_2 := dk_seg dksX1_now_1 47 rfl rfl
theorem dksX1_now_3 : cX1_now.data.toList.drop 72 = dktX1_now_3 := dk_seg dksX1_now_2 24 rfl rfl
theorem dksX1_now_4 : cX1_now.data.toList.drop 95 = dktX1_now_4 := dk_seg dksX1_now_3 23 rfl rfl
theorem dksX1_now_5 : cX1_now.data.toList.drop 119 = dktX1_now_5 := dk_seg dksX1_now_4 24 rfl rfl
theorem dX1_now_0 : decode cX1_now 0 = .ok (.iload_n 1, 1) := dk_27 (dk_at dksX1_now_0 0 rfl rfl)
theorem dX1_now_1 : decode cX1_now 1 = .ok (.tableswitch 134 0 7 #[47, 55, 70, 93, 102, 110, 118, 126], 47) := by decide +kernel
theorem dX1_now_48 : decode cX1_now 48 = .ok (.aload_n 0, 1) := dk_42 (dk_at dksX1_now_2 0 rfl rfl)
theorem dX1_now_49 : decode cX1_now 49 = .ok (.getfield 42, 3) := dk_180 0 42 (dk_at dksX1_now_2 1 rfl rfl)
theorem dX1_now_52 : decode cX1_now 52 = .ok (.getfield 15, 3) := dk_180 0 15 (dk_at dksX1_now_2 4 rfl rfl)
theorem dX1_now_55 : decode cX1_now 55 = .ok (.ireturn, 1) := dk_172 (dk_at dksX1_now_2 7 rfl rfl)
theorem dX1_now_56 : decode cX1_now 56 = .ok (.aload_n 0, 1) := dk_42 (dk_at dksX1_now_2 8 rfl rfl)
theorem dX1_now_57 : decode cX1_now 57 = .ok (.getfield 33, 3) := dk_180 0 33 (dk_at dksX1_now_2 9 rfl rfl)
theorem dX1_now_60 : decode cX1_now 60 = .ok (.aload_n 0, 1) := dk_42 (dk_at dksX1_now_2 12 rfl rfl)
theorem dX1_now_61 : decode cX1_now 61 = .ok (.getfield 42, 3) := dk_180 0 42 (dk_at dksX1_now_2 13 rfl rfl)
theorem dX1_now_64 : decode cX1_now 64 = .ok (.getfield 15, 3) := dk_180 0 15 (dk_at dksX1_now_2 16 rfl rfl)
theorem dX1_now_67 : decode cX1_now 67 = .ok (.invokevirtual 213, 3) := dk_182 0 213 (dk_at dksX1_now_2 19 rfl rfl)
theorem dX1_now_70 : decode cX1_now 70 = .ok (.ireturn, 1) := dk_172 (dk_at dksX1_now_2 22 rfl rfl)
theorem dX1_now_71 : decode cX1_now 71 = .ok (.aload_n 0, 1) := dk_42 (dk_at dksX1_now_2 23 rfl rfl)
theorem dX1_now_72 : decode cX1_now 72 = .ok (.getfield 33, 3) := dk_180 0 33 (dk_at dksX1_now_3 0 rfl rfl)
theorem dX1_now_75 : decode cX1_now 75 = .ok (.aload_n 0, 1) := dk_42 (dk_at dksX1_now_3 3 rfl rfl)
theorem dX1_now_76 : decode cX1_now 76 = .ok (.getfield 42, 3) := dk_180 0 42 (dk_at dksX1_now_3 4 rfl rfl)
theorem dX1_now_79 : decode cX1_now 79 = .ok (.getfield 15, 3) := dk_180 0 15 (dk_at dksX1_now_3 7 rfl rfl)
theorem dX1_now_82 : decode cX1_now 82 = .ok (.invokevirtual 216, 3) := dk_182 0 216 (dk_at dksX1_now_3 10 rfl rfl)
theorem dX1_now_85 : decode cX1_now 85 = .ok (.ifCond .eq 7, 3) := dk_153 0 7 (dk_at dksX1_now_3 13 rfl rfl)
theorem dX1_now_88 : decode cX1_now 88 = .ok (.iconst 1, 1) := dk_4 (dk_at dksX1_now_3 16 rfl rfl)
theorem dX1_now_89 : decode cX1_now 89 = .ok (.goto 4, 3) := dk_167 0 4 (dk_at dksX1_now_3 17 rfl rfl)
theorem dX1_now_92 : decode cX1_now 92 = .ok (.iconst 0, 1) := dk_3 (dk_at dksX1_now_3 20 rfl rfl)
theorem dX1_now_93 : decode cX1_now 93 = .ok (.ireturn, 1) := dk_172 (dk_at dksX1_now_3 21 rfl rfl)
theorem dX1_now_94 : decode cX1_now 94 = .ok (.aload_n 0, 1) := dk_42 (dk_at dksX1_now_3 22 rfl rfl)
theorem dX1_now_95 : decode cX1_now 95 = .ok (.getfield 42, 3) := dk_180 0 42 (dk_at dksX1_now_4 0 rfl rfl)
theorem dX1_now_98 : decode cX1_now 98 = .ok (.iconst 1, 1) := dk_4 (dk_at dksX1_now_4 3 rfl rfl)
theorem dX1_now_99 : decode cX1_now 99 = .ok (.invokevirtual 219, 3) := dk_182 0 219 (dk_at dksX1_now_4 4 rfl rfl)
theorem dX1_now_102 : decode cX1_now 102 = .ok (.ireturn, 1) := dk_172 (dk_at dksX1_now_4 7 rfl rfl)
theorem dX1_now_103 : decode cX1_now 103 = .ok (.aload_n 0, 1) := dk_42 (dk_at dksX1_now_4 8 rfl rfl)
theorem dX1_now_104 : decode cX1_now 104 = .ok (.getfield 42, 3) := dk_180 0 42 (dk_at dksX1_now_4 9 rfl rfl)
theorem dX1_now_107 : decode cX1_now 107 = .ok (.getfield 223, 3) := dk_180 0 223 (dk_at dksX1_now_4 12 rfl rfl)
theorem dX1_now_110 : decode cX1_now 110 = .ok (.ireturn, 1) := dk_172 (dk_at dksX1_now_4 15 rfl rfl)
theorem dX1_now_111 : decode cX1_now 111 = .ok (.aload_n 0, 1) := dk_42 (dk_at dksX1_now_4 16 rfl rfl)
theorem dX1_now_112 : decode cX1_now 112 = .ok (.getfield 42, 3) := dk_180 0 42 (dk_at dksX1_now_4 17 rfl rfl)
theorem dX1_now_115 : decode cX1_now 115 = .ok (.getfield 226, 3) := dk_180 0 226 (dk_at dksX1_now_4 20 rfl rfl)
theorem dX1_now_118 : decode cX1_now 118 = .ok (.ireturn, 1) := dk_172 (dk_at dksX1_now_4 23 rfl rfl)
theorem dX1_now_119 : decode cX1_now 119 = .ok (.aload_n 0, 1) := dk_42 (dk_at dksX1_now_5 0 rfl rfl)
theorem dX1_now_120 : decode cX1_now 120 = .ok (.getfield 42, 3) := dk_180 0 42 (dk_at dksX1_now_5 1 rfl rfl)
theorem dX1_now_123 : decode cX1_now 123 = .ok (.getfield 229, 3) := dk_180 0 229 (dk_at dksX1_now_5 4 rfl rfl)
theorem dX1_now_126 : decode cX1_now 126 = .ok (.ireturn, 1) := dk_172 (dk_at dksX1_now_5 7 rfl rfl)
theorem dX1_now_127 : decode cX1_now 127 = .ok (.aload_n 0, 1) := dk_42 (dk_at dksX1_now_5 8 rfl rfl)
theorem dX1_now_128 : decode cX1_now 128 = .ok (.getfield 42, 3) := dk_180 0 42 (dk_at dksX1_now_5 9 rfl rfl)
theorem dX1_now_131 : decode cX1_now 131 = .ok (.getfield 192, 3) := dk_180 0 192 (dk_at dksX1_now_5 12 rfl rfl)
theorem dX1_now_134 : decode cX1_now 134 = .ok (.ireturn, 1) := dk_172 (dk_at dksX1_now_5 15 rfl rfl)
theorem dX1_now_135 : decode cX1_now 135 = .ok (.iconst (-1), 1) := dk_2 (dk_at dksX1_now_5 16 rfl rfl)
theorem dX1_now_136 : decode cX1_now 136 = .ok (.ireturn, 1) := dk_172 (dk_at dksX1_now_5 17 rfl rfl)
theorem fw_X1_226 : cz_FW "HeldCoats" 226 [(3, 3)] "I" := ⟨"HeldCoats$Reign", "firstBare", Or.inr ⟨_, q278⟩, List.forall_mem_cons.mpr ⟨⟨RX3, TX3, 14, rfl, by decide, rfl, rfl, Or.inl rfl⟩, fun _ h => absurd h List.not_mem_nil⟩, by decide⟩
set_option maxHeartbeats 4000000 in
set_option maxRecDepth 100000 in
noncomputable def fn_X1_now (l0 : Option Nat) (l1 : Int32) (h : cz_H) : cz_Z := (if l1 = 0 then cz_getR h l0 [(0, 4)] (fun r40 => cz_getI h r40 [(3, 1)] (fun x41 => some (.inl (some (cz_i x41)), h))) else if l1 = 1 then cz_getR h l0 [(0, 3)] (fun r29 => cz_getR h l0 [(0, 4)] (fun r30 => cz_getI h r30 [(3, 1)] (fun x31 => cz_rc h r29 [1] (cz_cI (fn_X2_cold r29 x31 h) (fun x39 h38 => some (.inl (some (cz_i x39)), h38)))))) else if l1 = 2 then cz_getR h l0 [(0, 3)] (fun r18 => cz_getR h l0 [(0, 4)] (fun r19 => cz_getI h r19 [(3, 1)] (fun x20 => cz_rc h r18 [1] (cz_cI (fn_X2_isSummer r18 x20 h) (fun x28 h27 => (if x28 = 0 then some (.inl (some (cz_i 0)), h27) else some (.inl (some (cz_i 1)), h27))))))) else if l1 = 3 then cz_getR h l0 [(0, 4)] (fun r9 => cz_rc h r9 [3] (cz_cI (fn_X3_ruler r9 1 h) (fun x17 h16 => some (.inl (some (cz_i x17)), h16)))) else if l1 = 4 then cz_getR h l0 [(0, 4)] (fun r7 => cz_getI h r7 [(3, 2)] (fun x8 => some (.inl (some (cz_i x8)), h))) else if l1 = 5 then cz_getR h l0 [(0, 4)] (fun r5 => cz_getI h r5 [(3, 3)] (fun x6 => some (.inl (some (cz_i x6)), h))) else if l1 = 6 then cz_getR h l0 [(0, 4)] (fun r3 => cz_getI h r3 [(3, 5)] (fun x4 => some (.inl (some (cz_i x4)), h))) else if l1 = 7 then cz_getR h l0 [(0, 4)] (fun r1 => cz_getI h r1 [(3, 4)] (fun x2 => some (.inl (some (cz_i x2)), h))) else some (.inl (some (cz_i (-1))), h))
set_option maxHeartbeats 4000000 in
set_option maxRecDepth 100000 in
theorem wk_X1_now {K : cz_K} {D : cz_D} {h0 : cz_H} {oh : cz_O × cz_H} {l0 : Option Nat} {l1 : Int32} {h : cz_H} (S : cz_S K D h0 cX1_now 2 "HeldCoats" ((Option.some Jvm.ClassFile.FieldType.int)) "now" ([])) : cz_T K D 8 h0 oh 2 (fn_X1_now l0 l1 h) h 0 [(0, cz_r l0), (1, cz_i l1)] [] := by
  unfold fn_X1_now
  refine ct_iload_n (k := 1) S dX1_now_0 rfl rfl ?_
  refine ct_case ?_ (fun c0_ => ?_)
  · refine ct_tableIn (tgt := 48) S dX1_now_1 (by decide) (by decide) rfl (by decide) ?_
    refine ct_aload_n (k := 0) S dX1_now_48 rfl rfl ?_
    refine ct_getR S fw_X1_42 dX1_now_49 (fun r40 => ?_)
    refine ct_getI S fw_X1_15 dX1_now_52 (fun x41 => ?_)
    exact ct_iret S rfl dX1_now_55
  · refine ct_case ?_ (fun c1_ => ?_)
    · refine ct_tableIn (tgt := 56) S dX1_now_1 (by decide) (by decide) rfl (by decide) ?_
      refine ct_aload_n (k := 0) S dX1_now_56 rfl rfl ?_
      refine ct_getR S fw_X1_33 dX1_now_57 (fun r29 => ?_)
      refine ct_aload_n (k := 0) S dX1_now_60 rfl rfl ?_
      refine ct_getR S fw_X1_42 dX1_now_61 (fun r30 => ?_)
      refine ct_getI S fw_X1_15 dX1_now_64 (fun x31 => ?_)
      refine ct_rc (fun b32 ci33 V34 hb35 hc36 hi37 => ?_)
      refine ct_cI (st := []) (cg_virtual (av := [cz_i x31]) S hb35 hc36 hi37 (fun _ e => mt_X2_cold e) md_X2_cold q1122 q1107 se_HeldCoats_Capital_cold__I_I_HeldCoats_Capital (by decide) (Nat.le_of_ble_eq_true rfl) rfl dX1_now_67) (fun x39 h38 => ?_)
      exact ct_iret S rfl dX1_now_70
    · refine ct_case ?_ (fun c2_ => ?_)
      · refine ct_tableIn (tgt := 71) S dX1_now_1 (by decide) (by decide) rfl (by decide) ?_
        refine ct_aload_n (k := 0) S dX1_now_71 rfl rfl ?_
        refine ct_getR S fw_X1_33 dX1_now_72 (fun r18 => ?_)
        refine ct_aload_n (k := 0) S dX1_now_75 rfl rfl ?_
        refine ct_getR S fw_X1_42 dX1_now_76 (fun r19 => ?_)
        refine ct_getI S fw_X1_15 dX1_now_79 (fun x20 => ?_)
        refine ct_rc (fun b21 ci22 V23 hb24 hc25 hi26 => ?_)
        refine ct_cI (st := []) (cg_virtual (av := [cz_i x20]) S hb24 hc25 hi26 (fun _ e => mt_X2_isSummer e) md_X2_isSummer q1123 q1103 se_HeldCoats_Capital_isSummer__I_Z_HeldCoats_Capital (by decide) (Nat.le_of_ble_eq_true rfl) rfl dX1_now_82) (fun x28 h27 => ?_)
        refine ct_if_eq (tgt := 92) S dX1_now_85 (by decide) ?_ ?_
        · refine ct_iconst (v := 0) S dX1_now_92 kI_0 ?_
          exact ct_iret S rfl dX1_now_93
        · refine ct_iconst (v := 1) S dX1_now_88 kI_1 ?_
          refine ct_goto (tgt := 93) S dX1_now_89 (by decide) ?_
          exact ct_iret S rfl dX1_now_93
      · refine ct_case ?_ (fun c3_ => ?_)
        · refine ct_tableIn (tgt := 94) S dX1_now_1 (by decide) (by decide) rfl (by decide) ?_
          refine ct_aload_n (k := 0) S dX1_now_94 rfl rfl ?_
          refine ct_getR S fw_X1_42 dX1_now_95 (fun r9 => ?_)
          refine ct_iconst (v := 1) S dX1_now_98 kI_1 ?_
          refine ct_rc (fun b10 ci11 V12 hb13 hc14 hi15 => ?_)
          refine ct_cI (st := []) (cg_virtual (av := [cz_i 1]) S hb13 hc14 hi15 (fun _ e => mt_X3_ruler e) md_X3_ruler q1124 q1125 se_HeldCoats_Reign_ruler__Z_I_HeldCoats_Reign (by decide) (Nat.le_of_ble_eq_true rfl) rfl dX1_now_99) (fun x17 h16 => ?_)
          exact ct_iret S rfl dX1_now_102
        · refine ct_case ?_ (fun c4_ => ?_)
          · refine ct_tableIn (tgt := 103) S dX1_now_1 (by decide) (by decide) rfl (by decide) ?_
            refine ct_aload_n (k := 0) S dX1_now_103 rfl rfl ?_
            refine ct_getR S fw_X1_42 dX1_now_104 (fun r7 => ?_)
            refine ct_getI S fw_X1_223 dX1_now_107 (fun x8 => ?_)
            exact ct_iret S rfl dX1_now_110
          · refine ct_case ?_ (fun c5_ => ?_)
            · refine ct_tableIn (tgt := 111) S dX1_now_1 (by decide) (by decide) rfl (by decide) ?_
              refine ct_aload_n (k := 0) S dX1_now_111 rfl rfl ?_
              refine ct_getR S fw_X1_42 dX1_now_112 (fun r5 => ?_)
              refine ct_getI S fw_X1_226 dX1_now_115 (fun x6 => ?_)
              exact ct_iret S rfl dX1_now_118
            · refine ct_case ?_ (fun c6_ => ?_)
              · refine ct_tableIn (tgt := 119) S dX1_now_1 (by decide) (by decide) rfl (by decide) ?_
                refine ct_aload_n (k := 0) S dX1_now_119 rfl rfl ?_
                refine ct_getR S fw_X1_42 dX1_now_120 (fun r3 => ?_)
                refine ct_getI S fw_X1_229 dX1_now_123 (fun x4 => ?_)
                exact ct_iret S rfl dX1_now_126
              · refine ct_case ?_ (fun c7_ => ?_)
                · refine ct_tableIn (tgt := 127) S dX1_now_1 (by decide) (by decide) rfl (by decide) ?_
                  refine ct_aload_n (k := 0) S dX1_now_127 rfl rfl ?_
                  refine ct_getR S fw_X1_42 dX1_now_128 (fun r1 => ?_)
                  refine ct_getI S fw_X1_192 dX1_now_131 (fun x2 => ?_)
                  exact ct_iret S rfl dX1_now_134
                · refine ct_tableOut (tgt := 135) S dX1_now_1 (by have := lv_neT c0_ (show (0 : Int32).toInt = 0 by decide); have := lv_neT c1_ (show (1 : Int32).toInt = 1 by decide); have := lv_neT c2_ (show (2 : Int32).toInt = 2 by decide); have := lv_neT c3_ (show (3 : Int32).toInt = 3 by decide); have := lv_neT c4_ (show (4 : Int32).toInt = 4 by decide); have := lv_neT c5_ (show (5 : Int32).toInt = 5 by decide); have := lv_neT c6_ (show (6 : Int32).toInt = 6 by decide); have := lv_neT c7_ (show (7 : Int32).toInt = 7 by decide); omega) (by decide) ?_
                  refine ct_iconst (v := (-1)) S dX1_now_135 kI_m1 ?_
                  exact ct_iret S rfl dX1_now_136
theorem mt_X1_now {l : Launch} {D : cz_D} {l0 : Option Nat} {l1 : Int32} {h : cz_H} {oh : cz_O × cz_H} (hz : fn_X1_now l0 l1 h = some oh) : cz_M l D yX1_now (ws_ yX1_now cX1_now 2 ((Option.some Jvm.ClassFile.FieldType.int))) 8 [cz_r l0, cz_i l1] h oh := cz_met (plainFor_of_name (by decide)) (Nat.le_of_ble_eq_true rfl) hz (fun K hl S => wk_X1_now S)
/-! HeldCoats.odds(III)I -/
def dkwX1_odds_4 : List UInt8 := [172]
abbrev dktX1_odds_4 : List UInt8 := dkwX1_odds_4 ++ []
def dkwX1_odds_3 : List UInt8 := [46, 42, 180, 0, 42, 180, 0, 186, 27, 46, 164, 0, 6, 132, 4, 1, 132, 5, 1, 167, 255, 202, 21, 4]
abbrev dktX1_odds_3 : List UInt8 := dkwX1_odds_3 ++ dktX1_odds_4
def dkwX1_odds_2 : List UInt8 := [180, 0, 42, 182, 0, 232, 16, 20, 29, 21, 5, 96, 182, 1, 76, 87, 42, 180, 0, 46, 180, 0, 186, 27]
abbrev dktX1_odds_2 : List UInt8 := dkwX1_odds_2 ++ dktX1_odds_3
def dkwX1_odds_1 : List UInt8 := [154, 0, 5, 2, 172, 3, 54, 4, 3, 54, 5, 21, 5, 28, 162, 0, 54, 42, 180, 0, 46, 42]
abbrev dktX1_odds_1 : List UInt8 := dkwX1_odds_1 ++ dktX1_odds_2
def dkwX1_odds_0 : List UInt8 := [42, 27, 182, 0, 129, 153, 0, 20, 28, 4, 16, 30, 184, 0, 162, 153, 0, 10, 42, 182, 1, 47]
abbrev dktX1_odds_0 : List UInt8 := dkwX1_odds_0 ++ dktX1_odds_1
theorem dksX1_odds_0 : cX1_odds.data.toList.drop 0 = dktX1_odds_0 := by decide +kernel
theorem dksX1_odds_1 : cX1_odds.data.toList.drop 22 = dktX1_odds_1 := dk_seg dksX1_odds_0 22 rfl rfl
theorem dksX1_odds_2 : cX1_odds.data.toList.drop 44 = dktX1_odds_2 := dk_seg dksX1_odds_1 22 rfl rfl
theorem dksX1_odds_3 : cX1_odds.data.toList.drop 68 = dktX1_odds_3 := dk_seg dksX1_odds_2 24 rfl rfl
theorem dksX1_odds_4 : cX1_odds.data.toList.drop 92 = dktX1_odds_4 := dk_seg dksX1_odds_3 24 rfl rfl
theorem dX1_odds_0 : decode cX1_odds 0 = .ok (.aload_n 0, 1) := dk_42 (dk_at dksX1_odds_0 0 rfl rfl)
theorem dX1_odds_1 : decode cX1_odds 1 = .ok (.iload_n 1, 1) := dk_27 (dk_at dksX1_odds_0 1 rfl rfl)
theorem dX1_odds_2 : decode cX1_odds 2 = .ok (.invokevirtual 129, 3) := dk_182 0 129 (dk_at dksX1_odds_0 2 rfl rfl)
theorem dX1_odds_5 : decode cX1_odds 5 = .ok (.ifCond .eq 20, 3) := dk_153 0 20 (dk_at dksX1_odds_0 5 rfl rfl)
theorem dX1_odds_8 : decode cX1_odds 8 = .ok (.iload_n 2, 1) := dk_28 (dk_at dksX1_odds_0 8 rfl rfl)
theorem dX1_odds_9 : decode cX1_odds 9 = .ok (.iconst 1, 1) := dk_4 (dk_at dksX1_odds_0 9 rfl rfl)
theorem dX1_odds_10 : decode cX1_odds 10 = .ok (.bipush 30, 2) := dk_16 30 (dk_at dksX1_odds_0 10 rfl rfl)
theorem dX1_odds_12 : decode cX1_odds 12 = .ok (.invokestatic 162, 3) := dk_184 0 162 (dk_at dksX1_odds_0 12 rfl rfl)
theorem dX1_odds_15 : decode cX1_odds 15 = .ok (.ifCond .eq 10, 3) := dk_153 0 10 (dk_at dksX1_odds_0 15 rfl rfl)
theorem dX1_odds_18 : decode cX1_odds 18 = .ok (.aload_n 0, 1) := dk_42 (dk_at dksX1_odds_0 18 rfl rfl)
theorem dX1_odds_19 : decode cX1_odds 19 = .ok (.invokevirtual 303, 3) := dk_182 1 47 (dk_at dksX1_odds_0 19 rfl rfl)
theorem dX1_odds_22 : decode cX1_odds 22 = .ok (.ifCond .ne 5, 3) := dk_154 0 5 (dk_at dksX1_odds_1 0 rfl rfl)
theorem dX1_odds_25 : decode cX1_odds 25 = .ok (.iconst (-1), 1) := dk_2 (dk_at dksX1_odds_1 3 rfl rfl)
theorem dX1_odds_26 : decode cX1_odds 26 = .ok (.ireturn, 1) := dk_172 (dk_at dksX1_odds_1 4 rfl rfl)
theorem dX1_odds_27 : decode cX1_odds 27 = .ok (.iconst 0, 1) := dk_3 (dk_at dksX1_odds_1 5 rfl rfl)
theorem dX1_odds_28 : decode cX1_odds 28 = .ok (.istore 4, 2) := dk_54 4 (dk_at dksX1_odds_1 6 rfl rfl)
theorem dX1_odds_30 : decode cX1_odds 30 = .ok (.iconst 0, 1) := dk_3 (dk_at dksX1_odds_1 8 rfl rfl)
theorem dX1_odds_31 : decode cX1_odds 31 = .ok (.istore 5, 2) := dk_54 5 (dk_at dksX1_odds_1 9 rfl rfl)
theorem dX1_odds_33 : decode cX1_odds 33 = .ok (.iload 5, 2) := dk_21 5 (dk_at dksX1_odds_1 11 rfl rfl)
theorem dX1_odds_35 : decode cX1_odds 35 = .ok (.iload_n 2, 1) := dk_28 (dk_at dksX1_odds_1 13 rfl rfl)
theorem dX1_odds_36 : decode cX1_odds 36 = .ok (.if_icmp .ge 54, 3) := dk_162 0 54 (dk_at dksX1_odds_1 14 rfl rfl)
theorem dX1_odds_39 : decode cX1_odds 39 = .ok (.aload_n 0, 1) := dk_42 (dk_at dksX1_odds_1 17 rfl rfl)
theorem dX1_odds_40 : decode cX1_odds 40 = .ok (.getfield 46, 3) := dk_180 0 46 (dk_at dksX1_odds_1 18 rfl rfl)
theorem dX1_odds_43 : decode cX1_odds 43 = .ok (.aload_n 0, 1) := dk_42 (dk_at dksX1_odds_1 21 rfl rfl)
theorem dX1_odds_44 : decode cX1_odds 44 = .ok (.getfield 42, 3) := dk_180 0 42 (dk_at dksX1_odds_2 0 rfl rfl)
theorem dX1_odds_47 : decode cX1_odds 47 = .ok (.invokevirtual 232, 3) := dk_182 0 232 (dk_at dksX1_odds_2 3 rfl rfl)
theorem dX1_odds_50 : decode cX1_odds 50 = .ok (.bipush 20, 2) := dk_16 20 (dk_at dksX1_odds_2 6 rfl rfl)
theorem dX1_odds_52 : decode cX1_odds 52 = .ok (.iload_n 3, 1) := dk_29 (dk_at dksX1_odds_2 8 rfl rfl)
theorem dX1_odds_53 : decode cX1_odds 53 = .ok (.iload 5, 2) := dk_21 5 (dk_at dksX1_odds_2 9 rfl rfl)
theorem dX1_odds_55 : decode cX1_odds 55 = .ok (.iadd, 1) := dk_96 (dk_at dksX1_odds_2 11 rfl rfl)
theorem dX1_odds_56 : decode cX1_odds 56 = .ok (.invokevirtual 332, 3) := dk_182 1 76 (dk_at dksX1_odds_2 12 rfl rfl)
theorem dX1_odds_59 : decode cX1_odds 59 = .ok (.pop, 1) := dk_87 (dk_at dksX1_odds_2 15 rfl rfl)
theorem dX1_odds_60 : decode cX1_odds 60 = .ok (.aload_n 0, 1) := dk_42 (dk_at dksX1_odds_2 16 rfl rfl)
theorem dX1_odds_61 : decode cX1_odds 61 = .ok (.getfield 46, 3) := dk_180 0 46 (dk_at dksX1_odds_2 17 rfl rfl)
theorem dX1_odds_64 : decode cX1_odds 64 = .ok (.getfield 186, 3) := dk_180 0 186 (dk_at dksX1_odds_2 20 rfl rfl)
theorem dX1_odds_67 : decode cX1_odds 67 = .ok (.iload_n 1, 1) := dk_27 (dk_at dksX1_odds_2 23 rfl rfl)
theorem dX1_odds_68 : decode cX1_odds 68 = .ok (.iaload, 1) := dk_46 (dk_at dksX1_odds_3 0 rfl rfl)
theorem dX1_odds_69 : decode cX1_odds 69 = .ok (.aload_n 0, 1) := dk_42 (dk_at dksX1_odds_3 1 rfl rfl)
theorem dX1_odds_70 : decode cX1_odds 70 = .ok (.getfield 42, 3) := dk_180 0 42 (dk_at dksX1_odds_3 2 rfl rfl)
theorem dX1_odds_73 : decode cX1_odds 73 = .ok (.getfield 186, 3) := dk_180 0 186 (dk_at dksX1_odds_3 5 rfl rfl)
theorem dX1_odds_76 : decode cX1_odds 76 = .ok (.iload_n 1, 1) := dk_27 (dk_at dksX1_odds_3 8 rfl rfl)
theorem dX1_odds_77 : decode cX1_odds 77 = .ok (.iaload, 1) := dk_46 (dk_at dksX1_odds_3 9 rfl rfl)
theorem dX1_odds_78 : decode cX1_odds 78 = .ok (.if_icmp .le 6, 3) := dk_164 0 6 (dk_at dksX1_odds_3 10 rfl rfl)
theorem dX1_odds_81 : decode cX1_odds 81 = .ok (.iinc 4 1, 3) := dk_132 4 1 (dk_at dksX1_odds_3 13 rfl rfl)
theorem dX1_odds_84 : decode cX1_odds 84 = .ok (.iinc 5 1, 3) := dk_132 5 1 (dk_at dksX1_odds_3 16 rfl rfl)
theorem dX1_odds_87 : decode cX1_odds 87 = .ok (.goto (-54), 3) := dk_167 255 202 (dk_at dksX1_odds_3 19 rfl rfl)
theorem dX1_odds_90 : decode cX1_odds 90 = .ok (.iload 4, 2) := dk_21 4 (dk_at dksX1_odds_3 22 rfl rfl)
theorem dX1_odds_92 : decode cX1_odds 92 = .ok (.ireturn, 1) := dk_172 (dk_at dksX1_odds_4 0 rfl rfl)
set_option maxHeartbeats 4000000 in
set_option maxRecDepth 100000 in
noncomputable def fn_X1_odds_33 (l0 : Option Nat) (l1 : Int32) (l2 : Int32) (l3 : Int32) (k0 : Int32 → cz_H → cz_Z) : Nat → Int32 → Int32 → cz_H → cz_Z
  | 0, _, _, _ => none
  | n + 1, l4, l5, h => (if l2 ≤ l5 then k0 l4 h else cz_getR h l0 [(0, 5)] (fun r19 => cz_getR h l0 [(0, 4)] (fun r20 => cz_rc h r19 [3] (cz_cR (fn_X3_as r19 r20 h) (fun r28 h27 => cz_rc h27 r28 [3] (cz_cI (fn_X3_drawn r28 20 (l3 + l5) h27) (fun x36 h35 => cz_getR h35 l0 [(0, 5)] (fun r37 => cz_getR h35 r37 [(3, 12)] (fun r38 => cz_iald h35 r38 l1 (fun x39 => cz_getR h35 l0 [(0, 4)] (fun r40 => cz_getR h35 r40 [(3, 12)] (fun r41 => cz_iald h35 r41 l1 (fun x42 => (if x39 ≤ x42 then cz_leti (l5 + 1) (fun x43 => fn_X1_odds_33 l0 l1 l2 l3 k0 n l4 x43 h35) else cz_leti (l4 + 1) (fun x44 => cz_leti (l5 + 1) (fun x45 => fn_X1_odds_33 l0 l1 l2 l3 k0 n x44 x45 h35))))))))))))))))
set_option maxHeartbeats 4000000 in
set_option maxRecDepth 100000 in
theorem wk_X1_odds_33 {K : cz_K} {D : cz_D} {h0 : cz_H} {oh : cz_O × cz_H} {l0 : Option Nat} {l1 : Int32} {l2 : Int32} {l3 : Int32} {k0 : Int32 → cz_H → cz_Z} (S : cz_S K D h0 cX1_odds 6 "HeldCoats" ((Option.some Jvm.ClassFile.FieldType.int)) "odds" ([])) (hk0 : ∀ (e4 : Int32) (h : cz_H), cz_T K D 11 h0 oh 6 (k0 e4 h) h 90 [(4, cz_i e4)] []) : ∀ (n : Nat) (l4 : Int32) (l5 : Int32) (h : cz_H), cz_T K D 11 h0 oh 6 (fn_X1_odds_33 l0 l1 l2 l3 k0 n l4 l5 h) h 33 [(0, cz_r l0), (1, cz_i l1), (2, cz_i l2), (3, cz_i l3), (4, cz_i l4), (5, cz_i l5)] [] := by
  intro n
  induction n with
  | zero => intros; exact ct_none
  | succ n ih =>
    intro l4 l5 h
    rw [fn_X1_odds_33]
    refine ct_iload (k := 5) S dX1_odds_33 rfl ?_
    refine ct_iload_n (k := 2) S dX1_odds_35 rfl rfl ?_
    refine ct_icmp_ge (tgt := 90) S dX1_odds_36 (by decide) ?_ ?_
    · exact ct_sub [4] rfl (hk0 l4 h)
    · refine ct_aload_n (k := 0) S dX1_odds_39 rfl rfl ?_
      refine ct_getR S fw_X1_46 dX1_odds_40 (fun r19 => ?_)
      refine ct_aload_n (k := 0) S dX1_odds_43 rfl rfl ?_
      refine ct_getR S fw_X1_42 dX1_odds_44 (fun r20 => ?_)
      refine ct_rc (fun b21 ci22 V23 hb24 hc25 hi26 => ?_)
      refine ct_cR (st := []) (cg_virtual (av := [cz_r r20]) S hb24 hc25 hi26 (fun _ e => mt_X3_as e) md_X3_as q1190 q1191 se_HeldCoats_Reign_as__LHeldCoats_Reign__LHeldCoats_Reign__HeldCoats_Reign (by decide) (Nat.le_of_ble_eq_true rfl) rfl dX1_odds_47) (fun r28 h27 => ?_)
      refine ct_bipush (v := 20) S dX1_odds_50 kB_20 ?_
      refine ct_iload_n (k := 3) S dX1_odds_52 rfl rfl ?_
      refine ct_iload (k := 5) S dX1_odds_53 rfl ?_
      refine ct_iadd S dX1_odds_55 ?_
      refine ct_rc (fun b29 ci30 V31 hb32 hc33 hi34 => ?_)
      refine ct_cI (st := []) (cg_virtual (av := [cz_i 20, cz_i (l3 + l5)]) S hb32 hc33 hi34 (fun _ e => mt_X3_drawn e) md_X3_drawn q1498 q1499 se_HeldCoats_Reign_drawn__II_I_HeldCoats_Reign (by decide) (Nat.le_of_ble_eq_true rfl) rfl dX1_odds_56) (fun x36 h35 => ?_)
      refine ct_pop S dX1_odds_59 rfl ?_
      refine ct_aload_n (k := 0) S dX1_odds_60 rfl rfl ?_
      refine ct_getR S fw_X1_46 dX1_odds_61 (fun r37 => ?_)
      refine ct_getR S fw_X1_186 dX1_odds_64 (fun r38 => ?_)
      refine ct_iload_n (k := 1) S dX1_odds_67 rfl rfl ?_
      refine ct_iald S dX1_odds_68 (fun x39 => ?_)
      refine ct_aload_n (k := 0) S dX1_odds_69 rfl rfl ?_
      refine ct_getR S fw_X1_42 dX1_odds_70 (fun r40 => ?_)
      refine ct_getR S fw_X1_186 dX1_odds_73 (fun r41 => ?_)
      refine ct_iload_n (k := 1) S dX1_odds_76 rfl rfl ?_
      refine ct_iald S dX1_odds_77 (fun x42 => ?_)
      refine ct_icmp_le (tgt := 84) S dX1_odds_78 (by decide) ?_ ?_
      · refine ct_iincL (j := 5) (L2 := fun x43 => [(5, cz_i x43), (0, cz_r l0), (1, cz_i l1), (2, cz_i l2), (3, cz_i l3), (4, cz_i l4)]) S dX1_odds_84 rfl kI_1 (by decide) (fun _ => rfl) (fun x43 => ?_)
        refine ct_goto (tgt := 33) S dX1_odds_87 (by decide) ?_
        exact ct_sub [1, 2, 3, 4, 5, 0] rfl (ih l4 x43 h35)
      · refine ct_iincL (j := 4) (L2 := fun x44 => [(4, cz_i x44), (0, cz_r l0), (1, cz_i l1), (2, cz_i l2), (3, cz_i l3), (5, cz_i l5)]) S dX1_odds_81 rfl kI_1 (by decide) (fun _ => rfl) (fun x44 => ?_)
        refine ct_iincL (j := 5) (L2 := fun x45 => [(5, cz_i x45), (4, cz_i x44), (0, cz_r l0), (1, cz_i l1), (2, cz_i l2), (3, cz_i l3)]) S dX1_odds_84 rfl kI_1 (by decide) (fun _ => rfl) (fun x45 => ?_)
        refine ct_goto (tgt := 33) S dX1_odds_87 (by decide) ?_
        exact ct_sub [2, 3, 4, 5, 1, 0] rfl (ih x44 x45 h35)
set_option maxHeartbeats 4000000 in
set_option maxRecDepth 100000 in
noncomputable def fn_X1_odds (l0 : Option Nat) (l1 : Int32) (l2 : Int32) (l3 : Int32) (h : cz_H) : cz_Z := cz_rc h l0 [0] (cz_cI (fn_X1_isMan l0 l1 h) (fun x8 h7 => (if x8 = 0 then some (.inl (some (cz_i (-1))), h7) else cz_cI (fn_X1_isIn l2 1 30 h7) (fun x10 h9 => (if x10 = 0 then some (.inl (some (cz_i (-1))), h9) else cz_rc h9 l0 [0] (cz_cI (fn_X1_coats l0 h9) (fun x18 h17 => (if x18 = 0 then some (.inl (some (cz_i (-1))), h17) else fn_X1_odds_33 l0 l1 l2 l3 (fun (e46 : Int32) (h47 : cz_H) => some (.inl (some (cz_i e46)), h47)) 1000 0 0 h17))))))))
set_option maxHeartbeats 4000000 in
set_option maxRecDepth 100000 in
theorem wk_X1_odds {K : cz_K} {D : cz_D} {h0 : cz_H} {oh : cz_O × cz_H} {l0 : Option Nat} {l1 : Int32} {l2 : Int32} {l3 : Int32} {h : cz_H} (S : cz_S K D h0 cX1_odds 6 "HeldCoats" ((Option.some Jvm.ClassFile.FieldType.int)) "odds" ([])) : cz_T K D 11 h0 oh 6 (fn_X1_odds l0 l1 l2 l3 h) h 0 [(0, cz_r l0), (1, cz_i l1), (2, cz_i l2), (3, cz_i l3)] [] := by
  unfold fn_X1_odds
  refine ct_aload_n (k := 0) S dX1_odds_0 rfl rfl ?_
  refine ct_iload_n (k := 1) S dX1_odds_1 rfl rfl ?_
  refine ct_rc (fun b1 ci2 V3 hb4 hc5 hi6 => ?_)
  refine ct_cI (st := []) (cg_virtual (av := [cz_i l1]) S hb4 hc5 hi6 (fun _ e => mt_X1_isMan e) md_X1_isMan q1309 q1311 se_HeldCoats_isMan__I_Z_HeldCoats (by decide) (Nat.le_of_ble_eq_true rfl) rfl dX1_odds_2) (fun x8 h7 => ?_)
  refine ct_if_eq (tgt := 25) S dX1_odds_5 (by decide) ?_ ?_
  · refine ct_iconst (v := (-1)) S dX1_odds_25 kI_m1 ?_
    exact ct_iret S rfl dX1_odds_26
  · refine ct_iload_n (k := 2) S dX1_odds_8 rfl rfl ?_
    refine ct_iconst (v := 1) S dX1_odds_9 kI_1 ?_
    refine ct_bipush (v := 30) S dX1_odds_10 kB_30 ?_
    refine ct_cI (st := []) (cg_static (av := [cz_i l2, cz_i 1, cz_i 30]) S (fun _ e => mt_X1_isIn e) md_X1_isIn (Or.inl q1355) q929 (by decide) (Nat.le_of_ble_eq_true rfl) rfl dX1_odds_12) (fun x10 h9 => ?_)
    refine ct_if_eq (tgt := 25) S dX1_odds_15 (by decide) ?_ ?_
    · refine ct_iconst (v := (-1)) S dX1_odds_25 kI_m1 ?_
      exact ct_iret S rfl dX1_odds_26
    · refine ct_aload_n (k := 0) S dX1_odds_18 rfl rfl ?_
      refine ct_rc (fun b11 ci12 V13 hb14 hc15 hi16 => ?_)
      refine ct_cI (st := []) (cg_virtual (av := []) S hb14 hc15 hi16 (fun _ e => mt_X1_coats e) md_X1_coats q1424 q1426 se_HeldCoats_coats___I_HeldCoats (by decide) (Nat.le_of_ble_eq_true rfl) rfl dX1_odds_19) (fun x18 h17 => ?_)
      refine ct_if_ne (tgt := 27) S dX1_odds_22 (by decide) ?_ ?_
      · refine ct_iconst (v := 0) S dX1_odds_27 kI_0 ?_
        refine ct_istore (L' := [(4, cz_i 0), (0, cz_r l0), (1, cz_i l1), (2, cz_i l2), (3, cz_i l3)]) S dX1_odds_28 (by decide) rfl ?_
        refine ct_iconst (v := 0) S dX1_odds_30 kI_0 ?_
        refine ct_istore (L' := [(5, cz_i 0), (4, cz_i 0), (0, cz_r l0), (1, cz_i l1), (2, cz_i l2), (3, cz_i l3)]) S dX1_odds_31 (by decide) rfl ?_
        refine ct_sub [2, 3, 4, 5, 1, 0] (L' := [(0, cz_r l0), (1, cz_i l1), (2, cz_i l2), (3, cz_i l3), (4, cz_i 0), (5, cz_i 0)]) rfl (wk_X1_odds_33 S ?_ 1000 0 0 h17)
        · intro e46 h47
          refine ct_iload (k := 0) S dX1_odds_90 rfl ?_
          exact ct_iret S rfl dX1_odds_92
      · refine ct_iconst (v := (-1)) S dX1_odds_25 kI_m1 ?_
        exact ct_iret S rfl dX1_odds_26
theorem mt_X1_odds {l : Launch} {D : cz_D} {l0 : Option Nat} {l1 : Int32} {l2 : Int32} {l3 : Int32} {h : cz_H} {oh : cz_O × cz_H} (hz : fn_X1_odds l0 l1 l2 l3 h = some oh) : cz_M l D yX1_odds (ws_ yX1_odds cX1_odds 6 ((Option.some Jvm.ClassFile.FieldType.int))) 11 [cz_r l0, cz_i l1, cz_i l2, cz_i l3] h oh := cz_met (plainFor_of_name (by decide)) (Nat.le_of_ble_eq_true rfl) hz (fun K hl S => wk_X1_odds S)
