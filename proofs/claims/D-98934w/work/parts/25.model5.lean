/-! methods of the model, 5 (printed by wip/D-98934w/gen) -/
set_option maxRecDepth 100000
/-! HeldCoatsModel.rounds()I -/
def dkwX5_rounds_6 : List UInt8 := [167, 0, 4, 3, 61, 167, 255, 132, 27, 172]
abbrev dktX5_rounds_6 : List UInt8 := dkwX5_rounds_6 ++ []
def dkwX5_rounds_5 : List UInt8 := [162, 0, 14, 42, 3, 29, 4, 100, 184, 0, 250, 181, 1, 122, 42, 180, 1, 122, 29, 159, 0, 7, 4]
abbrev dktX5_rounds_5 : List UInt8 := dkwX5_rounds_5 ++ dktX5_rounds_6
def dkwX5_rounds_4 : List UInt8 := [16, 117, 46, 164, 0, 10, 42, 29, 4, 96, 181, 1, 122, 21, 4, 42, 180, 0, 33, 16, 117, 46]
abbrev dktX5_rounds_4 : List UInt8 := dkwX5_rounds_4 ++ dktX5_rounds_5
def dkwX5_rounds_3 : List UInt8 := [164, 0, 7, 4, 167, 0, 4, 3, 96, 54, 4, 132, 5, 1, 167, 255, 215, 21, 4, 42, 180, 0, 33]
abbrev dktX5_rounds_3 : List UInt8 := dkwX5_rounds_3 ++ dktX5_rounds_4
def dkwX5_rounds_2 : List UInt8 := [180, 0, 33, 4, 46, 162, 0, 36, 21, 4, 42, 21, 5, 182, 1, 21, 42, 21, 5, 182, 1, 21, 104, 29]
abbrev dktX5_rounds_2 : List UInt8 := dkwX5_rounds_2 ++ dktX5_rounds_3
def dkwX5_rounds_1 : List UInt8 := [16, 60, 162, 0, 120, 132, 1, 1, 42, 180, 1, 122, 62, 3, 54, 4, 3, 54, 5, 21, 5, 42]
abbrev dktX5_rounds_1 : List UInt8 := dkwX5_rounds_1 ++ dktX5_rounds_2
def dkwX5_rounds_0 : List UInt8 := [42, 3, 181, 0, 1, 42, 8, 181, 1, 122, 42, 4, 181, 1, 125, 3, 60, 4, 61, 28, 153, 0, 126, 27]
abbrev dktX5_rounds_0 : List UInt8 := dkwX5_rounds_0 ++ dktX5_rounds_1
theorem dksX5_rounds_0 : cX5_rounds.data.toList.drop 0 = dktX5_rounds_0 := by decide +kernel
theorem dksX5_rounds_1 : cX5_rounds.data.toList.drop 24 = dktX5_rounds_1 := dk_seg dksX5_rounds_0 24 rfl rfl
theorem dksX5_rounds_2 : cX5_rounds.data.toList.drop 46 = dktX5_rounds_2 := dk_seg dksX5_rounds_1 22 rfl rfl
theorem dksX5_rounds_3 : cX5_rounds.data.toList.drop 70 = dktX5_rounds_3 := dk_seg dksX5_rounds_2 24 rfl rfl
theorem dksX5_rounds_4 : cX5_rounds.data.toList.drop 93 = dktX5_rounds_4 := dk_seg dksX5_rounds_3 23 rfl rfl
theorem dksX5_rounds_5 : cX5_rounds.data.toList.drop 115 = dktX5_rounds_5 := dk_seg dksX5_rounds_4 22 rfl rfl
theorem dksX5_rounds_6 : cX5_rounds.data.toList.drop 138 = dktX5_rounds_6 := dk_seg dksX5_rounds_5 23 rfl rfl
theorem dX5_rounds_0 : decode cX5_rounds 0 = .ok (.aload_n 0, 1) := dk_42 (dk_at dksX5_rounds_0 0 rfl rfl)
theorem dX5_rounds_1 : decode cX5_rounds 1 = .ok (.iconst 0, 1) := dk_3 (dk_at dksX5_rounds_0 1 rfl rfl)
theorem dX5_rounds_2 : decode cX5_rounds 2 = .ok (.putfield 1, 3) := dk_181 0 1 (dk_at dksX5_rounds_0 2 rfl rfl)
theorem dX5_rounds_5 : decode cX5_rounds 5 = .ok (.aload_n 0, 1) := dk_42 (dk_at dksX5_rounds_0 5 rfl rfl)
theorem dX5_rounds_6 : decode cX5_rounds 6 = .ok (.iconst 5, 1) := dk_8 (dk_at dksX5_rounds_0 6 rfl rfl)
theorem dX5_rounds_7 : decode cX5_rounds 7 = .ok (.putfield 378, 3) := dk_181 1 122 (dk_at dksX5_rounds_0 7 rfl rfl)
theorem dX5_rounds_10 : decode cX5_rounds 10 = .ok (.aload_n 0, 1) := dk_42 (dk_at dksX5_rounds_0 10 rfl rfl)
theorem dX5_rounds_11 : decode cX5_rounds 11 = .ok (.iconst 1, 1) := dk_4 (dk_at dksX5_rounds_0 11 rfl rfl)
theorem dX5_rounds_12 : decode cX5_rounds 12 = .ok (.putfield 381, 3) := dk_181 1 125 (dk_at dksX5_rounds_0 12 rfl rfl)
theorem dX5_rounds_15 : decode cX5_rounds 15 = .ok (.iconst 0, 1) := dk_3 (dk_at dksX5_rounds_0 15 rfl rfl)
theorem dX5_rounds_16 : decode cX5_rounds 16 = .ok (.istore_n 1, 1) := dk_60 (dk_at dksX5_rounds_0 16 rfl rfl)
theorem dX5_rounds_17 : decode cX5_rounds 17 = .ok (.iconst 1, 1) := dk_4 (dk_at dksX5_rounds_0 17 rfl rfl)
theorem dX5_rounds_18 : decode cX5_rounds 18 = .ok (.istore_n 2, 1) := dk_61 (dk_at dksX5_rounds_0 18 rfl rfl)
theorem dX5_rounds_19 : decode cX5_rounds 19 = .ok (.iload_n 2, 1) := dk_28 (dk_at dksX5_rounds_0 19 rfl rfl)
theorem dX5_rounds_20 : decode cX5_rounds 20 = .ok (.ifCond .eq 126, 3) := dk_153 0 126 (dk_at dksX5_rounds_0 20 rfl rfl)
theorem dX5_rounds_23 : decode cX5_rounds 23 = .ok (.iload_n 1, 1) := dk_27 (dk_at dksX5_rounds_0 23 rfl rfl)
theorem dX5_rounds_24 : decode cX5_rounds 24 = .ok (.bipush 60, 2) := dk_16 60 (dk_at dksX5_rounds_1 0 rfl rfl)
theorem dX5_rounds_26 : decode cX5_rounds 26 = .ok (.if_icmp .ge 120, 3) := dk_162 0 120 (dk_at dksX5_rounds_1 2 rfl rfl)
theorem dX5_rounds_29 : decode cX5_rounds 29 = .ok (.iinc 1 1, 3) := dk_132 1 1 (dk_at dksX5_rounds_1 5 rfl rfl)
theorem dX5_rounds_32 : decode cX5_rounds 32 = .ok (.aload_n 0, 1) := dk_42 (dk_at dksX5_rounds_1 8 rfl rfl)
theorem dX5_rounds_33 : decode cX5_rounds 33 = .ok (.getfield 378, 3) := dk_180 1 122 (dk_at dksX5_rounds_1 9 rfl rfl)
theorem dX5_rounds_36 : decode cX5_rounds 36 = .ok (.istore_n 3, 1) := dk_62 (dk_at dksX5_rounds_1 12 rfl rfl)
theorem dX5_rounds_37 : decode cX5_rounds 37 = .ok (.iconst 0, 1) := dk_3 (dk_at dksX5_rounds_1 13 rfl rfl)
theorem dX5_rounds_38 : decode cX5_rounds 38 = .ok (.istore 4, 2) := dk_54 4 (dk_at dksX5_rounds_1 14 rfl rfl)
theorem dX5_rounds_40 : decode cX5_rounds 40 = .ok (.iconst 0, 1) := dk_3 (dk_at dksX5_rounds_1 16 rfl rfl)
theorem dX5_rounds_41 : decode cX5_rounds 41 = .ok (.istore 5, 2) := dk_54 5 (dk_at dksX5_rounds_1 17 rfl rfl)
theorem dX5_rounds_43 : decode cX5_rounds 43 = .ok (.iload 5, 2) := dk_21 5 (dk_at dksX5_rounds_1 19 rfl rfl)
theorem dX5_rounds_45 : decode cX5_rounds 45 = .ok (.aload_n 0, 1) := dk_42 (dk_at dksX5_rounds_1 21 rfl rfl)
theorem dX5_rounds_46 : decode cX5_rounds 46 = .ok (.getfield 33, 3) := dk_180 0 33 (dk_at dksX5_rounds_2 0 rfl rfl)
theorem dX5_rounds_49 : decode cX5_rounds 49 = .ok (.iconst 1, 1) := dk_4 (dk_at dksX5_rounds_2 3 rfl rfl)
theorem dX5_rounds_50 : decode cX5_rounds 50 = .ok (.iaload, 1) := dk_46 (dk_at dksX5_rounds_2 4 rfl rfl)
theorem dX5_rounds_51 : decode cX5_rounds 51 = .ok (.if_icmp .ge 36, 3) := dk_162 0 36 (dk_at dksX5_rounds_2 5 rfl rfl)
theorem dX5_rounds_54 : decode cX5_rounds 54 = .ok (.iload 4, 2) := dk_21 4 (dk_at dksX5_rounds_2 8 rfl rfl)
theorem dX5_rounds_56 : decode cX5_rounds 56 = .ok (.aload_n 0, 1) := dk_42 (dk_at dksX5_rounds_2 10 rfl rfl)
theorem dX5_rounds_57 : decode cX5_rounds 57 = .ok (.iload 5, 2) := dk_21 5 (dk_at dksX5_rounds_2 11 rfl rfl)
theorem dX5_rounds_59 : decode cX5_rounds 59 = .ok (.invokevirtual 277, 3) := dk_182 1 21 (dk_at dksX5_rounds_2 13 rfl rfl)
theorem dX5_rounds_62 : decode cX5_rounds 62 = .ok (.aload_n 0, 1) := dk_42 (dk_at dksX5_rounds_2 16 rfl rfl)
theorem dX5_rounds_63 : decode cX5_rounds 63 = .ok (.iload 5, 2) := dk_21 5 (dk_at dksX5_rounds_2 17 rfl rfl)
theorem dX5_rounds_65 : decode cX5_rounds 65 = .ok (.invokevirtual 277, 3) := dk_182 1 21 (dk_at dksX5_rounds_2 19 rfl rfl)
theorem dX5_rounds_68 : decode cX5_rounds 68 = .ok (.imul, 1) := dk_104 (dk_at dksX5_rounds_2 22 rfl rfl)
theorem dX5_rounds_69 : decode cX5_rounds 69 = .ok (.iload_n 3, 1) := dk_29 (dk_at dksX5_rounds_2 23 rfl rfl)
theorem dX5_rounds_70 : decode cX5_rounds 70 = .ok (.if_icmp .le 7, 3) := dk_164 0 7 (dk_at dksX5_rounds_3 0 rfl rfl)
theorem dX5_rounds_73 : decode cX5_rounds 73 = .ok (.iconst 1, 1) := dk_4 (dk_at dksX5_rounds_3 3 rfl rfl)
theorem dX5_rounds_74 : decode cX5_rounds 74 = .ok (.goto 4, 3) := dk_167 0 4 (dk_at dksX5_rounds_3 4 rfl rfl)
theorem dX5_rounds_77 : decode cX5_rounds 77 = .ok (.iconst 0, 1) := dk_3 (dk_at dksX5_rounds_3 7 rfl rfl)
theorem dX5_rounds_78 : decode cX5_rounds 78 = .ok (.iadd, 1) := dk_96 (dk_at dksX5_rounds_3 8 rfl rfl)
theorem dX5_rounds_79 : decode cX5_rounds 79 = .ok (.istore 4, 2) := dk_54 4 (dk_at dksX5_rounds_3 9 rfl rfl)
theorem dX5_rounds_81 : decode cX5_rounds 81 = .ok (.iinc 5 1, 3) := dk_132 5 1 (dk_at dksX5_rounds_3 11 rfl rfl)
theorem dX5_rounds_84 : decode cX5_rounds 84 = .ok (.goto (-41), 3) := dk_167 255 215 (dk_at dksX5_rounds_3 14 rfl rfl)
theorem dX5_rounds_87 : decode cX5_rounds 87 = .ok (.iload 4, 2) := dk_21 4 (dk_at dksX5_rounds_3 17 rfl rfl)
theorem dX5_rounds_89 : decode cX5_rounds 89 = .ok (.aload_n 0, 1) := dk_42 (dk_at dksX5_rounds_3 19 rfl rfl)
theorem dX5_rounds_90 : decode cX5_rounds 90 = .ok (.getfield 33, 3) := dk_180 0 33 (dk_at dksX5_rounds_3 20 rfl rfl)
theorem dX5_rounds_93 : decode cX5_rounds 93 = .ok (.bipush 117, 2) := dk_16 117 (dk_at dksX5_rounds_4 0 rfl rfl)
theorem dX5_rounds_95 : decode cX5_rounds 95 = .ok (.iaload, 1) := dk_46 (dk_at dksX5_rounds_4 2 rfl rfl)
theorem dX5_rounds_96 : decode cX5_rounds 96 = .ok (.if_icmp .le 10, 3) := dk_164 0 10 (dk_at dksX5_rounds_4 3 rfl rfl)
theorem dX5_rounds_99 : decode cX5_rounds 99 = .ok (.aload_n 0, 1) := dk_42 (dk_at dksX5_rounds_4 6 rfl rfl)
theorem dX5_rounds_100 : decode cX5_rounds 100 = .ok (.iload_n 3, 1) := dk_29 (dk_at dksX5_rounds_4 7 rfl rfl)
theorem dX5_rounds_101 : decode cX5_rounds 101 = .ok (.iconst 1, 1) := dk_4 (dk_at dksX5_rounds_4 8 rfl rfl)
theorem dX5_rounds_102 : decode cX5_rounds 102 = .ok (.iadd, 1) := dk_96 (dk_at dksX5_rounds_4 9 rfl rfl)
theorem dX5_rounds_103 : decode cX5_rounds 103 = .ok (.putfield 378, 3) := dk_181 1 122 (dk_at dksX5_rounds_4 10 rfl rfl)
theorem dX5_rounds_106 : decode cX5_rounds 106 = .ok (.iload 4, 2) := dk_21 4 (dk_at dksX5_rounds_4 13 rfl rfl)
theorem dX5_rounds_108 : decode cX5_rounds 108 = .ok (.aload_n 0, 1) := dk_42 (dk_at dksX5_rounds_4 15 rfl rfl)
theorem dX5_rounds_109 : decode cX5_rounds 109 = .ok (.getfield 33, 3) := dk_180 0 33 (dk_at dksX5_rounds_4 16 rfl rfl)
theorem dX5_rounds_112 : decode cX5_rounds 112 = .ok (.bipush 117, 2) := dk_16 117 (dk_at dksX5_rounds_4 19 rfl rfl)
theorem dX5_rounds_114 : decode cX5_rounds 114 = .ok (.iaload, 1) := dk_46 (dk_at dksX5_rounds_4 21 rfl rfl)
theorem dX5_rounds_115 : decode cX5_rounds 115 = .ok (.if_icmp .ge 14, 3) := dk_162 0 14 (dk_at dksX5_rounds_5 0 rfl rfl)
theorem dX5_rounds_118 : decode cX5_rounds 118 = .ok (.aload_n 0, 1) := dk_42 (dk_at dksX5_rounds_5 3 rfl rfl)
theorem dX5_rounds_119 : decode cX5_rounds 119 = .ok (.iconst 0, 1) := dk_3 (dk_at dksX5_rounds_5 4 rfl rfl)
theorem dX5_rounds_120 : decode cX5_rounds 120 = .ok (.iload_n 3, 1) := dk_29 (dk_at dksX5_rounds_5 5 rfl rfl)
theorem dX5_rounds_121 : decode cX5_rounds 121 = .ok (.iconst 1, 1) := dk_4 (dk_at dksX5_rounds_5 6 rfl rfl)
theorem dX5_rounds_122 : decode cX5_rounds 122 = .ok (.isub, 1) := dk_100 (dk_at dksX5_rounds_5 7 rfl rfl)
theorem dX5_rounds_123 : decode cX5_rounds 123 = .ok (.invokestatic 250, 3) := dk_184 0 250 (dk_at dksX5_rounds_5 8 rfl rfl)
theorem dX5_rounds_126 : decode cX5_rounds 126 = .ok (.putfield 378, 3) := dk_181 1 122 (dk_at dksX5_rounds_5 11 rfl rfl)
theorem dX5_rounds_129 : decode cX5_rounds 129 = .ok (.aload_n 0, 1) := dk_42 (dk_at dksX5_rounds_5 14 rfl rfl)
theorem dX5_rounds_130 : decode cX5_rounds 130 = .ok (.getfield 378, 3) := dk_180 1 122 (dk_at dksX5_rounds_5 15 rfl rfl)
theorem dX5_rounds_133 : decode cX5_rounds 133 = .ok (.iload_n 3, 1) := dk_29 (dk_at dksX5_rounds_5 18 rfl rfl)
theorem dX5_rounds_134 : decode cX5_rounds 134 = .ok (.if_icmp .eq 7, 3) := dk_159 0 7 (dk_at dksX5_rounds_5 19 rfl rfl)
theorem dX5_rounds_137 : decode cX5_rounds 137 = .ok (.iconst 1, 1) := dk_4 (dk_at dksX5_rounds_5 22 rfl rfl)
theorem dX5_rounds_138 : decode cX5_rounds 138 = .ok (.goto 4, 3) := dk_167 0 4 (dk_at dksX5_rounds_6 0 rfl rfl)
theorem dX5_rounds_141 : decode cX5_rounds 141 = .ok (.iconst 0, 1) := dk_3 (dk_at dksX5_rounds_6 3 rfl rfl)
theorem dX5_rounds_142 : decode cX5_rounds 142 = .ok (.istore_n 2, 1) := dk_61 (dk_at dksX5_rounds_6 4 rfl rfl)
theorem dX5_rounds_143 : decode cX5_rounds 143 = .ok (.goto (-124), 3) := dk_167 255 132 (dk_at dksX5_rounds_6 5 rfl rfl)
theorem dX5_rounds_146 : decode cX5_rounds 146 = .ok (.iload_n 1, 1) := dk_27 (dk_at dksX5_rounds_6 8 rfl rfl)
theorem dX5_rounds_147 : decode cX5_rounds 147 = .ok (.ireturn, 1) := dk_172 (dk_at dksX5_rounds_6 9 rfl rfl)
theorem fp_X5_m_5_33 {nm : String} : cz_FP "HeldCoatsModel" nm [(5, 33)] := List.forall_mem_cons.mpr ⟨⟨RX5, TX5, 49, rfl, Or.inl rfl⟩, fun _ h => absurd h List.not_mem_nil⟩
theorem fp_X5_m_5_34 {nm : String} : cz_FP "HeldCoatsModel" nm [(5, 34)] := List.forall_mem_cons.mpr ⟨⟨RX5, TX5, 49, rfl, Or.inl rfl⟩, fun _ h => absurd h List.not_mem_nil⟩
set_option maxHeartbeats 4000000 in
set_option maxRecDepth 100000 in
noncomputable def fn_X5_rounds_43 (l0 : Option Nat) (l3 : Int32) (k0 : Int32 → cz_H → cz_Z) : Nat → Int32 → Int32 → cz_H → cz_Z
  | 0, _, _, _ => none
  | n + 1, l4, l5, h => cz_getR h l0 [(5, 6)] (fun r6 => cz_iald h r6 1 (fun x7 => (if x7 ≤ l5 then k0 l4 h else cz_rc h l0 [5] (cz_cI (fn_X5_chill l0 l5 h) (fun x15 h14 => cz_rc h14 l0 [5] (cz_cI (fn_X5_chill l0 l5 h14) (fun x23 h22 => (if (x15 * x23) ≤ l3 then cz_leti (l4 + 0) (fun x24 => cz_leti (l5 + 1) (fun x25 => fn_X5_rounds_43 l0 l3 k0 n x24 x25 h22)) else cz_leti (l4 + 1) (fun x26 => cz_leti (l5 + 1) (fun x27 => fn_X5_rounds_43 l0 l3 k0 n x26 x27 h22))))))))))
set_option maxHeartbeats 4000000 in
set_option maxRecDepth 100000 in
theorem wk_X5_rounds_43 {K : cz_K} {D : cz_D} {h0 : cz_H} {oh : cz_O × cz_H} {l0 : Option Nat} {l3 : Int32} {l1 : Int32} {k0 : Int32 → cz_H → cz_Z} (S : cz_S K D h0 cX5_rounds 6 "HeldCoatsModel" ((Option.some Jvm.ClassFile.FieldType.int)) "rounds" ([])) (hk0 : ∀ (e4 : Int32) (h : cz_H), cz_T K D 6 h0 oh 6 (k0 e4 h) h 87 [(0, cz_r l0), (1, cz_i l1), (3, cz_i l3), (4, cz_i e4)] []) : ∀ (n : Nat) (l4 : Int32) (l5 : Int32) (h : cz_H), cz_T K D 6 h0 oh 6 (fn_X5_rounds_43 l0 l3 k0 n l4 l5 h) h 43 [(0, cz_r l0), (1, cz_i l1), (3, cz_i l3), (4, cz_i l4), (5, cz_i l5)] [] := by
  intro n
  induction n with
  | zero => intros; exact ct_none
  | succ n ih =>
    intro l4 l5 h
    rw [fn_X5_rounds_43]
    refine ct_iload (k := 4) S dX5_rounds_43 rfl ?_
    refine ct_aload_n (k := 0) S dX5_rounds_45 rfl rfl ?_
    refine ct_getR S fw_X5_33 dX5_rounds_46 (fun r6 => ?_)
    refine ct_iconst (v := 1) S dX5_rounds_49 kI_1 ?_
    refine ct_iald S dX5_rounds_50 (fun x7 => ?_)
    refine ct_icmp_ge (tgt := 87) S dX5_rounds_51 (by decide) ?_ ?_
    · exact ct_sub [0, 1, 2, 3] rfl (hk0 l4 h)
    · refine ct_iload (k := 3) S dX5_rounds_54 rfl ?_
      refine ct_aload_n (k := 0) S dX5_rounds_56 rfl rfl ?_
      refine ct_iload (k := 4) S dX5_rounds_57 rfl ?_
      refine ct_rc (fun b8 ci9 V10 hb11 hc12 hi13 => ?_)
      refine ct_cI (st := [cz_i l4]) (cg_virtual (av := [cz_i l5]) S hb11 hc12 hi13 (fun _ e => mt_X5_chill e) md_X5_chill q2196 q2198 se_HeldCoatsModel_chill__I_I_HeldCoatsModel (by decide) (Nat.le_of_ble_eq_true rfl) rfl dX5_rounds_59) (fun x15 h14 => ?_)
      refine ct_aload_n (k := 0) S dX5_rounds_62 rfl rfl ?_
      refine ct_iload (k := 4) S dX5_rounds_63 rfl ?_
      refine ct_rc (fun b16 ci17 V18 hb19 hc20 hi21 => ?_)
      refine ct_cI (st := [cz_i x15, cz_i l4]) (cg_virtual (av := [cz_i l5]) S hb19 hc20 hi21 (fun _ e => mt_X5_chill e) md_X5_chill q2196 q2198 se_HeldCoatsModel_chill__I_I_HeldCoatsModel (by decide) (Nat.le_of_ble_eq_true rfl) rfl dX5_rounds_65) (fun x23 h22 => ?_)
      refine ct_imul S dX5_rounds_68 ?_
      refine ct_iload_n (k := 2) S dX5_rounds_69 rfl rfl ?_
      refine ct_icmp_le (tgt := 77) S dX5_rounds_70 (by decide) ?_ ?_
      · refine ct_iconst (v := 0) S dX5_rounds_77 kI_0 ?_
        refine ct_iadd S dX5_rounds_78 ?_
        refine ct_leti (fun x24 => ?_)
        refine ct_istore (L' := [(4, cz_i x24), (0, cz_r l0), (1, cz_i l1), (3, cz_i l3), (5, cz_i l5)]) S dX5_rounds_79 (by decide) rfl ?_
        refine ct_iincL (j := 4) (L2 := fun x25 => [(5, cz_i x25), (4, cz_i x24), (0, cz_r l0), (1, cz_i l1), (3, cz_i l3)]) S dX5_rounds_81 rfl kI_1 (by decide) (fun _ => rfl) (fun x25 => ?_)
        refine ct_goto (tgt := 43) S dX5_rounds_84 (by decide) ?_
        exact ct_sub [2, 3, 4, 1, 0] rfl (ih x24 x25 h22)
      · refine ct_iconst (v := 1) S dX5_rounds_73 kI_1 ?_
        refine ct_goto (tgt := 78) S dX5_rounds_74 (by decide) ?_
        refine ct_iadd S dX5_rounds_78 ?_
        refine ct_leti (fun x26 => ?_)
        refine ct_istore (L' := [(4, cz_i x26), (0, cz_r l0), (1, cz_i l1), (3, cz_i l3), (5, cz_i l5)]) S dX5_rounds_79 (by decide) rfl ?_
        refine ct_iincL (j := 4) (L2 := fun x27 => [(5, cz_i x27), (4, cz_i x26), (0, cz_r l0), (1, cz_i l1), (3, cz_i l3)]) S dX5_rounds_81 rfl kI_1 (by decide) (fun _ => rfl) (fun x27 => ?_)
        refine ct_goto (tgt := 43) S dX5_rounds_84 (by decide) ?_
        exact ct_sub [2, 3, 4, 1, 0] rfl (ih x26 x27 h22)
set_option maxHeartbeats 4000000 in
set_option maxRecDepth 100000 in
noncomputable def fn_X5_rounds_19 (l0 : Option Nat) (k0 : Int32 → cz_H → cz_Z) : Nat → Int32 → Int32 → cz_H → cz_Z
  | 0, _, _, _ => none
  | n + 1, l1, l2, h => (if l2 = 0 then k0 l1 h else (if (60 : Int32) ≤ l1 then k0 l1 h else cz_leti (l1 + 1) (fun x4 => cz_getI h l0 [(5, 33)] (fun x5 => fn_X5_rounds_43 l0 x5 (fun (e28 : Int32) (h29 : cz_H) => cz_getR h29 l0 [(5, 6)] (fun r30 => cz_iald h29 r30 117 (fun x31 => cz_jn (fun (h32 : cz_H) => cz_getR h32 l0 [(5, 6)] (fun r33 => cz_iald h32 r33 117 (fun x34 => cz_jn (fun (h35 : cz_H) => cz_getI h35 l0 [(5, 33)] (fun x36 => (if x36 = x5 then fn_X5_rounds_19 l0 k0 n x4 0 h35 else fn_X5_rounds_19 l0 k0 n x4 1 h35))) (fun j37 => (if x34 ≤ e28 then j37 h32 else cz_cI (fn_X5_greater 0 (x5 - 1) h32) (fun x39 h38 => cz_put h38 l0 [(5, 33)] (cz_i x39) (fun h40 => j37 h40))))))) (fun j41 => (if e28 ≤ x31 then j41 h29 else cz_put h29 l0 [(5, 33)] (cz_i (x5 + 1)) (fun h42 => j41 h42)))))) 1000 0 0 h))))
set_option maxHeartbeats 4000000 in
set_option maxRecDepth 100000 in
theorem wk_X5_rounds_19 {K : cz_K} {D : cz_D} {h0 : cz_H} {oh : cz_O × cz_H} {l0 : Option Nat} {k0 : Int32 → cz_H → cz_Z} (S : cz_S K D h0 cX5_rounds 6 "HeldCoatsModel" ((Option.some Jvm.ClassFile.FieldType.int)) "rounds" ([])) (hk0 : ∀ (e1 : Int32) (h : cz_H), cz_T K D 6 h0 oh 6 (k0 e1 h) h 146 [(1, cz_i e1)] []) : ∀ (n : Nat) (l1 : Int32) (l2 : Int32) (h : cz_H), cz_T K D 6 h0 oh 6 (fn_X5_rounds_19 l0 k0 n l1 l2 h) h 19 [(0, cz_r l0), (1, cz_i l1), (2, cz_i l2)] [] := by
  intro n
  induction n with
  | zero => intros; exact ct_none
  | succ n ih =>
    intro l1 l2 h
    rw [fn_X5_rounds_19]
    refine ct_iload_n (k := 2) S dX5_rounds_19 rfl rfl ?_
    refine ct_if_eq (tgt := 146) S dX5_rounds_20 (by decide) ?_ ?_
    · exact ct_sub [1] rfl (hk0 l1 h)
    · refine ct_iload_n (k := 1) S dX5_rounds_23 rfl rfl ?_
      refine ct_bipush (v := 60) S dX5_rounds_24 kB_60 ?_
      refine ct_icmp_ge (tgt := 146) S dX5_rounds_26 (by decide) ?_ ?_
      · exact ct_sub [1] rfl (hk0 l1 h)
      · refine ct_iincL (j := 1) (L2 := fun x4 => [(1, cz_i x4), (0, cz_r l0), (2, cz_i l2)]) S dX5_rounds_29 rfl kI_1 (by decide) (fun _ => rfl) (fun x4 => ?_)
        refine ct_aload_n (k := 1) S dX5_rounds_32 rfl rfl ?_
        refine ct_getI S fw_X5_378 dX5_rounds_33 (fun x5 => ?_)
        refine ct_istore_n (L' := [(3, cz_i x5), (1, cz_i x4), (0, cz_r l0), (2, cz_i l2)]) S dX5_rounds_36 rfl (by decide) rfl ?_
        refine ct_iconst (v := 0) S dX5_rounds_37 kI_0 ?_
        refine ct_istore (L' := [(4, cz_i 0), (3, cz_i x5), (1, cz_i x4), (0, cz_r l0), (2, cz_i l2)]) S dX5_rounds_38 (by decide) rfl ?_
        refine ct_iconst (v := 0) S dX5_rounds_40 kI_0 ?_
        refine ct_istore (L' := [(5, cz_i 0), (4, cz_i 0), (3, cz_i x5), (1, cz_i x4), (0, cz_r l0), (2, cz_i l2)]) S dX5_rounds_41 (by decide) rfl ?_
        refine ct_sub [4, 3, 2, 1, 0] (L' := [(0, cz_r l0), (1, cz_i x4), (3, cz_i x5), (4, cz_i 0), (5, cz_i 0)]) rfl (wk_X5_rounds_43 S ?_ 1000 0 0 h)
        · intro e28 h29
          refine ct_iload (k := 3) S dX5_rounds_87 rfl ?_
          refine ct_aload_n (k := 0) S dX5_rounds_89 rfl rfl ?_
          refine ct_getR S fw_X5_33 dX5_rounds_90 (fun r30 => ?_)
          refine ct_bipush (v := 117) S dX5_rounds_93 kB_117 ?_
          refine ct_iald S dX5_rounds_95 (fun x31 => ?_)
          refine ct_jnP (fun j41 => ∀ (h32 : cz_H), cz_T K D 6 h0 oh 6 (j41 h32) h32 106 [(0, cz_r l0), (1, cz_i x4), (3, cz_i x5), (4, cz_i e28)] []) (fun h32 => ?_) (fun j41 Hj41 => ?_)
          · refine ct_iload (k := 3) S dX5_rounds_106 rfl ?_
            refine ct_aload_n (k := 0) S dX5_rounds_108 rfl rfl ?_
            refine ct_getR S fw_X5_33 dX5_rounds_109 (fun r33 => ?_)
            refine ct_bipush (v := 117) S dX5_rounds_112 kB_117 ?_
            refine ct_iald S dX5_rounds_114 (fun x34 => ?_)
            refine ct_jnP (fun j37 => ∀ (h35 : cz_H), cz_T K D 6 h0 oh 6 (j37 h35) h35 129 [(0, cz_r l0), (1, cz_i x4), (3, cz_i x5)] []) (fun h35 => ?_) (fun j37 Hj37 => ?_)
            · refine ct_aload_n (k := 0) S dX5_rounds_129 rfl rfl ?_
              refine ct_getI S fw_X5_378 dX5_rounds_130 (fun x36 => ?_)
              refine ct_iload_n (k := 2) S dX5_rounds_133 rfl rfl ?_
              refine ct_icmp_eq (tgt := 141) S dX5_rounds_134 (by decide) ?_ ?_
              · refine ct_iconst (v := 0) S dX5_rounds_141 kI_0 ?_
                refine ct_istore_n (L' := [(2, cz_i 0), (0, cz_r l0), (1, cz_i x4), (3, cz_i x5)]) S dX5_rounds_142 rfl (by decide) rfl ?_
                refine ct_goto (tgt := 19) S dX5_rounds_143 (by decide) ?_
                exact ct_sub [1, 2, 0] rfl (ih x4 0 h35)
              · refine ct_iconst (v := 1) S dX5_rounds_137 kI_1 ?_
                refine ct_goto (tgt := 142) S dX5_rounds_138 (by decide) ?_
                refine ct_istore_n (L' := [(2, cz_i 1), (0, cz_r l0), (1, cz_i x4), (3, cz_i x5)]) S dX5_rounds_142 rfl (by decide) rfl ?_
                refine ct_goto (tgt := 19) S dX5_rounds_143 (by decide) ?_
                exact ct_sub [1, 2, 0] rfl (ih x4 1 h35)
            · refine ct_icmp_ge (tgt := 129) S dX5_rounds_115 (by decide) ?_ ?_
              · exact ct_sub [0, 1, 2] rfl (Hj37 h32)
              · refine ct_aload_n (k := 0) S dX5_rounds_118 rfl rfl ?_
                refine ct_iconst (v := 0) S dX5_rounds_119 kI_0 ?_
                refine ct_iload_n (k := 2) S dX5_rounds_120 rfl rfl ?_
                refine ct_iconst (v := 1) S dX5_rounds_121 kI_1 ?_
                refine ct_isub S dX5_rounds_122 ?_
                refine ct_cI (st := [cz_r l0]) (cg_static (av := [cz_i 0, cz_i (x5 - 1)]) S (fun _ e => mt_X5_greater e) md_X5_greater (Or.inl q2212) q2213 (by decide) (Nat.le_of_ble_eq_true rfl) rfl dX5_rounds_123) (fun x39 h38 => ?_)
                refine ct_put S fw_X5_378 fp_X5_m_5_33 (cz_fits_i pd_I) dX5_rounds_126 (fun h40 => ?_)
                exact ct_sub [0, 1, 2] rfl (Hj37 h40)
          · refine ct_icmp_le (tgt := 106) S dX5_rounds_96 (by decide) ?_ ?_
            · exact Hj41 h29
            · refine ct_aload_n (k := 0) S dX5_rounds_99 rfl rfl ?_
              refine ct_iload_n (k := 2) S dX5_rounds_100 rfl rfl ?_
              refine ct_iconst (v := 1) S dX5_rounds_101 kI_1 ?_
              refine ct_iadd S dX5_rounds_102 ?_
              refine ct_put S fw_X5_378 fp_X5_m_5_33 (cz_fits_i pd_I) dX5_rounds_103 (fun h42 => ?_)
              exact Hj41 h42
set_option maxHeartbeats 4000000 in
set_option maxRecDepth 100000 in
noncomputable def fn_X5_rounds (l0 : Option Nat) (h : cz_H) : cz_Z := cz_put h l0 [(5, 0)] (cz_i 0) (fun h1 => cz_put h1 l0 [(5, 33)] (cz_i 5) (fun h2 => cz_put h2 l0 [(5, 34)] (cz_i 1) (fun h3 => fn_X5_rounds_19 l0 (fun (e43 : Int32) (h44 : cz_H) => some (.inl (some (cz_i e43)), h44)) 1000 0 1 h3)))
set_option maxHeartbeats 4000000 in
set_option maxRecDepth 100000 in
theorem wk_X5_rounds {K : cz_K} {D : cz_D} {h0 : cz_H} {oh : cz_O × cz_H} {l0 : Option Nat} {h : cz_H} (S : cz_S K D h0 cX5_rounds 6 "HeldCoatsModel" ((Option.some Jvm.ClassFile.FieldType.int)) "rounds" ([])) : cz_T K D 6 h0 oh 6 (fn_X5_rounds l0 h) h 0 [(0, cz_r l0)] [] := by
  unfold fn_X5_rounds
  refine ct_aload_n (k := 0) S dX5_rounds_0 rfl rfl ?_
  refine ct_iconst (v := 0) S dX5_rounds_1 kI_0 ?_
  refine ct_put S fw_X5_1 fp_X5_m_5_0 (cz_fits_i pd_I) dX5_rounds_2 (fun h1 => ?_)
  refine ct_aload_n (k := 0) S dX5_rounds_5 rfl rfl ?_
  refine ct_iconst (v := 5) S dX5_rounds_6 kI_5 ?_
  refine ct_put S fw_X5_378 fp_X5_m_5_33 (cz_fits_i pd_I) dX5_rounds_7 (fun h2 => ?_)
  refine ct_aload_n (k := 0) S dX5_rounds_10 rfl rfl ?_
  refine ct_iconst (v := 1) S dX5_rounds_11 kI_1 ?_
  refine ct_put S fw_X5_381 fp_X5_m_5_34 (cz_fits_z pd_Z (Or.inr rfl)) dX5_rounds_12 (fun h3 => ?_)
  refine ct_iconst (v := 0) S dX5_rounds_15 kI_0 ?_
  refine ct_istore_n (L' := [(1, cz_i 0), (0, cz_r l0)]) S dX5_rounds_16 rfl (by decide) rfl ?_
  refine ct_iconst (v := 1) S dX5_rounds_17 kI_1 ?_
  refine ct_istore_n (L' := [(2, cz_i 1), (1, cz_i 0), (0, cz_r l0)]) S dX5_rounds_18 rfl (by decide) rfl ?_
  refine ct_sub [2, 1, 0] (L' := [(0, cz_r l0), (1, cz_i 0), (2, cz_i 1)]) rfl (wk_X5_rounds_19 S ?_ 1000 0 1 h3)
  · intro e43 h44
    refine ct_iload_n (k := 0) S dX5_rounds_146 rfl rfl ?_
    exact ct_iret S rfl dX5_rounds_147
theorem mt_X5_rounds {l : Launch} {D : cz_D} {l0 : Option Nat} {h : cz_H} {oh : cz_O × cz_H} (hz : fn_X5_rounds l0 h = some oh) : cz_M l D yX5_rounds (ws_ yX5_rounds cX5_rounds 6 ((Option.some Jvm.ClassFile.FieldType.int))) 6 [cz_r l0] h oh := cz_met (plainFor_of_name (by decide)) (Nat.le_of_ble_eq_true rfl) hz (fun K hl S => wk_X5_rounds S)
/-! HeldCoatsModel.rules(I)I -/
def dkwX5_rules_0 : List UInt8 := [42, 3, 181, 0, 1, 42, 27, 182, 1, 14, 153, 0, 11, 42, 27, 182, 1, 107, 167, 0, 4, 2, 172]
abbrev dktX5_rules_0 : List UInt8 := dkwX5_rules_0 ++ []
theorem dksX5_rules_0 : cX5_rules.data.toList.drop 0 = dktX5_rules_0 := by decide +kernel
theorem dX5_rules_0 : decode cX5_rules 0 = .ok (.aload_n 0, 1) := dk_42 (dk_at dksX5_rules_0 0 rfl rfl)
theorem dX5_rules_1 : decode cX5_rules 1 = .ok (.iconst 0, 1) := dk_3 (dk_at dksX5_rules_0 1 rfl rfl)
theorem dX5_rules_2 : decode cX5_rules 2 = .ok (.putfield 1, 3) := dk_181 0 1 (dk_at dksX5_rules_0 2 rfl rfl)
theorem dX5_rules_5 : decode cX5_rules 5 = .ok (.aload_n 0, 1) := dk_42 (dk_at dksX5_rules_0 5 rfl rfl)
theorem dX5_rules_6 : decode cX5_rules 6 = .ok (.iload_n 1, 1) := dk_27 (dk_at dksX5_rules_0 6 rfl rfl)
theorem dX5_rules_7 : decode cX5_rules 7 = .ok (.invokevirtual 270, 3) := dk_182 1 14 (dk_at dksX5_rules_0 7 rfl rfl)
theorem dX5_rules_10 : decode cX5_rules 10 = .ok (.ifCond .eq 11, 3) := dk_153 0 11 (dk_at dksX5_rules_0 10 rfl rfl)
theorem dX5_rules_13 : decode cX5_rules 13 = .ok (.aload_n 0, 1) := dk_42 (dk_at dksX5_rules_0 13 rfl rfl)
theorem dX5_rules_14 : decode cX5_rules 14 = .ok (.iload_n 1, 1) := dk_27 (dk_at dksX5_rules_0 14 rfl rfl)
theorem dX5_rules_15 : decode cX5_rules 15 = .ok (.invokevirtual 363, 3) := dk_182 1 107 (dk_at dksX5_rules_0 15 rfl rfl)
theorem dX5_rules_18 : decode cX5_rules 18 = .ok (.goto 4, 3) := dk_167 0 4 (dk_at dksX5_rules_0 18 rfl rfl)
theorem dX5_rules_21 : decode cX5_rules 21 = .ok (.iconst (-1), 1) := dk_2 (dk_at dksX5_rules_0 21 rfl rfl)
theorem dX5_rules_22 : decode cX5_rules 22 = .ok (.ireturn, 1) := dk_172 (dk_at dksX5_rules_0 22 rfl rfl)
set_option maxHeartbeats 4000000 in
set_option maxRecDepth 100000 in
noncomputable def fn_X5_rules (l0 : Option Nat) (l1 : Int32) (h : cz_H) : cz_Z := cz_put h l0 [(5, 0)] (cz_i 0) (fun h1 => cz_rc h1 l0 [5] (cz_cI (fn_X5_isMan l0 l1 h1) (fun x9 h8 => (if x9 = 0 then some (.inl (some (cz_i (-1))), h8) else cz_rc h8 l0 [5] (cz_cI (fn_X5_firstOf l0 l1 h8) (fun x17 h16 => some (.inl (some (cz_i x17)), h16)))))))
set_option maxHeartbeats 4000000 in
set_option maxRecDepth 100000 in
theorem wk_X5_rules {K : cz_K} {D : cz_D} {h0 : cz_H} {oh : cz_O × cz_H} {l0 : Option Nat} {l1 : Int32} {h : cz_H} (S : cz_S K D h0 cX5_rules 2 "HeldCoatsModel" ((Option.some Jvm.ClassFile.FieldType.int)) "rules" ([])) : cz_T K D 8 h0 oh 2 (fn_X5_rules l0 l1 h) h 0 [(0, cz_r l0), (1, cz_i l1)] [] := by
  unfold fn_X5_rules
  refine ct_aload_n (k := 0) S dX5_rules_0 rfl rfl ?_
  refine ct_iconst (v := 0) S dX5_rules_1 kI_0 ?_
  refine ct_put S fw_X5_1 fp_X5_m_5_0 (cz_fits_i pd_I) dX5_rules_2 (fun h1 => ?_)
  refine ct_aload_n (k := 0) S dX5_rules_5 rfl rfl ?_
  refine ct_iload_n (k := 1) S dX5_rules_6 rfl rfl ?_
  refine ct_rc (fun b2 ci3 V4 hb5 hc6 hi7 => ?_)
  refine ct_cI (st := []) (cg_virtual (av := [cz_i l1]) S hb5 hc6 hi7 (fun _ e => mt_X5_isMan e) md_X5_isMan q2188 q2190 se_HeldCoatsModel_isMan__I_Z_HeldCoatsModel (by decide) (Nat.le_of_ble_eq_true rfl) rfl dX5_rules_7) (fun x9 h8 => ?_)
  refine ct_if_eq (tgt := 21) S dX5_rules_10 (by decide) ?_ ?_
  · refine ct_iconst (v := (-1)) S dX5_rules_21 kI_m1 ?_
    exact ct_iret S rfl dX5_rules_22
  · refine ct_aload_n (k := 0) S dX5_rules_13 rfl rfl ?_
    refine ct_iload_n (k := 1) S dX5_rules_14 rfl rfl ?_
    refine ct_rc (fun b10 ci11 V12 hb13 hc14 hi15 => ?_)
    refine ct_cI (st := []) (cg_virtual (av := [cz_i l1]) S hb13 hc14 hi15 (fun _ e => mt_X5_firstOf e) md_X5_firstOf q2382 q2384 se_HeldCoatsModel_firstOf__I_I_HeldCoatsModel (by decide) (Nat.le_of_ble_eq_true rfl) rfl dX5_rules_15) (fun x17 h16 => ?_)
    refine ct_goto (tgt := 22) S dX5_rules_18 (by decide) ?_
    exact ct_iret S rfl dX5_rules_22
theorem mt_X5_rules {l : Launch} {D : cz_D} {l0 : Option Nat} {l1 : Int32} {h : cz_H} {oh : cz_O × cz_H} (hz : fn_X5_rules l0 l1 h = some oh) : cz_M l D yX5_rules (ws_ yX5_rules cX5_rules 2 ((Option.some Jvm.ClassFile.FieldType.int))) 8 [cz_r l0, cz_i l1] h oh := cz_met (plainFor_of_name (by decide)) (Nat.le_of_ble_eq_true rfl) hz (fun K hl S => wk_X5_rules S)
/-! HeldCoatsModel.isLeaf(IIII)Z -/
def dkwX5_isLeaf_9 : List UInt8 := [164, 0, 7, 4, 167, 0, 4, 3, 172]
abbrev dktX5_isLeaf_9 : List UInt8 := dkwX5_isLeaf_9 ++ []
def dkwX5_isLeaf_8 : List UInt8 := [160, 0, 18, 21, 6, 21, 4, 160, 0, 7, 4, 167, 0, 19, 3, 167, 0, 15, 21, 6, 21, 4]
abbrev dktX5_isLeaf_8 : List UInt8 := dkwX5_isLeaf_8 ++ dktX5_isLeaf_9
def dkwX5_isLeaf_7 : List UInt8 := [29, 16, 60, 160, 0, 18, 21, 6, 21, 4, 162, 0, 7, 4, 167, 0, 40, 3, 167, 0, 36, 29, 16, 61]
abbrev dktX5_isLeaf_7 : List UInt8 := dkwX5_isLeaf_7 ++ dktX5_isLeaf_8
def dkwX5_isLeaf_6 : List UInt8 := [180, 0, 33, 16, 89, 21, 5, 96, 46, 167, 0, 13, 42, 180, 0, 33, 16, 81, 21, 5, 96, 46, 54, 6]
abbrev dktX5_isLeaf_6 : List UInt8 := dkwX5_isLeaf_6 ++ dktX5_isLeaf_7
def dkwX5_isLeaf_5 : List UInt8 := [16, 7, 160, 0, 7, 27, 167, 0, 40, 21, 5, 156, 0, 7, 3, 167, 0, 31, 28, 8, 160, 0, 16, 42]
abbrev dktX5_isLeaf_5 : List UInt8 := dkwX5_isLeaf_5 ++ dktX5_isLeaf_6
def dkwX5_isLeaf_4 : List UInt8 := [4, 167, 0, 4, 3, 172, 28, 7, 160, 0, 15, 42, 180, 0, 33, 16, 8, 27, 96, 46, 167, 0, 50, 28]
abbrev dktX5_isLeaf_4 : List UInt8 := dkwX5_isLeaf_4 ++ dktX5_isLeaf_5
def dkwX5_isLeaf_3 : List UInt8 := [172, 42, 27, 182, 1, 11, 21, 4, 160, 0, 7, 4, 167, 0, 4, 3, 172, 21, 5, 21, 4, 160, 0, 7]
abbrev dktX5_isLeaf_3 : List UInt8 := dkwX5_isLeaf_3 ++ dktX5_isLeaf_4
def dkwX5_isLeaf_2 : List UInt8 := [21, 5, 156, 0, 7, 4, 167, 0, 4, 3, 172, 42, 27, 182, 1, 11, 155, 0, 7, 4, 167, 0, 4, 3]
abbrev dktX5_isLeaf_2 : List UInt8 := dkwX5_isLeaf_2 ++ dktX5_isLeaf_3
def dkwX5_isLeaf_1 : List UInt8 := [170, 0, 0, 0, 0, 0, 0, 86, 0, 0, 0, 0, 0, 0, 0, 3, 0, 0, 0, 32, 0, 0, 0, 43, 0, 0, 0, 57, 0, 0, 0, 73]
abbrev dktX5_isLeaf_1 : List UInt8 := dkwX5_isLeaf_1 ++ dktX5_isLeaf_2
def dkwX5_isLeaf_0 : List UInt8 := [42, 27, 182, 0, 238, 54, 5, 28]
abbrev dktX5_isLeaf_0 : List UInt8 := dkwX5_isLeaf_0 ++ dktX5_isLeaf_1
theorem dksX5_isLeaf_0 : cX5_isLeaf.data.toList.drop 0 = dktX5_isLeaf_0 := by decide +kernel
theorem dksX5_isLeaf_1 : cX5_isLeaf.data.toList.drop 8 = dktX5_isLeaf_1 := dk_seg dksX5_isLeaf_0 8 rfl rfl
theorem dksX5_isLeaf_2 : cX5_isLeaf.data.toList.drop 40 = dktX5_isLeaf_2 := dk_seg dksX5_isLeaf_1 32 rfl rfl
theorem dksX5_isLeaf_3 : cX5_isLeaf.data.toList.drop 64 = dktX5_isLeaf_3 := dk_seg dksX5_isLeaf_2 24 rfl rfl
theorem dksX5_isLeaf_4 : cX5_isLeaf.data.toList.drop 88 = dktX5_isLeaf_4 := dk_seg dksX5_isLeaf_3 24 rfl rfl
theorem dksX5_isLeaf_5 : cX5_isLeaf.data.toList.drop 112 = dktX5_isLeaf_5 := dk_seg dksX5_isLeaf_4 24 rfl rfl
theorem dksX5_isLeaf_6 : cX5_isLeaf.data.toList.drop 136 = dktX5_isLeaf_6 := dk_seg dksX5_isLeaf_5 24 rfl rfl
theorem dksX5_isLeaf_7 : cX5_isLeaf.data.toList.drop 160 = dktX5_isLeaf_7 := dk_seg dksX5_isLeaf_6 24 rfl rfl
theorem dksX5_isLeaf_8 : cX5_isLeaf.data.toList.drop 184 = dktX5_isLeaf_8 := dk_seg dksX5_isLeaf_7 24 rfl rfl
theorem dksX5_isLeaf_9 : cX5_isLeaf.data.toList.drop 206 = dktX5_isLeaf_9 := dk_seg dksX5_isLeaf_8 22 rfl rfl
theorem dX5_isLeaf_0 : decode cX5_isLeaf 0 = .ok (.aload_n 0, 1) := dk_42 (dk_at dksX5_isLeaf_0 0 rfl rfl)
theorem dX5_isLeaf_1 : decode cX5_isLeaf 1 = .ok (.iload_n 1, 1) := dk_27 (dk_at dksX5_isLeaf_0 1 rfl rfl)
theorem dX5_isLeaf_2 : decode cX5_isLeaf 2 = .ok (.invokevirtual 238, 3) := dk_182 0 238 (dk_at dksX5_isLeaf_0 2 rfl rfl)
theorem dX5_isLeaf_5 : decode cX5_isLeaf 5 = .ok (.istore 5, 2) := dk_54 5 (dk_at dksX5_isLeaf_0 5 rfl rfl)
theorem dX5_isLeaf_7 : decode cX5_isLeaf 7 = .ok (.iload_n 2, 1) := dk_28 (dk_at dksX5_isLeaf_0 7 rfl rfl)
theorem dX5_isLeaf_8 : decode cX5_isLeaf 8 = .ok (.tableswitch 86 0 3 #[32, 43, 57, 73], 32) := by decide +kernel
theorem dX5_isLeaf_40 : decode cX5_isLeaf 40 = .ok (.iload 5, 2) := dk_21 5 (dk_at dksX5_isLeaf_2 0 rfl rfl)
theorem dX5_isLeaf_42 : decode cX5_isLeaf 42 = .ok (.ifCond .ge 7, 3) := dk_156 0 7 (dk_at dksX5_isLeaf_2 2 rfl rfl)
theorem dX5_isLeaf_45 : decode cX5_isLeaf 45 = .ok (.iconst 1, 1) := dk_4 (dk_at dksX5_isLeaf_2 5 rfl rfl)
theorem dX5_isLeaf_46 : decode cX5_isLeaf 46 = .ok (.goto 4, 3) := dk_167 0 4 (dk_at dksX5_isLeaf_2 6 rfl rfl)
theorem dX5_isLeaf_49 : decode cX5_isLeaf 49 = .ok (.iconst 0, 1) := dk_3 (dk_at dksX5_isLeaf_2 9 rfl rfl)
theorem dX5_isLeaf_50 : decode cX5_isLeaf 50 = .ok (.ireturn, 1) := dk_172 (dk_at dksX5_isLeaf_2 10 rfl rfl)
theorem dX5_isLeaf_51 : decode cX5_isLeaf 51 = .ok (.aload_n 0, 1) := dk_42 (dk_at dksX5_isLeaf_2 11 rfl rfl)
theorem dX5_isLeaf_52 : decode cX5_isLeaf 52 = .ok (.iload_n 1, 1) := dk_27 (dk_at dksX5_isLeaf_2 12 rfl rfl)
theorem dX5_isLeaf_53 : decode cX5_isLeaf 53 = .ok (.invokevirtual 267, 3) := dk_182 1 11 (dk_at dksX5_isLeaf_2 13 rfl rfl)
theorem dX5_isLeaf_56 : decode cX5_isLeaf 56 = .ok (.ifCond .lt 7, 3) := dk_155 0 7 (dk_at dksX5_isLeaf_2 16 rfl rfl)
theorem dX5_isLeaf_59 : decode cX5_isLeaf 59 = .ok (.iconst 1, 1) := dk_4 (dk_at dksX5_isLeaf_2 19 rfl rfl)
theorem dX5_isLeaf_60 : decode cX5_isLeaf 60 = .ok (.goto 4, 3) := dk_167 0 4 (dk_at dksX5_isLeaf_2 20 rfl rfl)
theorem dX5_isLeaf_63 : decode cX5_isLeaf 63 = .ok (.iconst 0, 1) := dk_3 (dk_at dksX5_isLeaf_2 23 rfl rfl)
theorem dX5_isLeaf_64 : decode cX5_isLeaf 64 = .ok (.ireturn, 1) := dk_172 (dk_at dksX5_isLeaf_3 0 rfl rfl)
theorem dX5_isLeaf_65 : decode cX5_isLeaf 65 = .ok (.aload_n 0, 1) := dk_42 (dk_at dksX5_isLeaf_3 1 rfl rfl)
theorem dX5_isLeaf_66 : decode cX5_isLeaf 66 = .ok (.iload_n 1, 1) := dk_27 (dk_at dksX5_isLeaf_3 2 rfl rfl)
theorem dX5_isLeaf_67 : decode cX5_isLeaf 67 = .ok (.invokevirtual 267, 3) := dk_182 1 11 (dk_at dksX5_isLeaf_3 3 rfl rfl)
theorem dX5_isLeaf_70 : decode cX5_isLeaf 70 = .ok (.iload 4, 2) := dk_21 4 (dk_at dksX5_isLeaf_3 6 rfl rfl)
theorem dX5_isLeaf_72 : decode cX5_isLeaf 72 = .ok (.if_icmp .ne 7, 3) := dk_160 0 7 (dk_at dksX5_isLeaf_3 8 rfl rfl)
theorem dX5_isLeaf_75 : decode cX5_isLeaf 75 = .ok (.iconst 1, 1) := dk_4 (dk_at dksX5_isLeaf_3 11 rfl rfl)
theorem dX5_isLeaf_76 : decode cX5_isLeaf 76 = .ok (.goto 4, 3) := dk_167 0 4 (dk_at dksX5_isLeaf_3 12 rfl rfl)
theorem dX5_isLeaf_79 : decode cX5_isLeaf 79 = .ok (.iconst 0, 1) := dk_3 (dk_at dksX5_isLeaf_3 15 rfl rfl)
theorem dX5_isLeaf_80 : decode cX5_isLeaf 80 = .ok (.ireturn, 1) := dk_172 (dk_at dksX5_isLeaf_3 16 rfl rfl)
theorem dX5_isLeaf_81 : decode cX5_isLeaf 81 = .ok (.iload 5, 2) := dk_21 5 (dk_at dksX5_isLeaf_3 17 rfl rfl)
theorem dX5_isLeaf_83 : decode cX5_isLeaf 83 = .ok (.iload 4, 2) := dk_21 4 (dk_at dksX5_isLeaf_3 19 rfl rfl)
theorem dX5_isLeaf_85 : decode cX5_isLeaf 85 = .ok (.if_icmp .ne 7, 3) := dk_160 0 7 (dk_at dksX5_isLeaf_3 21 rfl rfl)
theorem dX5_isLeaf_88 : decode cX5_isLeaf 88 = .ok (.iconst 1, 1) := dk_4 (dk_at dksX5_isLeaf_4 0 rfl rfl)
theorem dX5_isLeaf_89 : decode cX5_isLeaf 89 = .ok (.goto 4, 3) := dk_167 0 4 (dk_at dksX5_isLeaf_4 1 rfl rfl)
theorem dX5_isLeaf_92 : decode cX5_isLeaf 92 = .ok (.iconst 0, 1) := dk_3 (dk_at dksX5_isLeaf_4 4 rfl rfl)
theorem dX5_isLeaf_93 : decode cX5_isLeaf 93 = .ok (.ireturn, 1) := dk_172 (dk_at dksX5_isLeaf_4 5 rfl rfl)
theorem dX5_isLeaf_94 : decode cX5_isLeaf 94 = .ok (.iload_n 2, 1) := dk_28 (dk_at dksX5_isLeaf_4 6 rfl rfl)
theorem dX5_isLeaf_95 : decode cX5_isLeaf 95 = .ok (.iconst 4, 1) := dk_7 (dk_at dksX5_isLeaf_4 7 rfl rfl)
theorem dX5_isLeaf_96 : decode cX5_isLeaf 96 = .ok (.if_icmp .ne 15, 3) := dk_160 0 15 (dk_at dksX5_isLeaf_4 8 rfl rfl)
theorem dX5_isLeaf_99 : decode cX5_isLeaf 99 = .ok (.aload_n 0, 1) := dk_42 (dk_at dksX5_isLeaf_4 11 rfl rfl)
theorem dX5_isLeaf_100 : decode cX5_isLeaf 100 = .ok (.getfield 33, 3) := dk_180 0 33 (dk_at dksX5_isLeaf_4 12 rfl rfl)
theorem dX5_isLeaf_103 : decode cX5_isLeaf 103 = .ok (.bipush 8, 2) := dk_16 8 (dk_at dksX5_isLeaf_4 15 rfl rfl)
theorem dX5_isLeaf_105 : decode cX5_isLeaf 105 = .ok (.iload_n 1, 1) := dk_27 (dk_at dksX5_isLeaf_4 17 rfl rfl)
theorem dX5_isLeaf_106 : decode cX5_isLeaf 106 = .ok (.iadd, 1) := dk_96 (dk_at dksX5_isLeaf_4 18 rfl rfl)
theorem dX5_isLeaf_107 : decode cX5_isLeaf 107 = .ok (.iaload, 1) := dk_46 (dk_at dksX5_isLeaf_4 19 rfl rfl)
theorem dX5_isLeaf_108 : decode cX5_isLeaf 108 = .ok (.goto 50, 3) := dk_167 0 50 (dk_at dksX5_isLeaf_4 20 rfl rfl)
theorem dX5_isLeaf_111 : decode cX5_isLeaf 111 = .ok (.iload_n 2, 1) := dk_28 (dk_at dksX5_isLeaf_4 23 rfl rfl)
theorem dX5_isLeaf_112 : decode cX5_isLeaf 112 = .ok (.bipush 7, 2) := dk_16 7 (dk_at dksX5_isLeaf_5 0 rfl rfl)
theorem dX5_isLeaf_114 : decode cX5_isLeaf 114 = .ok (.if_icmp .ne 7, 3) := dk_160 0 7 (dk_at dksX5_isLeaf_5 2 rfl rfl)
theorem dX5_isLeaf_117 : decode cX5_isLeaf 117 = .ok (.iload_n 1, 1) := dk_27 (dk_at dksX5_isLeaf_5 5 rfl rfl)
theorem dX5_isLeaf_118 : decode cX5_isLeaf 118 = .ok (.goto 40, 3) := dk_167 0 40 (dk_at dksX5_isLeaf_5 6 rfl rfl)
theorem dX5_isLeaf_121 : decode cX5_isLeaf 121 = .ok (.iload 5, 2) := dk_21 5 (dk_at dksX5_isLeaf_5 9 rfl rfl)
theorem dX5_isLeaf_123 : decode cX5_isLeaf 123 = .ok (.ifCond .ge 7, 3) := dk_156 0 7 (dk_at dksX5_isLeaf_5 11 rfl rfl)
theorem dX5_isLeaf_126 : decode cX5_isLeaf 126 = .ok (.iconst 0, 1) := dk_3 (dk_at dksX5_isLeaf_5 14 rfl rfl)
theorem dX5_isLeaf_127 : decode cX5_isLeaf 127 = .ok (.goto 31, 3) := dk_167 0 31 (dk_at dksX5_isLeaf_5 15 rfl rfl)
theorem dX5_isLeaf_130 : decode cX5_isLeaf 130 = .ok (.iload_n 2, 1) := dk_28 (dk_at dksX5_isLeaf_5 18 rfl rfl)
theorem dX5_isLeaf_131 : decode cX5_isLeaf 131 = .ok (.iconst 5, 1) := dk_8 (dk_at dksX5_isLeaf_5 19 rfl rfl)
theorem dX5_isLeaf_132 : decode cX5_isLeaf 132 = .ok (.if_icmp .ne 16, 3) := dk_160 0 16 (dk_at dksX5_isLeaf_5 20 rfl rfl)
theorem dX5_isLeaf_135 : decode cX5_isLeaf 135 = .ok (.aload_n 0, 1) := dk_42 (dk_at dksX5_isLeaf_5 23 rfl rfl)
theorem dX5_isLeaf_136 : decode cX5_isLeaf 136 = .ok (.getfield 33, 3) := dk_180 0 33 (dk_at dksX5_isLeaf_6 0 rfl rfl)
theorem dX5_isLeaf_139 : decode cX5_isLeaf 139 = .ok (.bipush 89, 2) := dk_16 89 (dk_at dksX5_isLeaf_6 3 rfl rfl)
theorem dX5_isLeaf_141 : decode cX5_isLeaf 141 = .ok (.iload 5, 2) := dk_21 5 (dk_at dksX5_isLeaf_6 5 rfl rfl)
theorem dX5_isLeaf_143 : decode cX5_isLeaf 143 = .ok (.iadd, 1) := dk_96 (dk_at dksX5_isLeaf_6 7 rfl rfl)
theorem dX5_isLeaf_144 : decode cX5_isLeaf 144 = .ok (.iaload, 1) := dk_46 (dk_at dksX5_isLeaf_6 8 rfl rfl)
theorem dX5_isLeaf_145 : decode cX5_isLeaf 145 = .ok (.goto 13, 3) := dk_167 0 13 (dk_at dksX5_isLeaf_6 9 rfl rfl)
theorem dX5_isLeaf_148 : decode cX5_isLeaf 148 = .ok (.aload_n 0, 1) := dk_42 (dk_at dksX5_isLeaf_6 12 rfl rfl)
theorem dX5_isLeaf_149 : decode cX5_isLeaf 149 = .ok (.getfield 33, 3) := dk_180 0 33 (dk_at dksX5_isLeaf_6 13 rfl rfl)
theorem dX5_isLeaf_152 : decode cX5_isLeaf 152 = .ok (.bipush 81, 2) := dk_16 81 (dk_at dksX5_isLeaf_6 16 rfl rfl)
theorem dX5_isLeaf_154 : decode cX5_isLeaf 154 = .ok (.iload 5, 2) := dk_21 5 (dk_at dksX5_isLeaf_6 18 rfl rfl)
theorem dX5_isLeaf_156 : decode cX5_isLeaf 156 = .ok (.iadd, 1) := dk_96 (dk_at dksX5_isLeaf_6 20 rfl rfl)
theorem dX5_isLeaf_157 : decode cX5_isLeaf 157 = .ok (.iaload, 1) := dk_46 (dk_at dksX5_isLeaf_6 21 rfl rfl)
theorem dX5_isLeaf_158 : decode cX5_isLeaf 158 = .ok (.istore 6, 2) := dk_54 6 (dk_at dksX5_isLeaf_6 22 rfl rfl)
theorem dX5_isLeaf_160 : decode cX5_isLeaf 160 = .ok (.iload_n 3, 1) := dk_29 (dk_at dksX5_isLeaf_7 0 rfl rfl)
theorem dX5_isLeaf_161 : decode cX5_isLeaf 161 = .ok (.bipush 60, 2) := dk_16 60 (dk_at dksX5_isLeaf_7 1 rfl rfl)
theorem dX5_isLeaf_163 : decode cX5_isLeaf 163 = .ok (.if_icmp .ne 18, 3) := dk_160 0 18 (dk_at dksX5_isLeaf_7 3 rfl rfl)
theorem dX5_isLeaf_166 : decode cX5_isLeaf 166 = .ok (.iload 6, 2) := dk_21 6 (dk_at dksX5_isLeaf_7 6 rfl rfl)
theorem dX5_isLeaf_168 : decode cX5_isLeaf 168 = .ok (.iload 4, 2) := dk_21 4 (dk_at dksX5_isLeaf_7 8 rfl rfl)
theorem dX5_isLeaf_170 : decode cX5_isLeaf 170 = .ok (.if_icmp .ge 7, 3) := dk_162 0 7 (dk_at dksX5_isLeaf_7 10 rfl rfl)
theorem dX5_isLeaf_173 : decode cX5_isLeaf 173 = .ok (.iconst 1, 1) := dk_4 (dk_at dksX5_isLeaf_7 13 rfl rfl)
theorem dX5_isLeaf_174 : decode cX5_isLeaf 174 = .ok (.goto 40, 3) := dk_167 0 40 (dk_at dksX5_isLeaf_7 14 rfl rfl)
theorem dX5_isLeaf_177 : decode cX5_isLeaf 177 = .ok (.iconst 0, 1) := dk_3 (dk_at dksX5_isLeaf_7 17 rfl rfl)
theorem dX5_isLeaf_178 : decode cX5_isLeaf 178 = .ok (.goto 36, 3) := dk_167 0 36 (dk_at dksX5_isLeaf_7 18 rfl rfl)
theorem dX5_isLeaf_181 : decode cX5_isLeaf 181 = .ok (.iload_n 3, 1) := dk_29 (dk_at dksX5_isLeaf_7 21 rfl rfl)
theorem dX5_isLeaf_182 : decode cX5_isLeaf 182 = .ok (.bipush 61, 2) := dk_16 61 (dk_at dksX5_isLeaf_7 22 rfl rfl)
theorem dX5_isLeaf_184 : decode cX5_isLeaf 184 = .ok (.if_icmp .ne 18, 3) := dk_160 0 18 (dk_at dksX5_isLeaf_8 0 rfl rfl)
theorem dX5_isLeaf_187 : decode cX5_isLeaf 187 = .ok (.iload 6, 2) := dk_21 6 (dk_at dksX5_isLeaf_8 3 rfl rfl)
theorem dX5_isLeaf_189 : decode cX5_isLeaf 189 = .ok (.iload 4, 2) := dk_21 4 (dk_at dksX5_isLeaf_8 5 rfl rfl)
theorem dX5_isLeaf_191 : decode cX5_isLeaf 191 = .ok (.if_icmp .ne 7, 3) := dk_160 0 7 (dk_at dksX5_isLeaf_8 7 rfl rfl)
theorem dX5_isLeaf_194 : decode cX5_isLeaf 194 = .ok (.iconst 1, 1) := dk_4 (dk_at dksX5_isLeaf_8 10 rfl rfl)
theorem dX5_isLeaf_195 : decode cX5_isLeaf 195 = .ok (.goto 19, 3) := dk_167 0 19 (dk_at dksX5_isLeaf_8 11 rfl rfl)
theorem dX5_isLeaf_198 : decode cX5_isLeaf 198 = .ok (.iconst 0, 1) := dk_3 (dk_at dksX5_isLeaf_8 14 rfl rfl)
theorem dX5_isLeaf_199 : decode cX5_isLeaf 199 = .ok (.goto 15, 3) := dk_167 0 15 (dk_at dksX5_isLeaf_8 15 rfl rfl)
theorem dX5_isLeaf_202 : decode cX5_isLeaf 202 = .ok (.iload 6, 2) := dk_21 6 (dk_at dksX5_isLeaf_8 18 rfl rfl)
theorem dX5_isLeaf_204 : decode cX5_isLeaf 204 = .ok (.iload 4, 2) := dk_21 4 (dk_at dksX5_isLeaf_8 20 rfl rfl)
theorem dX5_isLeaf_206 : decode cX5_isLeaf 206 = .ok (.if_icmp .le 7, 3) := dk_164 0 7 (dk_at dksX5_isLeaf_9 0 rfl rfl)
theorem dX5_isLeaf_209 : decode cX5_isLeaf 209 = .ok (.iconst 1, 1) := dk_4 (dk_at dksX5_isLeaf_9 3 rfl rfl)
theorem dX5_isLeaf_210 : decode cX5_isLeaf 210 = .ok (.goto 4, 3) := dk_167 0 4 (dk_at dksX5_isLeaf_9 4 rfl rfl)
theorem dX5_isLeaf_213 : decode cX5_isLeaf 213 = .ok (.iconst 0, 1) := dk_3 (dk_at dksX5_isLeaf_9 7 rfl rfl)
theorem dX5_isLeaf_214 : decode cX5_isLeaf 214 = .ok (.ireturn, 1) := dk_172 (dk_at dksX5_isLeaf_9 8 rfl rfl)
theorem kB_61 : (Int8.ofInt (61)).toInt32 = 61 := by decide
set_option maxHeartbeats 4000000 in
set_option maxRecDepth 100000 in
noncomputable def fn_X5_isLeaf (l0 : Option Nat) (l1 : Int32) (l2 : Int32) (l3 : Int32) (l4 : Int32) (h : cz_H) : cz_Z := cz_rc h l0 [5] (cz_cI (fn_X5_coatOn l0 l1 h) (fun x8 h7 => (if l2 = 0 then (if 0 ≤ x8 then some (.inl (some (cz_i 0)), h7) else some (.inl (some (cz_i 1)), h7)) else if l2 = 1 then cz_rc h7 l0 [5] (cz_cI (fn_X5_holder l0 l1 h7) (fun x33 h32 => (if x33 < 0 then some (.inl (some (cz_i 0)), h32) else some (.inl (some (cz_i 1)), h32)))) else if l2 = 2 then cz_rc h7 l0 [5] (cz_cI (fn_X5_holder l0 l1 h7) (fun x25 h24 => (if x25 = l4 then some (.inl (some (cz_i 1)), h24) else some (.inl (some (cz_i 0)), h24)))) else if l2 = 3 then (if x8 = l4 then some (.inl (some (cz_i 1)), h7) else some (.inl (some (cz_i 0)), h7)) else cz_jn (fun (v9 : Int32) (h10 : cz_H) => (if l3 = 60 then (if l4 ≤ v9 then some (.inl (some (cz_i 0)), h10) else some (.inl (some (cz_i 1)), h10)) else (if l3 = 61 then (if v9 = l4 then some (.inl (some (cz_i 1)), h10) else some (.inl (some (cz_i 0)), h10)) else (if v9 ≤ l4 then some (.inl (some (cz_i 0)), h10) else some (.inl (some (cz_i 1)), h10))))) (fun j11 => (if l2 = 4 then cz_getR h7 l0 [(5, 6)] (fun r16 => cz_iald h7 r16 ((8 : Int32) + l1) (fun x17 => j11 x17 h7)) else (if l2 = 7 then j11 l1 h7 else (if 0 ≤ x8 then (if l2 = 5 then cz_getR h7 l0 [(5, 6)] (fun r14 => cz_iald h7 r14 ((89 : Int32) + x8) (fun x15 => j11 x15 h7)) else cz_getR h7 l0 [(5, 6)] (fun r12 => cz_iald h7 r12 ((81 : Int32) + x8) (fun x13 => j11 x13 h7))) else j11 0 h7)))))))
set_option maxHeartbeats 4000000 in
set_option maxRecDepth 100000 in
theorem wk_X5_isLeaf {K : cz_K} {D : cz_D} {h0 : cz_H} {oh : cz_O × cz_H} {l0 : Option Nat} {l1 : Int32} {l2 : Int32} {l3 : Int32} {l4 : Int32} {h : cz_H} (S : cz_S K D h0 cX5_isLeaf 7 "HeldCoatsModel" ((Option.some Jvm.ClassFile.FieldType.boolean)) "isLeaf" ([])) : cz_T K D 5 h0 oh 7 (fn_X5_isLeaf l0 l1 l2 l3 l4 h) h 0 [(0, cz_r l0), (1, cz_i l1), (2, cz_i l2), (3, cz_i l3), (4, cz_i l4)] [] := by
  unfold fn_X5_isLeaf
  refine ct_aload_n (k := 0) S dX5_isLeaf_0 rfl rfl ?_
  refine ct_iload_n (k := 1) S dX5_isLeaf_1 rfl rfl ?_
  refine ct_rc (fun b1 ci2 V3 hb4 hc5 hi6 => ?_)
  refine ct_cI (st := []) (cg_virtual (av := [cz_i l1]) S hb4 hc5 hi6 (fun _ e => mt_X5_coatOn e) md_X5_coatOn q2164 q2166 se_HeldCoatsModel_coatOn__I_I_HeldCoatsModel (by decide) (Nat.le_of_ble_eq_true rfl) rfl dX5_isLeaf_2) (fun x8 h7 => ?_)
  refine ct_istore (L' := [(5, cz_i x8), (0, cz_r l0), (1, cz_i l1), (2, cz_i l2), (3, cz_i l3), (4, cz_i l4)]) S dX5_isLeaf_5 (by decide) rfl ?_
  refine ct_iload_n (k := 3) S dX5_isLeaf_7 rfl rfl ?_
  refine ct_case ?_ (fun c0_ => ?_)
  · refine ct_tableIn (tgt := 40) S dX5_isLeaf_8 (by decide) (by decide) rfl (by decide) ?_
    refine ct_iload (k := 0) S dX5_isLeaf_40 rfl ?_
    refine ct_if_ge (tgt := 49) S dX5_isLeaf_42 (by decide) ?_ ?_
    · refine ct_iconst (v := 0) S dX5_isLeaf_49 kI_0 ?_
      exact ct_zr (ty := .boolean) S rfl rfl dX5_isLeaf_50
    · refine ct_iconst (v := 1) S dX5_isLeaf_45 kI_1 ?_
      refine ct_goto (tgt := 50) S dX5_isLeaf_46 (by decide) ?_
      exact ct_zr (ty := .boolean) S rfl rfl dX5_isLeaf_50
  · refine ct_case ?_ (fun c1_ => ?_)
    · refine ct_tableIn (tgt := 51) S dX5_isLeaf_8 (by decide) (by decide) rfl (by decide) ?_
      refine ct_aload_n (k := 1) S dX5_isLeaf_51 rfl rfl ?_
      refine ct_iload_n (k := 2) S dX5_isLeaf_52 rfl rfl ?_
      refine ct_rc (fun b26 ci27 V28 hb29 hc30 hi31 => ?_)
      refine ct_cI (st := []) (cg_virtual (av := [cz_i l1]) S hb29 hc30 hi31 (fun _ e => mt_X5_holder e) md_X5_holder q2168 q2170 se_HeldCoatsModel_holder__I_I_HeldCoatsModel (by decide) (Nat.le_of_ble_eq_true rfl) rfl dX5_isLeaf_53) (fun x33 h32 => ?_)
      refine ct_if_lt (tgt := 63) S dX5_isLeaf_56 (by decide) ?_ ?_
      · refine ct_iconst (v := 0) S dX5_isLeaf_63 kI_0 ?_
        exact ct_zr (ty := .boolean) S rfl rfl dX5_isLeaf_64
      · refine ct_iconst (v := 1) S dX5_isLeaf_59 kI_1 ?_
        refine ct_goto (tgt := 64) S dX5_isLeaf_60 (by decide) ?_
        exact ct_zr (ty := .boolean) S rfl rfl dX5_isLeaf_64
    · refine ct_case ?_ (fun c2_ => ?_)
      · refine ct_tableIn (tgt := 65) S dX5_isLeaf_8 (by decide) (by decide) rfl (by decide) ?_
        refine ct_aload_n (k := 1) S dX5_isLeaf_65 rfl rfl ?_
        refine ct_iload_n (k := 2) S dX5_isLeaf_66 rfl rfl ?_
        refine ct_rc (fun b18 ci19 V20 hb21 hc22 hi23 => ?_)
        refine ct_cI (st := []) (cg_virtual (av := [cz_i l1]) S hb21 hc22 hi23 (fun _ e => mt_X5_holder e) md_X5_holder q2168 q2170 se_HeldCoatsModel_holder__I_I_HeldCoatsModel (by decide) (Nat.le_of_ble_eq_true rfl) rfl dX5_isLeaf_67) (fun x25 h24 => ?_)
        refine ct_iload (k := 5) S dX5_isLeaf_70 rfl ?_
        refine ct_icmp_ne (tgt := 79) S dX5_isLeaf_72 (by decide) ?_ ?_
        · refine ct_iconst (v := 0) S dX5_isLeaf_79 kI_0 ?_
          exact ct_zr (ty := .boolean) S rfl rfl dX5_isLeaf_80
        · refine ct_iconst (v := 1) S dX5_isLeaf_75 kI_1 ?_
          refine ct_goto (tgt := 80) S dX5_isLeaf_76 (by decide) ?_
          exact ct_zr (ty := .boolean) S rfl rfl dX5_isLeaf_80
      · refine ct_case ?_ (fun c3_ => ?_)
        · refine ct_tableIn (tgt := 81) S dX5_isLeaf_8 (by decide) (by decide) rfl (by decide) ?_
          refine ct_iload (k := 0) S dX5_isLeaf_81 rfl ?_
          refine ct_iload (k := 5) S dX5_isLeaf_83 rfl ?_
          refine ct_icmp_ne (tgt := 92) S dX5_isLeaf_85 (by decide) ?_ ?_
          · refine ct_iconst (v := 0) S dX5_isLeaf_92 kI_0 ?_
            exact ct_zr (ty := .boolean) S rfl rfl dX5_isLeaf_93
          · refine ct_iconst (v := 1) S dX5_isLeaf_88 kI_1 ?_
            refine ct_goto (tgt := 93) S dX5_isLeaf_89 (by decide) ?_
            exact ct_zr (ty := .boolean) S rfl rfl dX5_isLeaf_93
        · refine ct_tableOut (tgt := 94) S dX5_isLeaf_8 (by have := lv_neT c0_ (show (0 : Int32).toInt = 0 by decide); have := lv_neT c1_ (show (1 : Int32).toInt = 1 by decide); have := lv_neT c2_ (show (2 : Int32).toInt = 2 by decide); have := lv_neT c3_ (show (3 : Int32).toInt = 3 by decide); omega) (by decide) ?_
          refine ct_iload_n (k := 3) S dX5_isLeaf_94 rfl rfl ?_
          refine ct_iconst (v := 4) S dX5_isLeaf_95 kI_4 ?_
          refine ct_jnP (fun j11 => ∀ (v9 : Int32) (h10 : cz_H), cz_T K D 5 h0 oh 7 (j11 v9 h10) h10 158 [(3, cz_i l3), (4, cz_i l4)] [cz_i v9]) (fun v9 h10 => ?_) (fun j11 Hj11 => ?_)
          · refine ct_istore (L' := [(6, cz_i v9), (3, cz_i l3), (4, cz_i l4)]) S dX5_isLeaf_158 (by decide) rfl ?_
            refine ct_iload_n (k := 1) S dX5_isLeaf_160 rfl rfl ?_
            refine ct_bipush (v := 60) S dX5_isLeaf_161 kB_60 ?_
            refine ct_icmp_ne (tgt := 181) S dX5_isLeaf_163 (by decide) ?_ ?_
            · refine ct_iload_n (k := 1) S dX5_isLeaf_181 rfl rfl ?_
              refine ct_bipush (v := 61) S dX5_isLeaf_182 kB_61 ?_
              refine ct_icmp_ne (tgt := 202) S dX5_isLeaf_184 (by decide) ?_ ?_
              · refine ct_iload (k := 0) S dX5_isLeaf_202 rfl ?_
                refine ct_iload (k := 2) S dX5_isLeaf_204 rfl ?_
                refine ct_icmp_le (tgt := 213) S dX5_isLeaf_206 (by decide) ?_ ?_
                · refine ct_iconst (v := 0) S dX5_isLeaf_213 kI_0 ?_
                  exact ct_zr (ty := .boolean) S rfl rfl dX5_isLeaf_214
                · refine ct_iconst (v := 1) S dX5_isLeaf_209 kI_1 ?_
                  refine ct_goto (tgt := 214) S dX5_isLeaf_210 (by decide) ?_
                  exact ct_zr (ty := .boolean) S rfl rfl dX5_isLeaf_214
              · refine ct_iload (k := 0) S dX5_isLeaf_187 rfl ?_
                refine ct_iload (k := 2) S dX5_isLeaf_189 rfl ?_
                refine ct_icmp_ne (tgt := 198) S dX5_isLeaf_191 (by decide) ?_ ?_
                · refine ct_iconst (v := 0) S dX5_isLeaf_198 kI_0 ?_
                  refine ct_goto (tgt := 214) S dX5_isLeaf_199 (by decide) ?_
                  exact ct_zr (ty := .boolean) S rfl rfl dX5_isLeaf_214
                · refine ct_iconst (v := 1) S dX5_isLeaf_194 kI_1 ?_
                  refine ct_goto (tgt := 214) S dX5_isLeaf_195 (by decide) ?_
                  exact ct_zr (ty := .boolean) S rfl rfl dX5_isLeaf_214
            · refine ct_iload (k := 0) S dX5_isLeaf_166 rfl ?_
              refine ct_iload (k := 2) S dX5_isLeaf_168 rfl ?_
              refine ct_icmp_ge (tgt := 177) S dX5_isLeaf_170 (by decide) ?_ ?_
              · refine ct_iconst (v := 0) S dX5_isLeaf_177 kI_0 ?_
                refine ct_goto (tgt := 214) S dX5_isLeaf_178 (by decide) ?_
                exact ct_zr (ty := .boolean) S rfl rfl dX5_isLeaf_214
              · refine ct_iconst (v := 1) S dX5_isLeaf_173 kI_1 ?_
                refine ct_goto (tgt := 214) S dX5_isLeaf_174 (by decide) ?_
                exact ct_zr (ty := .boolean) S rfl rfl dX5_isLeaf_214
          · refine ct_icmp_ne (tgt := 111) S dX5_isLeaf_96 (by decide) ?_ ?_
            · refine ct_iload_n (k := 3) S dX5_isLeaf_111 rfl rfl ?_
              refine ct_bipush (v := 7) S dX5_isLeaf_112 kB_7 ?_
              refine ct_icmp_ne (tgt := 121) S dX5_isLeaf_114 (by decide) ?_ ?_
              · refine ct_iload (k := 0) S dX5_isLeaf_121 rfl ?_
                refine ct_if_ge (tgt := 130) S dX5_isLeaf_123 (by decide) ?_ ?_
                · refine ct_iload_n (k := 3) S dX5_isLeaf_130 rfl rfl ?_
                  refine ct_iconst (v := 5) S dX5_isLeaf_131 kI_5 ?_
                  refine ct_icmp_ne (tgt := 148) S dX5_isLeaf_132 (by decide) ?_ ?_
                  · refine ct_aload_n (k := 1) S dX5_isLeaf_148 rfl rfl ?_
                    refine ct_getR S fw_X5_33 dX5_isLeaf_149 (fun r12 => ?_)
                    refine ct_bipush (v := 81) S dX5_isLeaf_152 kB_81 ?_
                    refine ct_iload (k := 0) S dX5_isLeaf_154 rfl ?_
                    refine ct_iadd S dX5_isLeaf_156 ?_
                    refine ct_iald S dX5_isLeaf_157 (fun x13 => ?_)
                    exact ct_sub [4, 5] rfl (Hj11 x13 h7)
                  · refine ct_aload_n (k := 1) S dX5_isLeaf_135 rfl rfl ?_
                    refine ct_getR S fw_X5_33 dX5_isLeaf_136 (fun r14 => ?_)
                    refine ct_bipush (v := 89) S dX5_isLeaf_139 kB_89 ?_
                    refine ct_iload (k := 0) S dX5_isLeaf_141 rfl ?_
                    refine ct_iadd S dX5_isLeaf_143 ?_
                    refine ct_iald S dX5_isLeaf_144 (fun x15 => ?_)
                    refine ct_goto (tgt := 158) S dX5_isLeaf_145 (by decide) ?_
                    exact ct_sub [4, 5] rfl (Hj11 x15 h7)
                · refine ct_iconst (v := 0) S dX5_isLeaf_126 kI_0 ?_
                  refine ct_goto (tgt := 158) S dX5_isLeaf_127 (by decide) ?_
                  exact ct_sub [4, 5] rfl (Hj11 0 h7)
              · refine ct_iload_n (k := 2) S dX5_isLeaf_117 rfl rfl ?_
                refine ct_goto (tgt := 158) S dX5_isLeaf_118 (by decide) ?_
                exact ct_sub [4, 5] rfl (Hj11 l1 h7)
            · refine ct_aload_n (k := 1) S dX5_isLeaf_99 rfl rfl ?_
              refine ct_getR S fw_X5_33 dX5_isLeaf_100 (fun r16 => ?_)
              refine ct_bipush (v := 8) S dX5_isLeaf_103 kB_8 ?_
              refine ct_iload_n (k := 2) S dX5_isLeaf_105 rfl rfl ?_
              refine ct_iadd S dX5_isLeaf_106 ?_
              refine ct_iald S dX5_isLeaf_107 (fun x17 => ?_)
              refine ct_goto (tgt := 158) S dX5_isLeaf_108 (by decide) ?_
              exact ct_sub [4, 5] rfl (Hj11 x17 h7)
theorem mt_X5_isLeaf {l : Launch} {D : cz_D} {l0 : Option Nat} {l1 : Int32} {l2 : Int32} {l3 : Int32} {l4 : Int32} {h : cz_H} {oh : cz_O × cz_H} (hz : fn_X5_isLeaf l0 l1 l2 l3 l4 h = some oh) : cz_M l D yX5_isLeaf (ws_ yX5_isLeaf cX5_isLeaf 7 ((Option.some Jvm.ClassFile.FieldType.boolean))) 5 [cz_r l0, cz_i l1, cz_i l2, cz_i l3, cz_i l4] h oh := cz_met (plainFor_of_name (by decide)) (Nat.le_of_ble_eq_true rfl) hz (fun K hl S => wk_X5_isLeaf S)
/-! HeldCoatsModel.isSaid(I)Z -/
def dkwX5_isSaid_9 : List UInt8 := [180, 0, 65, 3, 51, 172]
abbrev dktX5_isSaid_9 : List UInt8 := dkwX5_isSaid_9 ++ []
def dkwX5_isSaid_8 : List UInt8 := [180, 0, 33, 21, 4, 5, 96, 46, 182, 1, 187, 84, 132, 2, 1, 132, 3, 1, 167, 255, 53, 42]
abbrev dktX5_isSaid_8 : List UInt8 := dkwX5_isSaid_8 ++ dktX5_isSaid_9
def dkwX5_isSaid_7 : List UInt8 := [180, 0, 65, 28, 42, 27, 42, 180, 0, 33, 21, 4, 46, 42, 180, 0, 33, 21, 4, 4, 96, 46, 42]
abbrev dktX5_isSaid_7 : List UInt8 := dkwX5_isSaid_7 ++ dktX5_isSaid_8
def dkwX5_isSaid_6 : List UInt8 := [51, 154, 0, 12, 42, 180, 0, 65, 28, 51, 153, 0, 7, 4, 167, 0, 4, 3, 84, 167, 0, 42, 42]
abbrev dktX5_isSaid_6 : List UInt8 := dkwX5_isSaid_6 ++ dktX5_isSaid_7
def dkwX5_isSaid_5 : List UInt8 := [42, 180, 0, 65, 28, 51, 153, 0, 7, 4, 167, 0, 32, 3, 167, 0, 28, 42, 180, 0, 65, 28, 4, 100]
abbrev dktX5_isSaid_5 : List UInt8 := dkwX5_isSaid_5 ++ dktX5_isSaid_6
def dkwX5_isSaid_4 : List UInt8 := [100, 42, 180, 0, 33, 21, 4, 46, 16, 21, 160, 0, 31, 42, 180, 0, 65, 28, 4, 100, 51, 153, 0, 16]
abbrev dktX5_isSaid_4 : List UInt8 := dkwX5_isSaid_4 ++ dktX5_isSaid_5
def dkwX5_isSaid_3 : List UInt8 := [159, 0, 15, 42, 180, 0, 33, 21, 4, 46, 16, 22, 160, 0, 82, 132, 2, 255, 42, 180, 0, 65, 28, 4]
abbrev dktX5_isSaid_3 : List UInt8 := dkwX5_isSaid_3 ++ dktX5_isSaid_4
def dkwX5_isSaid_2 : List UInt8 := [100, 51, 154, 0, 7, 4, 167, 0, 4, 3, 84, 167, 0, 145, 42, 180, 0, 33, 21, 4, 46, 16, 21]
abbrev dktX5_isSaid_2 : List UInt8 := dkwX5_isSaid_2 ++ dktX5_isSaid_3
def dkwX5_isSaid_1 : List UInt8 := [180, 0, 33, 21, 4, 46, 16, 20, 160, 0, 30, 42, 180, 0, 65, 28, 4, 100, 42, 180, 0, 65, 28, 4]
abbrev dktX5_isSaid_1 : List UInt8 := dkwX5_isSaid_1 ++ dktX5_isSaid_2
def dkwX5_isSaid_0 : List UInt8 := [3, 61, 3, 62, 29, 42, 180, 0, 33, 16, 118, 46, 162, 0, 198, 16, 119, 6, 29, 104, 96, 54, 4, 42]
abbrev dktX5_isSaid_0 : List UInt8 := dkwX5_isSaid_0 ++ dktX5_isSaid_1
theorem dksX5_isSaid_0 : cX5_isSaid.data.toList.drop 0 = dktX5_isSaid_0 := by decide +kernel
theorem dksX5_isSaid_1 : cX5_isSaid.data.toList.drop 24 = dktX5_isSaid_1 := dk_seg dksX5_isSaid_0 24 rfl rfl
theorem dksX5_isSaid_2 : cX5_isSaid.data.toList.drop 48 = dktX5_isSaid_2 := dk_seg dksX5_isSaid_1 24 rfl rfl
theorem dksX5_isSaid_3 : cX5_isSaid.data.toList.drop 71 = dktX5_isSaid_3 := dk_seg dksX5_isSaid_2 23 rfl rfl
theorem dksX5_isSaid_4 : cX5_isSaid.data.toList.drop 95 = dktX5_isSaid_4 := dk_seg dksX5_isSaid_3 24 rfl rfl
theorem dksX5_isSaid_5 : cX5_isSaid.data.toList.drop 119 = dktX5_isSaid_5 := dk_seg dksX5_isSaid_4 24 rfl rfl
theorem dksX5_isSaid_6 : cX5_isSaid.data.toList.drop 143 = dktX5_isSaid_6 := dk_seg dksX5_isSaid_5 24 rfl rfl
theorem dksX5_isSaid_7 : cX5_isSaid.data.toList.drop 166 = dktX5_isSaid_7 := dk_seg dksX5_isSaid_6 23 rfl rfl
theorem dksX5_isSaid_8 : cX5_isSaid.data.toList.drop 189 = dktX5_isSaid_8 := dk_seg dksX5_isSaid_7 23 rfl rfl
theorem dksX5_isSaid_9 : cX5_isSaid.data.toList.drop 211 = dktX5_isSaid_9 := dk_seg dksX5_isSaid_8 22 rfl rfl
theorem dX5_isSaid_0 : decode cX5_isSaid 0 = .ok (.iconst 0, 1) := dk_3 (dk_at dksX5_isSaid_0 0 rfl rfl)
theorem dX5_isSaid_1 : decode cX5_isSaid 1 = .ok (.istore_n 2, 1) := dk_61 (dk_at dksX5_isSaid_0 1 rfl rfl)
theorem dX5_isSaid_2 : decode cX5_isSaid 2 = .ok (.iconst 0, 1) := dk_3 (dk_at dksX5_isSaid_0 2 rfl rfl)
theorem dX5_isSaid_3 : decode cX5_isSaid 3 = .ok (.istore_n 3, 1) := dk_62 (dk_at dksX5_isSaid_0 3 rfl rfl)
theorem dX5_isSaid_4 : decode cX5_isSaid 4 = .ok (.iload_n 3, 1) := dk_29 (dk_at dksX5_isSaid_0 4 rfl rfl)
theorem dX5_isSaid_5 : decode cX5_isSaid 5 = .ok (.aload_n 0, 1) := dk_42 (dk_at dksX5_isSaid_0 5 rfl rfl)
theorem dX5_isSaid_6 : decode cX5_isSaid 6 = .ok (.getfield 33, 3) := dk_180 0 33 (dk_at dksX5_isSaid_0 6 rfl rfl)
theorem dX5_isSaid_9 : decode cX5_isSaid 9 = .ok (.bipush 118, 2) := dk_16 118 (dk_at dksX5_isSaid_0 9 rfl rfl)
theorem dX5_isSaid_11 : decode cX5_isSaid 11 = .ok (.iaload, 1) := dk_46 (dk_at dksX5_isSaid_0 11 rfl rfl)
theorem dX5_isSaid_12 : decode cX5_isSaid 12 = .ok (.if_icmp .ge 198, 3) := dk_162 0 198 (dk_at dksX5_isSaid_0 12 rfl rfl)
theorem dX5_isSaid_15 : decode cX5_isSaid 15 = .ok (.bipush 119, 2) := dk_16 119 (dk_at dksX5_isSaid_0 15 rfl rfl)
theorem dX5_isSaid_17 : decode cX5_isSaid 17 = .ok (.iconst 3, 1) := dk_6 (dk_at dksX5_isSaid_0 17 rfl rfl)
theorem dX5_isSaid_18 : decode cX5_isSaid 18 = .ok (.iload_n 3, 1) := dk_29 (dk_at dksX5_isSaid_0 18 rfl rfl)
theorem dX5_isSaid_19 : decode cX5_isSaid 19 = .ok (.imul, 1) := dk_104 (dk_at dksX5_isSaid_0 19 rfl rfl)
theorem dX5_isSaid_20 : decode cX5_isSaid 20 = .ok (.iadd, 1) := dk_96 (dk_at dksX5_isSaid_0 20 rfl rfl)
theorem dX5_isSaid_21 : decode cX5_isSaid 21 = .ok (.istore 4, 2) := dk_54 4 (dk_at dksX5_isSaid_0 21 rfl rfl)
theorem dX5_isSaid_23 : decode cX5_isSaid 23 = .ok (.aload_n 0, 1) := dk_42 (dk_at dksX5_isSaid_0 23 rfl rfl)
theorem dX5_isSaid_24 : decode cX5_isSaid 24 = .ok (.getfield 33, 3) := dk_180 0 33 (dk_at dksX5_isSaid_1 0 rfl rfl)
theorem dX5_isSaid_27 : decode cX5_isSaid 27 = .ok (.iload 4, 2) := dk_21 4 (dk_at dksX5_isSaid_1 3 rfl rfl)
theorem dX5_isSaid_29 : decode cX5_isSaid 29 = .ok (.iaload, 1) := dk_46 (dk_at dksX5_isSaid_1 5 rfl rfl)
theorem dX5_isSaid_30 : decode cX5_isSaid 30 = .ok (.bipush 20, 2) := dk_16 20 (dk_at dksX5_isSaid_1 6 rfl rfl)
theorem dX5_isSaid_32 : decode cX5_isSaid 32 = .ok (.if_icmp .ne 30, 3) := dk_160 0 30 (dk_at dksX5_isSaid_1 8 rfl rfl)
theorem dX5_isSaid_35 : decode cX5_isSaid 35 = .ok (.aload_n 0, 1) := dk_42 (dk_at dksX5_isSaid_1 11 rfl rfl)
theorem dX5_isSaid_36 : decode cX5_isSaid 36 = .ok (.getfield 65, 3) := dk_180 0 65 (dk_at dksX5_isSaid_1 12 rfl rfl)
theorem dX5_isSaid_39 : decode cX5_isSaid 39 = .ok (.iload_n 2, 1) := dk_28 (dk_at dksX5_isSaid_1 15 rfl rfl)
theorem dX5_isSaid_40 : decode cX5_isSaid 40 = .ok (.iconst 1, 1) := dk_4 (dk_at dksX5_isSaid_1 16 rfl rfl)
theorem dX5_isSaid_41 : decode cX5_isSaid 41 = .ok (.isub, 1) := dk_100 (dk_at dksX5_isSaid_1 17 rfl rfl)
theorem dX5_isSaid_42 : decode cX5_isSaid 42 = .ok (.aload_n 0, 1) := dk_42 (dk_at dksX5_isSaid_1 18 rfl rfl)
theorem dX5_isSaid_43 : decode cX5_isSaid 43 = .ok (.getfield 65, 3) := dk_180 0 65 (dk_at dksX5_isSaid_1 19 rfl rfl)
theorem dX5_isSaid_46 : decode cX5_isSaid 46 = .ok (.iload_n 2, 1) := dk_28 (dk_at dksX5_isSaid_1 22 rfl rfl)
theorem dX5_isSaid_47 : decode cX5_isSaid 47 = .ok (.iconst 1, 1) := dk_4 (dk_at dksX5_isSaid_1 23 rfl rfl)
theorem dX5_isSaid_48 : decode cX5_isSaid 48 = .ok (.isub, 1) := dk_100 (dk_at dksX5_isSaid_2 0 rfl rfl)
theorem dX5_isSaid_49 : decode cX5_isSaid 49 = .ok (.baload, 1) := dk_51 (dk_at dksX5_isSaid_2 1 rfl rfl)
theorem dX5_isSaid_50 : decode cX5_isSaid 50 = .ok (.ifCond .ne 7, 3) := dk_154 0 7 (dk_at dksX5_isSaid_2 2 rfl rfl)
theorem dX5_isSaid_53 : decode cX5_isSaid 53 = .ok (.iconst 1, 1) := dk_4 (dk_at dksX5_isSaid_2 5 rfl rfl)
theorem dX5_isSaid_54 : decode cX5_isSaid 54 = .ok (.goto 4, 3) := dk_167 0 4 (dk_at dksX5_isSaid_2 6 rfl rfl)
theorem dX5_isSaid_57 : decode cX5_isSaid 57 = .ok (.iconst 0, 1) := dk_3 (dk_at dksX5_isSaid_2 9 rfl rfl)
theorem dX5_isSaid_58 : decode cX5_isSaid 58 = .ok (.bastore, 1) := dk_84 (dk_at dksX5_isSaid_2 10 rfl rfl)
theorem dX5_isSaid_59 : decode cX5_isSaid 59 = .ok (.goto 145, 3) := dk_167 0 145 (dk_at dksX5_isSaid_2 11 rfl rfl)
theorem dX5_isSaid_62 : decode cX5_isSaid 62 = .ok (.aload_n 0, 1) := dk_42 (dk_at dksX5_isSaid_2 14 rfl rfl)
theorem dX5_isSaid_63 : decode cX5_isSaid 63 = .ok (.getfield 33, 3) := dk_180 0 33 (dk_at dksX5_isSaid_2 15 rfl rfl)
theorem dX5_isSaid_66 : decode cX5_isSaid 66 = .ok (.iload 4, 2) := dk_21 4 (dk_at dksX5_isSaid_2 18 rfl rfl)
theorem dX5_isSaid_68 : decode cX5_isSaid 68 = .ok (.iaload, 1) := dk_46 (dk_at dksX5_isSaid_2 20 rfl rfl)
theorem dX5_isSaid_69 : decode cX5_isSaid 69 = .ok (.bipush 21, 2) := dk_16 21 (dk_at dksX5_isSaid_2 21 rfl rfl)
theorem dX5_isSaid_71 : decode cX5_isSaid 71 = .ok (.if_icmp .eq 15, 3) := dk_159 0 15 (dk_at dksX5_isSaid_3 0 rfl rfl)
theorem dX5_isSaid_74 : decode cX5_isSaid 74 = .ok (.aload_n 0, 1) := dk_42 (dk_at dksX5_isSaid_3 3 rfl rfl)
theorem dX5_isSaid_75 : decode cX5_isSaid 75 = .ok (.getfield 33, 3) := dk_180 0 33 (dk_at dksX5_isSaid_3 4 rfl rfl)
theorem dX5_isSaid_78 : decode cX5_isSaid 78 = .ok (.iload 4, 2) := dk_21 4 (dk_at dksX5_isSaid_3 7 rfl rfl)
theorem dX5_isSaid_80 : decode cX5_isSaid 80 = .ok (.iaload, 1) := dk_46 (dk_at dksX5_isSaid_3 9 rfl rfl)
theorem dX5_isSaid_81 : decode cX5_isSaid 81 = .ok (.bipush 22, 2) := dk_16 22 (dk_at dksX5_isSaid_3 10 rfl rfl)
theorem dX5_isSaid_83 : decode cX5_isSaid 83 = .ok (.if_icmp .ne 82, 3) := dk_160 0 82 (dk_at dksX5_isSaid_3 12 rfl rfl)
theorem dX5_isSaid_86 : decode cX5_isSaid 86 = .ok (.iinc 2 (-1), 3) := dk_132 2 255 (dk_at dksX5_isSaid_3 15 rfl rfl)
theorem dX5_isSaid_89 : decode cX5_isSaid 89 = .ok (.aload_n 0, 1) := dk_42 (dk_at dksX5_isSaid_3 18 rfl rfl)
theorem dX5_isSaid_90 : decode cX5_isSaid 90 = .ok (.getfield 65, 3) := dk_180 0 65 (dk_at dksX5_isSaid_3 19 rfl rfl)
theorem dX5_isSaid_93 : decode cX5_isSaid 93 = .ok (.iload_n 2, 1) := dk_28 (dk_at dksX5_isSaid_3 22 rfl rfl)
theorem dX5_isSaid_94 : decode cX5_isSaid 94 = .ok (.iconst 1, 1) := dk_4 (dk_at dksX5_isSaid_3 23 rfl rfl)
theorem dX5_isSaid_95 : decode cX5_isSaid 95 = .ok (.isub, 1) := dk_100 (dk_at dksX5_isSaid_4 0 rfl rfl)
theorem dX5_isSaid_96 : decode cX5_isSaid 96 = .ok (.aload_n 0, 1) := dk_42 (dk_at dksX5_isSaid_4 1 rfl rfl)
theorem dX5_isSaid_97 : decode cX5_isSaid 97 = .ok (.getfield 33, 3) := dk_180 0 33 (dk_at dksX5_isSaid_4 2 rfl rfl)
theorem dX5_isSaid_100 : decode cX5_isSaid 100 = .ok (.iload 4, 2) := dk_21 4 (dk_at dksX5_isSaid_4 5 rfl rfl)
theorem dX5_isSaid_102 : decode cX5_isSaid 102 = .ok (.iaload, 1) := dk_46 (dk_at dksX5_isSaid_4 7 rfl rfl)
theorem dX5_isSaid_103 : decode cX5_isSaid 103 = .ok (.bipush 21, 2) := dk_16 21 (dk_at dksX5_isSaid_4 8 rfl rfl)
theorem dX5_isSaid_105 : decode cX5_isSaid 105 = .ok (.if_icmp .ne 31, 3) := dk_160 0 31 (dk_at dksX5_isSaid_4 10 rfl rfl)
theorem dX5_isSaid_108 : decode cX5_isSaid 108 = .ok (.aload_n 0, 1) := dk_42 (dk_at dksX5_isSaid_4 13 rfl rfl)
theorem dX5_isSaid_109 : decode cX5_isSaid 109 = .ok (.getfield 65, 3) := dk_180 0 65 (dk_at dksX5_isSaid_4 14 rfl rfl)
theorem dX5_isSaid_112 : decode cX5_isSaid 112 = .ok (.iload_n 2, 1) := dk_28 (dk_at dksX5_isSaid_4 17 rfl rfl)
theorem dX5_isSaid_113 : decode cX5_isSaid 113 = .ok (.iconst 1, 1) := dk_4 (dk_at dksX5_isSaid_4 18 rfl rfl)
theorem dX5_isSaid_114 : decode cX5_isSaid 114 = .ok (.isub, 1) := dk_100 (dk_at dksX5_isSaid_4 19 rfl rfl)
theorem dX5_isSaid_115 : decode cX5_isSaid 115 = .ok (.baload, 1) := dk_51 (dk_at dksX5_isSaid_4 20 rfl rfl)
theorem dX5_isSaid_116 : decode cX5_isSaid 116 = .ok (.ifCond .eq 16, 3) := dk_153 0 16 (dk_at dksX5_isSaid_4 21 rfl rfl)
theorem dX5_isSaid_119 : decode cX5_isSaid 119 = .ok (.aload_n 0, 1) := dk_42 (dk_at dksX5_isSaid_5 0 rfl rfl)
theorem dX5_isSaid_120 : decode cX5_isSaid 120 = .ok (.getfield 65, 3) := dk_180 0 65 (dk_at dksX5_isSaid_5 1 rfl rfl)
theorem dX5_isSaid_123 : decode cX5_isSaid 123 = .ok (.iload_n 2, 1) := dk_28 (dk_at dksX5_isSaid_5 4 rfl rfl)
theorem dX5_isSaid_124 : decode cX5_isSaid 124 = .ok (.baload, 1) := dk_51 (dk_at dksX5_isSaid_5 5 rfl rfl)
theorem dX5_isSaid_125 : decode cX5_isSaid 125 = .ok (.ifCond .eq 7, 3) := dk_153 0 7 (dk_at dksX5_isSaid_5 6 rfl rfl)
theorem dX5_isSaid_128 : decode cX5_isSaid 128 = .ok (.iconst 1, 1) := dk_4 (dk_at dksX5_isSaid_5 9 rfl rfl)
theorem dX5_isSaid_129 : decode cX5_isSaid 129 = .ok (.goto 32, 3) := dk_167 0 32 (dk_at dksX5_isSaid_5 10 rfl rfl)
theorem dX5_isSaid_132 : decode cX5_isSaid 132 = .ok (.iconst 0, 1) := dk_3 (dk_at dksX5_isSaid_5 13 rfl rfl)
theorem dX5_isSaid_133 : decode cX5_isSaid 133 = .ok (.goto 28, 3) := dk_167 0 28 (dk_at dksX5_isSaid_5 14 rfl rfl)
theorem dX5_isSaid_136 : decode cX5_isSaid 136 = .ok (.aload_n 0, 1) := dk_42 (dk_at dksX5_isSaid_5 17 rfl rfl)
theorem dX5_isSaid_137 : decode cX5_isSaid 137 = .ok (.getfield 65, 3) := dk_180 0 65 (dk_at dksX5_isSaid_5 18 rfl rfl)
theorem dX5_isSaid_140 : decode cX5_isSaid 140 = .ok (.iload_n 2, 1) := dk_28 (dk_at dksX5_isSaid_5 21 rfl rfl)
theorem dX5_isSaid_141 : decode cX5_isSaid 141 = .ok (.iconst 1, 1) := dk_4 (dk_at dksX5_isSaid_5 22 rfl rfl)
theorem dX5_isSaid_142 : decode cX5_isSaid 142 = .ok (.isub, 1) := dk_100 (dk_at dksX5_isSaid_5 23 rfl rfl)
theorem dX5_isSaid_143 : decode cX5_isSaid 143 = .ok (.baload, 1) := dk_51 (dk_at dksX5_isSaid_6 0 rfl rfl)
theorem dX5_isSaid_144 : decode cX5_isSaid 144 = .ok (.ifCond .ne 12, 3) := dk_154 0 12 (dk_at dksX5_isSaid_6 1 rfl rfl)
theorem dX5_isSaid_147 : decode cX5_isSaid 147 = .ok (.aload_n 0, 1) := dk_42 (dk_at dksX5_isSaid_6 4 rfl rfl)
theorem dX5_isSaid_148 : decode cX5_isSaid 148 = .ok (.getfield 65, 3) := dk_180 0 65 (dk_at dksX5_isSaid_6 5 rfl rfl)
theorem dX5_isSaid_151 : decode cX5_isSaid 151 = .ok (.iload_n 2, 1) := dk_28 (dk_at dksX5_isSaid_6 8 rfl rfl)
theorem dX5_isSaid_152 : decode cX5_isSaid 152 = .ok (.baload, 1) := dk_51 (dk_at dksX5_isSaid_6 9 rfl rfl)
theorem dX5_isSaid_153 : decode cX5_isSaid 153 = .ok (.ifCond .eq 7, 3) := dk_153 0 7 (dk_at dksX5_isSaid_6 10 rfl rfl)
theorem dX5_isSaid_156 : decode cX5_isSaid 156 = .ok (.iconst 1, 1) := dk_4 (dk_at dksX5_isSaid_6 13 rfl rfl)
theorem dX5_isSaid_157 : decode cX5_isSaid 157 = .ok (.goto 4, 3) := dk_167 0 4 (dk_at dksX5_isSaid_6 14 rfl rfl)
theorem dX5_isSaid_160 : decode cX5_isSaid 160 = .ok (.iconst 0, 1) := dk_3 (dk_at dksX5_isSaid_6 17 rfl rfl)
theorem dX5_isSaid_161 : decode cX5_isSaid 161 = .ok (.bastore, 1) := dk_84 (dk_at dksX5_isSaid_6 18 rfl rfl)
theorem dX5_isSaid_162 : decode cX5_isSaid 162 = .ok (.goto 42, 3) := dk_167 0 42 (dk_at dksX5_isSaid_6 19 rfl rfl)
theorem dX5_isSaid_165 : decode cX5_isSaid 165 = .ok (.aload_n 0, 1) := dk_42 (dk_at dksX5_isSaid_6 22 rfl rfl)
theorem dX5_isSaid_166 : decode cX5_isSaid 166 = .ok (.getfield 65, 3) := dk_180 0 65 (dk_at dksX5_isSaid_7 0 rfl rfl)
theorem dX5_isSaid_169 : decode cX5_isSaid 169 = .ok (.iload_n 2, 1) := dk_28 (dk_at dksX5_isSaid_7 3 rfl rfl)
theorem dX5_isSaid_170 : decode cX5_isSaid 170 = .ok (.aload_n 0, 1) := dk_42 (dk_at dksX5_isSaid_7 4 rfl rfl)
theorem dX5_isSaid_171 : decode cX5_isSaid 171 = .ok (.iload_n 1, 1) := dk_27 (dk_at dksX5_isSaid_7 5 rfl rfl)
theorem dX5_isSaid_172 : decode cX5_isSaid 172 = .ok (.aload_n 0, 1) := dk_42 (dk_at dksX5_isSaid_7 6 rfl rfl)
theorem dX5_isSaid_173 : decode cX5_isSaid 173 = .ok (.getfield 33, 3) := dk_180 0 33 (dk_at dksX5_isSaid_7 7 rfl rfl)
theorem dX5_isSaid_176 : decode cX5_isSaid 176 = .ok (.iload 4, 2) := dk_21 4 (dk_at dksX5_isSaid_7 10 rfl rfl)
theorem dX5_isSaid_178 : decode cX5_isSaid 178 = .ok (.iaload, 1) := dk_46 (dk_at dksX5_isSaid_7 12 rfl rfl)
theorem dX5_isSaid_179 : decode cX5_isSaid 179 = .ok (.aload_n 0, 1) := dk_42 (dk_at dksX5_isSaid_7 13 rfl rfl)
theorem dX5_isSaid_180 : decode cX5_isSaid 180 = .ok (.getfield 33, 3) := dk_180 0 33 (dk_at dksX5_isSaid_7 14 rfl rfl)
theorem dX5_isSaid_183 : decode cX5_isSaid 183 = .ok (.iload 4, 2) := dk_21 4 (dk_at dksX5_isSaid_7 17 rfl rfl)
theorem dX5_isSaid_185 : decode cX5_isSaid 185 = .ok (.iconst 1, 1) := dk_4 (dk_at dksX5_isSaid_7 19 rfl rfl)
theorem dX5_isSaid_186 : decode cX5_isSaid 186 = .ok (.iadd, 1) := dk_96 (dk_at dksX5_isSaid_7 20 rfl rfl)
theorem dX5_isSaid_187 : decode cX5_isSaid 187 = .ok (.iaload, 1) := dk_46 (dk_at dksX5_isSaid_7 21 rfl rfl)
theorem dX5_isSaid_188 : decode cX5_isSaid 188 = .ok (.aload_n 0, 1) := dk_42 (dk_at dksX5_isSaid_7 22 rfl rfl)
theorem dX5_isSaid_189 : decode cX5_isSaid 189 = .ok (.getfield 33, 3) := dk_180 0 33 (dk_at dksX5_isSaid_8 0 rfl rfl)
theorem dX5_isSaid_192 : decode cX5_isSaid 192 = .ok (.iload 4, 2) := dk_21 4 (dk_at dksX5_isSaid_8 3 rfl rfl)
theorem dX5_isSaid_194 : decode cX5_isSaid 194 = .ok (.iconst 2, 1) := dk_5 (dk_at dksX5_isSaid_8 5 rfl rfl)
theorem dX5_isSaid_195 : decode cX5_isSaid 195 = .ok (.iadd, 1) := dk_96 (dk_at dksX5_isSaid_8 6 rfl rfl)
theorem dX5_isSaid_196 : decode cX5_isSaid 196 = .ok (.iaload, 1) := dk_46 (dk_at dksX5_isSaid_8 7 rfl rfl)
theorem dX5_isSaid_197 : decode cX5_isSaid 197 = .ok (.invokevirtual 443, 3) := dk_182 1 187 (dk_at dksX5_isSaid_8 8 rfl rfl)
theorem dX5_isSaid_200 : decode cX5_isSaid 200 = .ok (.bastore, 1) := dk_84 (dk_at dksX5_isSaid_8 11 rfl rfl)
theorem dX5_isSaid_201 : decode cX5_isSaid 201 = .ok (.iinc 2 1, 3) := dk_132 2 1 (dk_at dksX5_isSaid_8 12 rfl rfl)
theorem dX5_isSaid_204 : decode cX5_isSaid 204 = .ok (.iinc 3 1, 3) := dk_132 3 1 (dk_at dksX5_isSaid_8 15 rfl rfl)
theorem dX5_isSaid_207 : decode cX5_isSaid 207 = .ok (.goto (-203), 3) := dk_167 255 53 (dk_at dksX5_isSaid_8 18 rfl rfl)
theorem dX5_isSaid_210 : decode cX5_isSaid 210 = .ok (.aload_n 0, 1) := dk_42 (dk_at dksX5_isSaid_8 21 rfl rfl)
theorem dX5_isSaid_211 : decode cX5_isSaid 211 = .ok (.getfield 65, 3) := dk_180 0 65 (dk_at dksX5_isSaid_9 0 rfl rfl)
theorem dX5_isSaid_214 : decode cX5_isSaid 214 = .ok (.iconst 0, 1) := dk_3 (dk_at dksX5_isSaid_9 3 rfl rfl)
theorem dX5_isSaid_215 : decode cX5_isSaid 215 = .ok (.baload, 1) := dk_51 (dk_at dksX5_isSaid_9 4 rfl rfl)
theorem dX5_isSaid_216 : decode cX5_isSaid 216 = .ok (.ireturn, 1) := dk_172 (dk_at dksX5_isSaid_9 5 rfl rfl)
theorem se_HeldCoatsModel_isLeaf__IIII_Z_HeldCoatsModel : ∀ c ∈ ([5] : List Nat), ∃ q : vw_C, cz_cl[c]? = some q ∧ Cond.selects q.1 (⟨"HeldCoatsModel", "isLeaf", "(IIII)Z"⟩ : MethodName) (⟨"HeldCoatsModel", "isLeaf", "(IIII)Z"⟩ : MethodName) ∈ lw_all := List.forall_mem_cons.mpr ⟨⟨_, cz_cl5, qs111⟩, fun _ h => absurd h List.not_mem_nil⟩
theorem md_X5_isLeaf : cz_md yX5_isLeaf 7 (ws_ yX5_isLeaf cX5_isLeaf 7 ((Option.some Jvm.ClassFile.FieldType.boolean))) 4 := ⟨cz_ws_code q2494, q123, ⟨by decide, by decide, by decide +kernel⟩, by decide⟩
theorem kB_119 : (Int8.ofInt (119)).toInt32 = 119 := by decide
theorem kB_118 : (Int8.ofInt (118)).toInt32 = 118 := by decide
set_option maxHeartbeats 4000000 in
set_option maxRecDepth 100000 in
noncomputable def fn_X5_isSaid_4 (l0 : Option Nat) (l1 : Int32) (k0 : cz_H → cz_Z) : Nat → Int32 → Int32 → cz_H → cz_Z
  | 0, _, _, _ => none
  | n + 1, l2, l3, h => cz_getR h l0 [(5, 6)] (fun r1 => cz_iald h r1 118 (fun x2 => (if x2 ≤ l3 then k0 h else cz_leti ((119 : Int32) + ((3 : Int32) * l3)) (fun x3 => cz_getR h l0 [(5, 6)] (fun r4 => cz_iald h r4 x3 (fun x5 => (if x5 = 20 then cz_getR h l0 [(5, 45)] (fun r54 => cz_getR h l0 [(5, 45)] (fun r55 => cz_bald h r55 (l2 - 1) (fun x56 => (if x56 = 0 then cz_bast h r54 (l2 - 1) 1 (fun h59 => cz_leti (l3 + 1) (fun x60 => fn_X5_isSaid_4 l0 l1 k0 n l2 x60 h59)) else cz_bast h r54 (l2 - 1) 0 (fun h57 => cz_leti (l3 + 1) (fun x58 => fn_X5_isSaid_4 l0 l1 k0 n l2 x58 h57)))))) else cz_getR h l0 [(5, 6)] (fun r6 => cz_iald h r6 x3 (fun x7 => cz_jn (fun (h8 : cz_H) => cz_leti (l2 + (-1)) (fun x9 => cz_getR h8 l0 [(5, 45)] (fun r10 => cz_getR h8 l0 [(5, 6)] (fun r11 => cz_iald h8 r11 x3 (fun x12 => (if x12 = 21 then cz_getR h8 l0 [(5, 45)] (fun r23 => cz_bald h8 r23 (x9 - 1) (fun x24 => (if x24 = 0 then cz_bast h8 r10 (x9 - 1) 0 (fun h25 => cz_leti (l3 + 1) (fun x26 => fn_X5_isSaid_4 l0 l1 k0 n x9 x26 h25)) else cz_getR h8 l0 [(5, 45)] (fun r27 => cz_bald h8 r27 x9 (fun x28 => (if x28 = 0 then cz_bast h8 r10 (x9 - 1) 0 (fun h29 => cz_leti (l3 + 1) (fun x30 => fn_X5_isSaid_4 l0 l1 k0 n x9 x30 h29)) else cz_bast h8 r10 (x9 - 1) 1 (fun h31 => cz_leti (l3 + 1) (fun x32 => fn_X5_isSaid_4 l0 l1 k0 n x9 x32 h31)))))))) else cz_getR h8 l0 [(5, 45)] (fun r13 => cz_bald h8 r13 (x9 - 1) (fun x14 => (if x14 = 0 then cz_getR h8 l0 [(5, 45)] (fun r17 => cz_bald h8 r17 x9 (fun x18 => (if x18 = 0 then cz_bast h8 r10 (x9 - 1) 0 (fun h19 => cz_leti (l3 + 1) (fun x20 => fn_X5_isSaid_4 l0 l1 k0 n x9 x20 h19)) else cz_bast h8 r10 (x9 - 1) 1 (fun h21 => cz_leti (l3 + 1) (fun x22 => fn_X5_isSaid_4 l0 l1 k0 n x9 x22 h21))))) else cz_bast h8 r10 (x9 - 1) 1 (fun h15 => cz_leti (l3 + 1) (fun x16 => fn_X5_isSaid_4 l0 l1 k0 n x9 x16 h15))))))))))) (fun j33 => (if x7 = 21 then j33 h else cz_getR h l0 [(5, 6)] (fun r34 => cz_iald h r34 x3 (fun x35 => (if x35 = 22 then j33 h else cz_getR h l0 [(5, 45)] (fun r36 => cz_getR h l0 [(5, 6)] (fun r37 => cz_iald h r37 x3 (fun x38 => cz_getR h l0 [(5, 6)] (fun r39 => cz_iald h r39 (x3 + 1) (fun x40 => cz_getR h l0 [(5, 6)] (fun r41 => cz_iald h r41 (x3 + 2) (fun x42 => cz_rc h l0 [5] (cz_cI (fn_X5_isLeaf l0 l1 x38 x40 x42 h) (fun x50 h49 => cz_bast h49 r36 l2 x50 (fun h51 => cz_leti (l2 + 1) (fun x52 => cz_leti (l3 + 1) (fun x53 => fn_X5_isSaid_4 l0 l1 k0 n x52 x53 h51))))))))))))))))))))))))))
set_option maxHeartbeats 4000000 in
set_option maxRecDepth 100000 in
theorem wk_X5_isSaid_4 {K : cz_K} {D : cz_D} {h0 : cz_H} {oh : cz_O × cz_H} {l0 : Option Nat} {l1 : Int32} {k0 : cz_H → cz_Z} (S : cz_S K D h0 cX5_isSaid 5 "HeldCoatsModel" ((Option.some Jvm.ClassFile.FieldType.boolean)) "isSaid" ([])) (hk0 : ∀ (h : cz_H), cz_T K D 6 h0 oh 5 (k0 h) h 210 [(0, cz_r l0)] []) : ∀ (n : Nat) (l2 : Int32) (l3 : Int32) (h : cz_H), cz_T K D 6 h0 oh 5 (fn_X5_isSaid_4 l0 l1 k0 n l2 l3 h) h 4 [(0, cz_r l0), (1, cz_i l1), (2, cz_i l2), (3, cz_i l3)] [] := by
  intro n
  induction n with
  | zero => intros; exact ct_none
  | succ n ih =>
    intro l2 l3 h
    rw [fn_X5_isSaid_4]
    refine ct_iload_n (k := 3) S dX5_isSaid_4 rfl rfl ?_
    refine ct_aload_n (k := 0) S dX5_isSaid_5 rfl rfl ?_
    refine ct_getR S fw_X5_33 dX5_isSaid_6 (fun r1 => ?_)
    refine ct_bipush (v := 118) S dX5_isSaid_9 kB_118 ?_
    refine ct_iald S dX5_isSaid_11 (fun x2 => ?_)
    refine ct_icmp_ge (tgt := 210) S dX5_isSaid_12 (by decide) ?_ ?_
    · exact ct_sub [0] rfl (hk0 h)
    · refine ct_bipush (v := 119) S dX5_isSaid_15 kB_119 ?_
      refine ct_iconst (v := 3) S dX5_isSaid_17 kI_3 ?_
      refine ct_iload_n (k := 3) S dX5_isSaid_18 rfl rfl ?_
      refine ct_imul S dX5_isSaid_19 ?_
      refine ct_iadd S dX5_isSaid_20 ?_
      refine ct_leti (fun x3 => ?_)
      refine ct_istore (L' := [(4, cz_i x3), (0, cz_r l0), (1, cz_i l1), (2, cz_i l2), (3, cz_i l3)]) S dX5_isSaid_21 (by decide) rfl ?_
      refine ct_aload_n (k := 1) S dX5_isSaid_23 rfl rfl ?_
      refine ct_getR S fw_X5_33 dX5_isSaid_24 (fun r4 => ?_)
      refine ct_iload (k := 0) S dX5_isSaid_27 rfl ?_
      refine ct_iald S dX5_isSaid_29 (fun x5 => ?_)
      refine ct_bipush (v := 20) S dX5_isSaid_30 kB_20 ?_
      refine ct_icmp_ne (tgt := 62) S dX5_isSaid_32 (by decide) ?_ ?_
      · refine ct_aload_n (k := 1) S dX5_isSaid_62 rfl rfl ?_
        refine ct_getR S fw_X5_33 dX5_isSaid_63 (fun r6 => ?_)
        refine ct_iload (k := 0) S dX5_isSaid_66 rfl ?_
        refine ct_iald S dX5_isSaid_68 (fun x7 => ?_)
        refine ct_bipush (v := 21) S dX5_isSaid_69 kB_21 ?_
        refine ct_jnP (fun j33 => ∀ (h8 : cz_H), cz_T K D 6 h0 oh 5 (j33 h8) h8 86 [(0, cz_r l0), (1, cz_i l1), (2, cz_i l2), (3, cz_i l3), (4, cz_i x3)] []) (fun h8 => ?_) (fun j33 Hj33 => ?_)
        · refine ct_iincL (j := 2) (L2 := fun x9 => [(2, cz_i x9), (0, cz_r l0), (1, cz_i l1), (3, cz_i l3), (4, cz_i x3)]) S dX5_isSaid_86 rfl kI_m1 (by decide) (fun _ => rfl) (fun x9 => ?_)
          refine ct_aload_n (k := 1) S dX5_isSaid_89 rfl rfl ?_
          refine ct_getR S fw_X5_65 dX5_isSaid_90 (fun r10 => ?_)
          refine ct_iload_n (k := 0) S dX5_isSaid_93 rfl rfl ?_
          refine ct_iconst (v := 1) S dX5_isSaid_94 kI_1 ?_
          refine ct_isub S dX5_isSaid_95 ?_
          refine ct_aload_n (k := 1) S dX5_isSaid_96 rfl rfl ?_
          refine ct_getR S fw_X5_33 dX5_isSaid_97 (fun r11 => ?_)
          refine ct_iload (k := 4) S dX5_isSaid_100 rfl ?_
          refine ct_iald S dX5_isSaid_102 (fun x12 => ?_)
          refine ct_bipush (v := 21) S dX5_isSaid_103 kB_21 ?_
          refine ct_icmp_ne (tgt := 136) S dX5_isSaid_105 (by decide) ?_ ?_
          · refine ct_aload_n (k := 1) S dX5_isSaid_136 rfl rfl ?_
            refine ct_getR S fw_X5_65 dX5_isSaid_137 (fun r13 => ?_)
            refine ct_iload_n (k := 0) S dX5_isSaid_140 rfl rfl ?_
            refine ct_iconst (v := 1) S dX5_isSaid_141 kI_1 ?_
            refine ct_isub S dX5_isSaid_142 ?_
            refine ct_bald S dX5_isSaid_143 (fun x14 => ?_)
            refine ct_if_ne (tgt := 156) S dX5_isSaid_144 (by decide) ?_ ?_
            · refine ct_iconst (v := 1) S dX5_isSaid_156 kI_1 ?_
              refine ct_goto (tgt := 161) S dX5_isSaid_157 (by decide) ?_
              refine ct_bast S dX5_isSaid_161 (fun h15 => ?_)
              refine ct_goto (tgt := 204) S dX5_isSaid_162 (by decide) ?_
              refine ct_iincL (j := 3) (L2 := fun x16 => [(3, cz_i x16), (2, cz_i x9), (0, cz_r l0), (1, cz_i l1), (4, cz_i x3)]) S dX5_isSaid_204 rfl kI_1 (by decide) (fun _ => rfl) (fun x16 => ?_)
              refine ct_goto (tgt := 4) S dX5_isSaid_207 (by decide) ?_
              exact ct_sub [2, 3, 1, 0] rfl (ih x9 x16 h15)
            · refine ct_aload_n (k := 1) S dX5_isSaid_147 rfl rfl ?_
              refine ct_getR S fw_X5_65 dX5_isSaid_148 (fun r17 => ?_)
              refine ct_iload_n (k := 0) S dX5_isSaid_151 rfl rfl ?_
              refine ct_bald S dX5_isSaid_152 (fun x18 => ?_)
              refine ct_if_eq (tgt := 160) S dX5_isSaid_153 (by decide) ?_ ?_
              · refine ct_iconst (v := 0) S dX5_isSaid_160 kI_0 ?_
                refine ct_bast S dX5_isSaid_161 (fun h19 => ?_)
                refine ct_goto (tgt := 204) S dX5_isSaid_162 (by decide) ?_
                refine ct_iincL (j := 3) (L2 := fun x20 => [(3, cz_i x20), (2, cz_i x9), (0, cz_r l0), (1, cz_i l1), (4, cz_i x3)]) S dX5_isSaid_204 rfl kI_1 (by decide) (fun _ => rfl) (fun x20 => ?_)
                refine ct_goto (tgt := 4) S dX5_isSaid_207 (by decide) ?_
                exact ct_sub [2, 3, 1, 0] rfl (ih x9 x20 h19)
              · refine ct_iconst (v := 1) S dX5_isSaid_156 kI_1 ?_
                refine ct_goto (tgt := 161) S dX5_isSaid_157 (by decide) ?_
                refine ct_bast S dX5_isSaid_161 (fun h21 => ?_)
                refine ct_goto (tgt := 204) S dX5_isSaid_162 (by decide) ?_
                refine ct_iincL (j := 3) (L2 := fun x22 => [(3, cz_i x22), (2, cz_i x9), (0, cz_r l0), (1, cz_i l1), (4, cz_i x3)]) S dX5_isSaid_204 rfl kI_1 (by decide) (fun _ => rfl) (fun x22 => ?_)
                refine ct_goto (tgt := 4) S dX5_isSaid_207 (by decide) ?_
                exact ct_sub [2, 3, 1, 0] rfl (ih x9 x22 h21)
          · refine ct_aload_n (k := 1) S dX5_isSaid_108 rfl rfl ?_
            refine ct_getR S fw_X5_65 dX5_isSaid_109 (fun r23 => ?_)
            refine ct_iload_n (k := 0) S dX5_isSaid_112 rfl rfl ?_
            refine ct_iconst (v := 1) S dX5_isSaid_113 kI_1 ?_
            refine ct_isub S dX5_isSaid_114 ?_
            refine ct_bald S dX5_isSaid_115 (fun x24 => ?_)
            refine ct_if_eq (tgt := 132) S dX5_isSaid_116 (by decide) ?_ ?_
            · refine ct_iconst (v := 0) S dX5_isSaid_132 kI_0 ?_
              refine ct_goto (tgt := 161) S dX5_isSaid_133 (by decide) ?_
              refine ct_bast S dX5_isSaid_161 (fun h25 => ?_)
              refine ct_goto (tgt := 204) S dX5_isSaid_162 (by decide) ?_
              refine ct_iincL (j := 3) (L2 := fun x26 => [(3, cz_i x26), (2, cz_i x9), (0, cz_r l0), (1, cz_i l1), (4, cz_i x3)]) S dX5_isSaid_204 rfl kI_1 (by decide) (fun _ => rfl) (fun x26 => ?_)
              refine ct_goto (tgt := 4) S dX5_isSaid_207 (by decide) ?_
              exact ct_sub [2, 3, 1, 0] rfl (ih x9 x26 h25)
            · refine ct_aload_n (k := 1) S dX5_isSaid_119 rfl rfl ?_
              refine ct_getR S fw_X5_65 dX5_isSaid_120 (fun r27 => ?_)
              refine ct_iload_n (k := 0) S dX5_isSaid_123 rfl rfl ?_
              refine ct_bald S dX5_isSaid_124 (fun x28 => ?_)
              refine ct_if_eq (tgt := 132) S dX5_isSaid_125 (by decide) ?_ ?_
              · refine ct_iconst (v := 0) S dX5_isSaid_132 kI_0 ?_
                refine ct_goto (tgt := 161) S dX5_isSaid_133 (by decide) ?_
                refine ct_bast S dX5_isSaid_161 (fun h29 => ?_)
                refine ct_goto (tgt := 204) S dX5_isSaid_162 (by decide) ?_
                refine ct_iincL (j := 3) (L2 := fun x30 => [(3, cz_i x30), (2, cz_i x9), (0, cz_r l0), (1, cz_i l1), (4, cz_i x3)]) S dX5_isSaid_204 rfl kI_1 (by decide) (fun _ => rfl) (fun x30 => ?_)
                refine ct_goto (tgt := 4) S dX5_isSaid_207 (by decide) ?_
                exact ct_sub [2, 3, 1, 0] rfl (ih x9 x30 h29)
              · refine ct_iconst (v := 1) S dX5_isSaid_128 kI_1 ?_
                refine ct_goto (tgt := 161) S dX5_isSaid_129 (by decide) ?_
                refine ct_bast S dX5_isSaid_161 (fun h31 => ?_)
                refine ct_goto (tgt := 204) S dX5_isSaid_162 (by decide) ?_
                refine ct_iincL (j := 3) (L2 := fun x32 => [(3, cz_i x32), (2, cz_i x9), (0, cz_r l0), (1, cz_i l1), (4, cz_i x3)]) S dX5_isSaid_204 rfl kI_1 (by decide) (fun _ => rfl) (fun x32 => ?_)
                refine ct_goto (tgt := 4) S dX5_isSaid_207 (by decide) ?_
                exact ct_sub [2, 3, 1, 0] rfl (ih x9 x32 h31)
        · refine ct_icmp_eq (tgt := 86) S dX5_isSaid_71 (by decide) ?_ ?_
          · exact ct_sub [1, 2, 3, 4, 0] rfl (Hj33 h)
          · refine ct_aload_n (k := 1) S dX5_isSaid_74 rfl rfl ?_
            refine ct_getR S fw_X5_33 dX5_isSaid_75 (fun r34 => ?_)
            refine ct_iload (k := 0) S dX5_isSaid_78 rfl ?_
            refine ct_iald S dX5_isSaid_80 (fun x35 => ?_)
            refine ct_bipush (v := 22) S dX5_isSaid_81 kB_22 ?_
            refine ct_icmp_ne (tgt := 165) S dX5_isSaid_83 (by decide) ?_ ?_
            · refine ct_aload_n (k := 1) S dX5_isSaid_165 rfl rfl ?_
              refine ct_getR S fw_X5_65 dX5_isSaid_166 (fun r36 => ?_)
              refine ct_iload_n (k := 3) S dX5_isSaid_169 rfl rfl ?_
              refine ct_aload_n (k := 1) S dX5_isSaid_170 rfl rfl ?_
              refine ct_iload_n (k := 2) S dX5_isSaid_171 rfl rfl ?_
              refine ct_aload_n (k := 1) S dX5_isSaid_172 rfl rfl ?_
              refine ct_getR S fw_X5_33 dX5_isSaid_173 (fun r37 => ?_)
              refine ct_iload (k := 0) S dX5_isSaid_176 rfl ?_
              refine ct_iald S dX5_isSaid_178 (fun x38 => ?_)
              refine ct_aload_n (k := 1) S dX5_isSaid_179 rfl rfl ?_
              refine ct_getR S fw_X5_33 dX5_isSaid_180 (fun r39 => ?_)
              refine ct_iload (k := 0) S dX5_isSaid_183 rfl ?_
              refine ct_iconst (v := 1) S dX5_isSaid_185 kI_1 ?_
              refine ct_iadd S dX5_isSaid_186 ?_
              refine ct_iald S dX5_isSaid_187 (fun x40 => ?_)
              refine ct_aload_n (k := 1) S dX5_isSaid_188 rfl rfl ?_
              refine ct_getR S fw_X5_33 dX5_isSaid_189 (fun r41 => ?_)
              refine ct_iload (k := 0) S dX5_isSaid_192 rfl ?_
              refine ct_iconst (v := 2) S dX5_isSaid_194 kI_2 ?_
              refine ct_iadd S dX5_isSaid_195 ?_
              refine ct_iald S dX5_isSaid_196 (fun x42 => ?_)
              refine ct_rc (fun b43 ci44 V45 hb46 hc47 hi48 => ?_)
              refine ct_cI (st := [cz_i l2, cz_r r36]) (cg_virtual (av := [cz_i l1, cz_i x38, cz_i x40, cz_i x42]) S hb46 hc47 hi48 (fun _ e => mt_X5_isLeaf e) md_X5_isLeaf q2491 q2493 se_HeldCoatsModel_isLeaf__IIII_Z_HeldCoatsModel (by decide) (Nat.le_of_ble_eq_true rfl) rfl dX5_isSaid_197) (fun x50 h49 => ?_)
              refine ct_bast S dX5_isSaid_200 (fun h51 => ?_)
              refine ct_iincL (j := 3) (L2 := fun x52 => [(2, cz_i x52), (4, cz_i x3), (0, cz_r l0), (1, cz_i l1), (3, cz_i l3)]) S dX5_isSaid_201 rfl kI_1 (by decide) (fun _ => rfl) (fun x52 => ?_)
              refine ct_iincL (j := 4) (L2 := fun x53 => [(3, cz_i x53), (2, cz_i x52), (4, cz_i x3), (0, cz_r l0), (1, cz_i l1)]) S dX5_isSaid_204 rfl kI_1 (by decide) (fun _ => rfl) (fun x53 => ?_)
              refine ct_goto (tgt := 4) S dX5_isSaid_207 (by decide) ?_
              exact ct_sub [3, 4, 1, 0] rfl (ih x52 x53 h51)
            · exact ct_sub [1, 2, 3, 4, 0] rfl (Hj33 h)
      · refine ct_aload_n (k := 1) S dX5_isSaid_35 rfl rfl ?_
        refine ct_getR S fw_X5_65 dX5_isSaid_36 (fun r54 => ?_)
        refine ct_iload_n (k := 3) S dX5_isSaid_39 rfl rfl ?_
        refine ct_iconst (v := 1) S dX5_isSaid_40 kI_1 ?_
        refine ct_isub S dX5_isSaid_41 ?_
        refine ct_aload_n (k := 1) S dX5_isSaid_42 rfl rfl ?_
        refine ct_getR S fw_X5_65 dX5_isSaid_43 (fun r55 => ?_)
        refine ct_iload_n (k := 3) S dX5_isSaid_46 rfl rfl ?_
        refine ct_iconst (v := 1) S dX5_isSaid_47 kI_1 ?_
        refine ct_isub S dX5_isSaid_48 ?_
        refine ct_bald S dX5_isSaid_49 (fun x56 => ?_)
        refine ct_if_ne (tgt := 57) S dX5_isSaid_50 (by decide) ?_ ?_
        · refine ct_iconst (v := 0) S dX5_isSaid_57 kI_0 ?_
          refine ct_bast S dX5_isSaid_58 (fun h57 => ?_)
          refine ct_goto (tgt := 204) S dX5_isSaid_59 (by decide) ?_
          refine ct_iincL (j := 4) (L2 := fun x58 => [(3, cz_i x58), (4, cz_i x3), (0, cz_r l0), (1, cz_i l1), (2, cz_i l2)]) S dX5_isSaid_204 rfl kI_1 (by decide) (fun _ => rfl) (fun x58 => ?_)
          refine ct_goto (tgt := 4) S dX5_isSaid_207 (by decide) ?_
          exact ct_sub [2, 3, 4, 0] rfl (ih l2 x58 h57)
        · refine ct_iconst (v := 1) S dX5_isSaid_53 kI_1 ?_
          refine ct_goto (tgt := 58) S dX5_isSaid_54 (by decide) ?_
          refine ct_bast S dX5_isSaid_58 (fun h59 => ?_)
          refine ct_goto (tgt := 204) S dX5_isSaid_59 (by decide) ?_
          refine ct_iincL (j := 4) (L2 := fun x60 => [(3, cz_i x60), (4, cz_i x3), (0, cz_r l0), (1, cz_i l1), (2, cz_i l2)]) S dX5_isSaid_204 rfl kI_1 (by decide) (fun _ => rfl) (fun x60 => ?_)
          refine ct_goto (tgt := 4) S dX5_isSaid_207 (by decide) ?_
          exact ct_sub [2, 3, 4, 0] rfl (ih l2 x60 h59)
set_option maxHeartbeats 4000000 in
set_option maxRecDepth 100000 in
noncomputable def fn_X5_isSaid (l0 : Option Nat) (l1 : Int32) (h : cz_H) : cz_Z := fn_X5_isSaid_4 l0 l1 (fun (h61 : cz_H) => cz_getR h61 l0 [(5, 45)] (fun r62 => cz_bald h61 r62 0 (fun x63 => cz_ckz x63 (some (.inl (some (cz_i x63)), h61))))) 1000 0 0 h
set_option maxHeartbeats 4000000 in
set_option maxRecDepth 100000 in
theorem wk_X5_isSaid {K : cz_K} {D : cz_D} {h0 : cz_H} {oh : cz_O × cz_H} {l0 : Option Nat} {l1 : Int32} {h : cz_H} (S : cz_S K D h0 cX5_isSaid 5 "HeldCoatsModel" ((Option.some Jvm.ClassFile.FieldType.boolean)) "isSaid" ([])) : cz_T K D 6 h0 oh 5 (fn_X5_isSaid l0 l1 h) h 0 [(0, cz_r l0), (1, cz_i l1)] [] := by
  unfold fn_X5_isSaid
  refine ct_iconst (v := 0) S dX5_isSaid_0 kI_0 ?_
  refine ct_istore_n (L' := [(2, cz_i 0), (0, cz_r l0), (1, cz_i l1)]) S dX5_isSaid_1 rfl (by decide) rfl ?_
  refine ct_iconst (v := 0) S dX5_isSaid_2 kI_0 ?_
  refine ct_istore_n (L' := [(3, cz_i 0), (2, cz_i 0), (0, cz_r l0), (1, cz_i l1)]) S dX5_isSaid_3 rfl (by decide) rfl ?_
  refine ct_sub [2, 3, 1, 0] (L' := [(0, cz_r l0), (1, cz_i l1), (2, cz_i 0), (3, cz_i 0)]) rfl (wk_X5_isSaid_4 S ?_ 1000 0 0 h)
  · intro h61
    refine ct_aload_n (k := 0) S dX5_isSaid_210 rfl rfl ?_
    refine ct_getR S fw_X5_65 dX5_isSaid_211 (fun r62 => ?_)
    refine ct_iconst (v := 0) S dX5_isSaid_214 kI_0 ?_
    refine ct_bald S dX5_isSaid_215 (fun x63 => ?_)
    refine ct_ckz (fun hx => ?_)
    exact ct_zr (ty := .boolean) S rfl (cz_nz hx) dX5_isSaid_216
theorem mt_X5_isSaid {l : Launch} {D : cz_D} {l0 : Option Nat} {l1 : Int32} {h : cz_H} {oh : cz_O × cz_H} (hz : fn_X5_isSaid l0 l1 h = some oh) : cz_M l D yX5_isSaid (ws_ yX5_isSaid cX5_isSaid 5 ((Option.some Jvm.ClassFile.FieldType.boolean))) 6 [cz_r l0, cz_i l1] h oh := cz_met (plainFor_of_name (by decide)) (Nat.le_of_ble_eq_true rfl) hz (fun K hl S => wk_X5_isSaid S)
/-! HeldCoatsModel.said(I)I -/
def dkwX5_said_3 : List UInt8 := [2, 172]
abbrev dktX5_said_3 : List UInt8 := dkwX5_said_3 ++ []
def dkwX5_said_2 : List UInt8 := [27, 160, 0, 5, 29, 172, 132, 2, 1, 132, 3, 1, 167, 255, 222, 27, 2, 160, 0, 7, 28, 167, 0, 4]
abbrev dktX5_said_2 : List UInt8 := dkwX5_said_2 ++ dktX5_said_3
def dkwX5_said_1 : List UInt8 := [3, 62, 29, 42, 180, 0, 33, 3, 46, 162, 0, 30, 42, 29, 182, 1, 190, 154, 0, 6, 167, 0, 13, 28]
abbrev dktX5_said_1 : List UInt8 := dkwX5_said_1 ++ dktX5_said_2
def dkwX5_said_0 : List UInt8 := [42, 3, 181, 0, 1, 42, 180, 0, 33, 16, 118, 46, 153, 0, 8, 27, 2, 162, 0, 5, 2, 172, 3, 61]
abbrev dktX5_said_0 : List UInt8 := dkwX5_said_0 ++ dktX5_said_1
theorem dksX5_said_0 : cX5_said.data.toList.drop 0 = dktX5_said_0 := by decide +kernel
theorem dksX5_said_1 : cX5_said.data.toList.drop 24 = dktX5_said_1 := dk_seg dksX5_said_0 24 rfl rfl
theorem dksX5_said_2 : cX5_said.data.toList.drop 48 = dktX5_said_2 := dk_seg dksX5_said_1 24 rfl rfl
theorem dksX5_said_3 : cX5_said.data.toList.drop 72 = dktX5_said_3 := dk_seg dksX5_said_2 24 rfl rfl
theorem dX5_said_0 : decode cX5_said 0 = .ok (.aload_n 0, 1) := dk_42 (dk_at dksX5_said_0 0 rfl rfl)
theorem dX5_said_1 : decode cX5_said 1 = .ok (.iconst 0, 1) := dk_3 (dk_at dksX5_said_0 1 rfl rfl)
theorem dX5_said_2 : decode cX5_said 2 = .ok (.putfield 1, 3) := dk_181 0 1 (dk_at dksX5_said_0 2 rfl rfl)
theorem dX5_said_5 : decode cX5_said 5 = .ok (.aload_n 0, 1) := dk_42 (dk_at dksX5_said_0 5 rfl rfl)
theorem dX5_said_6 : decode cX5_said 6 = .ok (.getfield 33, 3) := dk_180 0 33 (dk_at dksX5_said_0 6 rfl rfl)
theorem dX5_said_9 : decode cX5_said 9 = .ok (.bipush 118, 2) := dk_16 118 (dk_at dksX5_said_0 9 rfl rfl)
theorem dX5_said_11 : decode cX5_said 11 = .ok (.iaload, 1) := dk_46 (dk_at dksX5_said_0 11 rfl rfl)
theorem dX5_said_12 : decode cX5_said 12 = .ok (.ifCond .eq 8, 3) := dk_153 0 8 (dk_at dksX5_said_0 12 rfl rfl)
theorem dX5_said_15 : decode cX5_said 15 = .ok (.iload_n 1, 1) := dk_27 (dk_at dksX5_said_0 15 rfl rfl)
theorem dX5_said_16 : decode cX5_said 16 = .ok (.iconst (-1), 1) := dk_2 (dk_at dksX5_said_0 16 rfl rfl)
theorem dX5_said_17 : decode cX5_said 17 = .ok (.if_icmp .ge 5, 3) := dk_162 0 5 (dk_at dksX5_said_0 17 rfl rfl)
theorem dX5_said_20 : decode cX5_said 20 = .ok (.iconst (-1), 1) := dk_2 (dk_at dksX5_said_0 20 rfl rfl)
theorem dX5_said_21 : decode cX5_said 21 = .ok (.ireturn, 1) := dk_172 (dk_at dksX5_said_0 21 rfl rfl)
theorem dX5_said_22 : decode cX5_said 22 = .ok (.iconst 0, 1) := dk_3 (dk_at dksX5_said_0 22 rfl rfl)
theorem dX5_said_23 : decode cX5_said 23 = .ok (.istore_n 2, 1) := dk_61 (dk_at dksX5_said_0 23 rfl rfl)
theorem dX5_said_24 : decode cX5_said 24 = .ok (.iconst 0, 1) := dk_3 (dk_at dksX5_said_1 0 rfl rfl)
theorem dX5_said_25 : decode cX5_said 25 = .ok (.istore_n 3, 1) := dk_62 (dk_at dksX5_said_1 1 rfl rfl)
theorem dX5_said_26 : decode cX5_said 26 = .ok (.iload_n 3, 1) := dk_29 (dk_at dksX5_said_1 2 rfl rfl)
theorem dX5_said_27 : decode cX5_said 27 = .ok (.aload_n 0, 1) := dk_42 (dk_at dksX5_said_1 3 rfl rfl)
theorem dX5_said_28 : decode cX5_said 28 = .ok (.getfield 33, 3) := dk_180 0 33 (dk_at dksX5_said_1 4 rfl rfl)
theorem dX5_said_31 : decode cX5_said 31 = .ok (.iconst 0, 1) := dk_3 (dk_at dksX5_said_1 7 rfl rfl)
theorem dX5_said_32 : decode cX5_said 32 = .ok (.iaload, 1) := dk_46 (dk_at dksX5_said_1 8 rfl rfl)
theorem dX5_said_33 : decode cX5_said 33 = .ok (.if_icmp .ge 30, 3) := dk_162 0 30 (dk_at dksX5_said_1 9 rfl rfl)
theorem dX5_said_36 : decode cX5_said 36 = .ok (.aload_n 0, 1) := dk_42 (dk_at dksX5_said_1 12 rfl rfl)
theorem dX5_said_37 : decode cX5_said 37 = .ok (.iload_n 3, 1) := dk_29 (dk_at dksX5_said_1 13 rfl rfl)
theorem dX5_said_38 : decode cX5_said 38 = .ok (.invokevirtual 446, 3) := dk_182 1 190 (dk_at dksX5_said_1 14 rfl rfl)
theorem dX5_said_41 : decode cX5_said 41 = .ok (.ifCond .ne 6, 3) := dk_154 0 6 (dk_at dksX5_said_1 17 rfl rfl)
theorem dX5_said_44 : decode cX5_said 44 = .ok (.goto 13, 3) := dk_167 0 13 (dk_at dksX5_said_1 20 rfl rfl)
theorem dX5_said_47 : decode cX5_said 47 = .ok (.iload_n 2, 1) := dk_28 (dk_at dksX5_said_1 23 rfl rfl)
theorem dX5_said_48 : decode cX5_said 48 = .ok (.iload_n 1, 1) := dk_27 (dk_at dksX5_said_2 0 rfl rfl)
theorem dX5_said_49 : decode cX5_said 49 = .ok (.if_icmp .ne 5, 3) := dk_160 0 5 (dk_at dksX5_said_2 1 rfl rfl)
theorem dX5_said_52 : decode cX5_said 52 = .ok (.iload_n 3, 1) := dk_29 (dk_at dksX5_said_2 4 rfl rfl)
theorem dX5_said_53 : decode cX5_said 53 = .ok (.ireturn, 1) := dk_172 (dk_at dksX5_said_2 5 rfl rfl)
theorem dX5_said_54 : decode cX5_said 54 = .ok (.iinc 2 1, 3) := dk_132 2 1 (dk_at dksX5_said_2 6 rfl rfl)
theorem dX5_said_57 : decode cX5_said 57 = .ok (.iinc 3 1, 3) := dk_132 3 1 (dk_at dksX5_said_2 9 rfl rfl)
theorem dX5_said_60 : decode cX5_said 60 = .ok (.goto (-34), 3) := dk_167 255 222 (dk_at dksX5_said_2 12 rfl rfl)
theorem dX5_said_63 : decode cX5_said 63 = .ok (.iload_n 1, 1) := dk_27 (dk_at dksX5_said_2 15 rfl rfl)
theorem dX5_said_64 : decode cX5_said 64 = .ok (.iconst (-1), 1) := dk_2 (dk_at dksX5_said_2 16 rfl rfl)
theorem dX5_said_65 : decode cX5_said 65 = .ok (.if_icmp .ne 7, 3) := dk_160 0 7 (dk_at dksX5_said_2 17 rfl rfl)
theorem dX5_said_68 : decode cX5_said 68 = .ok (.iload_n 2, 1) := dk_28 (dk_at dksX5_said_2 20 rfl rfl)
theorem dX5_said_69 : decode cX5_said 69 = .ok (.goto 4, 3) := dk_167 0 4 (dk_at dksX5_said_2 21 rfl rfl)
theorem dX5_said_72 : decode cX5_said 72 = .ok (.iconst (-1), 1) := dk_2 (dk_at dksX5_said_3 0 rfl rfl)
theorem dX5_said_73 : decode cX5_said 73 = .ok (.ireturn, 1) := dk_172 (dk_at dksX5_said_3 1 rfl rfl)
theorem se_HeldCoatsModel_isSaid__I_Z_HeldCoatsModel : ∀ c ∈ ([5] : List Nat), ∃ q : vw_C, cz_cl[c]? = some q ∧ Cond.selects q.1 (⟨"HeldCoatsModel", "isSaid", "(I)Z"⟩ : MethodName) (⟨"HeldCoatsModel", "isSaid", "(I)Z"⟩ : MethodName) ∈ lw_all := List.forall_mem_cons.mpr ⟨⟨_, cz_cl5, qs110⟩, fun _ h => absurd h List.not_mem_nil⟩
theorem md_X5_isSaid : cz_md yX5_isSaid 5 (ws_ yX5_isSaid cX5_isSaid 5 ((Option.some Jvm.ClassFile.FieldType.boolean))) 1 := ⟨cz_ws_code q2490, q123, ⟨by decide, by decide, by decide +kernel⟩, by decide⟩
set_option maxHeartbeats 4000000 in
set_option maxRecDepth 100000 in
noncomputable def fn_X5_said_26 (l0 : Option Nat) (l1 : Int32) (k0 : Int32 → cz_H → cz_Z) (k1 : Int32 → cz_H → cz_Z) : Nat → Int32 → Int32 → cz_H → cz_Z
  | 0, _, _, _ => none
  | n + 1, l2, l3, h => cz_getR h l0 [(5, 6)] (fun r4 => cz_iald h r4 0 (fun x5 => (if x5 ≤ l3 then k1 l2 h else cz_rc h l0 [5] (cz_cI (fn_X5_isSaid l0 l3 h) (fun x13 h12 => (if x13 = 0 then cz_leti (l3 + 1) (fun x16 => fn_X5_said_26 l0 l1 k0 k1 n l2 x16 h12) else (if l2 = l1 then k0 l3 h12 else cz_leti (l2 + 1) (fun x14 => cz_leti (l3 + 1) (fun x15 => fn_X5_said_26 l0 l1 k0 k1 n x14 x15 h12)))))))))
set_option maxHeartbeats 4000000 in
set_option maxRecDepth 100000 in
theorem wk_X5_said_26 {K : cz_K} {D : cz_D} {h0 : cz_H} {oh : cz_O × cz_H} {l0 : Option Nat} {l1 : Int32} {k0 : Int32 → cz_H → cz_Z} {k1 : Int32 → cz_H → cz_Z} (S : cz_S K D h0 cX5_said 4 "HeldCoatsModel" ((Option.some Jvm.ClassFile.FieldType.int)) "said" ([])) (hk0 : ∀ (e3 : Int32) (h : cz_H), cz_T K D 7 h0 oh 4 (k0 e3 h) h 52 [(3, cz_i e3)] []) (hk1 : ∀ (e2 : Int32) (h : cz_H), cz_T K D 7 h0 oh 4 (k1 e2 h) h 63 [(1, cz_i l1), (2, cz_i e2)] []) : ∀ (n : Nat) (l2 : Int32) (l3 : Int32) (h : cz_H), cz_T K D 7 h0 oh 4 (fn_X5_said_26 l0 l1 k0 k1 n l2 l3 h) h 26 [(0, cz_r l0), (1, cz_i l1), (2, cz_i l2), (3, cz_i l3)] [] := by
  intro n
  induction n with
  | zero => intros; exact ct_none
  | succ n ih =>
    intro l2 l3 h
    rw [fn_X5_said_26]
    refine ct_iload_n (k := 3) S dX5_said_26 rfl rfl ?_
    refine ct_aload_n (k := 0) S dX5_said_27 rfl rfl ?_
    refine ct_getR S fw_X5_33 dX5_said_28 (fun r4 => ?_)
    refine ct_iconst (v := 0) S dX5_said_31 kI_0 ?_
    refine ct_iald S dX5_said_32 (fun x5 => ?_)
    refine ct_icmp_ge (tgt := 63) S dX5_said_33 (by decide) ?_ ?_
    · exact ct_sub [1, 2] rfl (hk1 l2 h)
    · refine ct_aload_n (k := 0) S dX5_said_36 rfl rfl ?_
      refine ct_iload_n (k := 3) S dX5_said_37 rfl rfl ?_
      refine ct_rc (fun b6 ci7 V8 hb9 hc10 hi11 => ?_)
      refine ct_cI (st := []) (cg_virtual (av := [cz_i l3]) S hb9 hc10 hi11 (fun _ e => mt_X5_isSaid e) md_X5_isSaid q2487 q2489 se_HeldCoatsModel_isSaid__I_Z_HeldCoatsModel (by decide) (Nat.le_of_ble_eq_true rfl) rfl dX5_said_38) (fun x13 h12 => ?_)
      refine ct_if_ne (tgt := 47) S dX5_said_41 (by decide) ?_ ?_
      · refine ct_iload_n (k := 2) S dX5_said_47 rfl rfl ?_
        refine ct_iload_n (k := 1) S dX5_said_48 rfl rfl ?_
        refine ct_icmp_ne (tgt := 54) S dX5_said_49 (by decide) ?_ ?_
        · refine ct_iincL (j := 2) (L2 := fun x14 => [(2, cz_i x14), (0, cz_r l0), (1, cz_i l1), (3, cz_i l3)]) S dX5_said_54 rfl kI_1 (by decide) (fun _ => rfl) (fun x14 => ?_)
          refine ct_iincL (j := 3) (L2 := fun x15 => [(3, cz_i x15), (2, cz_i x14), (0, cz_r l0), (1, cz_i l1)]) S dX5_said_57 rfl kI_1 (by decide) (fun _ => rfl) (fun x15 => ?_)
          refine ct_goto (tgt := 26) S dX5_said_60 (by decide) ?_
          exact ct_sub [2, 3, 1, 0] rfl (ih x14 x15 h12)
        · exact ct_sub [3] rfl (hk0 l3 h12)
      · refine ct_goto (tgt := 57) S dX5_said_44 (by decide) ?_
        refine ct_iincL (j := 3) (L2 := fun x16 => [(3, cz_i x16), (0, cz_r l0), (1, cz_i l1), (2, cz_i l2)]) S dX5_said_57 rfl kI_1 (by decide) (fun _ => rfl) (fun x16 => ?_)
        refine ct_goto (tgt := 26) S dX5_said_60 (by decide) ?_
        exact ct_sub [1, 2, 3, 0] rfl (ih l2 x16 h12)
set_option maxHeartbeats 4000000 in
set_option maxRecDepth 100000 in
noncomputable def fn_X5_said (l0 : Option Nat) (l1 : Int32) (h : cz_H) : cz_Z := cz_put h l0 [(5, 0)] (cz_i 0) (fun h1 => cz_getR h1 l0 [(5, 6)] (fun r2 => cz_iald h1 r2 118 (fun x3 => (if x3 = 0 then some (.inl (some (cz_i (-1))), h1) else (if ((-1) : Int32) ≤ l1 then fn_X5_said_26 l0 l1 (fun (e17 : Int32) (h18 : cz_H) => some (.inl (some (cz_i e17)), h18)) (fun (e19 : Int32) (h20 : cz_H) => (if l1 = (-1) then some (.inl (some (cz_i e19)), h20) else some (.inl (some (cz_i (-1))), h20))) 1000 0 0 h1 else some (.inl (some (cz_i (-1))), h1))))))
set_option maxHeartbeats 4000000 in
set_option maxRecDepth 100000 in
theorem wk_X5_said {K : cz_K} {D : cz_D} {h0 : cz_H} {oh : cz_O × cz_H} {l0 : Option Nat} {l1 : Int32} {h : cz_H} (S : cz_S K D h0 cX5_said 4 "HeldCoatsModel" ((Option.some Jvm.ClassFile.FieldType.int)) "said" ([])) : cz_T K D 7 h0 oh 4 (fn_X5_said l0 l1 h) h 0 [(0, cz_r l0), (1, cz_i l1)] [] := by
  unfold fn_X5_said
  refine ct_aload_n (k := 0) S dX5_said_0 rfl rfl ?_
  refine ct_iconst (v := 0) S dX5_said_1 kI_0 ?_
  refine ct_put S fw_X5_1 fp_X5_m_5_0 (cz_fits_i pd_I) dX5_said_2 (fun h1 => ?_)
  refine ct_aload_n (k := 0) S dX5_said_5 rfl rfl ?_
  refine ct_getR S fw_X5_33 dX5_said_6 (fun r2 => ?_)
  refine ct_bipush (v := 118) S dX5_said_9 kB_118 ?_
  refine ct_iald S dX5_said_11 (fun x3 => ?_)
  refine ct_if_eq (tgt := 20) S dX5_said_12 (by decide) ?_ ?_
  · refine ct_iconst (v := (-1)) S dX5_said_20 kI_m1 ?_
    exact ct_iret S rfl dX5_said_21
  · refine ct_iload_n (k := 1) S dX5_said_15 rfl rfl ?_
    refine ct_iconst (v := (-1)) S dX5_said_16 kI_m1 ?_
    refine ct_icmp_ge (tgt := 22) S dX5_said_17 (by decide) ?_ ?_
    · refine ct_iconst (v := 0) S dX5_said_22 kI_0 ?_
      refine ct_istore_n (L' := [(2, cz_i 0), (0, cz_r l0), (1, cz_i l1)]) S dX5_said_23 rfl (by decide) rfl ?_
      refine ct_iconst (v := 0) S dX5_said_24 kI_0 ?_
      refine ct_istore_n (L' := [(3, cz_i 0), (2, cz_i 0), (0, cz_r l0), (1, cz_i l1)]) S dX5_said_25 rfl (by decide) rfl ?_
      refine ct_sub [2, 3, 1, 0] (L' := [(0, cz_r l0), (1, cz_i l1), (2, cz_i 0), (3, cz_i 0)]) rfl (wk_X5_said_26 S ?_ ?_ 1000 0 0 h1)
      · intro e17 h18
        refine ct_iload_n (k := 0) S dX5_said_52 rfl rfl ?_
        exact ct_iret S rfl dX5_said_53
      · intro e19 h20
        refine ct_iload_n (k := 0) S dX5_said_63 rfl rfl ?_
        refine ct_iconst (v := (-1)) S dX5_said_64 kI_m1 ?_
        refine ct_icmp_ne (tgt := 72) S dX5_said_65 (by decide) ?_ ?_
        · refine ct_iconst (v := (-1)) S dX5_said_72 kI_m1 ?_
          exact ct_iret S rfl dX5_said_73
        · refine ct_iload_n (k := 1) S dX5_said_68 rfl rfl ?_
          refine ct_goto (tgt := 73) S dX5_said_69 (by decide) ?_
          exact ct_iret S rfl dX5_said_73
    · refine ct_iconst (v := (-1)) S dX5_said_20 kI_m1 ?_
      exact ct_iret S rfl dX5_said_21
theorem mt_X5_said {l : Launch} {D : cz_D} {l0 : Option Nat} {l1 : Int32} {h : cz_H} {oh : cz_O × cz_H} (hz : fn_X5_said l0 l1 h = some oh) : cz_M l D yX5_said (ws_ yX5_said cX5_said 4 ((Option.some Jvm.ClassFile.FieldType.int))) 7 [cz_r l0, cz_i l1] h oh := cz_met (plainFor_of_name (by decide)) (Nat.le_of_ble_eq_true rfl) hz (fun K hl S => wk_X5_said S)
/-! HeldCoatsModel.seat(II)I -/
def dkwX5_seat_3 : List UInt8 := [167, 0, 12, 42, 180, 0, 33, 16, 89, 29, 96, 46, 172, 2, 172]
abbrev dktX5_seat_3 : List UInt8 := dkwX5_seat_3 ++ []
def dkwX5_seat_2 : List UInt8 := [42, 180, 0, 33, 16, 8, 27, 96, 46, 172, 29, 172, 42, 27, 182, 1, 11, 172, 29, 156, 0, 7, 3]
abbrev dktX5_seat_2 : List UInt8 := dkwX5_seat_2 ++ dktX5_seat_3
def dkwX5_seat_1 : List UInt8 := [170, 0, 0, 0, 0, 66, 0, 0, 0, 0, 0, 0, 0, 3, 0, 0, 0, 30, 0, 0, 0, 40, 0, 0, 0, 42, 0, 0, 0, 48]
abbrev dktX5_seat_1 : List UInt8 := dkwX5_seat_1 ++ dktX5_seat_2
def dkwX5_seat_0 : List UInt8 := [42, 3, 181, 0, 1, 42, 27, 182, 1, 8, 154, 0, 5, 2, 172, 42, 27, 182, 0, 238, 62, 28]
abbrev dktX5_seat_0 : List UInt8 := dkwX5_seat_0 ++ dktX5_seat_1
theorem dksX5_seat_0 : cX5_seat.data.toList.drop 0 = dktX5_seat_0 := by decide +kernel
theorem dksX5_seat_1 : cX5_seat.data.toList.drop 22 = dktX5_seat_1 := dk_seg dksX5_seat_0 22 rfl rfl
theorem dksX5_seat_2 : cX5_seat.data.toList.drop 52 = dktX5_seat_2 := dk_seg dksX5_seat_1 30 rfl rfl
theorem dksX5_seat_3 : cX5_seat.data.toList.drop 75 = dktX5_seat_3 := dk_seg dksX5_seat_2 23 rfl rfl
theorem dX5_seat_0 : decode cX5_seat 0 = .ok (.aload_n 0, 1) := dk_42 (dk_at dksX5_seat_0 0 rfl rfl)
theorem dX5_seat_1 : decode cX5_seat 1 = .ok (.iconst 0, 1) := dk_3 (dk_at dksX5_seat_0 1 rfl rfl)
theorem dX5_seat_2 : decode cX5_seat 2 = .ok (.putfield 1, 3) := dk_181 0 1 (dk_at dksX5_seat_0 2 rfl rfl)
theorem dX5_seat_5 : decode cX5_seat 5 = .ok (.aload_n 0, 1) := dk_42 (dk_at dksX5_seat_0 5 rfl rfl)
theorem dX5_seat_6 : decode cX5_seat 6 = .ok (.iload_n 1, 1) := dk_27 (dk_at dksX5_seat_0 6 rfl rfl)
theorem dX5_seat_7 : decode cX5_seat 7 = .ok (.invokevirtual 264, 3) := dk_182 1 8 (dk_at dksX5_seat_0 7 rfl rfl)
theorem dX5_seat_10 : decode cX5_seat 10 = .ok (.ifCond .ne 5, 3) := dk_154 0 5 (dk_at dksX5_seat_0 10 rfl rfl)
theorem dX5_seat_13 : decode cX5_seat 13 = .ok (.iconst (-1), 1) := dk_2 (dk_at dksX5_seat_0 13 rfl rfl)
theorem dX5_seat_14 : decode cX5_seat 14 = .ok (.ireturn, 1) := dk_172 (dk_at dksX5_seat_0 14 rfl rfl)
theorem dX5_seat_15 : decode cX5_seat 15 = .ok (.aload_n 0, 1) := dk_42 (dk_at dksX5_seat_0 15 rfl rfl)
theorem dX5_seat_16 : decode cX5_seat 16 = .ok (.iload_n 1, 1) := dk_27 (dk_at dksX5_seat_0 16 rfl rfl)
theorem dX5_seat_17 : decode cX5_seat 17 = .ok (.invokevirtual 238, 3) := dk_182 0 238 (dk_at dksX5_seat_0 17 rfl rfl)
theorem dX5_seat_20 : decode cX5_seat 20 = .ok (.istore_n 3, 1) := dk_62 (dk_at dksX5_seat_0 20 rfl rfl)
theorem dX5_seat_21 : decode cX5_seat 21 = .ok (.iload_n 2, 1) := dk_28 (dk_at dksX5_seat_0 21 rfl rfl)
theorem dX5_seat_22 : decode cX5_seat 22 = .ok (.tableswitch 66 0 3 #[30, 40, 42, 48], 30) := by decide +kernel
theorem dX5_seat_52 : decode cX5_seat 52 = .ok (.aload_n 0, 1) := dk_42 (dk_at dksX5_seat_2 0 rfl rfl)
theorem dX5_seat_53 : decode cX5_seat 53 = .ok (.getfield 33, 3) := dk_180 0 33 (dk_at dksX5_seat_2 1 rfl rfl)
theorem dX5_seat_56 : decode cX5_seat 56 = .ok (.bipush 8, 2) := dk_16 8 (dk_at dksX5_seat_2 4 rfl rfl)
theorem dX5_seat_58 : decode cX5_seat 58 = .ok (.iload_n 1, 1) := dk_27 (dk_at dksX5_seat_2 6 rfl rfl)
theorem dX5_seat_59 : decode cX5_seat 59 = .ok (.iadd, 1) := dk_96 (dk_at dksX5_seat_2 7 rfl rfl)
theorem dX5_seat_60 : decode cX5_seat 60 = .ok (.iaload, 1) := dk_46 (dk_at dksX5_seat_2 8 rfl rfl)
theorem dX5_seat_61 : decode cX5_seat 61 = .ok (.ireturn, 1) := dk_172 (dk_at dksX5_seat_2 9 rfl rfl)
theorem dX5_seat_62 : decode cX5_seat 62 = .ok (.iload_n 3, 1) := dk_29 (dk_at dksX5_seat_2 10 rfl rfl)
theorem dX5_seat_63 : decode cX5_seat 63 = .ok (.ireturn, 1) := dk_172 (dk_at dksX5_seat_2 11 rfl rfl)
theorem dX5_seat_64 : decode cX5_seat 64 = .ok (.aload_n 0, 1) := dk_42 (dk_at dksX5_seat_2 12 rfl rfl)
theorem dX5_seat_65 : decode cX5_seat 65 = .ok (.iload_n 1, 1) := dk_27 (dk_at dksX5_seat_2 13 rfl rfl)
theorem dX5_seat_66 : decode cX5_seat 66 = .ok (.invokevirtual 267, 3) := dk_182 1 11 (dk_at dksX5_seat_2 14 rfl rfl)
theorem dX5_seat_69 : decode cX5_seat 69 = .ok (.ireturn, 1) := dk_172 (dk_at dksX5_seat_2 17 rfl rfl)
theorem dX5_seat_70 : decode cX5_seat 70 = .ok (.iload_n 3, 1) := dk_29 (dk_at dksX5_seat_2 18 rfl rfl)
theorem dX5_seat_71 : decode cX5_seat 71 = .ok (.ifCond .ge 7, 3) := dk_156 0 7 (dk_at dksX5_seat_2 19 rfl rfl)
theorem dX5_seat_74 : decode cX5_seat 74 = .ok (.iconst 0, 1) := dk_3 (dk_at dksX5_seat_2 22 rfl rfl)
theorem dX5_seat_75 : decode cX5_seat 75 = .ok (.goto 12, 3) := dk_167 0 12 (dk_at dksX5_seat_3 0 rfl rfl)
theorem dX5_seat_78 : decode cX5_seat 78 = .ok (.aload_n 0, 1) := dk_42 (dk_at dksX5_seat_3 3 rfl rfl)
theorem dX5_seat_79 : decode cX5_seat 79 = .ok (.getfield 33, 3) := dk_180 0 33 (dk_at dksX5_seat_3 4 rfl rfl)
theorem dX5_seat_82 : decode cX5_seat 82 = .ok (.bipush 89, 2) := dk_16 89 (dk_at dksX5_seat_3 7 rfl rfl)
theorem dX5_seat_84 : decode cX5_seat 84 = .ok (.iload_n 3, 1) := dk_29 (dk_at dksX5_seat_3 9 rfl rfl)
theorem dX5_seat_85 : decode cX5_seat 85 = .ok (.iadd, 1) := dk_96 (dk_at dksX5_seat_3 10 rfl rfl)
theorem dX5_seat_86 : decode cX5_seat 86 = .ok (.iaload, 1) := dk_46 (dk_at dksX5_seat_3 11 rfl rfl)
theorem dX5_seat_87 : decode cX5_seat 87 = .ok (.ireturn, 1) := dk_172 (dk_at dksX5_seat_3 12 rfl rfl)
theorem dX5_seat_88 : decode cX5_seat 88 = .ok (.iconst (-1), 1) := dk_2 (dk_at dksX5_seat_3 13 rfl rfl)
theorem dX5_seat_89 : decode cX5_seat 89 = .ok (.ireturn, 1) := dk_172 (dk_at dksX5_seat_3 14 rfl rfl)
set_option maxHeartbeats 4000000 in
set_option maxRecDepth 100000 in
noncomputable def fn_X5_seat (l0 : Option Nat) (l1 : Int32) (l2 : Int32) (h : cz_H) : cz_Z := cz_put h l0 [(5, 0)] (cz_i 0) (fun h1 => cz_rc h1 l0 [5] (cz_cI (fn_X5_isSeat l0 l1 h1) (fun x9 h8 => (if x9 = 0 then some (.inl (some (cz_i (-1))), h8) else cz_rc h8 l0 [5] (cz_cI (fn_X5_coatOn l0 l1 h8) (fun x17 h16 => (if l2 = 0 then cz_getR h16 l0 [(5, 6)] (fun r28 => cz_iald h16 r28 ((8 : Int32) + l1) (fun x29 => some (.inl (some (cz_i x29)), h16))) else if l2 = 1 then some (.inl (some (cz_i x17)), h16) else if l2 = 2 then cz_rc h16 l0 [5] (cz_cI (fn_X5_holder l0 l1 h16) (fun x27 h26 => some (.inl (some (cz_i x27)), h26))) else if l2 = 3 then (if 0 ≤ x17 then cz_getR h16 l0 [(5, 6)] (fun r18 => cz_iald h16 r18 ((89 : Int32) + x17) (fun x19 => some (.inl (some (cz_i x19)), h16))) else some (.inl (some (cz_i 0)), h16)) else some (.inl (some (cz_i (-1))), h16))))))))
set_option maxHeartbeats 4000000 in
set_option maxRecDepth 100000 in
theorem wk_X5_seat {K : cz_K} {D : cz_D} {h0 : cz_H} {oh : cz_O × cz_H} {l0 : Option Nat} {l1 : Int32} {l2 : Int32} {h : cz_H} (S : cz_S K D h0 cX5_seat 4 "HeldCoatsModel" ((Option.some Jvm.ClassFile.FieldType.int)) "seat" ([])) : cz_T K D 5 h0 oh 4 (fn_X5_seat l0 l1 l2 h) h 0 [(0, cz_r l0), (1, cz_i l1), (2, cz_i l2)] [] := by
  unfold fn_X5_seat
  refine ct_aload_n (k := 0) S dX5_seat_0 rfl rfl ?_
  refine ct_iconst (v := 0) S dX5_seat_1 kI_0 ?_
  refine ct_put S fw_X5_1 fp_X5_m_5_0 (cz_fits_i pd_I) dX5_seat_2 (fun h1 => ?_)
  refine ct_aload_n (k := 0) S dX5_seat_5 rfl rfl ?_
  refine ct_iload_n (k := 1) S dX5_seat_6 rfl rfl ?_
  refine ct_rc (fun b2 ci3 V4 hb5 hc6 hi7 => ?_)
  refine ct_cI (st := []) (cg_virtual (av := [cz_i l1]) S hb5 hc6 hi7 (fun _ e => mt_X5_isSeat e) md_X5_isSeat q2160 q2162 se_HeldCoatsModel_isSeat__I_Z_HeldCoatsModel (by decide) (Nat.le_of_ble_eq_true rfl) rfl dX5_seat_7) (fun x9 h8 => ?_)
  refine ct_if_ne (tgt := 15) S dX5_seat_10 (by decide) ?_ ?_
  · refine ct_aload_n (k := 0) S dX5_seat_15 rfl rfl ?_
    refine ct_iload_n (k := 1) S dX5_seat_16 rfl rfl ?_
    refine ct_rc (fun b10 ci11 V12 hb13 hc14 hi15 => ?_)
    refine ct_cI (st := []) (cg_virtual (av := [cz_i l1]) S hb13 hc14 hi15 (fun _ e => mt_X5_coatOn e) md_X5_coatOn q2164 q2166 se_HeldCoatsModel_coatOn__I_I_HeldCoatsModel (by decide) (Nat.le_of_ble_eq_true rfl) rfl dX5_seat_17) (fun x17 h16 => ?_)
    refine ct_istore_n (L' := [(3, cz_i x17), (0, cz_r l0), (1, cz_i l1), (2, cz_i l2)]) S dX5_seat_20 rfl (by decide) rfl ?_
    refine ct_iload_n (k := 3) S dX5_seat_21 rfl rfl ?_
    refine ct_case ?_ (fun c0_ => ?_)
    · refine ct_tableIn (tgt := 52) S dX5_seat_22 (by decide) (by decide) rfl (by decide) ?_
      refine ct_aload_n (k := 1) S dX5_seat_52 rfl rfl ?_
      refine ct_getR S fw_X5_33 dX5_seat_53 (fun r28 => ?_)
      refine ct_bipush (v := 8) S dX5_seat_56 kB_8 ?_
      refine ct_iload_n (k := 2) S dX5_seat_58 rfl rfl ?_
      refine ct_iadd S dX5_seat_59 ?_
      refine ct_iald S dX5_seat_60 (fun x29 => ?_)
      exact ct_iret S rfl dX5_seat_61
    · refine ct_case ?_ (fun c1_ => ?_)
      · refine ct_tableIn (tgt := 62) S dX5_seat_22 (by decide) (by decide) rfl (by decide) ?_
        refine ct_iload_n (k := 0) S dX5_seat_62 rfl rfl ?_
        exact ct_iret S rfl dX5_seat_63
      · refine ct_case ?_ (fun c2_ => ?_)
        · refine ct_tableIn (tgt := 64) S dX5_seat_22 (by decide) (by decide) rfl (by decide) ?_
          refine ct_aload_n (k := 1) S dX5_seat_64 rfl rfl ?_
          refine ct_iload_n (k := 2) S dX5_seat_65 rfl rfl ?_
          refine ct_rc (fun b20 ci21 V22 hb23 hc24 hi25 => ?_)
          refine ct_cI (st := []) (cg_virtual (av := [cz_i l1]) S hb23 hc24 hi25 (fun _ e => mt_X5_holder e) md_X5_holder q2168 q2170 se_HeldCoatsModel_holder__I_I_HeldCoatsModel (by decide) (Nat.le_of_ble_eq_true rfl) rfl dX5_seat_66) (fun x27 h26 => ?_)
          exact ct_iret S rfl dX5_seat_69
        · refine ct_case ?_ (fun c3_ => ?_)
          · refine ct_tableIn (tgt := 70) S dX5_seat_22 (by decide) (by decide) rfl (by decide) ?_
            refine ct_iload_n (k := 0) S dX5_seat_70 rfl rfl ?_
            refine ct_if_ge (tgt := 78) S dX5_seat_71 (by decide) ?_ ?_
            · refine ct_aload_n (k := 1) S dX5_seat_78 rfl rfl ?_
              refine ct_getR S fw_X5_33 dX5_seat_79 (fun r18 => ?_)
              refine ct_bipush (v := 89) S dX5_seat_82 kB_89 ?_
              refine ct_iload_n (k := 0) S dX5_seat_84 rfl rfl ?_
              refine ct_iadd S dX5_seat_85 ?_
              refine ct_iald S dX5_seat_86 (fun x19 => ?_)
              exact ct_iret S rfl dX5_seat_87
            · refine ct_iconst (v := 0) S dX5_seat_74 kI_0 ?_
              refine ct_goto (tgt := 87) S dX5_seat_75 (by decide) ?_
              exact ct_iret S rfl dX5_seat_87
          · refine ct_tableOut (tgt := 88) S dX5_seat_22 (by have := lv_neT c0_ (show (0 : Int32).toInt = 0 by decide); have := lv_neT c1_ (show (1 : Int32).toInt = 1 by decide); have := lv_neT c2_ (show (2 : Int32).toInt = 2 by decide); have := lv_neT c3_ (show (3 : Int32).toInt = 3 by decide); omega) (by decide) ?_
            refine ct_iconst (v := (-1)) S dX5_seat_88 kI_m1 ?_
            exact ct_iret S rfl dX5_seat_89
  · refine ct_iconst (v := (-1)) S dX5_seat_13 kI_m1 ?_
    exact ct_iret S rfl dX5_seat_14
theorem mt_X5_seat {l : Launch} {D : cz_D} {l0 : Option Nat} {l1 : Int32} {l2 : Int32} {h : cz_H} {oh : cz_O × cz_H} (hz : fn_X5_seat l0 l1 l2 h = some oh) : cz_M l D yX5_seat (ws_ yX5_seat cX5_seat 4 ((Option.some Jvm.ClassFile.FieldType.int))) 5 [cz_r l0, cz_i l1, cz_i l2] h oh := cz_met (plainFor_of_name (by decide)) (Nat.le_of_ble_eq_true rfl) hz (fun K hl S => wk_X5_seat S)
/-! HeldCoatsModel.code(III)V -/
def dkwX5_code_2 : List UInt8 := [181, 1, 153, 177]
abbrev dktX5_code_2 : List UInt8 := dkwX5_code_2 ++ []
def dkwX5_code_1 : List UInt8 := [28, 79, 42, 180, 0, 40, 6, 42, 180, 1, 153, 104, 5, 96, 29, 79, 42, 89, 180, 1, 153, 4, 96]
abbrev dktX5_code_1 : List UInt8 := dkwX5_code_1 ++ dktX5_code_2
def dkwX5_code_0 : List UInt8 := [42, 180, 0, 40, 6, 42, 180, 1, 153, 104, 27, 79, 42, 180, 0, 40, 6, 42, 180, 1, 153, 104, 4, 96]
abbrev dktX5_code_0 : List UInt8 := dkwX5_code_0 ++ dktX5_code_1
theorem dksX5_code_0 : cX5_code.data.toList.drop 0 = dktX5_code_0 := by decide +kernel
theorem dksX5_code_1 : cX5_code.data.toList.drop 24 = dktX5_code_1 := dk_seg dksX5_code_0 24 rfl rfl
theorem dksX5_code_2 : cX5_code.data.toList.drop 47 = dktX5_code_2 := dk_seg dksX5_code_1 23 rfl rfl
theorem dX5_code_0 : decode cX5_code 0 = .ok (.aload_n 0, 1) := dk_42 (dk_at dksX5_code_0 0 rfl rfl)
theorem dX5_code_1 : decode cX5_code 1 = .ok (.getfield 40, 3) := dk_180 0 40 (dk_at dksX5_code_0 1 rfl rfl)
theorem dX5_code_4 : decode cX5_code 4 = .ok (.iconst 3, 1) := dk_6 (dk_at dksX5_code_0 4 rfl rfl)
theorem dX5_code_5 : decode cX5_code 5 = .ok (.aload_n 0, 1) := dk_42 (dk_at dksX5_code_0 5 rfl rfl)
theorem dX5_code_6 : decode cX5_code 6 = .ok (.getfield 409, 3) := dk_180 1 153 (dk_at dksX5_code_0 6 rfl rfl)
theorem dX5_code_9 : decode cX5_code 9 = .ok (.imul, 1) := dk_104 (dk_at dksX5_code_0 9 rfl rfl)
theorem dX5_code_10 : decode cX5_code 10 = .ok (.iload_n 1, 1) := dk_27 (dk_at dksX5_code_0 10 rfl rfl)
theorem dX5_code_11 : decode cX5_code 11 = .ok (.iastore, 1) := dk_79 (dk_at dksX5_code_0 11 rfl rfl)
theorem dX5_code_12 : decode cX5_code 12 = .ok (.aload_n 0, 1) := dk_42 (dk_at dksX5_code_0 12 rfl rfl)
theorem dX5_code_13 : decode cX5_code 13 = .ok (.getfield 40, 3) := dk_180 0 40 (dk_at dksX5_code_0 13 rfl rfl)
theorem dX5_code_16 : decode cX5_code 16 = .ok (.iconst 3, 1) := dk_6 (dk_at dksX5_code_0 16 rfl rfl)
theorem dX5_code_17 : decode cX5_code 17 = .ok (.aload_n 0, 1) := dk_42 (dk_at dksX5_code_0 17 rfl rfl)
theorem dX5_code_18 : decode cX5_code 18 = .ok (.getfield 409, 3) := dk_180 1 153 (dk_at dksX5_code_0 18 rfl rfl)
theorem dX5_code_21 : decode cX5_code 21 = .ok (.imul, 1) := dk_104 (dk_at dksX5_code_0 21 rfl rfl)
theorem dX5_code_22 : decode cX5_code 22 = .ok (.iconst 1, 1) := dk_4 (dk_at dksX5_code_0 22 rfl rfl)
theorem dX5_code_23 : decode cX5_code 23 = .ok (.iadd, 1) := dk_96 (dk_at dksX5_code_0 23 rfl rfl)
theorem dX5_code_24 : decode cX5_code 24 = .ok (.iload_n 2, 1) := dk_28 (dk_at dksX5_code_1 0 rfl rfl)
theorem dX5_code_25 : decode cX5_code 25 = .ok (.iastore, 1) := dk_79 (dk_at dksX5_code_1 1 rfl rfl)
theorem dX5_code_26 : decode cX5_code 26 = .ok (.aload_n 0, 1) := dk_42 (dk_at dksX5_code_1 2 rfl rfl)
theorem dX5_code_27 : decode cX5_code 27 = .ok (.getfield 40, 3) := dk_180 0 40 (dk_at dksX5_code_1 3 rfl rfl)
theorem dX5_code_30 : decode cX5_code 30 = .ok (.iconst 3, 1) := dk_6 (dk_at dksX5_code_1 6 rfl rfl)
theorem dX5_code_31 : decode cX5_code 31 = .ok (.aload_n 0, 1) := dk_42 (dk_at dksX5_code_1 7 rfl rfl)
theorem dX5_code_32 : decode cX5_code 32 = .ok (.getfield 409, 3) := dk_180 1 153 (dk_at dksX5_code_1 8 rfl rfl)
theorem dX5_code_35 : decode cX5_code 35 = .ok (.imul, 1) := dk_104 (dk_at dksX5_code_1 11 rfl rfl)
theorem dX5_code_36 : decode cX5_code 36 = .ok (.iconst 2, 1) := dk_5 (dk_at dksX5_code_1 12 rfl rfl)
theorem dX5_code_37 : decode cX5_code 37 = .ok (.iadd, 1) := dk_96 (dk_at dksX5_code_1 13 rfl rfl)
theorem dX5_code_38 : decode cX5_code 38 = .ok (.iload_n 3, 1) := dk_29 (dk_at dksX5_code_1 14 rfl rfl)
theorem dX5_code_39 : decode cX5_code 39 = .ok (.iastore, 1) := dk_79 (dk_at dksX5_code_1 15 rfl rfl)
theorem dX5_code_40 : decode cX5_code 40 = .ok (.aload_n 0, 1) := dk_42 (dk_at dksX5_code_1 16 rfl rfl)
theorem dX5_code_41 : decode cX5_code 41 = .ok (.dup, 1) := dk_89 (dk_at dksX5_code_1 17 rfl rfl)
theorem dX5_code_42 : decode cX5_code 42 = .ok (.getfield 409, 3) := dk_180 1 153 (dk_at dksX5_code_1 18 rfl rfl)
theorem dX5_code_45 : decode cX5_code 45 = .ok (.iconst 1, 1) := dk_4 (dk_at dksX5_code_1 21 rfl rfl)
theorem dX5_code_46 : decode cX5_code 46 = .ok (.iadd, 1) := dk_96 (dk_at dksX5_code_1 22 rfl rfl)
theorem dX5_code_47 : decode cX5_code 47 = .ok (.putfield 409, 3) := dk_181 1 153 (dk_at dksX5_code_2 0 rfl rfl)
theorem dX5_code_50 : decode cX5_code 50 = .ok (.return_, 1) := dk_177 (dk_at dksX5_code_2 3 rfl rfl)
theorem fw_X5_409 : cz_FW "HeldCoatsModel" 409 [(5, 40)] "I" := ⟨"HeldCoatsModel", "codes", Or.inl q1958, List.forall_mem_cons.mpr ⟨⟨RX5, TX5, 49, rfl, by decide, rfl, rfl, Or.inl rfl⟩, fun _ h => absurd h List.not_mem_nil⟩, by decide⟩
theorem fp_X5_m_5_40 {nm : String} : cz_FP "HeldCoatsModel" nm [(5, 40)] := List.forall_mem_cons.mpr ⟨⟨RX5, TX5, 49, rfl, Or.inl rfl⟩, fun _ h => absurd h List.not_mem_nil⟩
set_option maxHeartbeats 4000000 in
set_option maxRecDepth 100000 in
noncomputable def fn_X5_code (l0 : Option Nat) (l1 : Int32) (l2 : Int32) (l3 : Int32) (h : cz_H) : cz_Z := cz_getR h l0 [(5, 8)] (fun r1 => cz_getI h l0 [(5, 40)] (fun x2 => cz_iast h r1 ((3 : Int32) * x2) l1 (fun h3 => cz_getR h3 l0 [(5, 8)] (fun r4 => cz_getI h3 l0 [(5, 40)] (fun x5 => cz_iast h3 r4 (((3 : Int32) * x5) + 1) l2 (fun h6 => cz_getR h6 l0 [(5, 8)] (fun r7 => cz_getI h6 l0 [(5, 40)] (fun x8 => cz_iast h6 r7 (((3 : Int32) * x8) + 2) l3 (fun h9 => cz_getI h9 l0 [(5, 40)] (fun x10 => cz_put h9 l0 [(5, 40)] (cz_i (x10 + 1)) (fun h11 => some (.inl none, h11))))))))))))
set_option maxHeartbeats 4000000 in
set_option maxRecDepth 100000 in
theorem wk_X5_code {K : cz_K} {D : cz_D} {h0 : cz_H} {oh : cz_O × cz_H} {l0 : Option Nat} {l1 : Int32} {l2 : Int32} {l3 : Int32} {h : cz_H} (S : cz_S K D h0 cX5_code 4 "HeldCoatsModel" ((Option.none : Option Jvm.ClassFile.FieldType)) "code" ([])) : cz_T K D 2 h0 oh 4 (fn_X5_code l0 l1 l2 l3 h) h 0 [(0, cz_r l0), (1, cz_i l1), (2, cz_i l2), (3, cz_i l3)] [] := by
  unfold fn_X5_code
  refine ct_aload_n (k := 0) S dX5_code_0 rfl rfl ?_
  refine ct_getR S fw_X5_40 dX5_code_1 (fun r1 => ?_)
  refine ct_iconst (v := 3) S dX5_code_4 kI_3 ?_
  refine ct_aload_n (k := 0) S dX5_code_5 rfl rfl ?_
  refine ct_getI S fw_X5_409 dX5_code_6 (fun x2 => ?_)
  refine ct_imul S dX5_code_9 ?_
  refine ct_iload_n (k := 1) S dX5_code_10 rfl rfl ?_
  refine ct_iast S dX5_code_11 (fun h3 => ?_)
  refine ct_aload_n (k := 0) S dX5_code_12 rfl rfl ?_
  refine ct_getR S fw_X5_40 dX5_code_13 (fun r4 => ?_)
  refine ct_iconst (v := 3) S dX5_code_16 kI_3 ?_
  refine ct_aload_n (k := 0) S dX5_code_17 rfl rfl ?_
  refine ct_getI S fw_X5_409 dX5_code_18 (fun x5 => ?_)
  refine ct_imul S dX5_code_21 ?_
  refine ct_iconst (v := 1) S dX5_code_22 kI_1 ?_
  refine ct_iadd S dX5_code_23 ?_
  refine ct_iload_n (k := 2) S dX5_code_24 rfl rfl ?_
  refine ct_iast S dX5_code_25 (fun h6 => ?_)
  refine ct_aload_n (k := 0) S dX5_code_26 rfl rfl ?_
  refine ct_getR S fw_X5_40 dX5_code_27 (fun r7 => ?_)
  refine ct_iconst (v := 3) S dX5_code_30 kI_3 ?_
  refine ct_aload_n (k := 0) S dX5_code_31 rfl rfl ?_
  refine ct_getI S fw_X5_409 dX5_code_32 (fun x8 => ?_)
  refine ct_imul S dX5_code_35 ?_
  refine ct_iconst (v := 2) S dX5_code_36 kI_2 ?_
  refine ct_iadd S dX5_code_37 ?_
  refine ct_iload_n (k := 3) S dX5_code_38 rfl rfl ?_
  refine ct_iast S dX5_code_39 (fun h9 => ?_)
  refine ct_aload_n (k := 0) S dX5_code_40 rfl rfl ?_
  refine ct_dup S dX5_code_41 rfl ?_
  refine ct_getI S fw_X5_409 dX5_code_42 (fun x10 => ?_)
  refine ct_iconst (v := 1) S dX5_code_45 kI_1 ?_
  refine ct_iadd S dX5_code_46 ?_
  refine ct_put S fw_X5_409 fp_X5_m_5_40 (cz_fits_i pd_I) dX5_code_47 (fun h11 => ?_)
  exact ct_vret S rfl dX5_code_50
theorem mt_X5_code {l : Launch} {D : cz_D} {l0 : Option Nat} {l1 : Int32} {l2 : Int32} {l3 : Int32} {h : cz_H} {oh : cz_O × cz_H} (hz : fn_X5_code l0 l1 l2 l3 h = some oh) : cz_M l D yX5_code (ws_ yX5_code cX5_code 4 ((Option.none : Option Jvm.ClassFile.FieldType))) 2 [cz_r l0, cz_i l1, cz_i l2, cz_i l3] h oh := cz_met (plainFor_of_name (by decide)) (Nat.le_of_ble_eq_true rfl) hz (fun K hl S => wk_X5_code S)
/-! HeldCoatsModel.joins(I)V -/
def dkwX5_joins_3 : List UInt8 := [167, 255, 186, 177]
abbrev dktX5_joins_3 : List UInt8 := dkwX5_joins_3 ++ []
def dkwX5_joins_2 : List UInt8 := [180, 1, 156, 4, 100, 181, 1, 156, 42, 42, 180, 0, 62, 42, 180, 1, 156, 46, 3, 3, 182, 1, 159]
abbrev dktX5_joins_2 : List UInt8 := dkwX5_joins_2 ++ dktX5_joins_3
def dkwX5_joins_1 : List UInt8 := [180, 0, 62, 42, 180, 1, 156, 4, 100, 46, 16, 22, 160, 0, 37, 27, 16, 22, 160, 0, 31, 42, 89]
abbrev dktX5_joins_1 : List UInt8 := dkwX5_joins_1 ++ dktX5_joins_2
def dkwX5_joins_0 : List UInt8 := [42, 180, 1, 156, 158, 0, 69, 42, 180, 0, 62, 42, 180, 1, 156, 4, 100, 46, 16, 21, 159, 0, 25, 42]
abbrev dktX5_joins_0 : List UInt8 := dkwX5_joins_0 ++ dktX5_joins_1
theorem dksX5_joins_0 : cX5_joins.data.toList.drop 0 = dktX5_joins_0 := by decide +kernel
theorem dksX5_joins_1 : cX5_joins.data.toList.drop 24 = dktX5_joins_1 := dk_seg dksX5_joins_0 24 rfl rfl
theorem dksX5_joins_2 : cX5_joins.data.toList.drop 47 = dktX5_joins_2 := dk_seg dksX5_joins_1 23 rfl rfl
theorem dksX5_joins_3 : cX5_joins.data.toList.drop 70 = dktX5_joins_3 := dk_seg dksX5_joins_2 23 rfl rfl
theorem dX5_joins_0 : decode cX5_joins 0 = .ok (.aload_n 0, 1) := dk_42 (dk_at dksX5_joins_0 0 rfl rfl)
theorem dX5_joins_1 : decode cX5_joins 1 = .ok (.getfield 412, 3) := dk_180 1 156 (dk_at dksX5_joins_0 1 rfl rfl)
theorem dX5_joins_4 : decode cX5_joins 4 = .ok (.ifCond .le 69, 3) := dk_158 0 69 (dk_at dksX5_joins_0 4 rfl rfl)
theorem dX5_joins_7 : decode cX5_joins 7 = .ok (.aload_n 0, 1) := dk_42 (dk_at dksX5_joins_0 7 rfl rfl)
theorem dX5_joins_8 : decode cX5_joins 8 = .ok (.getfield 62, 3) := dk_180 0 62 (dk_at dksX5_joins_0 8 rfl rfl)
theorem dX5_joins_11 : decode cX5_joins 11 = .ok (.aload_n 0, 1) := dk_42 (dk_at dksX5_joins_0 11 rfl rfl)
theorem dX5_joins_12 : decode cX5_joins 12 = .ok (.getfield 412, 3) := dk_180 1 156 (dk_at dksX5_joins_0 12 rfl rfl)
theorem dX5_joins_15 : decode cX5_joins 15 = .ok (.iconst 1, 1) := dk_4 (dk_at dksX5_joins_0 15 rfl rfl)
theorem dX5_joins_16 : decode cX5_joins 16 = .ok (.isub, 1) := dk_100 (dk_at dksX5_joins_0 16 rfl rfl)
theorem dX5_joins_17 : decode cX5_joins 17 = .ok (.iaload, 1) := dk_46 (dk_at dksX5_joins_0 17 rfl rfl)
theorem dX5_joins_18 : decode cX5_joins 18 = .ok (.bipush 21, 2) := dk_16 21 (dk_at dksX5_joins_0 18 rfl rfl)
theorem dX5_joins_20 : decode cX5_joins 20 = .ok (.if_icmp .eq 25, 3) := dk_159 0 25 (dk_at dksX5_joins_0 20 rfl rfl)
theorem dX5_joins_23 : decode cX5_joins 23 = .ok (.aload_n 0, 1) := dk_42 (dk_at dksX5_joins_0 23 rfl rfl)
theorem dX5_joins_24 : decode cX5_joins 24 = .ok (.getfield 62, 3) := dk_180 0 62 (dk_at dksX5_joins_1 0 rfl rfl)
theorem dX5_joins_27 : decode cX5_joins 27 = .ok (.aload_n 0, 1) := dk_42 (dk_at dksX5_joins_1 3 rfl rfl)
theorem dX5_joins_28 : decode cX5_joins 28 = .ok (.getfield 412, 3) := dk_180 1 156 (dk_at dksX5_joins_1 4 rfl rfl)
theorem dX5_joins_31 : decode cX5_joins 31 = .ok (.iconst 1, 1) := dk_4 (dk_at dksX5_joins_1 7 rfl rfl)
theorem dX5_joins_32 : decode cX5_joins 32 = .ok (.isub, 1) := dk_100 (dk_at dksX5_joins_1 8 rfl rfl)
theorem dX5_joins_33 : decode cX5_joins 33 = .ok (.iaload, 1) := dk_46 (dk_at dksX5_joins_1 9 rfl rfl)
theorem dX5_joins_34 : decode cX5_joins 34 = .ok (.bipush 22, 2) := dk_16 22 (dk_at dksX5_joins_1 10 rfl rfl)
theorem dX5_joins_36 : decode cX5_joins 36 = .ok (.if_icmp .ne 37, 3) := dk_160 0 37 (dk_at dksX5_joins_1 12 rfl rfl)
theorem dX5_joins_39 : decode cX5_joins 39 = .ok (.iload_n 1, 1) := dk_27 (dk_at dksX5_joins_1 15 rfl rfl)
theorem dX5_joins_40 : decode cX5_joins 40 = .ok (.bipush 22, 2) := dk_16 22 (dk_at dksX5_joins_1 16 rfl rfl)
theorem dX5_joins_42 : decode cX5_joins 42 = .ok (.if_icmp .ne 31, 3) := dk_160 0 31 (dk_at dksX5_joins_1 18 rfl rfl)
theorem dX5_joins_45 : decode cX5_joins 45 = .ok (.aload_n 0, 1) := dk_42 (dk_at dksX5_joins_1 21 rfl rfl)
theorem dX5_joins_46 : decode cX5_joins 46 = .ok (.dup, 1) := dk_89 (dk_at dksX5_joins_1 22 rfl rfl)
theorem dX5_joins_47 : decode cX5_joins 47 = .ok (.getfield 412, 3) := dk_180 1 156 (dk_at dksX5_joins_2 0 rfl rfl)
theorem dX5_joins_50 : decode cX5_joins 50 = .ok (.iconst 1, 1) := dk_4 (dk_at dksX5_joins_2 3 rfl rfl)
theorem dX5_joins_51 : decode cX5_joins 51 = .ok (.isub, 1) := dk_100 (dk_at dksX5_joins_2 4 rfl rfl)
theorem dX5_joins_52 : decode cX5_joins 52 = .ok (.putfield 412, 3) := dk_181 1 156 (dk_at dksX5_joins_2 5 rfl rfl)
theorem dX5_joins_55 : decode cX5_joins 55 = .ok (.aload_n 0, 1) := dk_42 (dk_at dksX5_joins_2 8 rfl rfl)
theorem dX5_joins_56 : decode cX5_joins 56 = .ok (.aload_n 0, 1) := dk_42 (dk_at dksX5_joins_2 9 rfl rfl)
theorem dX5_joins_57 : decode cX5_joins 57 = .ok (.getfield 62, 3) := dk_180 0 62 (dk_at dksX5_joins_2 10 rfl rfl)
theorem dX5_joins_60 : decode cX5_joins 60 = .ok (.aload_n 0, 1) := dk_42 (dk_at dksX5_joins_2 13 rfl rfl)
theorem dX5_joins_61 : decode cX5_joins 61 = .ok (.getfield 412, 3) := dk_180 1 156 (dk_at dksX5_joins_2 14 rfl rfl)
theorem dX5_joins_64 : decode cX5_joins 64 = .ok (.iaload, 1) := dk_46 (dk_at dksX5_joins_2 17 rfl rfl)
theorem dX5_joins_65 : decode cX5_joins 65 = .ok (.iconst 0, 1) := dk_3 (dk_at dksX5_joins_2 18 rfl rfl)
theorem dX5_joins_66 : decode cX5_joins 66 = .ok (.iconst 0, 1) := dk_3 (dk_at dksX5_joins_2 19 rfl rfl)
theorem dX5_joins_67 : decode cX5_joins 67 = .ok (.invokevirtual 415, 3) := dk_182 1 159 (dk_at dksX5_joins_2 20 rfl rfl)
theorem dX5_joins_70 : decode cX5_joins 70 = .ok (.goto (-70), 3) := dk_167 255 186 (dk_at dksX5_joins_3 0 rfl rfl)
theorem dX5_joins_73 : decode cX5_joins 73 = .ok (.return_, 1) := dk_177 (dk_at dksX5_joins_3 3 rfl rfl)
theorem fw_X5_412 : cz_FW "HeldCoatsModel" 412 [(5, 42)] "I" := ⟨"HeldCoatsModel", "top", Or.inl q1960, List.forall_mem_cons.mpr ⟨⟨RX5, TX5, 49, rfl, by decide, rfl, rfl, Or.inl rfl⟩, fun _ h => absurd h List.not_mem_nil⟩, by decide⟩
theorem fp_X5_m_5_42 {nm : String} : cz_FP "HeldCoatsModel" nm [(5, 42)] := List.forall_mem_cons.mpr ⟨⟨RX5, TX5, 49, rfl, Or.inl rfl⟩, fun _ h => absurd h List.not_mem_nil⟩
theorem se_HeldCoatsModel_code__III_V_HeldCoatsModel : ∀ c ∈ ([5] : List Nat), ∃ q : vw_C, cz_cl[c]? = some q ∧ Cond.selects q.1 (⟨"HeldCoatsModel", "code", "(III)V"⟩ : MethodName) (⟨"HeldCoatsModel", "code", "(III)V"⟩ : MethodName) ∈ lw_all := List.forall_mem_cons.mpr ⟨⟨_, cz_cl5, qs105⟩, fun _ h => absurd h List.not_mem_nil⟩
theorem md_X5_code : cz_md yX5_code 4 (ws_ yX5_code cX5_code 4 ((Option.none : Option Jvm.ClassFile.FieldType))) 3 := ⟨cz_ws_code q2466, q123, ⟨by decide, by decide, by decide +kernel⟩, by decide⟩
set_option maxHeartbeats 4000000 in
set_option maxRecDepth 100000 in
noncomputable def fn_X5_joins_0 (l0 : Option Nat) (l1 : Int32) (k0 : cz_H → cz_Z) : Nat → cz_H → cz_Z
  | 0, _ => none
  | n + 1, h => cz_getI h l0 [(5, 42)] (fun x1 => (if x1 ≤ 0 then k0 h else cz_getR h l0 [(5, 39)] (fun r2 => cz_getI h l0 [(5, 42)] (fun x3 => cz_iald h r2 (x3 - 1) (fun x4 => cz_jn (fun (h5 : cz_H) => cz_getI h5 l0 [(5, 42)] (fun x6 => cz_put h5 l0 [(5, 42)] (cz_i (x6 - 1)) (fun h7 => cz_getR h7 l0 [(5, 39)] (fun r8 => cz_getI h7 l0 [(5, 42)] (fun x9 => cz_iald h7 r8 x9 (fun x10 => cz_rc h7 l0 [5] (cz_cV (fn_X5_code l0 x10 0 0 h7) (fun h17 => fn_X5_joins_0 l0 l1 k0 n h17)))))))) (fun j18 => (if x4 = 21 then j18 h else cz_getR h l0 [(5, 39)] (fun r19 => cz_getI h l0 [(5, 42)] (fun x20 => cz_iald h r19 (x20 - 1) (fun x21 => (if x21 = 22 then (if l1 = 22 then j18 h else k0 h) else k0 h)))))))))))
set_option maxHeartbeats 4000000 in
set_option maxRecDepth 100000 in
theorem wk_X5_joins_0 {K : cz_K} {D : cz_D} {h0 : cz_H} {oh : cz_O × cz_H} {l0 : Option Nat} {l1 : Int32} {k0 : cz_H → cz_Z} (S : cz_S K D h0 cX5_joins 2 "HeldCoatsModel" ((Option.none : Option Jvm.ClassFile.FieldType)) "joins" ([])) (hk0 : ∀ (h : cz_H), cz_T K D 3 h0 oh 2 (k0 h) h 73 [] []) : ∀ (n : Nat) (h : cz_H), cz_T K D 3 h0 oh 2 (fn_X5_joins_0 l0 l1 k0 n h) h 0 [(0, cz_r l0), (1, cz_i l1)] [] := by
  intro n
  induction n with
  | zero => intros; exact ct_none
  | succ n ih =>
    intro h
    rw [fn_X5_joins_0]
    refine ct_aload_n (k := 0) S dX5_joins_0 rfl rfl ?_
    refine ct_getI S fw_X5_412 dX5_joins_1 (fun x1 => ?_)
    refine ct_if_le (tgt := 73) S dX5_joins_4 (by decide) ?_ ?_
    · exact ct_sub [] rfl (hk0 h)
    · refine ct_aload_n (k := 0) S dX5_joins_7 rfl rfl ?_
      refine ct_getR S fw_X5_62 dX5_joins_8 (fun r2 => ?_)
      refine ct_aload_n (k := 0) S dX5_joins_11 rfl rfl ?_
      refine ct_getI S fw_X5_412 dX5_joins_12 (fun x3 => ?_)
      refine ct_iconst (v := 1) S dX5_joins_15 kI_1 ?_
      refine ct_isub S dX5_joins_16 ?_
      refine ct_iald S dX5_joins_17 (fun x4 => ?_)
      refine ct_bipush (v := 21) S dX5_joins_18 kB_21 ?_
      refine ct_jnP (fun j18 => ∀ (h5 : cz_H), cz_T K D 3 h0 oh 2 (j18 h5) h5 45 [(0, cz_r l0), (1, cz_i l1)] []) (fun h5 => ?_) (fun j18 Hj18 => ?_)
      · refine ct_aload_n (k := 0) S dX5_joins_45 rfl rfl ?_
        refine ct_dup S dX5_joins_46 rfl ?_
        refine ct_getI S fw_X5_412 dX5_joins_47 (fun x6 => ?_)
        refine ct_iconst (v := 1) S dX5_joins_50 kI_1 ?_
        refine ct_isub S dX5_joins_51 ?_
        refine ct_put S fw_X5_412 fp_X5_m_5_42 (cz_fits_i pd_I) dX5_joins_52 (fun h7 => ?_)
        refine ct_aload_n (k := 0) S dX5_joins_55 rfl rfl ?_
        refine ct_aload_n (k := 0) S dX5_joins_56 rfl rfl ?_
        refine ct_getR S fw_X5_62 dX5_joins_57 (fun r8 => ?_)
        refine ct_aload_n (k := 0) S dX5_joins_60 rfl rfl ?_
        refine ct_getI S fw_X5_412 dX5_joins_61 (fun x9 => ?_)
        refine ct_iald S dX5_joins_64 (fun x10 => ?_)
        refine ct_iconst (v := 0) S dX5_joins_65 kI_0 ?_
        refine ct_iconst (v := 0) S dX5_joins_66 kI_0 ?_
        refine ct_rc (fun b11 ci12 V13 hb14 hc15 hi16 => ?_)
        refine ct_cV (st := []) (cg_virtual (av := [cz_i x10, cz_i 0, cz_i 0]) S hb14 hc15 hi16 (fun _ e => mt_X5_code e) md_X5_code q2463 q2465 se_HeldCoatsModel_code__III_V_HeldCoatsModel (by decide) (Nat.le_of_ble_eq_true rfl) rfl dX5_joins_67) (fun h17 => ?_)
        refine ct_goto (tgt := 0) S dX5_joins_70 (by decide) ?_
        exact ih h17
      · refine ct_icmp_eq (tgt := 45) S dX5_joins_20 (by decide) ?_ ?_
        · exact Hj18 h
        · refine ct_aload_n (k := 0) S dX5_joins_23 rfl rfl ?_
          refine ct_getR S fw_X5_62 dX5_joins_24 (fun r19 => ?_)
          refine ct_aload_n (k := 0) S dX5_joins_27 rfl rfl ?_
          refine ct_getI S fw_X5_412 dX5_joins_28 (fun x20 => ?_)
          refine ct_iconst (v := 1) S dX5_joins_31 kI_1 ?_
          refine ct_isub S dX5_joins_32 ?_
          refine ct_iald S dX5_joins_33 (fun x21 => ?_)
          refine ct_bipush (v := 22) S dX5_joins_34 kB_22 ?_
          refine ct_icmp_ne (tgt := 73) S dX5_joins_36 (by decide) ?_ ?_
          · exact ct_sub [] rfl (hk0 h)
          · refine ct_iload_n (k := 1) S dX5_joins_39 rfl rfl ?_
            refine ct_bipush (v := 22) S dX5_joins_40 kB_22 ?_
            refine ct_icmp_ne (tgt := 73) S dX5_joins_42 (by decide) ?_ ?_
            · exact ct_sub [] rfl (hk0 h)
            · exact Hj18 h
set_option maxHeartbeats 4000000 in
set_option maxRecDepth 100000 in
noncomputable def fn_X5_joins (l0 : Option Nat) (l1 : Int32) (h : cz_H) : cz_Z := fn_X5_joins_0 l0 l1 (fun (h22 : cz_H) => some (.inl none, h22)) 1000 h
set_option maxHeartbeats 4000000 in
set_option maxRecDepth 100000 in
theorem wk_X5_joins {K : cz_K} {D : cz_D} {h0 : cz_H} {oh : cz_O × cz_H} {l0 : Option Nat} {l1 : Int32} {h : cz_H} (S : cz_S K D h0 cX5_joins 2 "HeldCoatsModel" ((Option.none : Option Jvm.ClassFile.FieldType)) "joins" ([])) : cz_T K D 3 h0 oh 2 (fn_X5_joins l0 l1 h) h 0 [(0, cz_r l0), (1, cz_i l1)] [] := by
  unfold fn_X5_joins
  refine ct_sub [0, 1] (L' := [(0, cz_r l0), (1, cz_i l1)]) rfl (wk_X5_joins_0 S ?_ 1000 h)
  · intro h22
    exact ct_vret S rfl dX5_joins_73
theorem mt_X5_joins {l : Launch} {D : cz_D} {l0 : Option Nat} {l1 : Int32} {h : cz_H} {oh : cz_O × cz_H} (hz : fn_X5_joins l0 l1 h = some oh) : cz_M l D yX5_joins (ws_ yX5_joins cX5_joins 2 ((Option.none : Option Jvm.ClassFile.FieldType))) 3 [cz_r l0, cz_i l1] h oh := cz_met (plainFor_of_name (by decide)) (Nat.le_of_ble_eq_true rfl) hz (fun K hl S => wk_X5_joins S)
/-! HeldCoatsModel.nots()V -/
def dkwX5_nots_2 : List UInt8 := [182, 1, 159, 167, 255, 205, 177]
abbrev dktX5_nots_2 : List UInt8 := dkwX5_nots_2 ++ []
def dkwX5_nots_1 : List UInt8 := [89, 180, 1, 156, 4, 100, 181, 1, 156, 42, 89, 180, 1, 163, 4, 100, 181, 1, 163, 42, 16, 20, 3, 3]
abbrev dktX5_nots_1 : List UInt8 := dkwX5_nots_1 ++ dktX5_nots_2
def dkwX5_nots_0 : List UInt8 := [42, 180, 1, 156, 158, 0, 50, 42, 180, 0, 62, 42, 180, 1, 156, 4, 100, 46, 16, 20, 160, 0, 34, 42]
abbrev dktX5_nots_0 : List UInt8 := dkwX5_nots_0 ++ dktX5_nots_1
theorem dksX5_nots_0 : cX5_nots.data.toList.drop 0 = dktX5_nots_0 := by decide +kernel
theorem dksX5_nots_1 : cX5_nots.data.toList.drop 24 = dktX5_nots_1 := dk_seg dksX5_nots_0 24 rfl rfl
theorem dksX5_nots_2 : cX5_nots.data.toList.drop 48 = dktX5_nots_2 := dk_seg dksX5_nots_1 24 rfl rfl
theorem dX5_nots_0 : decode cX5_nots 0 = .ok (.aload_n 0, 1) := dk_42 (dk_at dksX5_nots_0 0 rfl rfl)
theorem dX5_nots_1 : decode cX5_nots 1 = .ok (.getfield 412, 3) := dk_180 1 156 (dk_at dksX5_nots_0 1 rfl rfl)
theorem dX5_nots_4 : decode cX5_nots 4 = .ok (.ifCond .le 50, 3) := dk_158 0 50 (dk_at dksX5_nots_0 4 rfl rfl)
theorem dX5_nots_7 : decode cX5_nots 7 = .ok (.aload_n 0, 1) := dk_42 (dk_at dksX5_nots_0 7 rfl rfl)
theorem dX5_nots_8 : decode cX5_nots 8 = .ok (.getfield 62, 3) := dk_180 0 62 (dk_at dksX5_nots_0 8 rfl rfl)
theorem dX5_nots_11 : decode cX5_nots 11 = .ok (.aload_n 0, 1) := dk_42 (dk_at dksX5_nots_0 11 rfl rfl)
theorem dX5_nots_12 : decode cX5_nots 12 = .ok (.getfield 412, 3) := dk_180 1 156 (dk_at dksX5_nots_0 12 rfl rfl)
theorem dX5_nots_15 : decode cX5_nots 15 = .ok (.iconst 1, 1) := dk_4 (dk_at dksX5_nots_0 15 rfl rfl)
theorem dX5_nots_16 : decode cX5_nots 16 = .ok (.isub, 1) := dk_100 (dk_at dksX5_nots_0 16 rfl rfl)
theorem dX5_nots_17 : decode cX5_nots 17 = .ok (.iaload, 1) := dk_46 (dk_at dksX5_nots_0 17 rfl rfl)
theorem dX5_nots_18 : decode cX5_nots 18 = .ok (.bipush 20, 2) := dk_16 20 (dk_at dksX5_nots_0 18 rfl rfl)
theorem dX5_nots_20 : decode cX5_nots 20 = .ok (.if_icmp .ne 34, 3) := dk_160 0 34 (dk_at dksX5_nots_0 20 rfl rfl)
theorem dX5_nots_23 : decode cX5_nots 23 = .ok (.aload_n 0, 1) := dk_42 (dk_at dksX5_nots_0 23 rfl rfl)
theorem dX5_nots_24 : decode cX5_nots 24 = .ok (.dup, 1) := dk_89 (dk_at dksX5_nots_1 0 rfl rfl)
theorem dX5_nots_25 : decode cX5_nots 25 = .ok (.getfield 412, 3) := dk_180 1 156 (dk_at dksX5_nots_1 1 rfl rfl)
theorem dX5_nots_28 : decode cX5_nots 28 = .ok (.iconst 1, 1) := dk_4 (dk_at dksX5_nots_1 4 rfl rfl)
theorem dX5_nots_29 : decode cX5_nots 29 = .ok (.isub, 1) := dk_100 (dk_at dksX5_nots_1 5 rfl rfl)
theorem dX5_nots_30 : decode cX5_nots 30 = .ok (.putfield 412, 3) := dk_181 1 156 (dk_at dksX5_nots_1 6 rfl rfl)
theorem dX5_nots_33 : decode cX5_nots 33 = .ok (.aload_n 0, 1) := dk_42 (dk_at dksX5_nots_1 9 rfl rfl)
theorem dX5_nots_34 : decode cX5_nots 34 = .ok (.dup, 1) := dk_89 (dk_at dksX5_nots_1 10 rfl rfl)
theorem dX5_nots_35 : decode cX5_nots 35 = .ok (.getfield 419, 3) := dk_180 1 163 (dk_at dksX5_nots_1 11 rfl rfl)
theorem dX5_nots_38 : decode cX5_nots 38 = .ok (.iconst 1, 1) := dk_4 (dk_at dksX5_nots_1 14 rfl rfl)
theorem dX5_nots_39 : decode cX5_nots 39 = .ok (.isub, 1) := dk_100 (dk_at dksX5_nots_1 15 rfl rfl)
theorem dX5_nots_40 : decode cX5_nots 40 = .ok (.putfield 419, 3) := dk_181 1 163 (dk_at dksX5_nots_1 16 rfl rfl)
theorem dX5_nots_43 : decode cX5_nots 43 = .ok (.aload_n 0, 1) := dk_42 (dk_at dksX5_nots_1 19 rfl rfl)
theorem dX5_nots_44 : decode cX5_nots 44 = .ok (.bipush 20, 2) := dk_16 20 (dk_at dksX5_nots_1 20 rfl rfl)
theorem dX5_nots_46 : decode cX5_nots 46 = .ok (.iconst 0, 1) := dk_3 (dk_at dksX5_nots_1 22 rfl rfl)
theorem dX5_nots_47 : decode cX5_nots 47 = .ok (.iconst 0, 1) := dk_3 (dk_at dksX5_nots_1 23 rfl rfl)
theorem dX5_nots_48 : decode cX5_nots 48 = .ok (.invokevirtual 415, 3) := dk_182 1 159 (dk_at dksX5_nots_2 0 rfl rfl)
theorem dX5_nots_51 : decode cX5_nots 51 = .ok (.goto (-51), 3) := dk_167 255 205 (dk_at dksX5_nots_2 3 rfl rfl)
theorem dX5_nots_54 : decode cX5_nots 54 = .ok (.return_, 1) := dk_177 (dk_at dksX5_nots_2 6 rfl rfl)
theorem fw_X5_419 : cz_FW "HeldCoatsModel" 419 [(5, 43)] "I" := ⟨"HeldCoatsModel", "deep", Or.inl q1961, List.forall_mem_cons.mpr ⟨⟨RX5, TX5, 49, rfl, by decide, rfl, rfl, Or.inl rfl⟩, fun _ h => absurd h List.not_mem_nil⟩, by decide⟩
theorem fp_X5_m_5_43 {nm : String} : cz_FP "HeldCoatsModel" nm [(5, 43)] := List.forall_mem_cons.mpr ⟨⟨RX5, TX5, 49, rfl, Or.inl rfl⟩, fun _ h => absurd h List.not_mem_nil⟩
set_option maxHeartbeats 4000000 in
set_option maxRecDepth 100000 in
noncomputable def fn_X5_nots_0 (l0 : Option Nat) (k0 : cz_H → cz_Z) : Nat → cz_H → cz_Z
  | 0, _ => none
  | n + 1, h => cz_getI h l0 [(5, 42)] (fun x1 => (if x1 ≤ 0 then k0 h else cz_getR h l0 [(5, 39)] (fun r2 => cz_getI h l0 [(5, 42)] (fun x3 => cz_iald h r2 (x3 - 1) (fun x4 => (if x4 = 20 then cz_getI h l0 [(5, 42)] (fun x5 => cz_put h l0 [(5, 42)] (cz_i (x5 - 1)) (fun h6 => cz_getI h6 l0 [(5, 43)] (fun x7 => cz_put h6 l0 [(5, 43)] (cz_i (x7 - 1)) (fun h8 => cz_rc h8 l0 [5] (cz_cV (fn_X5_code l0 20 0 0 h8) (fun h15 => fn_X5_nots_0 l0 k0 n h15)))))) else k0 h))))))
set_option maxHeartbeats 4000000 in
set_option maxRecDepth 100000 in
theorem wk_X5_nots_0 {K : cz_K} {D : cz_D} {h0 : cz_H} {oh : cz_O × cz_H} {l0 : Option Nat} {k0 : cz_H → cz_Z} (S : cz_S K D h0 cX5_nots 1 "HeldCoatsModel" ((Option.none : Option Jvm.ClassFile.FieldType)) "nots" ([])) (hk0 : ∀ (h : cz_H), cz_T K D 3 h0 oh 1 (k0 h) h 54 [] []) : ∀ (n : Nat) (h : cz_H), cz_T K D 3 h0 oh 1 (fn_X5_nots_0 l0 k0 n h) h 0 [(0, cz_r l0)] [] := by
  intro n
  induction n with
  | zero => intros; exact ct_none
  | succ n ih =>
    intro h
    rw [fn_X5_nots_0]
    refine ct_aload_n (k := 0) S dX5_nots_0 rfl rfl ?_
    refine ct_getI S fw_X5_412 dX5_nots_1 (fun x1 => ?_)
    refine ct_if_le (tgt := 54) S dX5_nots_4 (by decide) ?_ ?_
    · exact ct_sub [] rfl (hk0 h)
    · refine ct_aload_n (k := 0) S dX5_nots_7 rfl rfl ?_
      refine ct_getR S fw_X5_62 dX5_nots_8 (fun r2 => ?_)
      refine ct_aload_n (k := 0) S dX5_nots_11 rfl rfl ?_
      refine ct_getI S fw_X5_412 dX5_nots_12 (fun x3 => ?_)
      refine ct_iconst (v := 1) S dX5_nots_15 kI_1 ?_
      refine ct_isub S dX5_nots_16 ?_
      refine ct_iald S dX5_nots_17 (fun x4 => ?_)
      refine ct_bipush (v := 20) S dX5_nots_18 kB_20 ?_
      refine ct_icmp_ne (tgt := 54) S dX5_nots_20 (by decide) ?_ ?_
      · exact ct_sub [] rfl (hk0 h)
      · refine ct_aload_n (k := 0) S dX5_nots_23 rfl rfl ?_
        refine ct_dup S dX5_nots_24 rfl ?_
        refine ct_getI S fw_X5_412 dX5_nots_25 (fun x5 => ?_)
        refine ct_iconst (v := 1) S dX5_nots_28 kI_1 ?_
        refine ct_isub S dX5_nots_29 ?_
        refine ct_put S fw_X5_412 fp_X5_m_5_42 (cz_fits_i pd_I) dX5_nots_30 (fun h6 => ?_)
        refine ct_aload_n (k := 0) S dX5_nots_33 rfl rfl ?_
        refine ct_dup S dX5_nots_34 rfl ?_
        refine ct_getI S fw_X5_419 dX5_nots_35 (fun x7 => ?_)
        refine ct_iconst (v := 1) S dX5_nots_38 kI_1 ?_
        refine ct_isub S dX5_nots_39 ?_
        refine ct_put S fw_X5_419 fp_X5_m_5_43 (cz_fits_i pd_I) dX5_nots_40 (fun h8 => ?_)
        refine ct_aload_n (k := 0) S dX5_nots_43 rfl rfl ?_
        refine ct_bipush (v := 20) S dX5_nots_44 kB_20 ?_
        refine ct_iconst (v := 0) S dX5_nots_46 kI_0 ?_
        refine ct_iconst (v := 0) S dX5_nots_47 kI_0 ?_
        refine ct_rc (fun b9 ci10 V11 hb12 hc13 hi14 => ?_)
        refine ct_cV (st := []) (cg_virtual (av := [cz_i 20, cz_i 0, cz_i 0]) S hb12 hc13 hi14 (fun _ e => mt_X5_code e) md_X5_code q2463 q2465 se_HeldCoatsModel_code__III_V_HeldCoatsModel (by decide) (Nat.le_of_ble_eq_true rfl) rfl dX5_nots_48) (fun h15 => ?_)
        refine ct_goto (tgt := 0) S dX5_nots_51 (by decide) ?_
        exact ih h15
set_option maxHeartbeats 4000000 in
set_option maxRecDepth 100000 in
noncomputable def fn_X5_nots (l0 : Option Nat) (h : cz_H) : cz_Z := fn_X5_nots_0 l0 (fun (h16 : cz_H) => some (.inl none, h16)) 1000 h
set_option maxHeartbeats 4000000 in
set_option maxRecDepth 100000 in
theorem wk_X5_nots {K : cz_K} {D : cz_D} {h0 : cz_H} {oh : cz_O × cz_H} {l0 : Option Nat} {h : cz_H} (S : cz_S K D h0 cX5_nots 1 "HeldCoatsModel" ((Option.none : Option Jvm.ClassFile.FieldType)) "nots" ([])) : cz_T K D 3 h0 oh 1 (fn_X5_nots l0 h) h 0 [(0, cz_r l0)] [] := by
  unfold fn_X5_nots
  refine ct_sub [0] (L' := [(0, cz_r l0)]) rfl (wk_X5_nots_0 S ?_ 1000 h)
  · intro h16
    exact ct_vret S rfl dX5_nots_54
theorem mt_X5_nots {l : Launch} {D : cz_D} {l0 : Option Nat} {h : cz_H} {oh : cz_O × cz_H} (hz : fn_X5_nots l0 h = some oh) : cz_M l D yX5_nots (ws_ yX5_nots cX5_nots 1 ((Option.none : Option Jvm.ClassFile.FieldType))) 3 [cz_r l0] h oh := cz_met (plainFor_of_name (by decide)) (Nat.le_of_ble_eq_true rfl) hz (fun K hl S => wk_X5_nots S)
/-! HeldCoatsModel.behind()Z -/
def dkwX5_behind_6 : List UInt8 := [42, 182, 0, 168, 4, 172]
abbrev dktX5_behind_6 : List UInt8 := dkwX5_behind_6 ++ []
def dkwX5_behind_5 : List UInt8 := [182, 0, 165, 172, 42, 89, 180, 1, 156, 4, 100, 181, 1, 156, 42, 89, 180, 1, 163, 4, 100, 181, 1, 163]
abbrev dktX5_behind_5 : List UInt8 := dkwX5_behind_5 ++ dktX5_behind_6
def dkwX5_behind_4 : List UInt8 := [16, 22, 182, 1, 178, 42, 16, 41, 182, 0, 162, 153, 0, 10, 42, 180, 1, 156, 154, 0, 9, 42, 4]
abbrev dktX5_behind_4 : List UInt8 := dkwX5_behind_4 ++ dktX5_behind_5
def dkwX5_behind_3 : List UInt8 := [79, 42, 89, 180, 1, 156, 4, 96, 181, 1, 156, 42, 3, 181, 1, 172, 42, 182, 0, 168, 4, 172, 42]
abbrev dktX5_behind_3 : List UInt8 := dkwX5_behind_3 ++ dktX5_behind_4
def dkwX5_behind_2 : List UInt8 := [180, 0, 62, 42, 180, 1, 156, 42, 20, 0, 106, 182, 0, 202, 153, 0, 8, 16, 21, 167, 0, 5, 16, 22]
abbrev dktX5_behind_2 : List UInt8 := dkwX5_behind_2 ++ dktX5_behind_3
def dkwX5_behind_1 : List UInt8 := [42, 42, 20, 0, 106, 182, 0, 202, 153, 0, 8, 16, 21, 167, 0, 5, 16, 22, 182, 1, 178, 42]
abbrev dktX5_behind_1 : List UInt8 := dkwX5_behind_1 ++ dktX5_behind_2
def dkwX5_behind_0 : List UInt8 := [42, 182, 1, 175, 42, 20, 0, 106, 182, 0, 202, 154, 0, 13, 42, 20, 0, 104, 182, 0, 202, 153, 0, 71]
abbrev dktX5_behind_0 : List UInt8 := dkwX5_behind_0 ++ dktX5_behind_1
theorem dksX5_behind_0 : cX5_behind.data.toList.drop 0 = dktX5_behind_0 := by decide +kernel
theorem dksX5_behind_1 : cX5_behind.data.toList.drop 24 = dktX5_behind_1 := dk_seg dksX5_behind_0 24 rfl rfl
theorem dksX5_behind_2 : cX5_behind.data.toList.drop 46 = dktX5_behind_2 := dk_seg dksX5_behind_1 22 rfl rfl
theorem dksX5_behind_3 : cX5_behind.data.toList.drop 70 = dktX5_behind_3 := dk_seg dksX5_behind_2 24 rfl rfl
theorem dksX5_behind_4 : cX5_behind.data.toList.drop 93 = dktX5_behind_4 := dk_seg dksX5_behind_3 23 rfl rfl
theorem dksX5_behind_5 : cX5_behind.data.toList.drop 116 = dktX5_behind_5 := dk_seg dksX5_behind_4 23 rfl rfl
theorem dksX5_behind_6 : cX5_behind.data.toList.drop 140 = dktX5_behind_6 := dk_seg dksX5_behind_5 24 rfl rfl
theorem dX5_behind_0 : decode cX5_behind 0 = .ok (.aload_n 0, 1) := dk_42 (dk_at dksX5_behind_0 0 rfl rfl)
theorem dX5_behind_1 : decode cX5_behind 1 = .ok (.invokevirtual 431, 3) := dk_182 1 175 (dk_at dksX5_behind_0 1 rfl rfl)
theorem dX5_behind_4 : decode cX5_behind 4 = .ok (.aload_n 0, 1) := dk_42 (dk_at dksX5_behind_0 4 rfl rfl)
theorem dX5_behind_5 : decode cX5_behind 5 = .ok (.ldc2_w 106, 3) := dk_20 0 106 (dk_at dksX5_behind_0 5 rfl rfl)
theorem dX5_behind_8 : decode cX5_behind 8 = .ok (.invokevirtual 202, 3) := dk_182 0 202 (dk_at dksX5_behind_0 8 rfl rfl)
theorem dX5_behind_11 : decode cX5_behind 11 = .ok (.ifCond .ne 13, 3) := dk_154 0 13 (dk_at dksX5_behind_0 11 rfl rfl)
theorem dX5_behind_14 : decode cX5_behind 14 = .ok (.aload_n 0, 1) := dk_42 (dk_at dksX5_behind_0 14 rfl rfl)
theorem dX5_behind_15 : decode cX5_behind 15 = .ok (.ldc2_w 104, 3) := dk_20 0 104 (dk_at dksX5_behind_0 15 rfl rfl)
theorem dX5_behind_18 : decode cX5_behind 18 = .ok (.invokevirtual 202, 3) := dk_182 0 202 (dk_at dksX5_behind_0 18 rfl rfl)
theorem dX5_behind_21 : decode cX5_behind 21 = .ok (.ifCond .eq 71, 3) := dk_153 0 71 (dk_at dksX5_behind_0 21 rfl rfl)
theorem dX5_behind_24 : decode cX5_behind 24 = .ok (.aload_n 0, 1) := dk_42 (dk_at dksX5_behind_1 0 rfl rfl)
theorem dX5_behind_25 : decode cX5_behind 25 = .ok (.aload_n 0, 1) := dk_42 (dk_at dksX5_behind_1 1 rfl rfl)
theorem dX5_behind_26 : decode cX5_behind 26 = .ok (.ldc2_w 106, 3) := dk_20 0 106 (dk_at dksX5_behind_1 2 rfl rfl)
theorem dX5_behind_29 : decode cX5_behind 29 = .ok (.invokevirtual 202, 3) := dk_182 0 202 (dk_at dksX5_behind_1 5 rfl rfl)
theorem dX5_behind_32 : decode cX5_behind 32 = .ok (.ifCond .eq 8, 3) := dk_153 0 8 (dk_at dksX5_behind_1 8 rfl rfl)
theorem dX5_behind_35 : decode cX5_behind 35 = .ok (.bipush 21, 2) := dk_16 21 (dk_at dksX5_behind_1 11 rfl rfl)
theorem dX5_behind_37 : decode cX5_behind 37 = .ok (.goto 5, 3) := dk_167 0 5 (dk_at dksX5_behind_1 13 rfl rfl)
theorem dX5_behind_40 : decode cX5_behind 40 = .ok (.bipush 22, 2) := dk_16 22 (dk_at dksX5_behind_1 16 rfl rfl)
theorem dX5_behind_42 : decode cX5_behind 42 = .ok (.invokevirtual 434, 3) := dk_182 1 178 (dk_at dksX5_behind_1 18 rfl rfl)
theorem dX5_behind_45 : decode cX5_behind 45 = .ok (.aload_n 0, 1) := dk_42 (dk_at dksX5_behind_1 21 rfl rfl)
theorem dX5_behind_46 : decode cX5_behind 46 = .ok (.getfield 62, 3) := dk_180 0 62 (dk_at dksX5_behind_2 0 rfl rfl)
theorem dX5_behind_49 : decode cX5_behind 49 = .ok (.aload_n 0, 1) := dk_42 (dk_at dksX5_behind_2 3 rfl rfl)
theorem dX5_behind_50 : decode cX5_behind 50 = .ok (.getfield 412, 3) := dk_180 1 156 (dk_at dksX5_behind_2 4 rfl rfl)
theorem dX5_behind_53 : decode cX5_behind 53 = .ok (.aload_n 0, 1) := dk_42 (dk_at dksX5_behind_2 7 rfl rfl)
theorem dX5_behind_54 : decode cX5_behind 54 = .ok (.ldc2_w 106, 3) := dk_20 0 106 (dk_at dksX5_behind_2 8 rfl rfl)
theorem dX5_behind_57 : decode cX5_behind 57 = .ok (.invokevirtual 202, 3) := dk_182 0 202 (dk_at dksX5_behind_2 11 rfl rfl)
theorem dX5_behind_60 : decode cX5_behind 60 = .ok (.ifCond .eq 8, 3) := dk_153 0 8 (dk_at dksX5_behind_2 14 rfl rfl)
theorem dX5_behind_63 : decode cX5_behind 63 = .ok (.bipush 21, 2) := dk_16 21 (dk_at dksX5_behind_2 17 rfl rfl)
theorem dX5_behind_65 : decode cX5_behind 65 = .ok (.goto 5, 3) := dk_167 0 5 (dk_at dksX5_behind_2 19 rfl rfl)
theorem dX5_behind_68 : decode cX5_behind 68 = .ok (.bipush 22, 2) := dk_16 22 (dk_at dksX5_behind_2 22 rfl rfl)
theorem dX5_behind_70 : decode cX5_behind 70 = .ok (.iastore, 1) := dk_79 (dk_at dksX5_behind_3 0 rfl rfl)
theorem dX5_behind_71 : decode cX5_behind 71 = .ok (.aload_n 0, 1) := dk_42 (dk_at dksX5_behind_3 1 rfl rfl)
theorem dX5_behind_72 : decode cX5_behind 72 = .ok (.dup, 1) := dk_89 (dk_at dksX5_behind_3 2 rfl rfl)
theorem dX5_behind_73 : decode cX5_behind 73 = .ok (.getfield 412, 3) := dk_180 1 156 (dk_at dksX5_behind_3 3 rfl rfl)
theorem dX5_behind_76 : decode cX5_behind 76 = .ok (.iconst 1, 1) := dk_4 (dk_at dksX5_behind_3 6 rfl rfl)
theorem dX5_behind_77 : decode cX5_behind 77 = .ok (.iadd, 1) := dk_96 (dk_at dksX5_behind_3 7 rfl rfl)
theorem dX5_behind_78 : decode cX5_behind 78 = .ok (.putfield 412, 3) := dk_181 1 156 (dk_at dksX5_behind_3 8 rfl rfl)
theorem dX5_behind_81 : decode cX5_behind 81 = .ok (.aload_n 0, 1) := dk_42 (dk_at dksX5_behind_3 11 rfl rfl)
theorem dX5_behind_82 : decode cX5_behind 82 = .ok (.iconst 0, 1) := dk_3 (dk_at dksX5_behind_3 12 rfl rfl)
theorem dX5_behind_83 : decode cX5_behind 83 = .ok (.putfield 428, 3) := dk_181 1 172 (dk_at dksX5_behind_3 13 rfl rfl)
theorem dX5_behind_86 : decode cX5_behind 86 = .ok (.aload_n 0, 1) := dk_42 (dk_at dksX5_behind_3 16 rfl rfl)
theorem dX5_behind_87 : decode cX5_behind 87 = .ok (.invokevirtual 168, 3) := dk_182 0 168 (dk_at dksX5_behind_3 17 rfl rfl)
theorem dX5_behind_90 : decode cX5_behind 90 = .ok (.iconst 1, 1) := dk_4 (dk_at dksX5_behind_3 20 rfl rfl)
theorem dX5_behind_91 : decode cX5_behind 91 = .ok (.ireturn, 1) := dk_172 (dk_at dksX5_behind_3 21 rfl rfl)
theorem dX5_behind_92 : decode cX5_behind 92 = .ok (.aload_n 0, 1) := dk_42 (dk_at dksX5_behind_3 22 rfl rfl)
theorem dX5_behind_93 : decode cX5_behind 93 = .ok (.bipush 22, 2) := dk_16 22 (dk_at dksX5_behind_4 0 rfl rfl)
theorem dX5_behind_95 : decode cX5_behind 95 = .ok (.invokevirtual 434, 3) := dk_182 1 178 (dk_at dksX5_behind_4 2 rfl rfl)
theorem dX5_behind_98 : decode cX5_behind 98 = .ok (.aload_n 0, 1) := dk_42 (dk_at dksX5_behind_4 5 rfl rfl)
theorem dX5_behind_99 : decode cX5_behind 99 = .ok (.bipush 41, 2) := dk_16 41 (dk_at dksX5_behind_4 6 rfl rfl)
theorem dX5_behind_101 : decode cX5_behind 101 = .ok (.invokevirtual 162, 3) := dk_182 0 162 (dk_at dksX5_behind_4 8 rfl rfl)
theorem dX5_behind_104 : decode cX5_behind 104 = .ok (.ifCond .eq 10, 3) := dk_153 0 10 (dk_at dksX5_behind_4 11 rfl rfl)
theorem dX5_behind_107 : decode cX5_behind 107 = .ok (.aload_n 0, 1) := dk_42 (dk_at dksX5_behind_4 14 rfl rfl)
theorem dX5_behind_108 : decode cX5_behind 108 = .ok (.getfield 412, 3) := dk_180 1 156 (dk_at dksX5_behind_4 15 rfl rfl)
theorem dX5_behind_111 : decode cX5_behind 111 = .ok (.ifCond .ne 9, 3) := dk_154 0 9 (dk_at dksX5_behind_4 18 rfl rfl)
theorem dX5_behind_114 : decode cX5_behind 114 = .ok (.aload_n 0, 1) := dk_42 (dk_at dksX5_behind_4 21 rfl rfl)
theorem dX5_behind_115 : decode cX5_behind 115 = .ok (.iconst 1, 1) := dk_4 (dk_at dksX5_behind_4 22 rfl rfl)
theorem dX5_behind_116 : decode cX5_behind 116 = .ok (.invokevirtual 165, 3) := dk_182 0 165 (dk_at dksX5_behind_5 0 rfl rfl)
theorem dX5_behind_119 : decode cX5_behind 119 = .ok (.ireturn, 1) := dk_172 (dk_at dksX5_behind_5 3 rfl rfl)
theorem dX5_behind_120 : decode cX5_behind 120 = .ok (.aload_n 0, 1) := dk_42 (dk_at dksX5_behind_5 4 rfl rfl)
theorem dX5_behind_121 : decode cX5_behind 121 = .ok (.dup, 1) := dk_89 (dk_at dksX5_behind_5 5 rfl rfl)
theorem dX5_behind_122 : decode cX5_behind 122 = .ok (.getfield 412, 3) := dk_180 1 156 (dk_at dksX5_behind_5 6 rfl rfl)
theorem dX5_behind_125 : decode cX5_behind 125 = .ok (.iconst 1, 1) := dk_4 (dk_at dksX5_behind_5 9 rfl rfl)
theorem dX5_behind_126 : decode cX5_behind 126 = .ok (.isub, 1) := dk_100 (dk_at dksX5_behind_5 10 rfl rfl)
theorem dX5_behind_127 : decode cX5_behind 127 = .ok (.putfield 412, 3) := dk_181 1 156 (dk_at dksX5_behind_5 11 rfl rfl)
theorem dX5_behind_130 : decode cX5_behind 130 = .ok (.aload_n 0, 1) := dk_42 (dk_at dksX5_behind_5 14 rfl rfl)
theorem dX5_behind_131 : decode cX5_behind 131 = .ok (.dup, 1) := dk_89 (dk_at dksX5_behind_5 15 rfl rfl)
theorem dX5_behind_132 : decode cX5_behind 132 = .ok (.getfield 419, 3) := dk_180 1 163 (dk_at dksX5_behind_5 16 rfl rfl)
theorem dX5_behind_135 : decode cX5_behind 135 = .ok (.iconst 1, 1) := dk_4 (dk_at dksX5_behind_5 19 rfl rfl)
theorem dX5_behind_136 : decode cX5_behind 136 = .ok (.isub, 1) := dk_100 (dk_at dksX5_behind_5 20 rfl rfl)
theorem dX5_behind_137 : decode cX5_behind 137 = .ok (.putfield 419, 3) := dk_181 1 163 (dk_at dksX5_behind_5 21 rfl rfl)
theorem dX5_behind_140 : decode cX5_behind 140 = .ok (.aload_n 0, 1) := dk_42 (dk_at dksX5_behind_6 0 rfl rfl)
theorem dX5_behind_141 : decode cX5_behind 141 = .ok (.invokevirtual 168, 3) := dk_182 0 168 (dk_at dksX5_behind_6 1 rfl rfl)
theorem dX5_behind_144 : decode cX5_behind 144 = .ok (.iconst 1, 1) := dk_4 (dk_at dksX5_behind_6 4 rfl rfl)
theorem dX5_behind_145 : decode cX5_behind 145 = .ok (.ireturn, 1) := dk_172 (dk_at dksX5_behind_6 5 rfl rfl)
theorem se_HeldCoatsModel_nots___V_HeldCoatsModel : ∀ c ∈ ([5] : List Nat), ∃ q : vw_C, cz_cl[c]? = some q ∧ Cond.selects q.1 (⟨"HeldCoatsModel", "nots", "()V"⟩ : MethodName) (⟨"HeldCoatsModel", "nots", "()V"⟩ : MethodName) ∈ lw_all := List.forall_mem_cons.mpr ⟨⟨_, cz_cl5, qs104⟩, fun _ h => absurd h List.not_mem_nil⟩
theorem md_X5_nots : cz_md yX5_nots 1 (ws_ yX5_nots cX5_nots 1 ((Option.none : Option Jvm.ClassFile.FieldType))) 0 := ⟨cz_ws_code q2462, q123, ⟨by decide, by decide, by decide +kernel⟩, by decide⟩
theorem se_HeldCoatsModel_joins__I_V_HeldCoatsModel : ∀ c ∈ ([5] : List Nat), ∃ q : vw_C, cz_cl[c]? = some q ∧ Cond.selects q.1 (⟨"HeldCoatsModel", "joins", "(I)V"⟩ : MethodName) (⟨"HeldCoatsModel", "joins", "(I)V"⟩ : MethodName) ∈ lw_all := List.forall_mem_cons.mpr ⟨⟨_, cz_cl5, qs106⟩, fun _ h => absurd h List.not_mem_nil⟩
theorem md_X5_joins : cz_md yX5_joins 2 (ws_ yX5_joins cX5_joins 2 ((Option.none : Option Jvm.ClassFile.FieldType))) 1 := ⟨cz_ws_code q2470, q123, ⟨by decide, by decide, by decide +kernel⟩, by decide⟩
theorem fw_X5_428 : cz_FW "HeldCoatsModel" 428 [(5, 44)] "Z" := ⟨"HeldCoatsModel", "isWhole", Or.inl q1962, List.forall_mem_cons.mpr ⟨⟨RX5, TX5, 49, rfl, by decide, rfl, rfl, Or.inl rfl⟩, fun _ h => absurd h List.not_mem_nil⟩, by decide⟩
theorem fp_X5_m_5_44 {nm : String} : cz_FP "HeldCoatsModel" nm [(5, 44)] := List.forall_mem_cons.mpr ⟨⟨RX5, TX5, 49, rfl, Or.inl rfl⟩, fun _ h => absurd h List.not_mem_nil⟩
set_option maxHeartbeats 4000000 in
set_option maxRecDepth 100000 in
noncomputable def fn_X5_behind (l0 : Option Nat) (h : cz_H) : cz_Z := cz_rc h l0 [5] (cz_cV (fn_X5_nots l0 h) (fun h7 => cz_rc h7 l0 [5] (cz_cI (fn_X5_isWord l0 6385252 h7) (fun x15 h14 => cz_jn (fun (h16 : cz_H) => cz_rc h16 l0 [5] (cz_cI (fn_X5_isWord l0 6385252 h16) (fun x24 h23 => cz_jn (fun (v25 : Int32) (h26 : cz_H) => cz_rc h26 l0 [5] (cz_cV (fn_X5_joins l0 v25 h26) (fun h33 => cz_getR h33 l0 [(5, 39)] (fun r34 => cz_getI h33 l0 [(5, 42)] (fun x35 => cz_rc h33 l0 [5] (cz_cI (fn_X5_isWord l0 6385252 h33) (fun x43 h42 => cz_jn (fun (v44 : Int32) (h45 : cz_H) => cz_iast h45 r34 x35 v44 (fun h46 => cz_getI h46 l0 [(5, 42)] (fun x47 => cz_put h46 l0 [(5, 42)] (cz_i (x47 + 1)) (fun h48 => cz_put h48 l0 [(5, 44)] (cz_i 0) (fun h49 => cz_rc h49 l0 [5] (cz_cV (fn_X5_next l0 h49) (fun h56 => some (.inl (some (cz_i 1)), h56)))))))) (fun j57 => (if x43 = 0 then j57 22 h42 else j57 21 h42))))))))) (fun j58 => (if x24 = 0 then j58 22 h23 else j58 21 h23))))) (fun j59 => (if x15 = 0 then cz_rc h14 l0 [5] (cz_cI (fn_X5_isWord l0 28530 h14) (fun x67 h66 => (if x67 = 0 then cz_rc h66 l0 [5] (cz_cV (fn_X5_joins l0 22 h66) (fun h74 => cz_rc h74 l0 [5] (cz_cI (fn_X5_isSign l0 41 h74) (fun x82 h81 => (if x82 = 0 then cz_rc h81 l0 [5] (cz_cI (fn_X5_bad l0 1 h81) (fun x90 h89 => cz_ckz x90 (some (.inl (some (cz_i x90)), h89)))) else cz_getI h81 l0 [(5, 42)] (fun x91 => (if x91 = 0 then cz_rc h81 l0 [5] (cz_cI (fn_X5_bad l0 1 h81) (fun x110 h109 => cz_ckz x110 (some (.inl (some (cz_i x110)), h109)))) else cz_getI h81 l0 [(5, 42)] (fun x92 => cz_put h81 l0 [(5, 42)] (cz_i (x92 - 1)) (fun h93 => cz_getI h93 l0 [(5, 43)] (fun x94 => cz_put h93 l0 [(5, 43)] (cz_i (x94 - 1)) (fun h95 => cz_rc h95 l0 [5] (cz_cV (fn_X5_next l0 h95) (fun h102 => some (.inl (some (cz_i 1)), h102)))))))))))))) else j59 h66))) else j59 h14))))))
set_option maxHeartbeats 4000000 in
set_option maxRecDepth 100000 in
theorem wk_X5_behind {K : cz_K} {D : cz_D} {h0 : cz_H} {oh : cz_O × cz_H} {l0 : Option Nat} {h : cz_H} (S : cz_S K D h0 cX5_behind 1 "HeldCoatsModel" ((Option.some Jvm.ClassFile.FieldType.boolean)) "behind" ([])) : cz_T K D 4 h0 oh 1 (fn_X5_behind l0 h) h 0 [(0, cz_r l0)] [] := by
  unfold fn_X5_behind
  refine ct_aload_n (k := 0) S dX5_behind_0 rfl rfl ?_
  refine ct_rc (fun b1 ci2 V3 hb4 hc5 hi6 => ?_)
  refine ct_cV (st := []) (cg_virtual (av := []) S hb4 hc5 hi6 (fun _ e => mt_X5_nots e) md_X5_nots q2459 q2461 se_HeldCoatsModel_nots___V_HeldCoatsModel (by decide) (Nat.le_of_ble_eq_true rfl) rfl dX5_behind_1) (fun h7 => ?_)
  refine ct_aload_n (k := 0) S dX5_behind_4 rfl rfl ?_
  refine ct_ldc2 S q1904 dX5_behind_5 ?_
  refine ct_rc (fun b8 ci9 V10 hb11 hc12 hi13 => ?_)
  refine ct_cI (st := []) (cg_virtual (av := [cz_j 6385252]) S hb11 hc12 hi13 (fun _ e => mt_X5_isWord e) md_X5_isWord q2094 q2096 se_HeldCoatsModel_isWord__J_Z_HeldCoatsModel (by decide) (Nat.le_of_ble_eq_true rfl) rfl dX5_behind_8) (fun x15 h14 => ?_)
  refine ct_jnP (fun j59 => ∀ (h16 : cz_H), cz_T K D 4 h0 oh 1 (j59 h16) h16 24 [(0, cz_r l0)] []) (fun h16 => ?_) (fun j59 Hj59 => ?_)
  · refine ct_aload_n (k := 0) S dX5_behind_24 rfl rfl ?_
    refine ct_aload_n (k := 0) S dX5_behind_25 rfl rfl ?_
    refine ct_ldc2 S q1904 dX5_behind_26 ?_
    refine ct_rc (fun b17 ci18 V19 hb20 hc21 hi22 => ?_)
    refine ct_cI (st := [cz_r l0]) (cg_virtual (av := [cz_j 6385252]) S hb20 hc21 hi22 (fun _ e => mt_X5_isWord e) md_X5_isWord q2094 q2096 se_HeldCoatsModel_isWord__J_Z_HeldCoatsModel (by decide) (Nat.le_of_ble_eq_true rfl) rfl dX5_behind_29) (fun x24 h23 => ?_)
    refine ct_jnP (fun j58 => ∀ (v25 : Int32) (h26 : cz_H), cz_T K D 4 h0 oh 1 (j58 v25 h26) h26 42 [(0, cz_r l0)] [cz_i v25, cz_r l0]) (fun v25 h26 => ?_) (fun j58 Hj58 => ?_)
    · refine ct_rc (fun b27 ci28 V29 hb30 hc31 hi32 => ?_)
      refine ct_cV (st := []) (cg_virtual (av := [cz_i v25]) S hb30 hc31 hi32 (fun _ e => mt_X5_joins e) md_X5_joins q2467 q2469 se_HeldCoatsModel_joins__I_V_HeldCoatsModel (by decide) (Nat.le_of_ble_eq_true rfl) rfl dX5_behind_42) (fun h33 => ?_)
      refine ct_aload_n (k := 0) S dX5_behind_45 rfl rfl ?_
      refine ct_getR S fw_X5_62 dX5_behind_46 (fun r34 => ?_)
      refine ct_aload_n (k := 0) S dX5_behind_49 rfl rfl ?_
      refine ct_getI S fw_X5_412 dX5_behind_50 (fun x35 => ?_)
      refine ct_aload_n (k := 0) S dX5_behind_53 rfl rfl ?_
      refine ct_ldc2 S q1904 dX5_behind_54 ?_
      refine ct_rc (fun b36 ci37 V38 hb39 hc40 hi41 => ?_)
      refine ct_cI (st := [cz_i x35, cz_r r34]) (cg_virtual (av := [cz_j 6385252]) S hb39 hc40 hi41 (fun _ e => mt_X5_isWord e) md_X5_isWord q2094 q2096 se_HeldCoatsModel_isWord__J_Z_HeldCoatsModel (by decide) (Nat.le_of_ble_eq_true rfl) rfl dX5_behind_57) (fun x43 h42 => ?_)
      refine ct_jnP (fun j57 => ∀ (v44 : Int32) (h45 : cz_H), cz_T K D 4 h0 oh 1 (j57 v44 h45) h45 70 [(0, cz_r l0)] [cz_i v44, cz_i x35, cz_r r34]) (fun v44 h45 => ?_) (fun j57 Hj57 => ?_)
      · refine ct_iast S dX5_behind_70 (fun h46 => ?_)
        refine ct_aload_n (k := 0) S dX5_behind_71 rfl rfl ?_
        refine ct_dup S dX5_behind_72 rfl ?_
        refine ct_getI S fw_X5_412 dX5_behind_73 (fun x47 => ?_)
        refine ct_iconst (v := 1) S dX5_behind_76 kI_1 ?_
        refine ct_iadd S dX5_behind_77 ?_
        refine ct_put S fw_X5_412 fp_X5_m_5_42 (cz_fits_i pd_I) dX5_behind_78 (fun h48 => ?_)
        refine ct_aload_n (k := 0) S dX5_behind_81 rfl rfl ?_
        refine ct_iconst (v := 0) S dX5_behind_82 kI_0 ?_
        refine ct_put S fw_X5_428 fp_X5_m_5_44 (cz_fits_z pd_Z (Or.inl rfl)) dX5_behind_83 (fun h49 => ?_)
        refine ct_aload_n (k := 0) S dX5_behind_86 rfl rfl ?_
        refine ct_rc (fun b50 ci51 V52 hb53 hc54 hi55 => ?_)
        refine ct_cV (st := []) (cg_virtual (av := []) S hb53 hc54 hi55 (fun _ e => mt_X5_next e) md_X5_next q2076 q2078 se_HeldCoatsModel_next___V_HeldCoatsModel (by decide) (Nat.le_of_ble_eq_true rfl) rfl dX5_behind_87) (fun h56 => ?_)
        refine ct_iconst (v := 1) S dX5_behind_90 kI_1 ?_
        exact ct_zr (ty := .boolean) S rfl rfl dX5_behind_91
      · refine ct_if_eq (tgt := 68) S dX5_behind_60 (by decide) ?_ ?_
        · refine ct_bipush (v := 22) S dX5_behind_68 kB_22 ?_
          exact Hj57 22 h42
        · refine ct_bipush (v := 21) S dX5_behind_63 kB_21 ?_
          refine ct_goto (tgt := 70) S dX5_behind_65 (by decide) ?_
          exact Hj57 21 h42
    · refine ct_if_eq (tgt := 40) S dX5_behind_32 (by decide) ?_ ?_
      · refine ct_bipush (v := 22) S dX5_behind_40 kB_22 ?_
        exact Hj58 22 h23
      · refine ct_bipush (v := 21) S dX5_behind_35 kB_21 ?_
        refine ct_goto (tgt := 42) S dX5_behind_37 (by decide) ?_
        exact Hj58 21 h23
  · refine ct_if_ne (tgt := 24) S dX5_behind_11 (by decide) ?_ ?_
    · exact Hj59 h14
    · refine ct_aload_n (k := 0) S dX5_behind_14 rfl rfl ?_
      refine ct_ldc2 S q1903 dX5_behind_15 ?_
      refine ct_rc (fun b60 ci61 V62 hb63 hc64 hi65 => ?_)
      refine ct_cI (st := []) (cg_virtual (av := [cz_j 28530]) S hb63 hc64 hi65 (fun _ e => mt_X5_isWord e) md_X5_isWord q2094 q2096 se_HeldCoatsModel_isWord__J_Z_HeldCoatsModel (by decide) (Nat.le_of_ble_eq_true rfl) rfl dX5_behind_18) (fun x67 h66 => ?_)
      refine ct_if_eq (tgt := 92) S dX5_behind_21 (by decide) ?_ ?_
      · refine ct_aload_n (k := 0) S dX5_behind_92 rfl rfl ?_
        refine ct_bipush (v := 22) S dX5_behind_93 kB_22 ?_
        refine ct_rc (fun b68 ci69 V70 hb71 hc72 hi73 => ?_)
        refine ct_cV (st := []) (cg_virtual (av := [cz_i 22]) S hb71 hc72 hi73 (fun _ e => mt_X5_joins e) md_X5_joins q2467 q2469 se_HeldCoatsModel_joins__I_V_HeldCoatsModel (by decide) (Nat.le_of_ble_eq_true rfl) rfl dX5_behind_95) (fun h74 => ?_)
        refine ct_aload_n (k := 0) S dX5_behind_98 rfl rfl ?_
        refine ct_bipush (v := 41) S dX5_behind_99 kB_41 ?_
        refine ct_rc (fun b75 ci76 V77 hb78 hc79 hi80 => ?_)
        refine ct_cI (st := []) (cg_virtual (av := [cz_i 41]) S hb78 hc79 hi80 (fun _ e => mt_X5_isSign e) md_X5_isSign q2148 q2150 se_HeldCoatsModel_isSign__I_Z_HeldCoatsModel (by decide) (Nat.le_of_ble_eq_true rfl) rfl dX5_behind_101) (fun x82 h81 => ?_)
        refine ct_if_eq (tgt := 114) S dX5_behind_104 (by decide) ?_ ?_
        · refine ct_aload_n (k := 0) S dX5_behind_114 rfl rfl ?_
          refine ct_iconst (v := 1) S dX5_behind_115 kI_1 ?_
          refine ct_rc (fun b83 ci84 V85 hb86 hc87 hi88 => ?_)
          refine ct_cI (st := []) (cg_virtual (av := [cz_i 1]) S hb86 hc87 hi88 (fun _ e => mt_X5_bad e) md_X5_bad q2098 q2100 se_HeldCoatsModel_bad__I_Z_HeldCoatsModel (by decide) (Nat.le_of_ble_eq_true rfl) rfl dX5_behind_116) (fun x90 h89 => ?_)
          refine ct_ckz (fun hx => ?_)
          exact ct_zr (ty := .boolean) S rfl (cz_nz hx) dX5_behind_119
        · refine ct_aload_n (k := 0) S dX5_behind_107 rfl rfl ?_
          refine ct_getI S fw_X5_412 dX5_behind_108 (fun x91 => ?_)
          refine ct_if_ne (tgt := 120) S dX5_behind_111 (by decide) ?_ ?_
          · refine ct_aload_n (k := 0) S dX5_behind_120 rfl rfl ?_
            refine ct_dup S dX5_behind_121 rfl ?_
            refine ct_getI S fw_X5_412 dX5_behind_122 (fun x92 => ?_)
            refine ct_iconst (v := 1) S dX5_behind_125 kI_1 ?_
            refine ct_isub S dX5_behind_126 ?_
            refine ct_put S fw_X5_412 fp_X5_m_5_42 (cz_fits_i pd_I) dX5_behind_127 (fun h93 => ?_)
            refine ct_aload_n (k := 0) S dX5_behind_130 rfl rfl ?_
            refine ct_dup S dX5_behind_131 rfl ?_
            refine ct_getI S fw_X5_419 dX5_behind_132 (fun x94 => ?_)
            refine ct_iconst (v := 1) S dX5_behind_135 kI_1 ?_
            refine ct_isub S dX5_behind_136 ?_
            refine ct_put S fw_X5_419 fp_X5_m_5_43 (cz_fits_i pd_I) dX5_behind_137 (fun h95 => ?_)
            refine ct_aload_n (k := 0) S dX5_behind_140 rfl rfl ?_
            refine ct_rc (fun b96 ci97 V98 hb99 hc100 hi101 => ?_)
            refine ct_cV (st := []) (cg_virtual (av := []) S hb99 hc100 hi101 (fun _ e => mt_X5_next e) md_X5_next q2076 q2078 se_HeldCoatsModel_next___V_HeldCoatsModel (by decide) (Nat.le_of_ble_eq_true rfl) rfl dX5_behind_141) (fun h102 => ?_)
            refine ct_iconst (v := 1) S dX5_behind_144 kI_1 ?_
            exact ct_zr (ty := .boolean) S rfl rfl dX5_behind_145
          · refine ct_aload_n (k := 0) S dX5_behind_114 rfl rfl ?_
            refine ct_iconst (v := 1) S dX5_behind_115 kI_1 ?_
            refine ct_rc (fun b103 ci104 V105 hb106 hc107 hi108 => ?_)
            refine ct_cI (st := []) (cg_virtual (av := [cz_i 1]) S hb106 hc107 hi108 (fun _ e => mt_X5_bad e) md_X5_bad q2098 q2100 se_HeldCoatsModel_bad__I_Z_HeldCoatsModel (by decide) (Nat.le_of_ble_eq_true rfl) rfl dX5_behind_116) (fun x110 h109 => ?_)
            refine ct_ckz (fun hx => ?_)
            exact ct_zr (ty := .boolean) S rfl (cz_nz hx) dX5_behind_119
      · exact Hj59 h66
theorem mt_X5_behind {l : Launch} {D : cz_D} {l0 : Option Nat} {h : cz_H} {oh : cz_O × cz_H} (hz : fn_X5_behind l0 h = some oh) : cz_M l D yX5_behind (ws_ yX5_behind cX5_behind 1 ((Option.some Jvm.ClassFile.FieldType.boolean))) 4 [cz_r l0] h oh := cz_met (plainFor_of_name (by decide)) (Nat.le_of_ble_eq_true rfl) hz (fun K hl S => wk_X5_behind S)
/-! HeldCoatsModel.leafOf()I -/
def dkwX5_leafOf_4 : List UInt8 := [16, 6, 167, 0, 19, 42, 20, 0, 124, 182, 0, 202, 153, 0, 8, 16, 7, 167, 0, 4, 2, 172]
abbrev dktX5_leafOf_4 : List UInt8 := dkwX5_leafOf_4 ++ []
def dkwX5_leafOf_3 : List UInt8 := [42, 20, 0, 120, 182, 0, 202, 153, 0, 7, 8, 167, 0, 34, 42, 20, 0, 122, 182, 0, 202, 153, 0, 8]
abbrev dktX5_leafOf_3 : List UInt8 := dkwX5_leafOf_3 ++ dktX5_leafOf_4
def dkwX5_leafOf_2 : List UInt8 := [182, 0, 202, 153, 0, 7, 6, 167, 0, 62, 42, 20, 0, 118, 182, 0, 202, 153, 0, 7, 7, 167, 0, 48]
abbrev dktX5_leafOf_2 : List UInt8 := dkwX5_leafOf_2 ++ dktX5_leafOf_3
def dkwX5_leafOf_1 : List UInt8 := [4, 167, 0, 90, 42, 20, 0, 114, 182, 0, 202, 153, 0, 7, 5, 167, 0, 76, 42, 20, 0, 116]
abbrev dktX5_leafOf_1 : List UInt8 := dkwX5_leafOf_1 ++ dktX5_leafOf_2
def dkwX5_leafOf_0 : List UInt8 := [42, 20, 0, 110, 182, 0, 202, 153, 0, 7, 3, 167, 0, 104, 42, 20, 0, 112, 182, 0, 202, 153, 0, 7]
abbrev dktX5_leafOf_0 : List UInt8 := dkwX5_leafOf_0 ++ dktX5_leafOf_1
theorem dksX5_leafOf_0 : cX5_leafOf.data.toList.drop 0 = dktX5_leafOf_0 := by decide +kernel
theorem dksX5_leafOf_1 : cX5_leafOf.data.toList.drop 24 = dktX5_leafOf_1 := dk_seg dksX5_leafOf_0 24 rfl rfl
theorem dksX5_leafOf_2 : cX5_leafOf.data.toList.drop 46 = dktX5_leafOf_2 := dk_seg dksX5_leafOf_1 22 rfl rfl
theorem dksX5_leafOf_3 : cX5_leafOf.data.toList.drop 70 = dktX5_leafOf_3 := dk_seg dksX5_leafOf_2 24 rfl rfl
theorem dksX5_leafOf_4 : cX5_leafOf.data.toList.drop 94 = dktX5_leafOf_4 := dk_seg dksX5_leafOf_3 24 rfl rfl
theorem dX5_leafOf_0 : decode cX5_leafOf 0 = .ok (.aload_n 0, 1) := dk_42 (dk_at dksX5_leafOf_0 0 rfl rfl)
theorem dX5_leafOf_1 : decode cX5_leafOf 1 = .ok (.ldc2_w 110, 3) := dk_20 0 110 (dk_at dksX5_leafOf_0 1 rfl rfl)
theorem dX5_leafOf_4 : decode cX5_leafOf 4 = .ok (.invokevirtual 202, 3) := dk_182 0 202 (dk_at dksX5_leafOf_0 4 rfl rfl)
theorem dX5_leafOf_7 : decode cX5_leafOf 7 = .ok (.ifCond .eq 7, 3) := dk_153 0 7 (dk_at dksX5_leafOf_0 7 rfl rfl)
theorem dX5_leafOf_10 : decode cX5_leafOf 10 = .ok (.iconst 0, 1) := dk_3 (dk_at dksX5_leafOf_0 10 rfl rfl)
theorem dX5_leafOf_11 : decode cX5_leafOf 11 = .ok (.goto 104, 3) := dk_167 0 104 (dk_at dksX5_leafOf_0 11 rfl rfl)
theorem dX5_leafOf_14 : decode cX5_leafOf 14 = .ok (.aload_n 0, 1) := dk_42 (dk_at dksX5_leafOf_0 14 rfl rfl)
theorem dX5_leafOf_15 : decode cX5_leafOf 15 = .ok (.ldc2_w 112, 3) := dk_20 0 112 (dk_at dksX5_leafOf_0 15 rfl rfl)
theorem dX5_leafOf_18 : decode cX5_leafOf 18 = .ok (.invokevirtual 202, 3) := dk_182 0 202 (dk_at dksX5_leafOf_0 18 rfl rfl)
theorem dX5_leafOf_21 : decode cX5_leafOf 21 = .ok (.ifCond .eq 7, 3) := dk_153 0 7 (dk_at dksX5_leafOf_0 21 rfl rfl)
theorem dX5_leafOf_24 : decode cX5_leafOf 24 = .ok (.iconst 1, 1) := dk_4 (dk_at dksX5_leafOf_1 0 rfl rfl)
theorem dX5_leafOf_25 : decode cX5_leafOf 25 = .ok (.goto 90, 3) := dk_167 0 90 (dk_at dksX5_leafOf_1 1 rfl rfl)
theorem dX5_leafOf_28 : decode cX5_leafOf 28 = .ok (.aload_n 0, 1) := dk_42 (dk_at dksX5_leafOf_1 4 rfl rfl)
theorem dX5_leafOf_29 : decode cX5_leafOf 29 = .ok (.ldc2_w 114, 3) := dk_20 0 114 (dk_at dksX5_leafOf_1 5 rfl rfl)
theorem dX5_leafOf_32 : decode cX5_leafOf 32 = .ok (.invokevirtual 202, 3) := dk_182 0 202 (dk_at dksX5_leafOf_1 8 rfl rfl)
theorem dX5_leafOf_35 : decode cX5_leafOf 35 = .ok (.ifCond .eq 7, 3) := dk_153 0 7 (dk_at dksX5_leafOf_1 11 rfl rfl)
theorem dX5_leafOf_38 : decode cX5_leafOf 38 = .ok (.iconst 2, 1) := dk_5 (dk_at dksX5_leafOf_1 14 rfl rfl)
theorem dX5_leafOf_39 : decode cX5_leafOf 39 = .ok (.goto 76, 3) := dk_167 0 76 (dk_at dksX5_leafOf_1 15 rfl rfl)
theorem dX5_leafOf_42 : decode cX5_leafOf 42 = .ok (.aload_n 0, 1) := dk_42 (dk_at dksX5_leafOf_1 18 rfl rfl)
theorem dX5_leafOf_43 : decode cX5_leafOf 43 = .ok (.ldc2_w 116, 3) := dk_20 0 116 (dk_at dksX5_leafOf_1 19 rfl rfl)
theorem dX5_leafOf_46 : decode cX5_leafOf 46 = .ok (.invokevirtual 202, 3) := dk_182 0 202 (dk_at dksX5_leafOf_2 0 rfl rfl)
theorem dX5_leafOf_49 : decode cX5_leafOf 49 = .ok (.ifCond .eq 7, 3) := dk_153 0 7 (dk_at dksX5_leafOf_2 3 rfl rfl)
theorem dX5_leafOf_52 : decode cX5_leafOf 52 = .ok (.iconst 3, 1) := dk_6 (dk_at dksX5_leafOf_2 6 rfl rfl)
theorem dX5_leafOf_53 : decode cX5_leafOf 53 = .ok (.goto 62, 3) := dk_167 0 62 (dk_at dksX5_leafOf_2 7 rfl rfl)
theorem dX5_leafOf_56 : decode cX5_leafOf 56 = .ok (.aload_n 0, 1) := dk_42 (dk_at dksX5_leafOf_2 10 rfl rfl)
theorem dX5_leafOf_57 : decode cX5_leafOf 57 = .ok (.ldc2_w 118, 3) := dk_20 0 118 (dk_at dksX5_leafOf_2 11 rfl rfl)
theorem dX5_leafOf_60 : decode cX5_leafOf 60 = .ok (.invokevirtual 202, 3) := dk_182 0 202 (dk_at dksX5_leafOf_2 14 rfl rfl)
theorem dX5_leafOf_63 : decode cX5_leafOf 63 = .ok (.ifCond .eq 7, 3) := dk_153 0 7 (dk_at dksX5_leafOf_2 17 rfl rfl)
theorem dX5_leafOf_66 : decode cX5_leafOf 66 = .ok (.iconst 4, 1) := dk_7 (dk_at dksX5_leafOf_2 20 rfl rfl)
theorem dX5_leafOf_67 : decode cX5_leafOf 67 = .ok (.goto 48, 3) := dk_167 0 48 (dk_at dksX5_leafOf_2 21 rfl rfl)
theorem dX5_leafOf_70 : decode cX5_leafOf 70 = .ok (.aload_n 0, 1) := dk_42 (dk_at dksX5_leafOf_3 0 rfl rfl)
theorem dX5_leafOf_71 : decode cX5_leafOf 71 = .ok (.ldc2_w 120, 3) := dk_20 0 120 (dk_at dksX5_leafOf_3 1 rfl rfl)
theorem dX5_leafOf_74 : decode cX5_leafOf 74 = .ok (.invokevirtual 202, 3) := dk_182 0 202 (dk_at dksX5_leafOf_3 4 rfl rfl)
theorem dX5_leafOf_77 : decode cX5_leafOf 77 = .ok (.ifCond .eq 7, 3) := dk_153 0 7 (dk_at dksX5_leafOf_3 7 rfl rfl)
theorem dX5_leafOf_80 : decode cX5_leafOf 80 = .ok (.iconst 5, 1) := dk_8 (dk_at dksX5_leafOf_3 10 rfl rfl)
theorem dX5_leafOf_81 : decode cX5_leafOf 81 = .ok (.goto 34, 3) := dk_167 0 34 (dk_at dksX5_leafOf_3 11 rfl rfl)
theorem dX5_leafOf_84 : decode cX5_leafOf 84 = .ok (.aload_n 0, 1) := dk_42 (dk_at dksX5_leafOf_3 14 rfl rfl)
theorem dX5_leafOf_85 : decode cX5_leafOf 85 = .ok (.ldc2_w 122, 3) := dk_20 0 122 (dk_at dksX5_leafOf_3 15 rfl rfl)
theorem dX5_leafOf_88 : decode cX5_leafOf 88 = .ok (.invokevirtual 202, 3) := dk_182 0 202 (dk_at dksX5_leafOf_3 18 rfl rfl)
theorem dX5_leafOf_91 : decode cX5_leafOf 91 = .ok (.ifCond .eq 8, 3) := dk_153 0 8 (dk_at dksX5_leafOf_3 21 rfl rfl)
theorem dX5_leafOf_94 : decode cX5_leafOf 94 = .ok (.bipush 6, 2) := dk_16 6 (dk_at dksX5_leafOf_4 0 rfl rfl)
theorem dX5_leafOf_96 : decode cX5_leafOf 96 = .ok (.goto 19, 3) := dk_167 0 19 (dk_at dksX5_leafOf_4 2 rfl rfl)
theorem dX5_leafOf_99 : decode cX5_leafOf 99 = .ok (.aload_n 0, 1) := dk_42 (dk_at dksX5_leafOf_4 5 rfl rfl)
theorem dX5_leafOf_100 : decode cX5_leafOf 100 = .ok (.ldc2_w 124, 3) := dk_20 0 124 (dk_at dksX5_leafOf_4 6 rfl rfl)
theorem dX5_leafOf_103 : decode cX5_leafOf 103 = .ok (.invokevirtual 202, 3) := dk_182 0 202 (dk_at dksX5_leafOf_4 9 rfl rfl)
theorem dX5_leafOf_106 : decode cX5_leafOf 106 = .ok (.ifCond .eq 8, 3) := dk_153 0 8 (dk_at dksX5_leafOf_4 12 rfl rfl)
theorem dX5_leafOf_109 : decode cX5_leafOf 109 = .ok (.bipush 7, 2) := dk_16 7 (dk_at dksX5_leafOf_4 15 rfl rfl)
theorem dX5_leafOf_111 : decode cX5_leafOf 111 = .ok (.goto 4, 3) := dk_167 0 4 (dk_at dksX5_leafOf_4 17 rfl rfl)
theorem dX5_leafOf_114 : decode cX5_leafOf 114 = .ok (.iconst (-1), 1) := dk_2 (dk_at dksX5_leafOf_4 20 rfl rfl)
theorem dX5_leafOf_115 : decode cX5_leafOf 115 = .ok (.ireturn, 1) := dk_172 (dk_at dksX5_leafOf_4 21 rfl rfl)
set_option maxHeartbeats 4000000 in
set_option maxRecDepth 100000 in
noncomputable def fn_X5_leafOf (l0 : Option Nat) (h : cz_H) : cz_Z := cz_rc h l0 [5] (cz_cI (fn_X5_isWord l0 1650553445 h) (fun x8 h7 => (if x8 = 0 then cz_rc h7 l0 [5] (cz_cI (fn_X5_isWord l0 1751477348 h7) (fun x16 h15 => (if x16 = 0 then cz_rc h15 l0 [5] (cz_cI (fn_X5_isWord l0 28518 h15) (fun x24 h23 => (if x24 = 0 then cz_rc h23 l0 [5] (cz_cI (fn_X5_isWord l0 504363246962 h23) (fun x32 h31 => (if x32 = 0 then cz_rc h31 l0 [5] (cz_cI (fn_X5_isWord l0 512970880104 h31) (fun x40 h39 => (if x40 = 0 then cz_rc h39 l0 [5] (cz_cI (fn_X5_isWord l0 1684109683 h39) (fun x48 h47 => (if x48 = 0 then cz_rc h47 l0 [5] (cz_cI (fn_X5_isWord l0 427021005928 h47) (fun x56 h55 => (if x56 = 0 then cz_rc h55 l0 [5] (cz_cI (fn_X5_isWord l0 121450625394034 h55) (fun x64 h63 => (if x64 = 0 then some (.inl (some (cz_i (-1))), h63) else some (.inl (some (cz_i 7)), h63)))) else some (.inl (some (cz_i 6)), h55)))) else some (.inl (some (cz_i 5)), h47)))) else some (.inl (some (cz_i 4)), h39)))) else some (.inl (some (cz_i 3)), h31)))) else some (.inl (some (cz_i 2)), h23)))) else some (.inl (some (cz_i 1)), h15)))) else some (.inl (some (cz_i 0)), h7))))
set_option maxHeartbeats 4000000 in
set_option maxRecDepth 100000 in
theorem wk_X5_leafOf {K : cz_K} {D : cz_D} {h0 : cz_H} {oh : cz_O × cz_H} {l0 : Option Nat} {h : cz_H} (S : cz_S K D h0 cX5_leafOf 1 "HeldCoatsModel" ((Option.some Jvm.ClassFile.FieldType.int)) "leafOf" ([])) : cz_T K D 3 h0 oh 1 (fn_X5_leafOf l0 h) h 0 [(0, cz_r l0)] [] := by
  unfold fn_X5_leafOf
  refine ct_aload_n (k := 0) S dX5_leafOf_0 rfl rfl ?_
  refine ct_ldc2 S q1906 dX5_leafOf_1 ?_
  refine ct_rc (fun b1 ci2 V3 hb4 hc5 hi6 => ?_)
  refine ct_cI (st := []) (cg_virtual (av := [cz_j 1650553445]) S hb4 hc5 hi6 (fun _ e => mt_X5_isWord e) md_X5_isWord q2094 q2096 se_HeldCoatsModel_isWord__J_Z_HeldCoatsModel (by decide) (Nat.le_of_ble_eq_true rfl) rfl dX5_leafOf_4) (fun x8 h7 => ?_)
  refine ct_if_eq (tgt := 14) S dX5_leafOf_7 (by decide) ?_ ?_
  · refine ct_aload_n (k := 0) S dX5_leafOf_14 rfl rfl ?_
    refine ct_ldc2 S q1907 dX5_leafOf_15 ?_
    refine ct_rc (fun b9 ci10 V11 hb12 hc13 hi14 => ?_)
    refine ct_cI (st := []) (cg_virtual (av := [cz_j 1751477348]) S hb12 hc13 hi14 (fun _ e => mt_X5_isWord e) md_X5_isWord q2094 q2096 se_HeldCoatsModel_isWord__J_Z_HeldCoatsModel (by decide) (Nat.le_of_ble_eq_true rfl) rfl dX5_leafOf_18) (fun x16 h15 => ?_)
    refine ct_if_eq (tgt := 28) S dX5_leafOf_21 (by decide) ?_ ?_
    · refine ct_aload_n (k := 0) S dX5_leafOf_28 rfl rfl ?_
      refine ct_ldc2 S q1908 dX5_leafOf_29 ?_
      refine ct_rc (fun b17 ci18 V19 hb20 hc21 hi22 => ?_)
      refine ct_cI (st := []) (cg_virtual (av := [cz_j 28518]) S hb20 hc21 hi22 (fun _ e => mt_X5_isWord e) md_X5_isWord q2094 q2096 se_HeldCoatsModel_isWord__J_Z_HeldCoatsModel (by decide) (Nat.le_of_ble_eq_true rfl) rfl dX5_leafOf_32) (fun x24 h23 => ?_)
      refine ct_if_eq (tgt := 42) S dX5_leafOf_35 (by decide) ?_ ?_
      · refine ct_aload_n (k := 0) S dX5_leafOf_42 rfl rfl ?_
        refine ct_ldc2 S q1909 dX5_leafOf_43 ?_
        refine ct_rc (fun b25 ci26 V27 hb28 hc29 hi30 => ?_)
        refine ct_cI (st := []) (cg_virtual (av := [cz_j 504363246962]) S hb28 hc29 hi30 (fun _ e => mt_X5_isWord e) md_X5_isWord q2094 q2096 se_HeldCoatsModel_isWord__J_Z_HeldCoatsModel (by decide) (Nat.le_of_ble_eq_true rfl) rfl dX5_leafOf_46) (fun x32 h31 => ?_)
        refine ct_if_eq (tgt := 56) S dX5_leafOf_49 (by decide) ?_ ?_
        · refine ct_aload_n (k := 0) S dX5_leafOf_56 rfl rfl ?_
          refine ct_ldc2 S q1910 dX5_leafOf_57 ?_
          refine ct_rc (fun b33 ci34 V35 hb36 hc37 hi38 => ?_)
          refine ct_cI (st := []) (cg_virtual (av := [cz_j 512970880104]) S hb36 hc37 hi38 (fun _ e => mt_X5_isWord e) md_X5_isWord q2094 q2096 se_HeldCoatsModel_isWord__J_Z_HeldCoatsModel (by decide) (Nat.le_of_ble_eq_true rfl) rfl dX5_leafOf_60) (fun x40 h39 => ?_)
          refine ct_if_eq (tgt := 70) S dX5_leafOf_63 (by decide) ?_ ?_
          · refine ct_aload_n (k := 0) S dX5_leafOf_70 rfl rfl ?_
            refine ct_ldc2 S q1911 dX5_leafOf_71 ?_
            refine ct_rc (fun b41 ci42 V43 hb44 hc45 hi46 => ?_)
            refine ct_cI (st := []) (cg_virtual (av := [cz_j 1684109683]) S hb44 hc45 hi46 (fun _ e => mt_X5_isWord e) md_X5_isWord q2094 q2096 se_HeldCoatsModel_isWord__J_Z_HeldCoatsModel (by decide) (Nat.le_of_ble_eq_true rfl) rfl dX5_leafOf_74) (fun x48 h47 => ?_)
            refine ct_if_eq (tgt := 84) S dX5_leafOf_77 (by decide) ?_ ?_
            · refine ct_aload_n (k := 0) S dX5_leafOf_84 rfl rfl ?_
              refine ct_ldc2 S q1912 dX5_leafOf_85 ?_
              refine ct_rc (fun b49 ci50 V51 hb52 hc53 hi54 => ?_)
              refine ct_cI (st := []) (cg_virtual (av := [cz_j 427021005928]) S hb52 hc53 hi54 (fun _ e => mt_X5_isWord e) md_X5_isWord q2094 q2096 se_HeldCoatsModel_isWord__J_Z_HeldCoatsModel (by decide) (Nat.le_of_ble_eq_true rfl) rfl dX5_leafOf_88) (fun x56 h55 => ?_)
              refine ct_if_eq (tgt := 99) S dX5_leafOf_91 (by decide) ?_ ?_
              · refine ct_aload_n (k := 0) S dX5_leafOf_99 rfl rfl ?_
                refine ct_ldc2 S q1913 dX5_leafOf_100 ?_
                refine ct_rc (fun b57 ci58 V59 hb60 hc61 hi62 => ?_)
                refine ct_cI (st := []) (cg_virtual (av := [cz_j 121450625394034]) S hb60 hc61 hi62 (fun _ e => mt_X5_isWord e) md_X5_isWord q2094 q2096 se_HeldCoatsModel_isWord__J_Z_HeldCoatsModel (by decide) (Nat.le_of_ble_eq_true rfl) rfl dX5_leafOf_103) (fun x64 h63 => ?_)
                refine ct_if_eq (tgt := 114) S dX5_leafOf_106 (by decide) ?_ ?_
                · refine ct_iconst (v := (-1)) S dX5_leafOf_114 kI_m1 ?_
                  exact ct_iret S rfl dX5_leafOf_115
                · refine ct_bipush (v := 7) S dX5_leafOf_109 kB_7 ?_
                  refine ct_goto (tgt := 115) S dX5_leafOf_111 (by decide) ?_
                  exact ct_iret S rfl dX5_leafOf_115
              · refine ct_bipush (v := 6) S dX5_leafOf_94 kB_6 ?_
                refine ct_goto (tgt := 115) S dX5_leafOf_96 (by decide) ?_
                exact ct_iret S rfl dX5_leafOf_115
            · refine ct_iconst (v := 5) S dX5_leafOf_80 kI_5 ?_
              refine ct_goto (tgt := 115) S dX5_leafOf_81 (by decide) ?_
              exact ct_iret S rfl dX5_leafOf_115
          · refine ct_iconst (v := 4) S dX5_leafOf_66 kI_4 ?_
            refine ct_goto (tgt := 115) S dX5_leafOf_67 (by decide) ?_
            exact ct_iret S rfl dX5_leafOf_115
        · refine ct_iconst (v := 3) S dX5_leafOf_52 kI_3 ?_
          refine ct_goto (tgt := 115) S dX5_leafOf_53 (by decide) ?_
          exact ct_iret S rfl dX5_leafOf_115
      · refine ct_iconst (v := 2) S dX5_leafOf_38 kI_2 ?_
        refine ct_goto (tgt := 115) S dX5_leafOf_39 (by decide) ?_
        exact ct_iret S rfl dX5_leafOf_115
    · refine ct_iconst (v := 1) S dX5_leafOf_24 kI_1 ?_
      refine ct_goto (tgt := 115) S dX5_leafOf_25 (by decide) ?_
      exact ct_iret S rfl dX5_leafOf_115
  · refine ct_iconst (v := 0) S dX5_leafOf_10 kI_0 ?_
    refine ct_goto (tgt := 115) S dX5_leafOf_11 (by decide) ?_
    exact ct_iret S rfl dX5_leafOf_115
theorem mt_X5_leafOf {l : Launch} {D : cz_D} {l0 : Option Nat} {h : cz_H} {oh : cz_O × cz_H} (hz : fn_X5_leafOf l0 h = some oh) : cz_M l D yX5_leafOf (ws_ yX5_leafOf cX5_leafOf 1 ((Option.some Jvm.ClassFile.FieldType.int))) 3 [cz_r l0] h oh := cz_met (plainFor_of_name (by decide)) (Nat.le_of_ble_eq_true rfl) hz (fun K hl S => wk_X5_leafOf S)
/-! HeldCoatsModel.operand()Z -/
def dkwX5_operand_11 : List UInt8 := [42, 180, 0, 149, 182, 1, 159, 42, 182, 0, 168, 4, 172]
abbrev dktX5_operand_11 : List UInt8 := dkwX5_operand_11 ++ []
def dkwX5_operand_10 : List UInt8 := [54, 4, 42, 182, 0, 168, 42, 180, 0, 139, 5, 159, 0, 9, 42, 4, 182, 0, 165, 172, 42, 29, 21, 4]
abbrev dktX5_operand_10 : List UInt8 := dkwX5_operand_10 ++ dktX5_operand_11
def dkwX5_operand_9 : List UInt8 := [16, 60, 161, 0, 12, 42, 180, 0, 149, 16, 62, 164, 0, 9, 42, 4, 182, 0, 165, 172, 42, 180, 0, 149]
abbrev dktX5_operand_9 : List UInt8 := dkwX5_operand_9 ++ dktX5_operand_10
def dkwX5_operand_8 : List UInt8 := [180, 0, 175, 182, 1, 159, 42, 182, 0, 168, 4, 172, 42, 180, 0, 139, 6, 160, 0, 21, 42, 180, 0, 149]
abbrev dktX5_operand_8 : List UInt8 := dkwX5_operand_8 ++ dktX5_operand_9
def dkwX5_operand_7 : List UInt8 := [5, 160, 0, 7, 4, 167, 0, 4, 5, 46, 182, 0, 190, 154, 0, 5, 3, 172, 42, 29, 3, 42]
abbrev dktX5_operand_7 : List UInt8 := dkwX5_operand_7 ++ dktX5_operand_8
def dkwX5_operand_6 : List UInt8 := [172, 29, 7, 162, 0, 55, 42, 29, 5, 160, 0, 8, 16, 8, 167, 0, 5, 16, 14, 42, 180, 0, 33, 29]
abbrev dktX5_operand_6 : List UInt8 := dkwX5_operand_6 ++ dktX5_operand_7
def dkwX5_operand_5 : List UInt8 := [96, 181, 1, 163, 4, 172, 42, 4, 181, 1, 172, 29, 5, 162, 0, 12, 42, 29, 3, 3, 182, 1, 159, 4]
abbrev dktX5_operand_5 : List UInt8 := dkwX5_operand_5 ++ dktX5_operand_6
def dkwX5_operand_4 : List UInt8 := [16, 20, 167, 0, 5, 16, 23, 79, 42, 89, 180, 1, 156, 4, 96, 181, 1, 156, 42, 89, 180, 1, 163, 4]
abbrev dktX5_operand_4 : List UInt8 := dkwX5_operand_4 ++ dktX5_operand_5
def dkwX5_operand_3 : List UInt8 := [42, 182, 0, 168, 27, 154, 0, 7, 28, 153, 0, 45, 42, 180, 0, 62, 42, 180, 1, 156, 27, 153, 0, 8]
abbrev dktX5_operand_3 : List UInt8 := dkwX5_operand_3 ++ dktX5_operand_4
def dkwX5_operand_2 : List UInt8 := [180, 1, 163, 16, 8, 164, 0, 9, 42, 7, 182, 0, 165, 172, 42, 89, 180, 1, 169, 4, 96, 181, 1, 169]
abbrev dktX5_operand_2 : List UInt8 := dkwX5_operand_2 ++ dktX5_operand_3
def dkwX5_operand_1 : List UInt8 := [28, 154, 0, 13, 29, 156, 0, 9, 42, 4, 182, 0, 165, 172, 42, 180, 1, 169, 16, 20, 159, 0, 12, 42]
abbrev dktX5_operand_1 : List UInt8 := dkwX5_operand_1 ++ dktX5_operand_2
def dkwX5_operand_0 : List UInt8 := [42, 20, 0, 108, 182, 0, 202, 60, 42, 16, 40, 182, 0, 162, 61, 42, 182, 1, 166, 62, 27, 154, 0, 17]
abbrev dktX5_operand_0 : List UInt8 := dkwX5_operand_0 ++ dktX5_operand_1
theorem dksX5_operand_0 : cX5_operand.data.toList.drop 0 = dktX5_operand_0 := by decide +kernel
theorem dksX5_operand_1 : cX5_operand.data.toList.drop 24 = dktX5_operand_1 := dk_seg dksX5_operand_0 24 rfl rfl
theorem dksX5_operand_2 : cX5_operand.data.toList.drop 48 = dktX5_operand_2 := dk_seg dksX5_operand_1 24 rfl rfl
theorem dksX5_operand_3 : cX5_operand.data.toList.drop 72 = dktX5_operand_3 := dk_seg dksX5_operand_2 24 rfl rfl
theorem dksX5_operand_4 : cX5_operand.data.toList.drop 96 = dktX5_operand_4 := dk_seg dksX5_operand_3 24 rfl rfl
theorem dksX5_operand_5 : cX5_operand.data.toList.drop 120 = dktX5_operand_5 := dk_seg dksX5_operand_4 24 rfl rfl
theorem dksX5_operand_6 : cX5_operand.data.toList.drop 144 = dktX5_operand_6 := dk_seg dksX5_operand_5 24 rfl rfl
theorem dksX5_operand_7 : cX5_operand.data.toList.drop 168 = dktX5_operand_7 := dk_seg dksX5_operand_6 24 rfl rfl
theorem dksX5_operand_8 : cX5_operand.data.toList.drop 190 = dktX5_operand_8 := dk_seg dksX5_operand_7 22 rfl rfl
theorem dksX5_operand_9 : cX5_operand.data.toList.drop 214 = dktX5_operand_9 := dk_seg dksX5_operand_8 24 rfl rfl
theorem dksX5_operand_10 : cX5_operand.data.toList.drop 238 = dktX5_operand_10 := dk_seg dksX5_operand_9 24 rfl rfl
theorem dksX5_operand_11 : cX5_operand.data.toList.drop 262 = dktX5_operand_11 := dk_seg dksX5_operand_10 24 rfl rfl
theorem dX5_operand_0 : decode cX5_operand 0 = .ok (.aload_n 0, 1) := dk_42 (dk_at dksX5_operand_0 0 rfl rfl)
theorem dX5_operand_1 : decode cX5_operand 1 = .ok (.ldc2_w 108, 3) := dk_20 0 108 (dk_at dksX5_operand_0 1 rfl rfl)
theorem dX5_operand_4 : decode cX5_operand 4 = .ok (.invokevirtual 202, 3) := dk_182 0 202 (dk_at dksX5_operand_0 4 rfl rfl)
theorem dX5_operand_7 : decode cX5_operand 7 = .ok (.istore_n 1, 1) := dk_60 (dk_at dksX5_operand_0 7 rfl rfl)
theorem dX5_operand_8 : decode cX5_operand 8 = .ok (.aload_n 0, 1) := dk_42 (dk_at dksX5_operand_0 8 rfl rfl)
theorem dX5_operand_9 : decode cX5_operand 9 = .ok (.bipush 40, 2) := dk_16 40 (dk_at dksX5_operand_0 9 rfl rfl)
theorem dX5_operand_11 : decode cX5_operand 11 = .ok (.invokevirtual 162, 3) := dk_182 0 162 (dk_at dksX5_operand_0 11 rfl rfl)
theorem dX5_operand_14 : decode cX5_operand 14 = .ok (.istore_n 2, 1) := dk_61 (dk_at dksX5_operand_0 14 rfl rfl)
theorem dX5_operand_15 : decode cX5_operand 15 = .ok (.aload_n 0, 1) := dk_42 (dk_at dksX5_operand_0 15 rfl rfl)
theorem dX5_operand_16 : decode cX5_operand 16 = .ok (.invokevirtual 422, 3) := dk_182 1 166 (dk_at dksX5_operand_0 16 rfl rfl)
theorem dX5_operand_19 : decode cX5_operand 19 = .ok (.istore_n 3, 1) := dk_62 (dk_at dksX5_operand_0 19 rfl rfl)
theorem dX5_operand_20 : decode cX5_operand 20 = .ok (.iload_n 1, 1) := dk_27 (dk_at dksX5_operand_0 20 rfl rfl)
theorem dX5_operand_21 : decode cX5_operand 21 = .ok (.ifCond .ne 17, 3) := dk_154 0 17 (dk_at dksX5_operand_0 21 rfl rfl)
theorem dX5_operand_24 : decode cX5_operand 24 = .ok (.iload_n 2, 1) := dk_28 (dk_at dksX5_operand_1 0 rfl rfl)
theorem dX5_operand_25 : decode cX5_operand 25 = .ok (.ifCond .ne 13, 3) := dk_154 0 13 (dk_at dksX5_operand_1 1 rfl rfl)
theorem dX5_operand_28 : decode cX5_operand 28 = .ok (.iload_n 3, 1) := dk_29 (dk_at dksX5_operand_1 4 rfl rfl)
theorem dX5_operand_29 : decode cX5_operand 29 = .ok (.ifCond .ge 9, 3) := dk_156 0 9 (dk_at dksX5_operand_1 5 rfl rfl)
theorem dX5_operand_32 : decode cX5_operand 32 = .ok (.aload_n 0, 1) := dk_42 (dk_at dksX5_operand_1 8 rfl rfl)
theorem dX5_operand_33 : decode cX5_operand 33 = .ok (.iconst 1, 1) := dk_4 (dk_at dksX5_operand_1 9 rfl rfl)
theorem dX5_operand_34 : decode cX5_operand 34 = .ok (.invokevirtual 165, 3) := dk_182 0 165 (dk_at dksX5_operand_1 10 rfl rfl)
theorem dX5_operand_37 : decode cX5_operand 37 = .ok (.ireturn, 1) := dk_172 (dk_at dksX5_operand_1 13 rfl rfl)
theorem dX5_operand_38 : decode cX5_operand 38 = .ok (.aload_n 0, 1) := dk_42 (dk_at dksX5_operand_1 14 rfl rfl)
theorem dX5_operand_39 : decode cX5_operand 39 = .ok (.getfield 425, 3) := dk_180 1 169 (dk_at dksX5_operand_1 15 rfl rfl)
theorem dX5_operand_42 : decode cX5_operand 42 = .ok (.bipush 20, 2) := dk_16 20 (dk_at dksX5_operand_1 18 rfl rfl)
theorem dX5_operand_44 : decode cX5_operand 44 = .ok (.if_icmp .eq 12, 3) := dk_159 0 12 (dk_at dksX5_operand_1 20 rfl rfl)
theorem dX5_operand_47 : decode cX5_operand 47 = .ok (.aload_n 0, 1) := dk_42 (dk_at dksX5_operand_1 23 rfl rfl)
theorem dX5_operand_48 : decode cX5_operand 48 = .ok (.getfield 419, 3) := dk_180 1 163 (dk_at dksX5_operand_2 0 rfl rfl)
theorem dX5_operand_51 : decode cX5_operand 51 = .ok (.bipush 8, 2) := dk_16 8 (dk_at dksX5_operand_2 3 rfl rfl)
theorem dX5_operand_53 : decode cX5_operand 53 = .ok (.if_icmp .le 9, 3) := dk_164 0 9 (dk_at dksX5_operand_2 5 rfl rfl)
theorem dX5_operand_56 : decode cX5_operand 56 = .ok (.aload_n 0, 1) := dk_42 (dk_at dksX5_operand_2 8 rfl rfl)
theorem dX5_operand_57 : decode cX5_operand 57 = .ok (.iconst 4, 1) := dk_7 (dk_at dksX5_operand_2 9 rfl rfl)
theorem dX5_operand_58 : decode cX5_operand 58 = .ok (.invokevirtual 165, 3) := dk_182 0 165 (dk_at dksX5_operand_2 10 rfl rfl)
theorem dX5_operand_61 : decode cX5_operand 61 = .ok (.ireturn, 1) := dk_172 (dk_at dksX5_operand_2 13 rfl rfl)
theorem dX5_operand_62 : decode cX5_operand 62 = .ok (.aload_n 0, 1) := dk_42 (dk_at dksX5_operand_2 14 rfl rfl)
theorem dX5_operand_63 : decode cX5_operand 63 = .ok (.dup, 1) := dk_89 (dk_at dksX5_operand_2 15 rfl rfl)
theorem dX5_operand_64 : decode cX5_operand 64 = .ok (.getfield 425, 3) := dk_180 1 169 (dk_at dksX5_operand_2 16 rfl rfl)
theorem dX5_operand_67 : decode cX5_operand 67 = .ok (.iconst 1, 1) := dk_4 (dk_at dksX5_operand_2 19 rfl rfl)
theorem dX5_operand_68 : decode cX5_operand 68 = .ok (.iadd, 1) := dk_96 (dk_at dksX5_operand_2 20 rfl rfl)
theorem dX5_operand_69 : decode cX5_operand 69 = .ok (.putfield 425, 3) := dk_181 1 169 (dk_at dksX5_operand_2 21 rfl rfl)
theorem dX5_operand_72 : decode cX5_operand 72 = .ok (.aload_n 0, 1) := dk_42 (dk_at dksX5_operand_3 0 rfl rfl)
theorem dX5_operand_73 : decode cX5_operand 73 = .ok (.invokevirtual 168, 3) := dk_182 0 168 (dk_at dksX5_operand_3 1 rfl rfl)
theorem dX5_operand_76 : decode cX5_operand 76 = .ok (.iload_n 1, 1) := dk_27 (dk_at dksX5_operand_3 4 rfl rfl)
theorem dX5_operand_77 : decode cX5_operand 77 = .ok (.ifCond .ne 7, 3) := dk_154 0 7 (dk_at dksX5_operand_3 5 rfl rfl)
theorem dX5_operand_80 : decode cX5_operand 80 = .ok (.iload_n 2, 1) := dk_28 (dk_at dksX5_operand_3 8 rfl rfl)
theorem dX5_operand_81 : decode cX5_operand 81 = .ok (.ifCond .eq 45, 3) := dk_153 0 45 (dk_at dksX5_operand_3 9 rfl rfl)
theorem dX5_operand_84 : decode cX5_operand 84 = .ok (.aload_n 0, 1) := dk_42 (dk_at dksX5_operand_3 12 rfl rfl)
theorem dX5_operand_85 : decode cX5_operand 85 = .ok (.getfield 62, 3) := dk_180 0 62 (dk_at dksX5_operand_3 13 rfl rfl)
theorem dX5_operand_88 : decode cX5_operand 88 = .ok (.aload_n 0, 1) := dk_42 (dk_at dksX5_operand_3 16 rfl rfl)
theorem dX5_operand_89 : decode cX5_operand 89 = .ok (.getfield 412, 3) := dk_180 1 156 (dk_at dksX5_operand_3 17 rfl rfl)
theorem dX5_operand_92 : decode cX5_operand 92 = .ok (.iload_n 1, 1) := dk_27 (dk_at dksX5_operand_3 20 rfl rfl)
theorem dX5_operand_93 : decode cX5_operand 93 = .ok (.ifCond .eq 8, 3) := dk_153 0 8 (dk_at dksX5_operand_3 21 rfl rfl)
theorem dX5_operand_96 : decode cX5_operand 96 = .ok (.bipush 20, 2) := dk_16 20 (dk_at dksX5_operand_4 0 rfl rfl)
theorem dX5_operand_98 : decode cX5_operand 98 = .ok (.goto 5, 3) := dk_167 0 5 (dk_at dksX5_operand_4 2 rfl rfl)
theorem dX5_operand_101 : decode cX5_operand 101 = .ok (.bipush 23, 2) := dk_16 23 (dk_at dksX5_operand_4 5 rfl rfl)
theorem dX5_operand_103 : decode cX5_operand 103 = .ok (.iastore, 1) := dk_79 (dk_at dksX5_operand_4 7 rfl rfl)
theorem dX5_operand_104 : decode cX5_operand 104 = .ok (.aload_n 0, 1) := dk_42 (dk_at dksX5_operand_4 8 rfl rfl)
theorem dX5_operand_105 : decode cX5_operand 105 = .ok (.dup, 1) := dk_89 (dk_at dksX5_operand_4 9 rfl rfl)
theorem dX5_operand_106 : decode cX5_operand 106 = .ok (.getfield 412, 3) := dk_180 1 156 (dk_at dksX5_operand_4 10 rfl rfl)
theorem dX5_operand_109 : decode cX5_operand 109 = .ok (.iconst 1, 1) := dk_4 (dk_at dksX5_operand_4 13 rfl rfl)
theorem dX5_operand_110 : decode cX5_operand 110 = .ok (.iadd, 1) := dk_96 (dk_at dksX5_operand_4 14 rfl rfl)
theorem dX5_operand_111 : decode cX5_operand 111 = .ok (.putfield 412, 3) := dk_181 1 156 (dk_at dksX5_operand_4 15 rfl rfl)
theorem dX5_operand_114 : decode cX5_operand 114 = .ok (.aload_n 0, 1) := dk_42 (dk_at dksX5_operand_4 18 rfl rfl)
theorem dX5_operand_115 : decode cX5_operand 115 = .ok (.dup, 1) := dk_89 (dk_at dksX5_operand_4 19 rfl rfl)
theorem dX5_operand_116 : decode cX5_operand 116 = .ok (.getfield 419, 3) := dk_180 1 163 (dk_at dksX5_operand_4 20 rfl rfl)
theorem dX5_operand_119 : decode cX5_operand 119 = .ok (.iconst 1, 1) := dk_4 (dk_at dksX5_operand_4 23 rfl rfl)
theorem dX5_operand_120 : decode cX5_operand 120 = .ok (.iadd, 1) := dk_96 (dk_at dksX5_operand_5 0 rfl rfl)
theorem dX5_operand_121 : decode cX5_operand 121 = .ok (.putfield 419, 3) := dk_181 1 163 (dk_at dksX5_operand_5 1 rfl rfl)
theorem dX5_operand_124 : decode cX5_operand 124 = .ok (.iconst 1, 1) := dk_4 (dk_at dksX5_operand_5 4 rfl rfl)
theorem dX5_operand_125 : decode cX5_operand 125 = .ok (.ireturn, 1) := dk_172 (dk_at dksX5_operand_5 5 rfl rfl)
theorem dX5_operand_126 : decode cX5_operand 126 = .ok (.aload_n 0, 1) := dk_42 (dk_at dksX5_operand_5 6 rfl rfl)
theorem dX5_operand_127 : decode cX5_operand 127 = .ok (.iconst 1, 1) := dk_4 (dk_at dksX5_operand_5 7 rfl rfl)
theorem dX5_operand_128 : decode cX5_operand 128 = .ok (.putfield 428, 3) := dk_181 1 172 (dk_at dksX5_operand_5 8 rfl rfl)
theorem dX5_operand_131 : decode cX5_operand 131 = .ok (.iload_n 3, 1) := dk_29 (dk_at dksX5_operand_5 11 rfl rfl)
theorem dX5_operand_132 : decode cX5_operand 132 = .ok (.iconst 2, 1) := dk_5 (dk_at dksX5_operand_5 12 rfl rfl)
theorem dX5_operand_133 : decode cX5_operand 133 = .ok (.if_icmp .ge 12, 3) := dk_162 0 12 (dk_at dksX5_operand_5 13 rfl rfl)
theorem dX5_operand_136 : decode cX5_operand 136 = .ok (.aload_n 0, 1) := dk_42 (dk_at dksX5_operand_5 16 rfl rfl)
theorem dX5_operand_137 : decode cX5_operand 137 = .ok (.iload_n 3, 1) := dk_29 (dk_at dksX5_operand_5 17 rfl rfl)
theorem dX5_operand_138 : decode cX5_operand 138 = .ok (.iconst 0, 1) := dk_3 (dk_at dksX5_operand_5 18 rfl rfl)
theorem dX5_operand_139 : decode cX5_operand 139 = .ok (.iconst 0, 1) := dk_3 (dk_at dksX5_operand_5 19 rfl rfl)
theorem dX5_operand_140 : decode cX5_operand 140 = .ok (.invokevirtual 415, 3) := dk_182 1 159 (dk_at dksX5_operand_5 20 rfl rfl)
theorem dX5_operand_143 : decode cX5_operand 143 = .ok (.iconst 1, 1) := dk_4 (dk_at dksX5_operand_5 23 rfl rfl)
theorem dX5_operand_144 : decode cX5_operand 144 = .ok (.ireturn, 1) := dk_172 (dk_at dksX5_operand_6 0 rfl rfl)
theorem dX5_operand_145 : decode cX5_operand 145 = .ok (.iload_n 3, 1) := dk_29 (dk_at dksX5_operand_6 1 rfl rfl)
theorem dX5_operand_146 : decode cX5_operand 146 = .ok (.iconst 4, 1) := dk_7 (dk_at dksX5_operand_6 2 rfl rfl)
theorem dX5_operand_147 : decode cX5_operand 147 = .ok (.if_icmp .ge 55, 3) := dk_162 0 55 (dk_at dksX5_operand_6 3 rfl rfl)
theorem dX5_operand_150 : decode cX5_operand 150 = .ok (.aload_n 0, 1) := dk_42 (dk_at dksX5_operand_6 6 rfl rfl)
theorem dX5_operand_151 : decode cX5_operand 151 = .ok (.iload_n 3, 1) := dk_29 (dk_at dksX5_operand_6 7 rfl rfl)
theorem dX5_operand_152 : decode cX5_operand 152 = .ok (.iconst 2, 1) := dk_5 (dk_at dksX5_operand_6 8 rfl rfl)
theorem dX5_operand_153 : decode cX5_operand 153 = .ok (.if_icmp .ne 8, 3) := dk_160 0 8 (dk_at dksX5_operand_6 9 rfl rfl)
theorem dX5_operand_156 : decode cX5_operand 156 = .ok (.bipush 8, 2) := dk_16 8 (dk_at dksX5_operand_6 12 rfl rfl)
theorem dX5_operand_158 : decode cX5_operand 158 = .ok (.goto 5, 3) := dk_167 0 5 (dk_at dksX5_operand_6 14 rfl rfl)
theorem dX5_operand_161 : decode cX5_operand 161 = .ok (.bipush 14, 2) := dk_16 14 (dk_at dksX5_operand_6 17 rfl rfl)
theorem dX5_operand_163 : decode cX5_operand 163 = .ok (.aload_n 0, 1) := dk_42 (dk_at dksX5_operand_6 19 rfl rfl)
theorem dX5_operand_164 : decode cX5_operand 164 = .ok (.getfield 33, 3) := dk_180 0 33 (dk_at dksX5_operand_6 20 rfl rfl)
theorem dX5_operand_167 : decode cX5_operand 167 = .ok (.iload_n 3, 1) := dk_29 (dk_at dksX5_operand_6 23 rfl rfl)
theorem dX5_operand_168 : decode cX5_operand 168 = .ok (.iconst 2, 1) := dk_5 (dk_at dksX5_operand_7 0 rfl rfl)
theorem dX5_operand_169 : decode cX5_operand 169 = .ok (.if_icmp .ne 7, 3) := dk_160 0 7 (dk_at dksX5_operand_7 1 rfl rfl)
theorem dX5_operand_172 : decode cX5_operand 172 = .ok (.iconst 1, 1) := dk_4 (dk_at dksX5_operand_7 4 rfl rfl)
theorem dX5_operand_173 : decode cX5_operand 173 = .ok (.goto 4, 3) := dk_167 0 4 (dk_at dksX5_operand_7 5 rfl rfl)
theorem dX5_operand_176 : decode cX5_operand 176 = .ok (.iconst 2, 1) := dk_5 (dk_at dksX5_operand_7 8 rfl rfl)
theorem dX5_operand_177 : decode cX5_operand 177 = .ok (.iaload, 1) := dk_46 (dk_at dksX5_operand_7 9 rfl rfl)
theorem dX5_operand_178 : decode cX5_operand 178 = .ok (.invokevirtual 190, 3) := dk_182 0 190 (dk_at dksX5_operand_7 10 rfl rfl)
theorem dX5_operand_181 : decode cX5_operand 181 = .ok (.ifCond .ne 5, 3) := dk_154 0 5 (dk_at dksX5_operand_7 13 rfl rfl)
theorem dX5_operand_184 : decode cX5_operand 184 = .ok (.iconst 0, 1) := dk_3 (dk_at dksX5_operand_7 16 rfl rfl)
theorem dX5_operand_185 : decode cX5_operand 185 = .ok (.ireturn, 1) := dk_172 (dk_at dksX5_operand_7 17 rfl rfl)
theorem dX5_operand_186 : decode cX5_operand 186 = .ok (.aload_n 0, 1) := dk_42 (dk_at dksX5_operand_7 18 rfl rfl)
theorem dX5_operand_187 : decode cX5_operand 187 = .ok (.iload_n 3, 1) := dk_29 (dk_at dksX5_operand_7 19 rfl rfl)
theorem dX5_operand_188 : decode cX5_operand 188 = .ok (.iconst 0, 1) := dk_3 (dk_at dksX5_operand_7 20 rfl rfl)
theorem dX5_operand_189 : decode cX5_operand 189 = .ok (.aload_n 0, 1) := dk_42 (dk_at dksX5_operand_7 21 rfl rfl)
theorem dX5_operand_190 : decode cX5_operand 190 = .ok (.getfield 175, 3) := dk_180 0 175 (dk_at dksX5_operand_8 0 rfl rfl)
theorem dX5_operand_193 : decode cX5_operand 193 = .ok (.invokevirtual 415, 3) := dk_182 1 159 (dk_at dksX5_operand_8 3 rfl rfl)
theorem dX5_operand_196 : decode cX5_operand 196 = .ok (.aload_n 0, 1) := dk_42 (dk_at dksX5_operand_8 6 rfl rfl)
theorem dX5_operand_197 : decode cX5_operand 197 = .ok (.invokevirtual 168, 3) := dk_182 0 168 (dk_at dksX5_operand_8 7 rfl rfl)
theorem dX5_operand_200 : decode cX5_operand 200 = .ok (.iconst 1, 1) := dk_4 (dk_at dksX5_operand_8 10 rfl rfl)
theorem dX5_operand_201 : decode cX5_operand 201 = .ok (.ireturn, 1) := dk_172 (dk_at dksX5_operand_8 11 rfl rfl)
theorem dX5_operand_202 : decode cX5_operand 202 = .ok (.aload_n 0, 1) := dk_42 (dk_at dksX5_operand_8 12 rfl rfl)
theorem dX5_operand_203 : decode cX5_operand 203 = .ok (.getfield 139, 3) := dk_180 0 139 (dk_at dksX5_operand_8 13 rfl rfl)
theorem dX5_operand_206 : decode cX5_operand 206 = .ok (.iconst 3, 1) := dk_6 (dk_at dksX5_operand_8 16 rfl rfl)
theorem dX5_operand_207 : decode cX5_operand 207 = .ok (.if_icmp .ne 21, 3) := dk_160 0 21 (dk_at dksX5_operand_8 17 rfl rfl)
theorem dX5_operand_210 : decode cX5_operand 210 = .ok (.aload_n 0, 1) := dk_42 (dk_at dksX5_operand_8 20 rfl rfl)
theorem dX5_operand_211 : decode cX5_operand 211 = .ok (.getfield 149, 3) := dk_180 0 149 (dk_at dksX5_operand_8 21 rfl rfl)
theorem dX5_operand_214 : decode cX5_operand 214 = .ok (.bipush 60, 2) := dk_16 60 (dk_at dksX5_operand_9 0 rfl rfl)
theorem dX5_operand_216 : decode cX5_operand 216 = .ok (.if_icmp .lt 12, 3) := dk_161 0 12 (dk_at dksX5_operand_9 2 rfl rfl)
theorem dX5_operand_219 : decode cX5_operand 219 = .ok (.aload_n 0, 1) := dk_42 (dk_at dksX5_operand_9 5 rfl rfl)
theorem dX5_operand_220 : decode cX5_operand 220 = .ok (.getfield 149, 3) := dk_180 0 149 (dk_at dksX5_operand_9 6 rfl rfl)
theorem dX5_operand_223 : decode cX5_operand 223 = .ok (.bipush 62, 2) := dk_16 62 (dk_at dksX5_operand_9 9 rfl rfl)
theorem dX5_operand_225 : decode cX5_operand 225 = .ok (.if_icmp .le 9, 3) := dk_164 0 9 (dk_at dksX5_operand_9 11 rfl rfl)
theorem dX5_operand_228 : decode cX5_operand 228 = .ok (.aload_n 0, 1) := dk_42 (dk_at dksX5_operand_9 14 rfl rfl)
theorem dX5_operand_229 : decode cX5_operand 229 = .ok (.iconst 1, 1) := dk_4 (dk_at dksX5_operand_9 15 rfl rfl)
theorem dX5_operand_230 : decode cX5_operand 230 = .ok (.invokevirtual 165, 3) := dk_182 0 165 (dk_at dksX5_operand_9 16 rfl rfl)
theorem dX5_operand_233 : decode cX5_operand 233 = .ok (.ireturn, 1) := dk_172 (dk_at dksX5_operand_9 19 rfl rfl)
theorem dX5_operand_234 : decode cX5_operand 234 = .ok (.aload_n 0, 1) := dk_42 (dk_at dksX5_operand_9 20 rfl rfl)
theorem dX5_operand_235 : decode cX5_operand 235 = .ok (.getfield 149, 3) := dk_180 0 149 (dk_at dksX5_operand_9 21 rfl rfl)
theorem dX5_operand_238 : decode cX5_operand 238 = .ok (.istore 4, 2) := dk_54 4 (dk_at dksX5_operand_10 0 rfl rfl)
theorem dX5_operand_240 : decode cX5_operand 240 = .ok (.aload_n 0, 1) := dk_42 (dk_at dksX5_operand_10 2 rfl rfl)
theorem dX5_operand_241 : decode cX5_operand 241 = .ok (.invokevirtual 168, 3) := dk_182 0 168 (dk_at dksX5_operand_10 3 rfl rfl)
theorem dX5_operand_244 : decode cX5_operand 244 = .ok (.aload_n 0, 1) := dk_42 (dk_at dksX5_operand_10 6 rfl rfl)
theorem dX5_operand_245 : decode cX5_operand 245 = .ok (.getfield 139, 3) := dk_180 0 139 (dk_at dksX5_operand_10 7 rfl rfl)
theorem dX5_operand_248 : decode cX5_operand 248 = .ok (.iconst 2, 1) := dk_5 (dk_at dksX5_operand_10 10 rfl rfl)
theorem dX5_operand_249 : decode cX5_operand 249 = .ok (.if_icmp .eq 9, 3) := dk_159 0 9 (dk_at dksX5_operand_10 11 rfl rfl)
theorem dX5_operand_252 : decode cX5_operand 252 = .ok (.aload_n 0, 1) := dk_42 (dk_at dksX5_operand_10 14 rfl rfl)
theorem dX5_operand_253 : decode cX5_operand 253 = .ok (.iconst 1, 1) := dk_4 (dk_at dksX5_operand_10 15 rfl rfl)
theorem dX5_operand_254 : decode cX5_operand 254 = .ok (.invokevirtual 165, 3) := dk_182 0 165 (dk_at dksX5_operand_10 16 rfl rfl)
theorem dX5_operand_257 : decode cX5_operand 257 = .ok (.ireturn, 1) := dk_172 (dk_at dksX5_operand_10 19 rfl rfl)
theorem dX5_operand_258 : decode cX5_operand 258 = .ok (.aload_n 0, 1) := dk_42 (dk_at dksX5_operand_10 20 rfl rfl)
theorem dX5_operand_259 : decode cX5_operand 259 = .ok (.iload_n 3, 1) := dk_29 (dk_at dksX5_operand_10 21 rfl rfl)
theorem dX5_operand_260 : decode cX5_operand 260 = .ok (.iload 4, 2) := dk_21 4 (dk_at dksX5_operand_10 22 rfl rfl)
theorem dX5_operand_262 : decode cX5_operand 262 = .ok (.aload_n 0, 1) := dk_42 (dk_at dksX5_operand_11 0 rfl rfl)
theorem dX5_operand_263 : decode cX5_operand 263 = .ok (.getfield 149, 3) := dk_180 0 149 (dk_at dksX5_operand_11 1 rfl rfl)
theorem dX5_operand_266 : decode cX5_operand 266 = .ok (.invokevirtual 415, 3) := dk_182 1 159 (dk_at dksX5_operand_11 4 rfl rfl)
theorem dX5_operand_269 : decode cX5_operand 269 = .ok (.aload_n 0, 1) := dk_42 (dk_at dksX5_operand_11 7 rfl rfl)
theorem dX5_operand_270 : decode cX5_operand 270 = .ok (.invokevirtual 168, 3) := dk_182 0 168 (dk_at dksX5_operand_11 8 rfl rfl)
theorem dX5_operand_273 : decode cX5_operand 273 = .ok (.iconst 1, 1) := dk_4 (dk_at dksX5_operand_11 11 rfl rfl)
theorem dX5_operand_274 : decode cX5_operand 274 = .ok (.ireturn, 1) := dk_172 (dk_at dksX5_operand_11 12 rfl rfl)
theorem se_HeldCoatsModel_leafOf___I_HeldCoatsModel : ∀ c ∈ ([5] : List Nat), ∃ q : vw_C, cz_cl[c]? = some q ∧ Cond.selects q.1 (⟨"HeldCoatsModel", "leafOf", "()I"⟩ : MethodName) (⟨"HeldCoatsModel", "leafOf", "()I"⟩ : MethodName) ∈ lw_all := List.forall_mem_cons.mpr ⟨⟨_, cz_cl5, qs109⟩, fun _ h => absurd h List.not_mem_nil⟩
theorem md_X5_leafOf : cz_md yX5_leafOf 1 (ws_ yX5_leafOf cX5_leafOf 1 ((Option.some Jvm.ClassFile.FieldType.int))) 0 := ⟨cz_ws_code q2482, q123, ⟨by decide, by decide, by decide +kernel⟩, by decide⟩
theorem fw_X5_425 : cz_FW "HeldCoatsModel" 425 [(5, 41)] "I" := ⟨"HeldCoatsModel", "ones", Or.inl q1959, List.forall_mem_cons.mpr ⟨⟨RX5, TX5, 49, rfl, by decide, rfl, rfl, Or.inl rfl⟩, fun _ h => absurd h List.not_mem_nil⟩, by decide⟩
theorem fp_X5_m_5_41 {nm : String} : cz_FP "HeldCoatsModel" nm [(5, 41)] := List.forall_mem_cons.mpr ⟨⟨RX5, TX5, 49, rfl, Or.inl rfl⟩, fun _ h => absurd h List.not_mem_nil⟩
set_option maxHeartbeats 4000000 in
set_option maxRecDepth 100000 in
noncomputable def fn_X5_operand (l0 : Option Nat) (h : cz_H) : cz_Z := cz_rc h l0 [5] (cz_cI (fn_X5_isWord l0 7237492 h) (fun x8 h7 => cz_rc h7 l0 [5] (cz_cI (fn_X5_isSign l0 40 h7) (fun x16 h15 => cz_rc h15 l0 [5] (cz_cI (fn_X5_leafOf l0 h15) (fun x24 h23 => cz_jn (fun (h25 : cz_H) => cz_getI h25 l0 [(5, 41)] (fun x26 => (if x26 = 20 then cz_rc h25 l0 [5] (cz_cI (fn_X5_bad l0 4 h25) (fun x34 h33 => cz_ckz x34 (some (.inl (some (cz_i x34)), h33)))) else cz_getI h25 l0 [(5, 43)] (fun x35 => (if x35 ≤ 8 then cz_getI h25 l0 [(5, 41)] (fun x36 => cz_put h25 l0 [(5, 41)] (cz_i (x36 + 1)) (fun h37 => cz_rc h37 l0 [5] (cz_cV (fn_X5_next l0 h37) (fun h44 => cz_jn (fun (h45 : cz_H) => cz_getR h45 l0 [(5, 39)] (fun r46 => cz_getI h45 l0 [(5, 42)] (fun x47 => cz_jn (fun (v48 : Int32) (h49 : cz_H) => cz_iast h49 r46 x47 v48 (fun h50 => cz_getI h50 l0 [(5, 42)] (fun x51 => cz_put h50 l0 [(5, 42)] (cz_i (x51 + 1)) (fun h52 => cz_getI h52 l0 [(5, 43)] (fun x53 => cz_put h52 l0 [(5, 43)] (cz_i (x53 + 1)) (fun h54 => some (.inl (some (cz_i 1)), h54))))))) (fun j55 => (if x8 = 0 then j55 23 h45 else j55 20 h45))))) (fun j56 => (if x8 = 0 then (if x16 = 0 then cz_put h44 l0 [(5, 44)] (cz_i 1) (fun h57 => (if (2 : Int32) ≤ x24 then (if (4 : Int32) ≤ x24 then cz_getI h57 l0 [(5, 11)] (fun x58 => (if x58 = 3 then cz_getI h57 l0 [(5, 14)] (fun x67 => (if x67 < 60 then cz_rc h57 l0 [5] (cz_cI (fn_X5_bad l0 1 h57) (fun x75 h74 => cz_ckz x75 (some (.inl (some (cz_i x75)), h74)))) else cz_getI h57 l0 [(5, 14)] (fun x76 => (if x76 ≤ 62 then cz_getI h57 l0 [(5, 14)] (fun x77 => cz_rc h57 l0 [5] (cz_cV (fn_X5_next l0 h57) (fun h84 => cz_getI h84 l0 [(5, 11)] (fun x85 => (if x85 = 2 then cz_getI h84 l0 [(5, 14)] (fun x86 => cz_rc h84 l0 [5] (cz_cV (fn_X5_code l0 x24 x77 x86 h84) (fun h93 => cz_rc h93 l0 [5] (cz_cV (fn_X5_next l0 h93) (fun h100 => some (.inl (some (cz_i 1)), h100)))))) else cz_rc h84 l0 [5] (cz_cI (fn_X5_bad l0 1 h84) (fun x108 h107 => cz_ckz x108 (some (.inl (some (cz_i x108)), h107))))))))) else cz_rc h57 l0 [5] (cz_cI (fn_X5_bad l0 1 h57) (fun x116 h115 => cz_ckz x116 (some (.inl (some (cz_i x116)), h115)))))))) else cz_rc h57 l0 [5] (cz_cI (fn_X5_bad l0 1 h57) (fun x66 h65 => cz_ckz x66 (some (.inl (some (cz_i x66)), h65)))))) else cz_jn (fun (v117 : Int32) (h118 : cz_H) => cz_getR h118 l0 [(5, 6)] (fun r119 => cz_jn (fun (v120 : Int32) (h121 : cz_H) => cz_iald h121 r119 v120 (fun x122 => cz_rc h121 l0 [5] (cz_cI (fn_X5_looksAt l0 v117 x122 h121) (fun x130 h129 => (if x130 = 0 then some (.inl (some (cz_i 0)), h129) else cz_getI h129 l0 [(5, 18)] (fun x131 => cz_rc h129 l0 [5] (cz_cV (fn_X5_code l0 x24 0 x131 h129) (fun h138 => cz_rc h138 l0 [5] (cz_cV (fn_X5_next l0 h138) (fun h145 => some (.inl (some (cz_i 1)), h145))))))))))) (fun j146 => (if x24 = 2 then j146 1 h118 else j146 2 h118)))) (fun j147 => (if x24 = 2 then j147 8 h57 else j147 14 h57))) else cz_rc h57 l0 [5] (cz_cV (fn_X5_code l0 x24 0 0 h57) (fun h154 => some (.inl (some (cz_i 1)), h154))))) else j56 h44) else j56 h44)))))) else cz_rc h25 l0 [5] (cz_cI (fn_X5_bad l0 4 h25) (fun x162 h161 => cz_ckz x162 (some (.inl (some (cz_i x162)), h161))))))))) (fun j163 => (if x8 = 0 then (if x16 = 0 then (if 0 ≤ x24 then j163 h23 else cz_rc h23 l0 [5] (cz_cI (fn_X5_bad l0 1 h23) (fun x171 h170 => cz_ckz x171 (some (.inl (some (cz_i x171)), h170))))) else j163 h23) else j163 h23))))))))
set_option maxHeartbeats 4000000 in
set_option maxRecDepth 100000 in
theorem wk_X5_operand {K : cz_K} {D : cz_D} {h0 : cz_H} {oh : cz_O × cz_H} {l0 : Option Nat} {h : cz_H} (S : cz_S K D h0 cX5_operand 5 "HeldCoatsModel" ((Option.some Jvm.ClassFile.FieldType.boolean)) "operand" ([])) : cz_T K D 4 h0 oh 5 (fn_X5_operand l0 h) h 0 [(0, cz_r l0)] [] := by
  unfold fn_X5_operand
  refine ct_aload_n (k := 0) S dX5_operand_0 rfl rfl ?_
  refine ct_ldc2 S q1905 dX5_operand_1 ?_
  refine ct_rc (fun b1 ci2 V3 hb4 hc5 hi6 => ?_)
  refine ct_cI (st := []) (cg_virtual (av := [cz_j 7237492]) S hb4 hc5 hi6 (fun _ e => mt_X5_isWord e) md_X5_isWord q2094 q2096 se_HeldCoatsModel_isWord__J_Z_HeldCoatsModel (by decide) (Nat.le_of_ble_eq_true rfl) rfl dX5_operand_4) (fun x8 h7 => ?_)
  refine ct_istore_n (L' := [(1, cz_i x8), (0, cz_r l0)]) S dX5_operand_7 rfl (by decide) rfl ?_
  refine ct_aload_n (k := 1) S dX5_operand_8 rfl rfl ?_
  refine ct_bipush (v := 40) S dX5_operand_9 kB_40 ?_
  refine ct_rc (fun b9 ci10 V11 hb12 hc13 hi14 => ?_)
  refine ct_cI (st := []) (cg_virtual (av := [cz_i 40]) S hb12 hc13 hi14 (fun _ e => mt_X5_isSign e) md_X5_isSign q2148 q2150 se_HeldCoatsModel_isSign__I_Z_HeldCoatsModel (by decide) (Nat.le_of_ble_eq_true rfl) rfl dX5_operand_11) (fun x16 h15 => ?_)
  refine ct_istore_n (L' := [(2, cz_i x16), (1, cz_i x8), (0, cz_r l0)]) S dX5_operand_14 rfl (by decide) rfl ?_
  refine ct_aload_n (k := 2) S dX5_operand_15 rfl rfl ?_
  refine ct_rc (fun b17 ci18 V19 hb20 hc21 hi22 => ?_)
  refine ct_cI (st := []) (cg_virtual (av := []) S hb20 hc21 hi22 (fun _ e => mt_X5_leafOf e) md_X5_leafOf q2479 q2481 se_HeldCoatsModel_leafOf___I_HeldCoatsModel (by decide) (Nat.le_of_ble_eq_true rfl) rfl dX5_operand_16) (fun x24 h23 => ?_)
  refine ct_istore_n (L' := [(3, cz_i x24), (2, cz_i x16), (1, cz_i x8), (0, cz_r l0)]) S dX5_operand_19 rfl (by decide) rfl ?_
  refine ct_iload_n (k := 2) S dX5_operand_20 rfl rfl ?_
  refine ct_jnP (fun j163 => ∀ (h25 : cz_H), cz_T K D 4 h0 oh 5 (j163 h25) h25 38 [(0, cz_r l0), (1, cz_i x8), (2, cz_i x16), (3, cz_i x24)] []) (fun h25 => ?_) (fun j163 Hj163 => ?_)
  · refine ct_aload_n (k := 0) S dX5_operand_38 rfl rfl ?_
    refine ct_getI S fw_X5_425 dX5_operand_39 (fun x26 => ?_)
    refine ct_bipush (v := 20) S dX5_operand_42 kB_20 ?_
    refine ct_icmp_eq (tgt := 56) S dX5_operand_44 (by decide) ?_ ?_
    · refine ct_aload_n (k := 0) S dX5_operand_56 rfl rfl ?_
      refine ct_iconst (v := 4) S dX5_operand_57 kI_4 ?_
      refine ct_rc (fun b27 ci28 V29 hb30 hc31 hi32 => ?_)
      refine ct_cI (st := []) (cg_virtual (av := [cz_i 4]) S hb30 hc31 hi32 (fun _ e => mt_X5_bad e) md_X5_bad q2098 q2100 se_HeldCoatsModel_bad__I_Z_HeldCoatsModel (by decide) (Nat.le_of_ble_eq_true rfl) rfl dX5_operand_58) (fun x34 h33 => ?_)
      refine ct_ckz (fun hx => ?_)
      exact ct_zr (ty := .boolean) S rfl (cz_nz hx) dX5_operand_61
    · refine ct_aload_n (k := 0) S dX5_operand_47 rfl rfl ?_
      refine ct_getI S fw_X5_419 dX5_operand_48 (fun x35 => ?_)
      refine ct_bipush (v := 8) S dX5_operand_51 kB_8 ?_
      refine ct_icmp_le (tgt := 62) S dX5_operand_53 (by decide) ?_ ?_
      · refine ct_aload_n (k := 0) S dX5_operand_62 rfl rfl ?_
        refine ct_dup S dX5_operand_63 rfl ?_
        refine ct_getI S fw_X5_425 dX5_operand_64 (fun x36 => ?_)
        refine ct_iconst (v := 1) S dX5_operand_67 kI_1 ?_
        refine ct_iadd S dX5_operand_68 ?_
        refine ct_put S fw_X5_425 fp_X5_m_5_41 (cz_fits_i pd_I) dX5_operand_69 (fun h37 => ?_)
        refine ct_aload_n (k := 0) S dX5_operand_72 rfl rfl ?_
        refine ct_rc (fun b38 ci39 V40 hb41 hc42 hi43 => ?_)
        refine ct_cV (st := []) (cg_virtual (av := []) S hb41 hc42 hi43 (fun _ e => mt_X5_next e) md_X5_next q2076 q2078 se_HeldCoatsModel_next___V_HeldCoatsModel (by decide) (Nat.le_of_ble_eq_true rfl) rfl dX5_operand_73) (fun h44 => ?_)
        refine ct_iload_n (k := 1) S dX5_operand_76 rfl rfl ?_
        refine ct_jnP (fun j56 => ∀ (h45 : cz_H), cz_T K D 4 h0 oh 5 (j56 h45) h45 84 [(0, cz_r l0), (1, cz_i x8)] []) (fun h45 => ?_) (fun j56 Hj56 => ?_)
        · refine ct_aload_n (k := 0) S dX5_operand_84 rfl rfl ?_
          refine ct_getR S fw_X5_62 dX5_operand_85 (fun r46 => ?_)
          refine ct_aload_n (k := 0) S dX5_operand_88 rfl rfl ?_
          refine ct_getI S fw_X5_412 dX5_operand_89 (fun x47 => ?_)
          refine ct_iload_n (k := 1) S dX5_operand_92 rfl rfl ?_
          refine ct_jnP (fun j55 => ∀ (v48 : Int32) (h49 : cz_H), cz_T K D 4 h0 oh 5 (j55 v48 h49) h49 103 [(0, cz_r l0)] [cz_i v48, cz_i x47, cz_r r46]) (fun v48 h49 => ?_) (fun j55 Hj55 => ?_)
          · refine ct_iast S dX5_operand_103 (fun h50 => ?_)
            refine ct_aload_n (k := 0) S dX5_operand_104 rfl rfl ?_
            refine ct_dup S dX5_operand_105 rfl ?_
            refine ct_getI S fw_X5_412 dX5_operand_106 (fun x51 => ?_)
            refine ct_iconst (v := 1) S dX5_operand_109 kI_1 ?_
            refine ct_iadd S dX5_operand_110 ?_
            refine ct_put S fw_X5_412 fp_X5_m_5_42 (cz_fits_i pd_I) dX5_operand_111 (fun h52 => ?_)
            refine ct_aload_n (k := 0) S dX5_operand_114 rfl rfl ?_
            refine ct_dup S dX5_operand_115 rfl ?_
            refine ct_getI S fw_X5_419 dX5_operand_116 (fun x53 => ?_)
            refine ct_iconst (v := 1) S dX5_operand_119 kI_1 ?_
            refine ct_iadd S dX5_operand_120 ?_
            refine ct_put S fw_X5_419 fp_X5_m_5_43 (cz_fits_i pd_I) dX5_operand_121 (fun h54 => ?_)
            refine ct_iconst (v := 1) S dX5_operand_124 kI_1 ?_
            exact ct_zr (ty := .boolean) S rfl rfl dX5_operand_125
          · refine ct_if_eq (tgt := 101) S dX5_operand_93 (by decide) ?_ ?_
            · refine ct_bipush (v := 23) S dX5_operand_101 kB_23 ?_
              exact ct_sub [0] rfl (Hj55 23 h45)
            · refine ct_bipush (v := 20) S dX5_operand_96 kB_20 ?_
              refine ct_goto (tgt := 103) S dX5_operand_98 (by decide) ?_
              exact ct_sub [0] rfl (Hj55 20 h45)
        · refine ct_if_ne (tgt := 84) S dX5_operand_77 (by decide) ?_ ?_
          · exact ct_sub [0, 1] rfl (Hj56 h44)
          · refine ct_iload_n (k := 2) S dX5_operand_80 rfl rfl ?_
            refine ct_if_eq (tgt := 126) S dX5_operand_81 (by decide) ?_ ?_
            · refine ct_aload_n (k := 0) S dX5_operand_126 rfl rfl ?_
              refine ct_iconst (v := 1) S dX5_operand_127 kI_1 ?_
              refine ct_put S fw_X5_428 fp_X5_m_5_44 (cz_fits_z pd_Z (Or.inr rfl)) dX5_operand_128 (fun h57 => ?_)
              refine ct_iload_n (k := 3) S dX5_operand_131 rfl rfl ?_
              refine ct_iconst (v := 2) S dX5_operand_132 kI_2 ?_
              refine ct_icmp_ge (tgt := 145) S dX5_operand_133 (by decide) ?_ ?_
              · refine ct_iload_n (k := 3) S dX5_operand_145 rfl rfl ?_
                refine ct_iconst (v := 4) S dX5_operand_146 kI_4 ?_
                refine ct_icmp_ge (tgt := 202) S dX5_operand_147 (by decide) ?_ ?_
                · refine ct_aload_n (k := 0) S dX5_operand_202 rfl rfl ?_
                  refine ct_getI S fw_X5_139 dX5_operand_203 (fun x58 => ?_)
                  refine ct_iconst (v := 3) S dX5_operand_206 kI_3 ?_
                  refine ct_icmp_ne (tgt := 228) S dX5_operand_207 (by decide) ?_ ?_
                  · refine ct_aload_n (k := 0) S dX5_operand_228 rfl rfl ?_
                    refine ct_iconst (v := 1) S dX5_operand_229 kI_1 ?_
                    refine ct_rc (fun b59 ci60 V61 hb62 hc63 hi64 => ?_)
                    refine ct_cI (st := []) (cg_virtual (av := [cz_i 1]) S hb62 hc63 hi64 (fun _ e => mt_X5_bad e) md_X5_bad q2098 q2100 se_HeldCoatsModel_bad__I_Z_HeldCoatsModel (by decide) (Nat.le_of_ble_eq_true rfl) rfl dX5_operand_230) (fun x66 h65 => ?_)
                    refine ct_ckz (fun hx => ?_)
                    exact ct_zr (ty := .boolean) S rfl (cz_nz hx) dX5_operand_233
                  · refine ct_aload_n (k := 0) S dX5_operand_210 rfl rfl ?_
                    refine ct_getI S fw_X5_149 dX5_operand_211 (fun x67 => ?_)
                    refine ct_bipush (v := 60) S dX5_operand_214 kB_60 ?_
                    refine ct_icmp_lt (tgt := 228) S dX5_operand_216 (by decide) ?_ ?_
                    · refine ct_aload_n (k := 0) S dX5_operand_228 rfl rfl ?_
                      refine ct_iconst (v := 1) S dX5_operand_229 kI_1 ?_
                      refine ct_rc (fun b68 ci69 V70 hb71 hc72 hi73 => ?_)
                      refine ct_cI (st := []) (cg_virtual (av := [cz_i 1]) S hb71 hc72 hi73 (fun _ e => mt_X5_bad e) md_X5_bad q2098 q2100 se_HeldCoatsModel_bad__I_Z_HeldCoatsModel (by decide) (Nat.le_of_ble_eq_true rfl) rfl dX5_operand_230) (fun x75 h74 => ?_)
                      refine ct_ckz (fun hx => ?_)
                      exact ct_zr (ty := .boolean) S rfl (cz_nz hx) dX5_operand_233
                    · refine ct_aload_n (k := 0) S dX5_operand_219 rfl rfl ?_
                      refine ct_getI S fw_X5_149 dX5_operand_220 (fun x76 => ?_)
                      refine ct_bipush (v := 62) S dX5_operand_223 kB_62 ?_
                      refine ct_icmp_le (tgt := 234) S dX5_operand_225 (by decide) ?_ ?_
                      · refine ct_aload_n (k := 0) S dX5_operand_234 rfl rfl ?_
                        refine ct_getI S fw_X5_149 dX5_operand_235 (fun x77 => ?_)
                        refine ct_istore (L' := [(4, cz_i x77), (0, cz_r l0), (1, cz_i x8), (2, cz_i x16), (3, cz_i x24)]) S dX5_operand_238 (by decide) rfl ?_
                        refine ct_aload_n (k := 1) S dX5_operand_240 rfl rfl ?_
                        refine ct_rc (fun b78 ci79 V80 hb81 hc82 hi83 => ?_)
                        refine ct_cV (st := []) (cg_virtual (av := []) S hb81 hc82 hi83 (fun _ e => mt_X5_next e) md_X5_next q2076 q2078 se_HeldCoatsModel_next___V_HeldCoatsModel (by decide) (Nat.le_of_ble_eq_true rfl) rfl dX5_operand_241) (fun h84 => ?_)
                        refine ct_aload_n (k := 1) S dX5_operand_244 rfl rfl ?_
                        refine ct_getI S fw_X5_139 dX5_operand_245 (fun x85 => ?_)
                        refine ct_iconst (v := 2) S dX5_operand_248 kI_2 ?_
                        refine ct_icmp_eq (tgt := 258) S dX5_operand_249 (by decide) ?_ ?_
                        · refine ct_aload_n (k := 1) S dX5_operand_258 rfl rfl ?_
                          refine ct_iload_n (k := 4) S dX5_operand_259 rfl rfl ?_
                          refine ct_iload (k := 0) S dX5_operand_260 rfl ?_
                          refine ct_aload_n (k := 1) S dX5_operand_262 rfl rfl ?_
                          refine ct_getI S fw_X5_149 dX5_operand_263 (fun x86 => ?_)
                          refine ct_rc (fun b87 ci88 V89 hb90 hc91 hi92 => ?_)
                          refine ct_cV (st := []) (cg_virtual (av := [cz_i x24, cz_i x77, cz_i x86]) S hb90 hc91 hi92 (fun _ e => mt_X5_code e) md_X5_code q2463 q2465 se_HeldCoatsModel_code__III_V_HeldCoatsModel (by decide) (Nat.le_of_ble_eq_true rfl) rfl dX5_operand_266) (fun h93 => ?_)
                          refine ct_aload_n (k := 1) S dX5_operand_269 rfl rfl ?_
                          refine ct_rc (fun b94 ci95 V96 hb97 hc98 hi99 => ?_)
                          refine ct_cV (st := []) (cg_virtual (av := []) S hb97 hc98 hi99 (fun _ e => mt_X5_next e) md_X5_next q2076 q2078 se_HeldCoatsModel_next___V_HeldCoatsModel (by decide) (Nat.le_of_ble_eq_true rfl) rfl dX5_operand_270) (fun h100 => ?_)
                          refine ct_iconst (v := 1) S dX5_operand_273 kI_1 ?_
                          exact ct_zr (ty := .boolean) S rfl rfl dX5_operand_274
                        · refine ct_aload_n (k := 1) S dX5_operand_252 rfl rfl ?_
                          refine ct_iconst (v := 1) S dX5_operand_253 kI_1 ?_
                          refine ct_rc (fun b101 ci102 V103 hb104 hc105 hi106 => ?_)
                          refine ct_cI (st := []) (cg_virtual (av := [cz_i 1]) S hb104 hc105 hi106 (fun _ e => mt_X5_bad e) md_X5_bad q2098 q2100 se_HeldCoatsModel_bad__I_Z_HeldCoatsModel (by decide) (Nat.le_of_ble_eq_true rfl) rfl dX5_operand_254) (fun x108 h107 => ?_)
                          refine ct_ckz (fun hx => ?_)
                          exact ct_zr (ty := .boolean) S rfl (cz_nz hx) dX5_operand_257
                      · refine ct_aload_n (k := 0) S dX5_operand_228 rfl rfl ?_
                        refine ct_iconst (v := 1) S dX5_operand_229 kI_1 ?_
                        refine ct_rc (fun b109 ci110 V111 hb112 hc113 hi114 => ?_)
                        refine ct_cI (st := []) (cg_virtual (av := [cz_i 1]) S hb112 hc113 hi114 (fun _ e => mt_X5_bad e) md_X5_bad q2098 q2100 se_HeldCoatsModel_bad__I_Z_HeldCoatsModel (by decide) (Nat.le_of_ble_eq_true rfl) rfl dX5_operand_230) (fun x116 h115 => ?_)
                        refine ct_ckz (fun hx => ?_)
                        exact ct_zr (ty := .boolean) S rfl (cz_nz hx) dX5_operand_233
                · refine ct_aload_n (k := 0) S dX5_operand_150 rfl rfl ?_
                  refine ct_iload_n (k := 3) S dX5_operand_151 rfl rfl ?_
                  refine ct_iconst (v := 2) S dX5_operand_152 kI_2 ?_
                  refine ct_jnP (fun j147 => ∀ (v117 : Int32) (h118 : cz_H), cz_T K D 4 h0 oh 5 (j147 v117 h118) h118 163 [(0, cz_r l0), (3, cz_i x24)] [cz_i v117, cz_r l0]) (fun v117 h118 => ?_) (fun j147 Hj147 => ?_)
                  · refine ct_aload_n (k := 0) S dX5_operand_163 rfl rfl ?_
                    refine ct_getR S fw_X5_33 dX5_operand_164 (fun r119 => ?_)
                    refine ct_iload_n (k := 1) S dX5_operand_167 rfl rfl ?_
                    refine ct_iconst (v := 2) S dX5_operand_168 kI_2 ?_
                    refine ct_jnP (fun j146 => ∀ (v120 : Int32) (h121 : cz_H), cz_T K D 4 h0 oh 5 (j146 v120 h121) h121 177 [(0, cz_r l0), (3, cz_i x24)] [cz_i v120, cz_r r119, cz_i v117, cz_r l0]) (fun v120 h121 => ?_) (fun j146 Hj146 => ?_)
                    · refine ct_iald S dX5_operand_177 (fun x122 => ?_)
                      refine ct_rc (fun b123 ci124 V125 hb126 hc127 hi128 => ?_)
                      refine ct_cI (st := []) (cg_virtual (av := [cz_i v117, cz_i x122]) S hb126 hc127 hi128 (fun _ e => mt_X5_looksAt e) md_X5_looksAt q2129 q2131 se_HeldCoatsModel_looksAt__II_Z_HeldCoatsModel (by decide) (Nat.le_of_ble_eq_true rfl) rfl dX5_operand_178) (fun x130 h129 => ?_)
                      refine ct_if_ne (tgt := 186) S dX5_operand_181 (by decide) ?_ ?_
                      · refine ct_aload_n (k := 0) S dX5_operand_186 rfl rfl ?_
                        refine ct_iload_n (k := 1) S dX5_operand_187 rfl rfl ?_
                        refine ct_iconst (v := 0) S dX5_operand_188 kI_0 ?_
                        refine ct_aload_n (k := 0) S dX5_operand_189 rfl rfl ?_
                        refine ct_getI S fw_X5_175 dX5_operand_190 (fun x131 => ?_)
                        refine ct_rc (fun b132 ci133 V134 hb135 hc136 hi137 => ?_)
                        refine ct_cV (st := []) (cg_virtual (av := [cz_i x24, cz_i 0, cz_i x131]) S hb135 hc136 hi137 (fun _ e => mt_X5_code e) md_X5_code q2463 q2465 se_HeldCoatsModel_code__III_V_HeldCoatsModel (by decide) (Nat.le_of_ble_eq_true rfl) rfl dX5_operand_193) (fun h138 => ?_)
                        refine ct_aload_n (k := 0) S dX5_operand_196 rfl rfl ?_
                        refine ct_rc (fun b139 ci140 V141 hb142 hc143 hi144 => ?_)
                        refine ct_cV (st := []) (cg_virtual (av := []) S hb142 hc143 hi144 (fun _ e => mt_X5_next e) md_X5_next q2076 q2078 se_HeldCoatsModel_next___V_HeldCoatsModel (by decide) (Nat.le_of_ble_eq_true rfl) rfl dX5_operand_197) (fun h145 => ?_)
                        refine ct_iconst (v := 1) S dX5_operand_200 kI_1 ?_
                        exact ct_zr (ty := .boolean) S rfl rfl dX5_operand_201
                      · refine ct_iconst (v := 0) S dX5_operand_184 kI_0 ?_
                        exact ct_zr (ty := .boolean) S rfl rfl dX5_operand_185
                    · refine ct_icmp_ne (tgt := 176) S dX5_operand_169 (by decide) ?_ ?_
                      · refine ct_iconst (v := 2) S dX5_operand_176 kI_2 ?_
                        exact Hj146 2 h118
                      · refine ct_iconst (v := 1) S dX5_operand_172 kI_1 ?_
                        refine ct_goto (tgt := 177) S dX5_operand_173 (by decide) ?_
                        exact Hj146 1 h118
                  · refine ct_icmp_ne (tgt := 161) S dX5_operand_153 (by decide) ?_ ?_
                    · refine ct_bipush (v := 14) S dX5_operand_161 kB_14 ?_
                      exact ct_sub [0, 3] rfl (Hj147 14 h57)
                    · refine ct_bipush (v := 8) S dX5_operand_156 kB_8 ?_
                      refine ct_goto (tgt := 163) S dX5_operand_158 (by decide) ?_
                      exact ct_sub [0, 3] rfl (Hj147 8 h57)
              · refine ct_aload_n (k := 0) S dX5_operand_136 rfl rfl ?_
                refine ct_iload_n (k := 3) S dX5_operand_137 rfl rfl ?_
                refine ct_iconst (v := 0) S dX5_operand_138 kI_0 ?_
                refine ct_iconst (v := 0) S dX5_operand_139 kI_0 ?_
                refine ct_rc (fun b148 ci149 V150 hb151 hc152 hi153 => ?_)
                refine ct_cV (st := []) (cg_virtual (av := [cz_i x24, cz_i 0, cz_i 0]) S hb151 hc152 hi153 (fun _ e => mt_X5_code e) md_X5_code q2463 q2465 se_HeldCoatsModel_code__III_V_HeldCoatsModel (by decide) (Nat.le_of_ble_eq_true rfl) rfl dX5_operand_140) (fun h154 => ?_)
                refine ct_iconst (v := 1) S dX5_operand_143 kI_1 ?_
                exact ct_zr (ty := .boolean) S rfl rfl dX5_operand_144
            · exact ct_sub [0, 1] rfl (Hj56 h44)
      · refine ct_aload_n (k := 0) S dX5_operand_56 rfl rfl ?_
        refine ct_iconst (v := 4) S dX5_operand_57 kI_4 ?_
        refine ct_rc (fun b155 ci156 V157 hb158 hc159 hi160 => ?_)
        refine ct_cI (st := []) (cg_virtual (av := [cz_i 4]) S hb158 hc159 hi160 (fun _ e => mt_X5_bad e) md_X5_bad q2098 q2100 se_HeldCoatsModel_bad__I_Z_HeldCoatsModel (by decide) (Nat.le_of_ble_eq_true rfl) rfl dX5_operand_58) (fun x162 h161 => ?_)
        refine ct_ckz (fun hx => ?_)
        exact ct_zr (ty := .boolean) S rfl (cz_nz hx) dX5_operand_61
  · refine ct_if_ne (tgt := 38) S dX5_operand_21 (by decide) ?_ ?_
    · exact ct_sub [3, 2, 1, 0] rfl (Hj163 h23)
    · refine ct_iload_n (k := 1) S dX5_operand_24 rfl rfl ?_
      refine ct_if_ne (tgt := 38) S dX5_operand_25 (by decide) ?_ ?_
      · exact ct_sub [3, 2, 1, 0] rfl (Hj163 h23)
      · refine ct_iload_n (k := 0) S dX5_operand_28 rfl rfl ?_
        refine ct_if_ge (tgt := 38) S dX5_operand_29 (by decide) ?_ ?_
        · exact ct_sub [3, 2, 1, 0] rfl (Hj163 h23)
        · refine ct_aload_n (k := 3) S dX5_operand_32 rfl rfl ?_
          refine ct_iconst (v := 1) S dX5_operand_33 kI_1 ?_
          refine ct_rc (fun b164 ci165 V166 hb167 hc168 hi169 => ?_)
          refine ct_cI (st := []) (cg_virtual (av := [cz_i 1]) S hb167 hc168 hi169 (fun _ e => mt_X5_bad e) md_X5_bad q2098 q2100 se_HeldCoatsModel_bad__I_Z_HeldCoatsModel (by decide) (Nat.le_of_ble_eq_true rfl) rfl dX5_operand_34) (fun x171 h170 => ?_)
          refine ct_ckz (fun hx => ?_)
          exact ct_zr (ty := .boolean) S rfl (cz_nz hx) dX5_operand_37
theorem mt_X5_operand {l : Launch} {D : cz_D} {l0 : Option Nat} {h : cz_H} {oh : cz_O × cz_H} (hz : fn_X5_operand l0 h = some oh) : cz_M l D yX5_operand (ws_ yX5_operand cX5_operand 5 ((Option.some Jvm.ClassFile.FieldType.boolean))) 4 [cz_r l0] h oh := cz_met (plainFor_of_name (by decide)) (Nat.le_of_ble_eq_true rfl) hz (fun K hl S => wk_X5_operand S)
