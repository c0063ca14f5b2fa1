/-! methods of the model, 2 (printed by wip/D-98934w/gen) -/
set_option maxRecDepth 100000
/-! HeldCoatsModel.does(III)I -/
def dkwX5_does_7 : List UInt8 := [182, 1, 64, 87, 3, 172]
abbrev dktX5_does_7 : List UInt8 := dkwX5_does_7 ++ []
def dkwX5_does_6 : List UInt8 := [3, 172, 42, 180, 0, 33, 16, 62, 46, 28, 96, 17, 1, 144, 164, 0, 6, 16, 41, 172, 42, 28]
abbrev dktX5_does_6 : List UInt8 := dkwX5_does_6 ++ dktX5_does_7
def dkwX5_does_5 : List UInt8 := [16, 73, 28, 96, 29, 79, 3, 172, 42, 28, 182, 1, 30, 154, 0, 6, 16, 31, 172, 42, 28, 182, 1, 36]
abbrev dktX5_does_5 : List UInt8 := dkwX5_does_5 ++ dktX5_does_6
def dkwX5_does_4 : List UInt8 := [172, 42, 28, 29, 182, 1, 61, 54, 4, 21, 4, 158, 0, 9, 16, 20, 21, 4, 96, 172, 42, 180, 0, 33]
abbrev dktX5_does_4 : List UInt8 := dkwX5_does_4 ++ dktX5_does_5
def dkwX5_does_3 : List UInt8 := [29, 182, 1, 55, 54, 4, 21, 4, 158, 0, 9, 16, 10, 21, 4, 96, 172, 42, 28, 29, 182, 1, 58, 3]
abbrev dktX5_does_3 : List UInt8 := dkwX5_does_3 ++ dktX5_does_4
def dkwX5_does_2 : List UInt8 := [42, 28, 29, 182, 1, 45, 54, 4, 21, 4, 154, 0, 9, 42, 28, 29, 182, 1, 51, 21, 4, 172, 42, 28]
abbrev dktX5_does_2 : List UInt8 := dkwX5_does_2 ++ dktX5_does_3
def dkwX5_does_1 : List UInt8 := [170, 0, 0, 0, 0, 0, 0, 130, 0, 0, 0, 0, 0, 0, 0, 3, 0, 0, 0, 32, 0, 0, 0, 54, 0, 0, 0, 81, 0, 0, 0, 112]
abbrev dktX5_does_1 : List UInt8 := dkwX5_does_1 ++ dktX5_does_2
def dkwX5_does_0 : List UInt8 := [3, 54, 4, 27]
abbrev dktX5_does_0 : List UInt8 := dkwX5_does_0 ++ dktX5_does_1
theorem dksX5_does_0 : cX5_does.data.toList.drop 0 = dktX5_does_0 := by decide +kernel
theorem dksX5_does_1 : cX5_does.data.toList.drop 4 = dktX5_does_1 := dk_seg dksX5_does_0 4 rfl rfl
theorem dksX5_does_2 : cX5_does.data.toList.drop 36 = dktX5_does_2 := dk_seg dksX5_does_1 32 rfl rfl
theorem dksX5_does_3 : cX5_does.data.toList.drop 60 = dktX5_does_3 := dk_seg dksX5_does_2 24 rfl rfl
theorem dksX5_does_4 : cX5_does.data.toList.drop 84 = dktX5_does_4 := dk_seg dksX5_does_3 24 rfl rfl
theorem dksX5_does_5 : cX5_does.data.toList.drop 108 = dktX5_does_5 := dk_seg dksX5_does_4 24 rfl rfl
theorem dksX5_does_6 : cX5_does.data.toList.drop 132 = dktX5_does_6 := dk_seg dksX5_does_5 24 rfl rfl
theorem dksX5_does_7 : cX5_does.data.toList.drop 154 = dktX5_does_7 := dk_seg dksX5_does_6 22 rfl rfl
theorem dX5_does_0 : decode cX5_does 0 = .ok (.iconst 0, 1) := dk_3 (dk_at dksX5_does_0 0 rfl rfl)
theorem dX5_does_1 : decode cX5_does 1 = .ok (.istore 4, 2) := dk_54 4 (dk_at dksX5_does_0 1 rfl rfl)
theorem dX5_does_3 : decode cX5_does 3 = .ok (.iload_n 1, 1) := dk_27 (dk_at dksX5_does_0 3 rfl rfl)
theorem dX5_does_4 : decode cX5_does 4 = .ok (.tableswitch 130 0 3 #[32, 54, 81, 112], 32) := by decide +kernel
theorem dX5_does_36 : decode cX5_does 36 = .ok (.aload_n 0, 1) := dk_42 (dk_at dksX5_does_2 0 rfl rfl)
theorem dX5_does_37 : decode cX5_does 37 = .ok (.iload_n 2, 1) := dk_28 (dk_at dksX5_does_2 1 rfl rfl)
theorem dX5_does_38 : decode cX5_does 38 = .ok (.iload_n 3, 1) := dk_29 (dk_at dksX5_does_2 2 rfl rfl)
theorem dX5_does_39 : decode cX5_does 39 = .ok (.invokevirtual 301, 3) := dk_182 1 45 (dk_at dksX5_does_2 3 rfl rfl)
theorem dX5_does_42 : decode cX5_does 42 = .ok (.istore 4, 2) := dk_54 4 (dk_at dksX5_does_2 6 rfl rfl)
theorem dX5_does_44 : decode cX5_does 44 = .ok (.iload 4, 2) := dk_21 4 (dk_at dksX5_does_2 8 rfl rfl)
theorem dX5_does_46 : decode cX5_does 46 = .ok (.ifCond .ne 9, 3) := dk_154 0 9 (dk_at dksX5_does_2 10 rfl rfl)
theorem dX5_does_49 : decode cX5_does 49 = .ok (.aload_n 0, 1) := dk_42 (dk_at dksX5_does_2 13 rfl rfl)
theorem dX5_does_50 : decode cX5_does 50 = .ok (.iload_n 2, 1) := dk_28 (dk_at dksX5_does_2 14 rfl rfl)
theorem dX5_does_51 : decode cX5_does 51 = .ok (.iload_n 3, 1) := dk_29 (dk_at dksX5_does_2 15 rfl rfl)
theorem dX5_does_52 : decode cX5_does 52 = .ok (.invokevirtual 307, 3) := dk_182 1 51 (dk_at dksX5_does_2 16 rfl rfl)
theorem dX5_does_55 : decode cX5_does 55 = .ok (.iload 4, 2) := dk_21 4 (dk_at dksX5_does_2 19 rfl rfl)
theorem dX5_does_57 : decode cX5_does 57 = .ok (.ireturn, 1) := dk_172 (dk_at dksX5_does_2 21 rfl rfl)
theorem dX5_does_58 : decode cX5_does 58 = .ok (.aload_n 0, 1) := dk_42 (dk_at dksX5_does_2 22 rfl rfl)
theorem dX5_does_59 : decode cX5_does 59 = .ok (.iload_n 2, 1) := dk_28 (dk_at dksX5_does_2 23 rfl rfl)
theorem dX5_does_60 : decode cX5_does 60 = .ok (.iload_n 3, 1) := dk_29 (dk_at dksX5_does_3 0 rfl rfl)
theorem dX5_does_61 : decode cX5_does 61 = .ok (.invokevirtual 311, 3) := dk_182 1 55 (dk_at dksX5_does_3 1 rfl rfl)
theorem dX5_does_64 : decode cX5_does 64 = .ok (.istore 4, 2) := dk_54 4 (dk_at dksX5_does_3 4 rfl rfl)
theorem dX5_does_66 : decode cX5_does 66 = .ok (.iload 4, 2) := dk_21 4 (dk_at dksX5_does_3 6 rfl rfl)
theorem dX5_does_68 : decode cX5_does 68 = .ok (.ifCond .le 9, 3) := dk_158 0 9 (dk_at dksX5_does_3 8 rfl rfl)
theorem dX5_does_71 : decode cX5_does 71 = .ok (.bipush 10, 2) := dk_16 10 (dk_at dksX5_does_3 11 rfl rfl)
theorem dX5_does_73 : decode cX5_does 73 = .ok (.iload 4, 2) := dk_21 4 (dk_at dksX5_does_3 13 rfl rfl)
theorem dX5_does_75 : decode cX5_does 75 = .ok (.iadd, 1) := dk_96 (dk_at dksX5_does_3 15 rfl rfl)
theorem dX5_does_76 : decode cX5_does 76 = .ok (.ireturn, 1) := dk_172 (dk_at dksX5_does_3 16 rfl rfl)
theorem dX5_does_77 : decode cX5_does 77 = .ok (.aload_n 0, 1) := dk_42 (dk_at dksX5_does_3 17 rfl rfl)
theorem dX5_does_78 : decode cX5_does 78 = .ok (.iload_n 2, 1) := dk_28 (dk_at dksX5_does_3 18 rfl rfl)
theorem dX5_does_79 : decode cX5_does 79 = .ok (.iload_n 3, 1) := dk_29 (dk_at dksX5_does_3 19 rfl rfl)
theorem dX5_does_80 : decode cX5_does 80 = .ok (.invokevirtual 314, 3) := dk_182 1 58 (dk_at dksX5_does_3 20 rfl rfl)
theorem dX5_does_83 : decode cX5_does 83 = .ok (.iconst 0, 1) := dk_3 (dk_at dksX5_does_3 23 rfl rfl)
theorem dX5_does_84 : decode cX5_does 84 = .ok (.ireturn, 1) := dk_172 (dk_at dksX5_does_4 0 rfl rfl)
theorem dX5_does_85 : decode cX5_does 85 = .ok (.aload_n 0, 1) := dk_42 (dk_at dksX5_does_4 1 rfl rfl)
theorem dX5_does_86 : decode cX5_does 86 = .ok (.iload_n 2, 1) := dk_28 (dk_at dksX5_does_4 2 rfl rfl)
theorem dX5_does_87 : decode cX5_does 87 = .ok (.iload_n 3, 1) := dk_29 (dk_at dksX5_does_4 3 rfl rfl)
theorem dX5_does_88 : decode cX5_does 88 = .ok (.invokevirtual 317, 3) := dk_182 1 61 (dk_at dksX5_does_4 4 rfl rfl)
theorem dX5_does_91 : decode cX5_does 91 = .ok (.istore 4, 2) := dk_54 4 (dk_at dksX5_does_4 7 rfl rfl)
theorem dX5_does_93 : decode cX5_does 93 = .ok (.iload 4, 2) := dk_21 4 (dk_at dksX5_does_4 9 rfl rfl)
theorem dX5_does_95 : decode cX5_does 95 = .ok (.ifCond .le 9, 3) := dk_158 0 9 (dk_at dksX5_does_4 11 rfl rfl)
theorem dX5_does_98 : decode cX5_does 98 = .ok (.bipush 20, 2) := dk_16 20 (dk_at dksX5_does_4 14 rfl rfl)
theorem dX5_does_100 : decode cX5_does 100 = .ok (.iload 4, 2) := dk_21 4 (dk_at dksX5_does_4 16 rfl rfl)
theorem dX5_does_102 : decode cX5_does 102 = .ok (.iadd, 1) := dk_96 (dk_at dksX5_does_4 18 rfl rfl)
theorem dX5_does_103 : decode cX5_does 103 = .ok (.ireturn, 1) := dk_172 (dk_at dksX5_does_4 19 rfl rfl)
theorem dX5_does_104 : decode cX5_does 104 = .ok (.aload_n 0, 1) := dk_42 (dk_at dksX5_does_4 20 rfl rfl)
theorem dX5_does_105 : decode cX5_does 105 = .ok (.getfield 33, 3) := dk_180 0 33 (dk_at dksX5_does_4 21 rfl rfl)
theorem dX5_does_108 : decode cX5_does 108 = .ok (.bipush 73, 2) := dk_16 73 (dk_at dksX5_does_5 0 rfl rfl)
theorem dX5_does_110 : decode cX5_does 110 = .ok (.iload_n 2, 1) := dk_28 (dk_at dksX5_does_5 2 rfl rfl)
theorem dX5_does_111 : decode cX5_does 111 = .ok (.iadd, 1) := dk_96 (dk_at dksX5_does_5 3 rfl rfl)
theorem dX5_does_112 : decode cX5_does 112 = .ok (.iload_n 3, 1) := dk_29 (dk_at dksX5_does_5 4 rfl rfl)
theorem dX5_does_113 : decode cX5_does 113 = .ok (.iastore, 1) := dk_79 (dk_at dksX5_does_5 5 rfl rfl)
theorem dX5_does_114 : decode cX5_does 114 = .ok (.iconst 0, 1) := dk_3 (dk_at dksX5_does_5 6 rfl rfl)
theorem dX5_does_115 : decode cX5_does 115 = .ok (.ireturn, 1) := dk_172 (dk_at dksX5_does_5 7 rfl rfl)
theorem dX5_does_116 : decode cX5_does 116 = .ok (.aload_n 0, 1) := dk_42 (dk_at dksX5_does_5 8 rfl rfl)
theorem dX5_does_117 : decode cX5_does 117 = .ok (.iload_n 2, 1) := dk_28 (dk_at dksX5_does_5 9 rfl rfl)
theorem dX5_does_118 : decode cX5_does 118 = .ok (.invokevirtual 286, 3) := dk_182 1 30 (dk_at dksX5_does_5 10 rfl rfl)
theorem dX5_does_121 : decode cX5_does 121 = .ok (.ifCond .ne 6, 3) := dk_154 0 6 (dk_at dksX5_does_5 13 rfl rfl)
theorem dX5_does_124 : decode cX5_does 124 = .ok (.bipush 31, 2) := dk_16 31 (dk_at dksX5_does_5 16 rfl rfl)
theorem dX5_does_126 : decode cX5_does 126 = .ok (.ireturn, 1) := dk_172 (dk_at dksX5_does_5 18 rfl rfl)
theorem dX5_does_127 : decode cX5_does 127 = .ok (.aload_n 0, 1) := dk_42 (dk_at dksX5_does_5 19 rfl rfl)
theorem dX5_does_128 : decode cX5_does 128 = .ok (.iload_n 2, 1) := dk_28 (dk_at dksX5_does_5 20 rfl rfl)
theorem dX5_does_129 : decode cX5_does 129 = .ok (.invokevirtual 292, 3) := dk_182 1 36 (dk_at dksX5_does_5 21 rfl rfl)
theorem dX5_does_132 : decode cX5_does 132 = .ok (.iconst 0, 1) := dk_3 (dk_at dksX5_does_6 0 rfl rfl)
theorem dX5_does_133 : decode cX5_does 133 = .ok (.ireturn, 1) := dk_172 (dk_at dksX5_does_6 1 rfl rfl)
theorem dX5_does_134 : decode cX5_does 134 = .ok (.aload_n 0, 1) := dk_42 (dk_at dksX5_does_6 2 rfl rfl)
theorem dX5_does_135 : decode cX5_does 135 = .ok (.getfield 33, 3) := dk_180 0 33 (dk_at dksX5_does_6 3 rfl rfl)
theorem dX5_does_138 : decode cX5_does 138 = .ok (.bipush 62, 2) := dk_16 62 (dk_at dksX5_does_6 6 rfl rfl)
theorem dX5_does_140 : decode cX5_does 140 = .ok (.iaload, 1) := dk_46 (dk_at dksX5_does_6 8 rfl rfl)
theorem dX5_does_141 : decode cX5_does 141 = .ok (.iload_n 2, 1) := dk_28 (dk_at dksX5_does_6 9 rfl rfl)
theorem dX5_does_142 : decode cX5_does 142 = .ok (.iadd, 1) := dk_96 (dk_at dksX5_does_6 10 rfl rfl)
theorem dX5_does_143 : decode cX5_does 143 = .ok (.sipush 400, 3) := dk_17 1 144 (dk_at dksX5_does_6 11 rfl rfl)
theorem dX5_does_146 : decode cX5_does 146 = .ok (.if_icmp .le 6, 3) := dk_164 0 6 (dk_at dksX5_does_6 14 rfl rfl)
theorem dX5_does_149 : decode cX5_does 149 = .ok (.bipush 41, 2) := dk_16 41 (dk_at dksX5_does_6 17 rfl rfl)
theorem dX5_does_151 : decode cX5_does 151 = .ok (.ireturn, 1) := dk_172 (dk_at dksX5_does_6 19 rfl rfl)
theorem dX5_does_152 : decode cX5_does 152 = .ok (.aload_n 0, 1) := dk_42 (dk_at dksX5_does_6 20 rfl rfl)
theorem dX5_does_153 : decode cX5_does 153 = .ok (.iload_n 2, 1) := dk_28 (dk_at dksX5_does_6 21 rfl rfl)
theorem dX5_does_154 : decode cX5_does 154 = .ok (.invokevirtual 320, 3) := dk_182 1 64 (dk_at dksX5_does_7 0 rfl rfl)
theorem dX5_does_157 : decode cX5_does 157 = .ok (.pop, 1) := dk_87 (dk_at dksX5_does_7 3 rfl rfl)
theorem dX5_does_158 : decode cX5_does 158 = .ok (.iconst 0, 1) := dk_3 (dk_at dksX5_does_7 4 rfl rfl)
theorem dX5_does_159 : decode cX5_does 159 = .ok (.ireturn, 1) := dk_172 (dk_at dksX5_does_7 5 rfl rfl)
theorem se_HeldCoatsModel_goesOn__I_I_HeldCoatsModel : ∀ c ∈ ([5] : List Nat), ∃ q : vw_C, cz_cl[c]? = some q ∧ Cond.selects q.1 (⟨"HeldCoatsModel", "goesOn", "(I)I"⟩ : MethodName) (⟨"HeldCoatsModel", "goesOn", "(I)I"⟩ : MethodName) ∈ lw_all := List.forall_mem_cons.mpr ⟨⟨_, cz_cl5, qs87⟩, fun _ h => absurd h List.not_mem_nil⟩
theorem md_X5_goesOn : cz_md yX5_goesOn 3 (ws_ yX5_goesOn cX5_goesOn 3 ((Option.some Jvm.ClassFile.FieldType.int))) 1 := ⟨cz_ws_code q2294, q123, ⟨by decide, by decide, by decide +kernel⟩, by decide⟩
theorem kB_31 : (Int8.ofInt (31)).toInt32 = 31 := by decide
theorem se_HeldCoatsModel_whyLend__II_I_HeldCoatsModel : ∀ c ∈ ([5] : List Nat), ∃ q : vw_C, cz_cl[c]? = some q ∧ Cond.selects q.1 (⟨"HeldCoatsModel", "whyLend", "(II)I"⟩ : MethodName) (⟨"HeldCoatsModel", "whyLend", "(II)I"⟩ : MethodName) ∈ lw_all := List.forall_mem_cons.mpr ⟨⟨_, cz_cl5, qs85⟩, fun _ h => absurd h List.not_mem_nil⟩
theorem md_X5_whyLend : cz_md yX5_whyLend 3 (ws_ yX5_whyLend cX5_whyLend 3 ((Option.some Jvm.ClassFile.FieldType.int))) 2 := ⟨cz_ws_code q2278, q123, ⟨by decide, by decide, by decide +kernel⟩, by decide⟩
theorem se_HeldCoatsModel_whyWear__II_I_HeldCoatsModel : ∀ c ∈ ([5] : List Nat), ∃ q : vw_C, cz_cl[c]? = some q ∧ Cond.selects q.1 (⟨"HeldCoatsModel", "whyWear", "(II)I"⟩ : MethodName) (⟨"HeldCoatsModel", "whyWear", "(II)I"⟩ : MethodName) ∈ lw_all := List.forall_mem_cons.mpr ⟨⟨_, cz_cl5, qs82⟩, fun _ h => absurd h List.not_mem_nil⟩
theorem md_X5_whyWear : cz_md yX5_whyWear 3 (ws_ yX5_whyWear cX5_whyWear 3 ((Option.some Jvm.ClassFile.FieldType.int))) 2 := ⟨cz_ws_code q2262, q123, ⟨by decide, by decide, by decide +kernel⟩, by decide⟩
theorem se_HeldCoatsModel_wears__II_V_HeldCoatsModel : ∀ c ∈ ([5] : List Nat), ∃ q : vw_C, cz_cl[c]? = some q ∧ Cond.selects q.1 (⟨"HeldCoatsModel", "wears", "(II)V"⟩ : MethodName) (⟨"HeldCoatsModel", "wears", "(II)V"⟩ : MethodName) ∈ lw_all := List.forall_mem_cons.mpr ⟨⟨_, cz_cl5, qs83⟩, fun _ h => absurd h List.not_mem_nil⟩
theorem md_X5_wears : cz_md yX5_wears 3 (ws_ yX5_wears cX5_wears 3 ((Option.none : Option Jvm.ClassFile.FieldType))) 2 := ⟨cz_ws_code q2266, q123, ⟨by decide, by decide, by decide +kernel⟩, by decide⟩
theorem se_HeldCoatsModel_whyLay__II_I_HeldCoatsModel : ∀ c ∈ ([5] : List Nat), ∃ q : vw_C, cz_cl[c]? = some q ∧ Cond.selects q.1 (⟨"HeldCoatsModel", "whyLay", "(II)I"⟩ : MethodName) (⟨"HeldCoatsModel", "whyLay", "(II)I"⟩ : MethodName) ∈ lw_all := List.forall_mem_cons.mpr ⟨⟨_, cz_cl5, qs78⟩, fun _ h => absurd h List.not_mem_nil⟩
theorem md_X5_whyLay : cz_md yX5_whyLay 3 (ws_ yX5_whyLay cX5_whyLay 3 ((Option.some Jvm.ClassFile.FieldType.int))) 2 := ⟨cz_ws_code q2242, q123, ⟨by decide, by decide, by decide +kernel⟩, by decide⟩
theorem se_HeldCoatsModel_lays__II_V_HeldCoatsModel : ∀ c ∈ ([5] : List Nat), ∃ q : vw_C, cz_cl[c]? = some q ∧ Cond.selects q.1 (⟨"HeldCoatsModel", "lays", "(II)V"⟩ : MethodName) (⟨"HeldCoatsModel", "lays", "(II)V"⟩ : MethodName) ∈ lw_all := List.forall_mem_cons.mpr ⟨⟨_, cz_cl5, qs81⟩, fun _ h => absurd h List.not_mem_nil⟩
theorem md_X5_lays : cz_md yX5_lays 3 (ws_ yX5_lays cX5_lays 3 ((Option.none : Option Jvm.ClassFile.FieldType))) 2 := ⟨cz_ws_code q2254, q123, ⟨by decide, by decide, by decide +kernel⟩, by decide⟩
set_option maxHeartbeats 4000000 in
set_option maxRecDepth 100000 in
noncomputable def fn_X5_does (l0 : Option Nat) (l1 : Int32) (l2 : Int32) (l3 : Int32) (h : cz_H) : cz_Z := (if l1 = 0 then cz_rc h l0 [5] (cz_cI (fn_X5_whyLay l0 l2 l3 h) (fun x58 h57 => (if x58 = 0 then cz_rc h57 l0 [5] (cz_cV (fn_X5_lays l0 l2 l3 h57) (fun h65 => some (.inl (some (cz_i x58)), h65))) else some (.inl (some (cz_i x58)), h57)))) else if l1 = 1 then cz_rc h l0 [5] (cz_cI (fn_X5_whyWear l0 l2 l3 h) (fun x43 h42 => (if x43 ≤ 0 then cz_rc h42 l0 [5] (cz_cV (fn_X5_wears l0 l2 l3 h42) (fun h50 => some (.inl (some (cz_i 0)), h50))) else some (.inl (some (cz_i ((10 : Int32) + x43))), h42)))) else if l1 = 2 then cz_rc h l0 [5] (cz_cI (fn_X5_whyLend l0 l2 l3 h) (fun x33 h32 => (if x33 ≤ 0 then cz_getR h32 l0 [(5, 6)] (fun r34 => cz_iast h32 r34 ((73 : Int32) + l2) l3 (fun h35 => some (.inl (some (cz_i 0)), h35))) else some (.inl (some (cz_i ((20 : Int32) + x33))), h32)))) else if l1 = 3 then cz_rc h l0 [5] (cz_cI (fn_X5_isWorn l0 l2 h) (fun x18 h17 => (if x18 = 0 then some (.inl (some (cz_i 31)), h17) else cz_rc h17 l0 [5] (cz_cV (fn_X5_keeps l0 l2 h17) (fun h25 => some (.inl (some (cz_i 0)), h25)))))) else cz_getR h l0 [(5, 6)] (fun r1 => cz_iald h r1 62 (fun x2 => (if (x2 + l2) ≤ 400 then cz_rc h l0 [5] (cz_cI (fn_X5_goesOn l0 l2 h) (fun x10 h9 => some (.inl (some (cz_i 0)), h9))) else some (.inl (some (cz_i 41)), h)))))
set_option maxHeartbeats 4000000 in
set_option maxRecDepth 100000 in
theorem wk_X5_does {K : cz_K} {D : cz_D} {h0 : cz_H} {oh : cz_O × cz_H} {l0 : Option Nat} {l1 : Int32} {l2 : Int32} {l3 : Int32} {h : cz_H} (S : cz_S K D h0 cX5_does 5 "HeldCoatsModel" ((Option.some Jvm.ClassFile.FieldType.int)) "does" ([])) : cz_T K D 8 h0 oh 5 (fn_X5_does l0 l1 l2 l3 h) h 0 [(0, cz_r l0), (1, cz_i l1), (2, cz_i l2), (3, cz_i l3)] [] := by
  unfold fn_X5_does
  refine ct_iconst (v := 0) S dX5_does_0 kI_0 ?_
  refine ct_istore (L' := [(4, cz_i 0), (0, cz_r l0), (1, cz_i l1), (2, cz_i l2), (3, cz_i l3)]) S dX5_does_1 (by decide) rfl ?_
  refine ct_iload_n (k := 2) S dX5_does_3 rfl rfl ?_
  refine ct_case ?_ (fun c0_ => ?_)
  · refine ct_tableIn (tgt := 36) S dX5_does_4 (by decide) (by decide) rfl (by decide) ?_
    refine ct_aload_n (k := 1) S dX5_does_36 rfl rfl ?_
    refine ct_iload_n (k := 3) S dX5_does_37 rfl rfl ?_
    refine ct_iload_n (k := 4) S dX5_does_38 rfl rfl ?_
    refine ct_rc (fun b51 ci52 V53 hb54 hc55 hi56 => ?_)
    refine ct_cI (st := []) (cg_virtual (av := [cz_i l2, cz_i l3]) S hb54 hc55 hi56 (fun _ e => mt_X5_whyLay e) md_X5_whyLay q2239 q2241 se_HeldCoatsModel_whyLay__II_I_HeldCoatsModel (by decide) (Nat.le_of_ble_eq_true rfl) rfl dX5_does_39) (fun x58 h57 => ?_)
    refine ct_istore (L' := [(4, cz_i x58), (0, cz_r l0), (1, cz_i l1), (2, cz_i l2), (3, cz_i l3)]) S dX5_does_42 (by decide) rfl ?_
    refine ct_iload (k := 0) S dX5_does_44 rfl ?_
    refine ct_if_ne (tgt := 55) S dX5_does_46 (by decide) ?_ ?_
    · refine ct_iload (k := 0) S dX5_does_55 rfl ?_
      exact ct_iret S rfl dX5_does_57
    · refine ct_aload_n (k := 1) S dX5_does_49 rfl rfl ?_
      refine ct_iload_n (k := 3) S dX5_does_50 rfl rfl ?_
      refine ct_iload_n (k := 4) S dX5_does_51 rfl rfl ?_
      refine ct_rc (fun b59 ci60 V61 hb62 hc63 hi64 => ?_)
      refine ct_cV (st := []) (cg_virtual (av := [cz_i l2, cz_i l3]) S hb62 hc63 hi64 (fun _ e => mt_X5_lays e) md_X5_lays q2251 q2253 se_HeldCoatsModel_lays__II_V_HeldCoatsModel (by decide) (Nat.le_of_ble_eq_true rfl) rfl dX5_does_52) (fun h65 => ?_)
      refine ct_iload (k := 0) S dX5_does_55 rfl ?_
      exact ct_iret S rfl dX5_does_57
  · refine ct_case ?_ (fun c1_ => ?_)
    · refine ct_tableIn (tgt := 58) S dX5_does_4 (by decide) (by decide) rfl (by decide) ?_
      refine ct_aload_n (k := 1) S dX5_does_58 rfl rfl ?_
      refine ct_iload_n (k := 3) S dX5_does_59 rfl rfl ?_
      refine ct_iload_n (k := 4) S dX5_does_60 rfl rfl ?_
      refine ct_rc (fun b36 ci37 V38 hb39 hc40 hi41 => ?_)
      refine ct_cI (st := []) (cg_virtual (av := [cz_i l2, cz_i l3]) S hb39 hc40 hi41 (fun _ e => mt_X5_whyWear e) md_X5_whyWear q2259 q2261 se_HeldCoatsModel_whyWear__II_I_HeldCoatsModel (by decide) (Nat.le_of_ble_eq_true rfl) rfl dX5_does_61) (fun x43 h42 => ?_)
      refine ct_istore (L' := [(4, cz_i x43), (0, cz_r l0), (1, cz_i l1), (2, cz_i l2), (3, cz_i l3)]) S dX5_does_64 (by decide) rfl ?_
      refine ct_iload (k := 0) S dX5_does_66 rfl ?_
      refine ct_if_le (tgt := 77) S dX5_does_68 (by decide) ?_ ?_
      · refine ct_aload_n (k := 1) S dX5_does_77 rfl rfl ?_
        refine ct_iload_n (k := 3) S dX5_does_78 rfl rfl ?_
        refine ct_iload_n (k := 4) S dX5_does_79 rfl rfl ?_
        refine ct_rc (fun b44 ci45 V46 hb47 hc48 hi49 => ?_)
        refine ct_cV (st := []) (cg_virtual (av := [cz_i l2, cz_i l3]) S hb47 hc48 hi49 (fun _ e => mt_X5_wears e) md_X5_wears q2263 q2265 se_HeldCoatsModel_wears__II_V_HeldCoatsModel (by decide) (Nat.le_of_ble_eq_true rfl) rfl dX5_does_80) (fun h50 => ?_)
        refine ct_iconst (v := 0) S dX5_does_83 kI_0 ?_
        exact ct_iret S rfl dX5_does_84
      · refine ct_bipush (v := 10) S dX5_does_71 kB_10 ?_
        refine ct_iload (k := 0) S dX5_does_73 rfl ?_
        refine ct_iadd S dX5_does_75 ?_
        exact ct_iret S rfl dX5_does_76
    · refine ct_case ?_ (fun c2_ => ?_)
      · refine ct_tableIn (tgt := 85) S dX5_does_4 (by decide) (by decide) rfl (by decide) ?_
        refine ct_aload_n (k := 1) S dX5_does_85 rfl rfl ?_
        refine ct_iload_n (k := 3) S dX5_does_86 rfl rfl ?_
        refine ct_iload_n (k := 4) S dX5_does_87 rfl rfl ?_
        refine ct_rc (fun b26 ci27 V28 hb29 hc30 hi31 => ?_)
        refine ct_cI (st := []) (cg_virtual (av := [cz_i l2, cz_i l3]) S hb29 hc30 hi31 (fun _ e => mt_X5_whyLend e) md_X5_whyLend q2275 q2277 se_HeldCoatsModel_whyLend__II_I_HeldCoatsModel (by decide) (Nat.le_of_ble_eq_true rfl) rfl dX5_does_88) (fun x33 h32 => ?_)
        refine ct_istore (L' := [(4, cz_i x33), (0, cz_r l0), (1, cz_i l1), (2, cz_i l2), (3, cz_i l3)]) S dX5_does_91 (by decide) rfl ?_
        refine ct_iload (k := 0) S dX5_does_93 rfl ?_
        refine ct_if_le (tgt := 104) S dX5_does_95 (by decide) ?_ ?_
        · refine ct_aload_n (k := 1) S dX5_does_104 rfl rfl ?_
          refine ct_getR S fw_X5_33 dX5_does_105 (fun r34 => ?_)
          refine ct_bipush (v := 73) S dX5_does_108 kB_73 ?_
          refine ct_iload_n (k := 3) S dX5_does_110 rfl rfl ?_
          refine ct_iadd S dX5_does_111 ?_
          refine ct_iload_n (k := 4) S dX5_does_112 rfl rfl ?_
          refine ct_iast S dX5_does_113 (fun h35 => ?_)
          refine ct_iconst (v := 0) S dX5_does_114 kI_0 ?_
          exact ct_iret S rfl dX5_does_115
        · refine ct_bipush (v := 20) S dX5_does_98 kB_20 ?_
          refine ct_iload (k := 0) S dX5_does_100 rfl ?_
          refine ct_iadd S dX5_does_102 ?_
          exact ct_iret S rfl dX5_does_103
      · refine ct_case ?_ (fun c3_ => ?_)
        · refine ct_tableIn (tgt := 116) S dX5_does_4 (by decide) (by decide) rfl (by decide) ?_
          refine ct_aload_n (k := 1) S dX5_does_116 rfl rfl ?_
          refine ct_iload_n (k := 3) S dX5_does_117 rfl rfl ?_
          refine ct_rc (fun b11 ci12 V13 hb14 hc15 hi16 => ?_)
          refine ct_cI (st := []) (cg_virtual (av := [cz_i l2]) S hb14 hc15 hi16 (fun _ e => mt_X5_isWorn e) md_X5_isWorn q2243 q2245 se_HeldCoatsModel_isWorn__I_Z_HeldCoatsModel (by decide) (Nat.le_of_ble_eq_true rfl) rfl dX5_does_118) (fun x18 h17 => ?_)
          refine ct_if_ne (tgt := 127) S dX5_does_121 (by decide) ?_ ?_
          · refine ct_aload_n (k := 1) S dX5_does_127 rfl rfl ?_
            refine ct_iload_n (k := 3) S dX5_does_128 rfl rfl ?_
            refine ct_rc (fun b19 ci20 V21 hb22 hc23 hi24 => ?_)
            refine ct_cV (st := []) (cg_virtual (av := [cz_i l2]) S hb22 hc23 hi24 (fun _ e => mt_X5_keeps e) md_X5_keeps q2283 q2285 se_HeldCoatsModel_keeps__I_V_HeldCoatsModel (by decide) (Nat.le_of_ble_eq_true rfl) rfl dX5_does_129) (fun h25 => ?_)
            refine ct_iconst (v := 0) S dX5_does_132 kI_0 ?_
            exact ct_iret S rfl dX5_does_133
          · refine ct_bipush (v := 31) S dX5_does_124 kB_31 ?_
            exact ct_iret S rfl dX5_does_126
        · refine ct_tableOut (tgt := 134) S dX5_does_4 (by have := lv_neT c0_ (show (0 : Int32).toInt = 0 by decide); have := lv_neT c1_ (show (1 : Int32).toInt = 1 by decide); have := lv_neT c2_ (show (2 : Int32).toInt = 2 by decide); have := lv_neT c3_ (show (3 : Int32).toInt = 3 by decide); omega) (by decide) ?_
          refine ct_aload_n (k := 1) S dX5_does_134 rfl rfl ?_
          refine ct_getR S fw_X5_33 dX5_does_135 (fun r1 => ?_)
          refine ct_bipush (v := 62) S dX5_does_138 kB_62 ?_
          refine ct_iald S dX5_does_140 (fun x2 => ?_)
          refine ct_iload_n (k := 3) S dX5_does_141 rfl rfl ?_
          refine ct_iadd S dX5_does_142 ?_
          refine ct_sipush (v := 400) S dX5_does_143 kS_400 ?_
          refine ct_icmp_le (tgt := 152) S dX5_does_146 (by decide) ?_ ?_
          · refine ct_aload_n (k := 1) S dX5_does_152 rfl rfl ?_
            refine ct_iload_n (k := 3) S dX5_does_153 rfl rfl ?_
            refine ct_rc (fun b3 ci4 V5 hb6 hc7 hi8 => ?_)
            refine ct_cI (st := []) (cg_virtual (av := [cz_i l2]) S hb6 hc7 hi8 (fun _ e => mt_X5_goesOn e) md_X5_goesOn q2291 q2293 se_HeldCoatsModel_goesOn__I_I_HeldCoatsModel (by decide) (Nat.le_of_ble_eq_true rfl) rfl dX5_does_154) (fun x10 h9 => ?_)
            refine ct_pop S dX5_does_157 rfl ?_
            refine ct_iconst (v := 0) S dX5_does_158 kI_0 ?_
            exact ct_iret S rfl dX5_does_159
          · refine ct_bipush (v := 41) S dX5_does_149 kB_41 ?_
            exact ct_iret S rfl dX5_does_151
theorem mt_X5_does {l : Launch} {D : cz_D} {l0 : Option Nat} {l1 : Int32} {l2 : Int32} {l3 : Int32} {h : cz_H} {oh : cz_O × cz_H} (hz : fn_X5_does l0 l1 l2 l3 h = some oh) : cz_M l D yX5_does (ws_ yX5_does cX5_does 5 ((Option.some Jvm.ClassFile.FieldType.int))) 8 [cz_r l0, cz_i l1, cz_i l2, cz_i l3] h oh := cz_met (plainFor_of_name (by decide)) (Nat.le_of_ble_eq_true rfl) hz (fun K hl S => wk_X5_does S)
/-! HeldCoatsModel.keepsAll()V -/
def dkwX5_keepsAll_3 : List UInt8 := [27, 96, 46, 79, 132, 1, 1, 167, 255, 224, 42, 89, 180, 0, 231, 4, 96, 181, 0, 231, 177]
abbrev dktX5_keepsAll_3 : List UInt8 := dkwX5_keepsAll_3 ++ []
def dkwX5_keepsAll_2 : List UInt8 := [16, 56, 162, 0, 32, 42, 180, 0, 50, 16, 56, 42, 180, 0, 231, 104, 27, 96, 42, 180, 0, 33, 16, 62]
abbrev dktX5_keepsAll_2 : List UInt8 := dkwX5_keepsAll_2 ++ dktX5_keepsAll_3
def dkwX5_keepsAll_1 : List UInt8 := [180, 0, 50, 27, 16, 56, 96, 46, 79, 132, 1, 1, 167, 255, 231, 42, 16, 7, 181, 0, 231, 3, 60, 27]
abbrev dktX5_keepsAll_1 : List UInt8 := dkwX5_keepsAll_1 ++ dktX5_keepsAll_2
def dkwX5_keepsAll_0 : List UInt8 := [42, 180, 0, 231, 16, 8, 160, 0, 39, 3, 60, 27, 17, 1, 136, 162, 0, 24, 42, 180, 0, 50, 27, 42]
abbrev dktX5_keepsAll_0 : List UInt8 := dkwX5_keepsAll_0 ++ dktX5_keepsAll_1
theorem dksX5_keepsAll_0 : cX5_keepsAll.data.toList.drop 0 = dktX5_keepsAll_0 := by decide +kernel
theorem dksX5_keepsAll_1 : cX5_keepsAll.data.toList.drop 24 = dktX5_keepsAll_1 := dk_seg dksX5_keepsAll_0 24 rfl rfl
theorem dksX5_keepsAll_2 : cX5_keepsAll.data.toList.drop 48 = dktX5_keepsAll_2 := dk_seg dksX5_keepsAll_1 24 rfl rfl
theorem dksX5_keepsAll_3 : cX5_keepsAll.data.toList.drop 72 = dktX5_keepsAll_3 := dk_seg dksX5_keepsAll_2 24 rfl rfl
theorem dX5_keepsAll_0 : decode cX5_keepsAll 0 = .ok (.aload_n 0, 1) := dk_42 (dk_at dksX5_keepsAll_0 0 rfl rfl)
theorem dX5_keepsAll_1 : decode cX5_keepsAll 1 = .ok (.getfield 231, 3) := dk_180 0 231 (dk_at dksX5_keepsAll_0 1 rfl rfl)
theorem dX5_keepsAll_4 : decode cX5_keepsAll 4 = .ok (.bipush 8, 2) := dk_16 8 (dk_at dksX5_keepsAll_0 4 rfl rfl)
theorem dX5_keepsAll_6 : decode cX5_keepsAll 6 = .ok (.if_icmp .ne 39, 3) := dk_160 0 39 (dk_at dksX5_keepsAll_0 6 rfl rfl)
theorem dX5_keepsAll_9 : decode cX5_keepsAll 9 = .ok (.iconst 0, 1) := dk_3 (dk_at dksX5_keepsAll_0 9 rfl rfl)
theorem dX5_keepsAll_10 : decode cX5_keepsAll 10 = .ok (.istore_n 1, 1) := dk_60 (dk_at dksX5_keepsAll_0 10 rfl rfl)
theorem dX5_keepsAll_11 : decode cX5_keepsAll 11 = .ok (.iload_n 1, 1) := dk_27 (dk_at dksX5_keepsAll_0 11 rfl rfl)
theorem dX5_keepsAll_12 : decode cX5_keepsAll 12 = .ok (.sipush 392, 3) := dk_17 1 136 (dk_at dksX5_keepsAll_0 12 rfl rfl)
theorem dX5_keepsAll_15 : decode cX5_keepsAll 15 = .ok (.if_icmp .ge 24, 3) := dk_162 0 24 (dk_at dksX5_keepsAll_0 15 rfl rfl)
theorem dX5_keepsAll_18 : decode cX5_keepsAll 18 = .ok (.aload_n 0, 1) := dk_42 (dk_at dksX5_keepsAll_0 18 rfl rfl)
theorem dX5_keepsAll_19 : decode cX5_keepsAll 19 = .ok (.getfield 50, 3) := dk_180 0 50 (dk_at dksX5_keepsAll_0 19 rfl rfl)
theorem dX5_keepsAll_22 : decode cX5_keepsAll 22 = .ok (.iload_n 1, 1) := dk_27 (dk_at dksX5_keepsAll_0 22 rfl rfl)
theorem dX5_keepsAll_23 : decode cX5_keepsAll 23 = .ok (.aload_n 0, 1) := dk_42 (dk_at dksX5_keepsAll_0 23 rfl rfl)
theorem dX5_keepsAll_24 : decode cX5_keepsAll 24 = .ok (.getfield 50, 3) := dk_180 0 50 (dk_at dksX5_keepsAll_1 0 rfl rfl)
theorem dX5_keepsAll_27 : decode cX5_keepsAll 27 = .ok (.iload_n 1, 1) := dk_27 (dk_at dksX5_keepsAll_1 3 rfl rfl)
theorem dX5_keepsAll_28 : decode cX5_keepsAll 28 = .ok (.bipush 56, 2) := dk_16 56 (dk_at dksX5_keepsAll_1 4 rfl rfl)
theorem dX5_keepsAll_30 : decode cX5_keepsAll 30 = .ok (.iadd, 1) := dk_96 (dk_at dksX5_keepsAll_1 6 rfl rfl)
theorem dX5_keepsAll_31 : decode cX5_keepsAll 31 = .ok (.iaload, 1) := dk_46 (dk_at dksX5_keepsAll_1 7 rfl rfl)
theorem dX5_keepsAll_32 : decode cX5_keepsAll 32 = .ok (.iastore, 1) := dk_79 (dk_at dksX5_keepsAll_1 8 rfl rfl)
theorem dX5_keepsAll_33 : decode cX5_keepsAll 33 = .ok (.iinc 1 1, 3) := dk_132 1 1 (dk_at dksX5_keepsAll_1 9 rfl rfl)
theorem dX5_keepsAll_36 : decode cX5_keepsAll 36 = .ok (.goto (-25), 3) := dk_167 255 231 (dk_at dksX5_keepsAll_1 12 rfl rfl)
theorem dX5_keepsAll_39 : decode cX5_keepsAll 39 = .ok (.aload_n 0, 1) := dk_42 (dk_at dksX5_keepsAll_1 15 rfl rfl)
theorem dX5_keepsAll_40 : decode cX5_keepsAll 40 = .ok (.bipush 7, 2) := dk_16 7 (dk_at dksX5_keepsAll_1 16 rfl rfl)
theorem dX5_keepsAll_42 : decode cX5_keepsAll 42 = .ok (.putfield 231, 3) := dk_181 0 231 (dk_at dksX5_keepsAll_1 18 rfl rfl)
theorem dX5_keepsAll_45 : decode cX5_keepsAll 45 = .ok (.iconst 0, 1) := dk_3 (dk_at dksX5_keepsAll_1 21 rfl rfl)
theorem dX5_keepsAll_46 : decode cX5_keepsAll 46 = .ok (.istore_n 1, 1) := dk_60 (dk_at dksX5_keepsAll_1 22 rfl rfl)
theorem dX5_keepsAll_47 : decode cX5_keepsAll 47 = .ok (.iload_n 1, 1) := dk_27 (dk_at dksX5_keepsAll_1 23 rfl rfl)
theorem dX5_keepsAll_48 : decode cX5_keepsAll 48 = .ok (.bipush 56, 2) := dk_16 56 (dk_at dksX5_keepsAll_2 0 rfl rfl)
theorem dX5_keepsAll_50 : decode cX5_keepsAll 50 = .ok (.if_icmp .ge 32, 3) := dk_162 0 32 (dk_at dksX5_keepsAll_2 2 rfl rfl)
theorem dX5_keepsAll_53 : decode cX5_keepsAll 53 = .ok (.aload_n 0, 1) := dk_42 (dk_at dksX5_keepsAll_2 5 rfl rfl)
theorem dX5_keepsAll_54 : decode cX5_keepsAll 54 = .ok (.getfield 50, 3) := dk_180 0 50 (dk_at dksX5_keepsAll_2 6 rfl rfl)
theorem dX5_keepsAll_57 : decode cX5_keepsAll 57 = .ok (.bipush 56, 2) := dk_16 56 (dk_at dksX5_keepsAll_2 9 rfl rfl)
theorem dX5_keepsAll_59 : decode cX5_keepsAll 59 = .ok (.aload_n 0, 1) := dk_42 (dk_at dksX5_keepsAll_2 11 rfl rfl)
theorem dX5_keepsAll_60 : decode cX5_keepsAll 60 = .ok (.getfield 231, 3) := dk_180 0 231 (dk_at dksX5_keepsAll_2 12 rfl rfl)
theorem dX5_keepsAll_63 : decode cX5_keepsAll 63 = .ok (.imul, 1) := dk_104 (dk_at dksX5_keepsAll_2 15 rfl rfl)
theorem dX5_keepsAll_64 : decode cX5_keepsAll 64 = .ok (.iload_n 1, 1) := dk_27 (dk_at dksX5_keepsAll_2 16 rfl rfl)
theorem dX5_keepsAll_65 : decode cX5_keepsAll 65 = .ok (.iadd, 1) := dk_96 (dk_at dksX5_keepsAll_2 17 rfl rfl)
theorem dX5_keepsAll_66 : decode cX5_keepsAll 66 = .ok (.aload_n 0, 1) := dk_42 (dk_at dksX5_keepsAll_2 18 rfl rfl)
theorem dX5_keepsAll_67 : decode cX5_keepsAll 67 = .ok (.getfield 33, 3) := dk_180 0 33 (dk_at dksX5_keepsAll_2 19 rfl rfl)
theorem dX5_keepsAll_70 : decode cX5_keepsAll 70 = .ok (.bipush 62, 2) := dk_16 62 (dk_at dksX5_keepsAll_2 22 rfl rfl)
theorem dX5_keepsAll_72 : decode cX5_keepsAll 72 = .ok (.iload_n 1, 1) := dk_27 (dk_at dksX5_keepsAll_3 0 rfl rfl)
theorem dX5_keepsAll_73 : decode cX5_keepsAll 73 = .ok (.iadd, 1) := dk_96 (dk_at dksX5_keepsAll_3 1 rfl rfl)
theorem dX5_keepsAll_74 : decode cX5_keepsAll 74 = .ok (.iaload, 1) := dk_46 (dk_at dksX5_keepsAll_3 2 rfl rfl)
theorem dX5_keepsAll_75 : decode cX5_keepsAll 75 = .ok (.iastore, 1) := dk_79 (dk_at dksX5_keepsAll_3 3 rfl rfl)
theorem dX5_keepsAll_76 : decode cX5_keepsAll 76 = .ok (.iinc 1 1, 3) := dk_132 1 1 (dk_at dksX5_keepsAll_3 4 rfl rfl)
theorem dX5_keepsAll_79 : decode cX5_keepsAll 79 = .ok (.goto (-32), 3) := dk_167 255 224 (dk_at dksX5_keepsAll_3 7 rfl rfl)
theorem dX5_keepsAll_82 : decode cX5_keepsAll 82 = .ok (.aload_n 0, 1) := dk_42 (dk_at dksX5_keepsAll_3 10 rfl rfl)
theorem dX5_keepsAll_83 : decode cX5_keepsAll 83 = .ok (.dup, 1) := dk_89 (dk_at dksX5_keepsAll_3 11 rfl rfl)
theorem dX5_keepsAll_84 : decode cX5_keepsAll 84 = .ok (.getfield 231, 3) := dk_180 0 231 (dk_at dksX5_keepsAll_3 12 rfl rfl)
theorem dX5_keepsAll_87 : decode cX5_keepsAll 87 = .ok (.iconst 1, 1) := dk_4 (dk_at dksX5_keepsAll_3 15 rfl rfl)
theorem dX5_keepsAll_88 : decode cX5_keepsAll 88 = .ok (.iadd, 1) := dk_96 (dk_at dksX5_keepsAll_3 16 rfl rfl)
theorem dX5_keepsAll_89 : decode cX5_keepsAll 89 = .ok (.putfield 231, 3) := dk_181 0 231 (dk_at dksX5_keepsAll_3 17 rfl rfl)
theorem dX5_keepsAll_92 : decode cX5_keepsAll 92 = .ok (.return_, 1) := dk_177 (dk_at dksX5_keepsAll_3 20 rfl rfl)
theorem fw_X5_231 : cz_FW "HeldCoatsModel" 231 [(5, 23)] "I" := ⟨"HeldCoatsModel", "undoMany", Or.inl q1941, List.forall_mem_cons.mpr ⟨⟨RX5, TX5, 49, rfl, by decide, rfl, rfl, Or.inl rfl⟩, fun _ h => absurd h List.not_mem_nil⟩, by decide⟩
theorem fw_X5_50 : cz_FW "HeldCoatsModel" 50 [(5, 21)] "[I" := ⟨"HeldCoatsModel", "undone", Or.inl q1939, List.forall_mem_cons.mpr ⟨⟨RX5, TX5, 49, rfl, by decide, rfl, rfl, Or.inl rfl⟩, fun _ h => absurd h List.not_mem_nil⟩, by decide⟩
theorem fp_X5_m_5_23 {nm : String} : cz_FP "HeldCoatsModel" nm [(5, 23)] := List.forall_mem_cons.mpr ⟨⟨RX5, TX5, 49, rfl, Or.inl rfl⟩, fun _ h => absurd h List.not_mem_nil⟩
theorem kS_392 : (Int16.ofInt (392)).toInt32 = 392 := by decide
set_option maxHeartbeats 4000000 in
set_option maxRecDepth 100000 in
noncomputable def fn_X5_keepsAll_47 (l0 : Option Nat) (k0 : cz_H → cz_Z) : Nat → Int32 → cz_H → cz_Z
  | 0, _, _ => none
  | n + 1, l1, h => (if (56 : Int32) ≤ l1 then k0 h else cz_getR h l0 [(5, 21)] (fun r3 => cz_getI h l0 [(5, 23)] (fun x4 => cz_getR h l0 [(5, 6)] (fun r5 => cz_iald h r5 ((62 : Int32) + l1) (fun x6 => cz_iast h r3 (((56 : Int32) * x4) + l1) x6 (fun h7 => cz_leti (l1 + 1) (fun x8 => fn_X5_keepsAll_47 l0 k0 n x8 h7)))))))
set_option maxHeartbeats 4000000 in
set_option maxRecDepth 100000 in
theorem wk_X5_keepsAll_47 {K : cz_K} {D : cz_D} {h0 : cz_H} {oh : cz_O × cz_H} {l0 : Option Nat} {k0 : cz_H → cz_Z} (S : cz_S K D h0 cX5_keepsAll 2 "HeldCoatsModel" ((Option.none : Option Jvm.ClassFile.FieldType)) "keepsAll" ([])) (hk0 : ∀ (h : cz_H), cz_T K D 2 h0 oh 2 (k0 h) h 82 [(0, cz_r l0)] []) : ∀ (n : Nat) (l1 : Int32) (h : cz_H), cz_T K D 2 h0 oh 2 (fn_X5_keepsAll_47 l0 k0 n l1 h) h 47 [(0, cz_r l0), (1, cz_i l1)] [] := by
  intro n
  induction n with
  | zero => intros; exact ct_none
  | succ n ih =>
    intro l1 h
    rw [fn_X5_keepsAll_47]
    refine ct_iload_n (k := 1) S dX5_keepsAll_47 rfl rfl ?_
    refine ct_bipush (v := 56) S dX5_keepsAll_48 kB_56 ?_
    refine ct_icmp_ge (tgt := 82) S dX5_keepsAll_50 (by decide) ?_ ?_
    · exact ct_sub [0] rfl (hk0 h)
    · refine ct_aload_n (k := 0) S dX5_keepsAll_53 rfl rfl ?_
      refine ct_getR S fw_X5_50 dX5_keepsAll_54 (fun r3 => ?_)
      refine ct_bipush (v := 56) S dX5_keepsAll_57 kB_56 ?_
      refine ct_aload_n (k := 0) S dX5_keepsAll_59 rfl rfl ?_
      refine ct_getI S fw_X5_231 dX5_keepsAll_60 (fun x4 => ?_)
      refine ct_imul S dX5_keepsAll_63 ?_
      refine ct_iload_n (k := 1) S dX5_keepsAll_64 rfl rfl ?_
      refine ct_iadd S dX5_keepsAll_65 ?_
      refine ct_aload_n (k := 0) S dX5_keepsAll_66 rfl rfl ?_
      refine ct_getR S fw_X5_33 dX5_keepsAll_67 (fun r5 => ?_)
      refine ct_bipush (v := 62) S dX5_keepsAll_70 kB_62 ?_
      refine ct_iload_n (k := 1) S dX5_keepsAll_72 rfl rfl ?_
      refine ct_iadd S dX5_keepsAll_73 ?_
      refine ct_iald S dX5_keepsAll_74 (fun x6 => ?_)
      refine ct_iast S dX5_keepsAll_75 (fun h7 => ?_)
      refine ct_iincL (j := 1) (L2 := fun x8 => [(1, cz_i x8), (0, cz_r l0)]) S dX5_keepsAll_76 rfl kI_1 (by decide) (fun _ => rfl) (fun x8 => ?_)
      refine ct_goto (tgt := 47) S dX5_keepsAll_79 (by decide) ?_
      exact ct_sub [1, 0] rfl (ih x8 h7)
set_option maxHeartbeats 4000000 in
set_option maxRecDepth 100000 in
noncomputable def fn_X5_keepsAll_11 (l0 : Option Nat) (k0 : cz_H → cz_Z) : Nat → Int32 → cz_H → cz_Z
  | 0, _, _ => none
  | n + 1, l1, h => (if (392 : Int32) ≤ l1 then k0 h else cz_getR h l0 [(5, 21)] (fun r13 => cz_getR h l0 [(5, 21)] (fun r14 => cz_iald h r14 (l1 + 56) (fun x15 => cz_iast h r13 l1 x15 (fun h16 => cz_leti (l1 + 1) (fun x17 => fn_X5_keepsAll_11 l0 k0 n x17 h16))))))
set_option maxHeartbeats 4000000 in
set_option maxRecDepth 100000 in
theorem wk_X5_keepsAll_11 {K : cz_K} {D : cz_D} {h0 : cz_H} {oh : cz_O × cz_H} {l0 : Option Nat} {k0 : cz_H → cz_Z} (S : cz_S K D h0 cX5_keepsAll 2 "HeldCoatsModel" ((Option.none : Option Jvm.ClassFile.FieldType)) "keepsAll" ([])) (hk0 : ∀ (h : cz_H), cz_T K D 2 h0 oh 2 (k0 h) h 39 [(0, cz_r l0)] []) : ∀ (n : Nat) (l1 : Int32) (h : cz_H), cz_T K D 2 h0 oh 2 (fn_X5_keepsAll_11 l0 k0 n l1 h) h 11 [(0, cz_r l0), (1, cz_i l1)] [] := by
  intro n
  induction n with
  | zero => intros; exact ct_none
  | succ n ih =>
    intro l1 h
    rw [fn_X5_keepsAll_11]
    refine ct_iload_n (k := 1) S dX5_keepsAll_11 rfl rfl ?_
    refine ct_sipush (v := 392) S dX5_keepsAll_12 kS_392 ?_
    refine ct_icmp_ge (tgt := 39) S dX5_keepsAll_15 (by decide) ?_ ?_
    · exact ct_sub [0] rfl (hk0 h)
    · refine ct_aload_n (k := 0) S dX5_keepsAll_18 rfl rfl ?_
      refine ct_getR S fw_X5_50 dX5_keepsAll_19 (fun r13 => ?_)
      refine ct_iload_n (k := 1) S dX5_keepsAll_22 rfl rfl ?_
      refine ct_aload_n (k := 0) S dX5_keepsAll_23 rfl rfl ?_
      refine ct_getR S fw_X5_50 dX5_keepsAll_24 (fun r14 => ?_)
      refine ct_iload_n (k := 1) S dX5_keepsAll_27 rfl rfl ?_
      refine ct_bipush (v := 56) S dX5_keepsAll_28 kB_56 ?_
      refine ct_iadd S dX5_keepsAll_30 ?_
      refine ct_iald S dX5_keepsAll_31 (fun x15 => ?_)
      refine ct_iast S dX5_keepsAll_32 (fun h16 => ?_)
      refine ct_iincL (j := 1) (L2 := fun x17 => [(1, cz_i x17), (0, cz_r l0)]) S dX5_keepsAll_33 rfl kI_1 (by decide) (fun _ => rfl) (fun x17 => ?_)
      refine ct_goto (tgt := 11) S dX5_keepsAll_36 (by decide) ?_
      exact ct_sub [1, 0] rfl (ih x17 h16)
set_option maxHeartbeats 4000000 in
set_option maxRecDepth 100000 in
noncomputable def fn_X5_keepsAll (l0 : Option Nat) (h : cz_H) : cz_Z := cz_getI h l0 [(5, 23)] (fun x1 => cz_jn (fun (h2 : cz_H) => fn_X5_keepsAll_47 l0 (fun (h9 : cz_H) => cz_getI h9 l0 [(5, 23)] (fun x10 => cz_put h9 l0 [(5, 23)] (cz_i (x10 + 1)) (fun h11 => some (.inl none, h11)))) 1000 0 h2) (fun j12 => (if x1 = 8 then fn_X5_keepsAll_11 l0 (fun (h18 : cz_H) => cz_put h18 l0 [(5, 23)] (cz_i 7) (fun h19 => j12 h19)) 1000 0 h else j12 h)))
set_option maxHeartbeats 4000000 in
set_option maxRecDepth 100000 in
theorem wk_X5_keepsAll {K : cz_K} {D : cz_D} {h0 : cz_H} {oh : cz_O × cz_H} {l0 : Option Nat} {h : cz_H} (S : cz_S K D h0 cX5_keepsAll 2 "HeldCoatsModel" ((Option.none : Option Jvm.ClassFile.FieldType)) "keepsAll" ([])) : cz_T K D 2 h0 oh 2 (fn_X5_keepsAll l0 h) h 0 [(0, cz_r l0)] [] := by
  unfold fn_X5_keepsAll
  refine ct_aload_n (k := 0) S dX5_keepsAll_0 rfl rfl ?_
  refine ct_getI S fw_X5_231 dX5_keepsAll_1 (fun x1 => ?_)
  refine ct_bipush (v := 8) S dX5_keepsAll_4 kB_8 ?_
  refine ct_jnP (fun j12 => ∀ (h2 : cz_H), cz_T K D 2 h0 oh 2 (j12 h2) h2 45 [(0, cz_r l0)] []) (fun h2 => ?_) (fun j12 Hj12 => ?_)
  · refine ct_iconst (v := 0) S dX5_keepsAll_45 kI_0 ?_
    refine ct_istore_n (L' := [(1, cz_i 0), (0, cz_r l0)]) S dX5_keepsAll_46 rfl (by decide) rfl ?_
    refine ct_sub [1, 0] (L' := [(0, cz_r l0), (1, cz_i 0)]) rfl (wk_X5_keepsAll_47 S ?_ 1000 0 h2)
    · intro h9
      refine ct_aload_n (k := 0) S dX5_keepsAll_82 rfl rfl ?_
      refine ct_dup S dX5_keepsAll_83 rfl ?_
      refine ct_getI S fw_X5_231 dX5_keepsAll_84 (fun x10 => ?_)
      refine ct_iconst (v := 1) S dX5_keepsAll_87 kI_1 ?_
      refine ct_iadd S dX5_keepsAll_88 ?_
      refine ct_put S fw_X5_231 fp_X5_m_5_23 (cz_fits_i pd_I) dX5_keepsAll_89 (fun h11 => ?_)
      exact ct_vret S rfl dX5_keepsAll_92
  · refine ct_icmp_ne (tgt := 45) S dX5_keepsAll_6 (by decide) ?_ ?_
    · exact Hj12 h
    · refine ct_iconst (v := 0) S dX5_keepsAll_9 kI_0 ?_
      refine ct_istore_n (L' := [(1, cz_i 0), (0, cz_r l0)]) S dX5_keepsAll_10 rfl (by decide) rfl ?_
      refine ct_sub [1, 0] (L' := [(0, cz_r l0), (1, cz_i 0)]) rfl (wk_X5_keepsAll_11 S ?_ 1000 0 h)
      · intro h18
        refine ct_aload_n (k := 0) S dX5_keepsAll_39 rfl rfl ?_
        refine ct_bipush (v := 7) S dX5_keepsAll_40 kB_7 ?_
        refine ct_put S fw_X5_231 fp_X5_m_5_23 (cz_fits_i pd_I) dX5_keepsAll_42 (fun h19 => ?_)
        exact Hj12 h19
theorem mt_X5_keepsAll {l : Launch} {D : cz_D} {l0 : Option Nat} {h : cz_H} {oh : cz_O × cz_H} (hz : fn_X5_keepsAll l0 h = some oh) : cz_M l D yX5_keepsAll (ws_ yX5_keepsAll cX5_keepsAll 2 ((Option.none : Option Jvm.ClassFile.FieldType))) 2 [cz_r l0] h oh := cz_met (plainFor_of_name (by decide)) (Nat.le_of_ble_eq_true rfl) hz (fun K hl S => wk_X5_keepsAll S)
/-! HeldCoatsModel.isSign(I)Z -/
def dkwX5_isSign_0 : List UInt8 := [42, 180, 0, 139, 6, 160, 0, 15, 42, 180, 0, 149, 27, 160, 0, 7, 4, 167, 0, 4, 3, 172]
abbrev dktX5_isSign_0 : List UInt8 := dkwX5_isSign_0 ++ []
theorem dksX5_isSign_0 : cX5_isSign.data.toList.drop 0 = dktX5_isSign_0 := by decide +kernel
theorem dX5_isSign_0 : decode cX5_isSign 0 = .ok (.aload_n 0, 1) := dk_42 (dk_at dksX5_isSign_0 0 rfl rfl)
theorem dX5_isSign_1 : decode cX5_isSign 1 = .ok (.getfield 139, 3) := dk_180 0 139 (dk_at dksX5_isSign_0 1 rfl rfl)
theorem dX5_isSign_4 : decode cX5_isSign 4 = .ok (.iconst 3, 1) := dk_6 (dk_at dksX5_isSign_0 4 rfl rfl)
theorem dX5_isSign_5 : decode cX5_isSign 5 = .ok (.if_icmp .ne 15, 3) := dk_160 0 15 (dk_at dksX5_isSign_0 5 rfl rfl)
theorem dX5_isSign_8 : decode cX5_isSign 8 = .ok (.aload_n 0, 1) := dk_42 (dk_at dksX5_isSign_0 8 rfl rfl)
theorem dX5_isSign_9 : decode cX5_isSign 9 = .ok (.getfield 149, 3) := dk_180 0 149 (dk_at dksX5_isSign_0 9 rfl rfl)
theorem dX5_isSign_12 : decode cX5_isSign 12 = .ok (.iload_n 1, 1) := dk_27 (dk_at dksX5_isSign_0 12 rfl rfl)
theorem dX5_isSign_13 : decode cX5_isSign 13 = .ok (.if_icmp .ne 7, 3) := dk_160 0 7 (dk_at dksX5_isSign_0 13 rfl rfl)
theorem dX5_isSign_16 : decode cX5_isSign 16 = .ok (.iconst 1, 1) := dk_4 (dk_at dksX5_isSign_0 16 rfl rfl)
theorem dX5_isSign_17 : decode cX5_isSign 17 = .ok (.goto 4, 3) := dk_167 0 4 (dk_at dksX5_isSign_0 17 rfl rfl)
theorem dX5_isSign_20 : decode cX5_isSign 20 = .ok (.iconst 0, 1) := dk_3 (dk_at dksX5_isSign_0 20 rfl rfl)
theorem dX5_isSign_21 : decode cX5_isSign 21 = .ok (.ireturn, 1) := dk_172 (dk_at dksX5_isSign_0 21 rfl rfl)
set_option maxHeartbeats 4000000 in
set_option maxRecDepth 100000 in
noncomputable def fn_X5_isSign (l0 : Option Nat) (l1 : Int32) (h : cz_H) : cz_Z := cz_getI h l0 [(5, 11)] (fun x1 => (if x1 = 3 then cz_getI h l0 [(5, 14)] (fun x2 => (if x2 = l1 then some (.inl (some (cz_i 1)), h) else some (.inl (some (cz_i 0)), h))) else some (.inl (some (cz_i 0)), h)))
set_option maxHeartbeats 4000000 in
set_option maxRecDepth 100000 in
theorem wk_X5_isSign {K : cz_K} {D : cz_D} {h0 : cz_H} {oh : cz_O × cz_H} {l0 : Option Nat} {l1 : Int32} {h : cz_H} (S : cz_S K D h0 cX5_isSign 2 "HeldCoatsModel" ((Option.some Jvm.ClassFile.FieldType.boolean)) "isSign" ([])) : cz_T K D 2 h0 oh 2 (fn_X5_isSign l0 l1 h) h 0 [(0, cz_r l0), (1, cz_i l1)] [] := by
  unfold fn_X5_isSign
  refine ct_aload_n (k := 0) S dX5_isSign_0 rfl rfl ?_
  refine ct_getI S fw_X5_139 dX5_isSign_1 (fun x1 => ?_)
  refine ct_iconst (v := 3) S dX5_isSign_4 kI_3 ?_
  refine ct_icmp_ne (tgt := 20) S dX5_isSign_5 (by decide) ?_ ?_
  · refine ct_iconst (v := 0) S dX5_isSign_20 kI_0 ?_
    exact ct_zr (ty := .boolean) S rfl rfl dX5_isSign_21
  · refine ct_aload_n (k := 0) S dX5_isSign_8 rfl rfl ?_
    refine ct_getI S fw_X5_149 dX5_isSign_9 (fun x2 => ?_)
    refine ct_iload_n (k := 1) S dX5_isSign_12 rfl rfl ?_
    refine ct_icmp_ne (tgt := 20) S dX5_isSign_13 (by decide) ?_ ?_
    · refine ct_iconst (v := 0) S dX5_isSign_20 kI_0 ?_
      exact ct_zr (ty := .boolean) S rfl rfl dX5_isSign_21
    · refine ct_iconst (v := 1) S dX5_isSign_16 kI_1 ?_
      refine ct_goto (tgt := 21) S dX5_isSign_17 (by decide) ?_
      exact ct_zr (ty := .boolean) S rfl rfl dX5_isSign_21
theorem mt_X5_isSign {l : Launch} {D : cz_D} {l0 : Option Nat} {l1 : Int32} {h : cz_H} {oh : cz_O × cz_H} (hz : fn_X5_isSign l0 l1 h = some oh) : cz_M l D yX5_isSign (ws_ yX5_isSign cX5_isSign 2 ((Option.some Jvm.ClassFile.FieldType.boolean))) 2 [cz_r l0, cz_i l1] h oh := cz_met (plainFor_of_name (by decide)) (Nat.le_of_ble_eq_true rfl) hz (fun K hl S => wk_X5_isSign S)
/-! HeldCoatsModel.sign(I)Z -/
def dkwX5_sign_0 : List UInt8 := [42, 27, 182, 0, 162, 154, 0, 9, 42, 4, 182, 0, 165, 172, 42, 182, 0, 168, 4, 172]
abbrev dktX5_sign_0 : List UInt8 := dkwX5_sign_0 ++ []
theorem dksX5_sign_0 : cX5_sign.data.toList.drop 0 = dktX5_sign_0 := by decide +kernel
theorem dX5_sign_0 : decode cX5_sign 0 = .ok (.aload_n 0, 1) := dk_42 (dk_at dksX5_sign_0 0 rfl rfl)
theorem dX5_sign_1 : decode cX5_sign 1 = .ok (.iload_n 1, 1) := dk_27 (dk_at dksX5_sign_0 1 rfl rfl)
theorem dX5_sign_2 : decode cX5_sign 2 = .ok (.invokevirtual 162, 3) := dk_182 0 162 (dk_at dksX5_sign_0 2 rfl rfl)
theorem dX5_sign_5 : decode cX5_sign 5 = .ok (.ifCond .ne 9, 3) := dk_154 0 9 (dk_at dksX5_sign_0 5 rfl rfl)
theorem dX5_sign_8 : decode cX5_sign 8 = .ok (.aload_n 0, 1) := dk_42 (dk_at dksX5_sign_0 8 rfl rfl)
theorem dX5_sign_9 : decode cX5_sign 9 = .ok (.iconst 1, 1) := dk_4 (dk_at dksX5_sign_0 9 rfl rfl)
theorem dX5_sign_10 : decode cX5_sign 10 = .ok (.invokevirtual 165, 3) := dk_182 0 165 (dk_at dksX5_sign_0 10 rfl rfl)
theorem dX5_sign_13 : decode cX5_sign 13 = .ok (.ireturn, 1) := dk_172 (dk_at dksX5_sign_0 13 rfl rfl)
theorem dX5_sign_14 : decode cX5_sign 14 = .ok (.aload_n 0, 1) := dk_42 (dk_at dksX5_sign_0 14 rfl rfl)
theorem dX5_sign_15 : decode cX5_sign 15 = .ok (.invokevirtual 168, 3) := dk_182 0 168 (dk_at dksX5_sign_0 15 rfl rfl)
theorem dX5_sign_18 : decode cX5_sign 18 = .ok (.iconst 1, 1) := dk_4 (dk_at dksX5_sign_0 18 rfl rfl)
theorem dX5_sign_19 : decode cX5_sign 19 = .ok (.ireturn, 1) := dk_172 (dk_at dksX5_sign_0 19 rfl rfl)
theorem se_HeldCoatsModel_isSign__I_Z_HeldCoatsModel : ∀ c ∈ ([5] : List Nat), ∃ q : vw_C, cz_cl[c]? = some q ∧ Cond.selects q.1 (⟨"HeldCoatsModel", "isSign", "(I)Z"⟩ : MethodName) (⟨"HeldCoatsModel", "isSign", "(I)Z"⟩ : MethodName) ∈ lw_all := List.forall_mem_cons.mpr ⟨⟨_, cz_cl5, qs62⟩, fun _ h => absurd h List.not_mem_nil⟩
theorem md_X5_isSign : cz_md yX5_isSign 2 (ws_ yX5_isSign cX5_isSign 2 ((Option.some Jvm.ClassFile.FieldType.boolean))) 1 := ⟨cz_ws_code q2151, q123, ⟨by decide, by decide, by decide +kernel⟩, by decide⟩
set_option maxHeartbeats 4000000 in
set_option maxRecDepth 100000 in
noncomputable def fn_X5_sign (l0 : Option Nat) (l1 : Int32) (h : cz_H) : cz_Z := cz_rc h l0 [5] (cz_cI (fn_X5_isSign l0 l1 h) (fun x8 h7 => (if x8 = 0 then cz_rc h7 l0 [5] (cz_cI (fn_X5_bad l0 1 h7) (fun x23 h22 => cz_ckz x23 (some (.inl (some (cz_i x23)), h22)))) else cz_rc h7 l0 [5] (cz_cV (fn_X5_next l0 h7) (fun h15 => some (.inl (some (cz_i 1)), h15))))))
set_option maxHeartbeats 4000000 in
set_option maxRecDepth 100000 in
theorem wk_X5_sign {K : cz_K} {D : cz_D} {h0 : cz_H} {oh : cz_O × cz_H} {l0 : Option Nat} {l1 : Int32} {h : cz_H} (S : cz_S K D h0 cX5_sign 2 "HeldCoatsModel" ((Option.some Jvm.ClassFile.FieldType.boolean)) "sign" ([])) : cz_T K D 4 h0 oh 2 (fn_X5_sign l0 l1 h) h 0 [(0, cz_r l0), (1, cz_i l1)] [] := by
  unfold fn_X5_sign
  refine ct_aload_n (k := 0) S dX5_sign_0 rfl rfl ?_
  refine ct_iload_n (k := 1) S dX5_sign_1 rfl rfl ?_
  refine ct_rc (fun b1 ci2 V3 hb4 hc5 hi6 => ?_)
  refine ct_cI (st := []) (cg_virtual (av := [cz_i l1]) S hb4 hc5 hi6 (fun _ e => mt_X5_isSign e) md_X5_isSign q2148 q2150 se_HeldCoatsModel_isSign__I_Z_HeldCoatsModel (by decide) (Nat.le_of_ble_eq_true rfl) rfl dX5_sign_2) (fun x8 h7 => ?_)
  refine ct_if_ne (tgt := 14) S dX5_sign_5 (by decide) ?_ ?_
  · refine ct_aload_n (k := 0) S dX5_sign_14 rfl rfl ?_
    refine ct_rc (fun b9 ci10 V11 hb12 hc13 hi14 => ?_)
    refine ct_cV (st := []) (cg_virtual (av := []) S hb12 hc13 hi14 (fun _ e => mt_X5_next e) md_X5_next q2076 q2078 se_HeldCoatsModel_next___V_HeldCoatsModel (by decide) (Nat.le_of_ble_eq_true rfl) rfl dX5_sign_15) (fun h15 => ?_)
    refine ct_iconst (v := 1) S dX5_sign_18 kI_1 ?_
    exact ct_zr (ty := .boolean) S rfl rfl dX5_sign_19
  · refine ct_aload_n (k := 0) S dX5_sign_8 rfl rfl ?_
    refine ct_iconst (v := 1) S dX5_sign_9 kI_1 ?_
    refine ct_rc (fun b16 ci17 V18 hb19 hc20 hi21 => ?_)
    refine ct_cI (st := []) (cg_virtual (av := [cz_i 1]) S hb19 hc20 hi21 (fun _ e => mt_X5_bad e) md_X5_bad q2098 q2100 se_HeldCoatsModel_bad__I_Z_HeldCoatsModel (by decide) (Nat.le_of_ble_eq_true rfl) rfl dX5_sign_10) (fun x23 h22 => ?_)
    refine ct_ckz (fun hx => ?_)
    exact ct_zr (ty := .boolean) S rfl (cz_nz hx) dX5_sign_13
theorem mt_X5_sign {l : Launch} {D : cz_D} {l0 : Option Nat} {l1 : Int32} {h : cz_H} {oh : cz_O × cz_H} (hz : fn_X5_sign l0 l1 h = some oh) : cz_M l D yX5_sign (ws_ yX5_sign cX5_sign 2 ((Option.some Jvm.ClassFile.FieldType.boolean))) 4 [cz_r l0, cz_i l1] h oh := cz_met (plainFor_of_name (by decide)) (Nat.le_of_ble_eq_true rfl) hz (fun K hl S => wk_X5_sign S)
/-! HeldCoatsModel.taken(I)V -/
def dkwX5_taken_0 : List UInt8 := [42, 42, 180, 0, 7, 181, 0, 18, 42, 3, 181, 0, 7, 42, 3, 181, 0, 21, 42, 27, 181, 0, 24, 177]
abbrev dktX5_taken_0 : List UInt8 := dkwX5_taken_0 ++ []
theorem dksX5_taken_0 : cX5_taken.data.toList.drop 0 = dktX5_taken_0 := by decide +kernel
theorem dX5_taken_0 : decode cX5_taken 0 = .ok (.aload_n 0, 1) := dk_42 (dk_at dksX5_taken_0 0 rfl rfl)
theorem dX5_taken_1 : decode cX5_taken 1 = .ok (.aload_n 0, 1) := dk_42 (dk_at dksX5_taken_0 1 rfl rfl)
theorem dX5_taken_2 : decode cX5_taken 2 = .ok (.getfield 7, 3) := dk_180 0 7 (dk_at dksX5_taken_0 2 rfl rfl)
theorem dX5_taken_5 : decode cX5_taken 5 = .ok (.putfield 18, 3) := dk_181 0 18 (dk_at dksX5_taken_0 5 rfl rfl)
theorem dX5_taken_8 : decode cX5_taken 8 = .ok (.aload_n 0, 1) := dk_42 (dk_at dksX5_taken_0 8 rfl rfl)
theorem dX5_taken_9 : decode cX5_taken 9 = .ok (.iconst 0, 1) := dk_3 (dk_at dksX5_taken_0 9 rfl rfl)
theorem dX5_taken_10 : decode cX5_taken 10 = .ok (.putfield 7, 3) := dk_181 0 7 (dk_at dksX5_taken_0 10 rfl rfl)
theorem dX5_taken_13 : decode cX5_taken 13 = .ok (.aload_n 0, 1) := dk_42 (dk_at dksX5_taken_0 13 rfl rfl)
theorem dX5_taken_14 : decode cX5_taken 14 = .ok (.iconst 0, 1) := dk_3 (dk_at dksX5_taken_0 14 rfl rfl)
theorem dX5_taken_15 : decode cX5_taken 15 = .ok (.putfield 21, 3) := dk_181 0 21 (dk_at dksX5_taken_0 15 rfl rfl)
theorem dX5_taken_18 : decode cX5_taken 18 = .ok (.aload_n 0, 1) := dk_42 (dk_at dksX5_taken_0 18 rfl rfl)
theorem dX5_taken_19 : decode cX5_taken 19 = .ok (.iload_n 1, 1) := dk_27 (dk_at dksX5_taken_0 19 rfl rfl)
theorem dX5_taken_20 : decode cX5_taken 20 = .ok (.putfield 24, 3) := dk_181 0 24 (dk_at dksX5_taken_0 20 rfl rfl)
theorem dX5_taken_23 : decode cX5_taken 23 = .ok (.return_, 1) := dk_177 (dk_at dksX5_taken_0 23 rfl rfl)
theorem fw_X5_7 : cz_FW "HeldCoatsModel" 7 [(5, 2)] "I" := ⟨"HeldCoatsModel", "length", Or.inl q1920, List.forall_mem_cons.mpr ⟨⟨RX5, TX5, 49, rfl, by decide, rfl, rfl, Or.inl rfl⟩, fun _ h => absurd h List.not_mem_nil⟩, by decide⟩
theorem fp_X5_m_5_3 {nm : String} : cz_FP "HeldCoatsModel" nm [(5, 3)] := List.forall_mem_cons.mpr ⟨⟨RX5, TX5, 49, rfl, Or.inl rfl⟩, fun _ h => absurd h List.not_mem_nil⟩
theorem fp_X5_m_5_2 {nm : String} : cz_FP "HeldCoatsModel" nm [(5, 2)] := List.forall_mem_cons.mpr ⟨⟨RX5, TX5, 49, rfl, Or.inl rfl⟩, fun _ h => absurd h List.not_mem_nil⟩
theorem fp_X5_m_5_5 {nm : String} : cz_FP "HeldCoatsModel" nm [(5, 5)] := List.forall_mem_cons.mpr ⟨⟨RX5, TX5, 49, rfl, Or.inl rfl⟩, fun _ h => absurd h List.not_mem_nil⟩
set_option maxHeartbeats 4000000 in
set_option maxRecDepth 100000 in
noncomputable def fn_X5_taken (l0 : Option Nat) (l1 : Int32) (h : cz_H) : cz_Z := cz_getI h l0 [(5, 2)] (fun x1 => cz_put h l0 [(5, 3)] (cz_i x1) (fun h2 => cz_put h2 l0 [(5, 2)] (cz_i 0) (fun h3 => cz_put h3 l0 [(5, 4)] (cz_i 0) (fun h4 => cz_put h4 l0 [(5, 5)] (cz_i l1) (fun h5 => some (.inl none, h5))))))
set_option maxHeartbeats 4000000 in
set_option maxRecDepth 100000 in
theorem wk_X5_taken {K : cz_K} {D : cz_D} {h0 : cz_H} {oh : cz_O × cz_H} {l0 : Option Nat} {l1 : Int32} {h : cz_H} (S : cz_S K D h0 cX5_taken 2 "HeldCoatsModel" ((Option.none : Option Jvm.ClassFile.FieldType)) "taken" ([])) : cz_T K D 2 h0 oh 2 (fn_X5_taken l0 l1 h) h 0 [(0, cz_r l0), (1, cz_i l1)] [] := by
  unfold fn_X5_taken
  refine ct_aload_n (k := 0) S dX5_taken_0 rfl rfl ?_
  refine ct_aload_n (k := 0) S dX5_taken_1 rfl rfl ?_
  refine ct_getI S fw_X5_7 dX5_taken_2 (fun x1 => ?_)
  refine ct_put S fw_X5_18 fp_X5_m_5_3 (cz_fits_i pd_I) dX5_taken_5 (fun h2 => ?_)
  refine ct_aload_n (k := 0) S dX5_taken_8 rfl rfl ?_
  refine ct_iconst (v := 0) S dX5_taken_9 kI_0 ?_
  refine ct_put S fw_X5_7 fp_X5_m_5_2 (cz_fits_i pd_I) dX5_taken_10 (fun h3 => ?_)
  refine ct_aload_n (k := 0) S dX5_taken_13 rfl rfl ?_
  refine ct_iconst (v := 0) S dX5_taken_14 kI_0 ?_
  refine ct_put S fw_X5_21 fp_X5_m_5_4 (cz_fits_i pd_I) dX5_taken_15 (fun h4 => ?_)
  refine ct_aload_n (k := 0) S dX5_taken_18 rfl rfl ?_
  refine ct_iload_n (k := 1) S dX5_taken_19 rfl rfl ?_
  refine ct_put S fw_X5_24 fp_X5_m_5_5 (cz_fits_i pd_I) dX5_taken_20 (fun h5 => ?_)
  exact ct_vret S rfl dX5_taken_23
theorem mt_X5_taken {l : Launch} {D : cz_D} {l0 : Option Nat} {l1 : Int32} {h : cz_H} {oh : cz_O × cz_H} (hz : fn_X5_taken l0 l1 h = some oh) : cz_M l D yX5_taken (ws_ yX5_taken cX5_taken 2 ((Option.none : Option Jvm.ClassFile.FieldType))) 2 [cz_r l0, cz_i l1] h oh := cz_met (plainFor_of_name (by decide)) (Nat.le_of_ble_eq_true rfl) hz (fun K hl S => wk_X5_taken S)
/-! HeldCoatsModel.book(I)I -/
def dkwX5_book_13 : List UInt8 := [172]
abbrev dktX5_book_13 : List UInt8 := dkwX5_book_13 ++ []
def dkwX5_book_12 : List UInt8 := [96, 42, 180, 0, 53, 21, 4, 46, 79, 132, 4, 1, 167, 255, 222, 27, 154, 0, 7, 42, 182, 1, 104, 29]
abbrev dktX5_book_12 : List UInt8 := dkwX5_book_12 ++ dktX5_book_13
def dkwX5_book_11 : List UInt8 := [54, 4, 21, 4, 16, 56, 162, 0, 33, 42, 180, 0, 50, 16, 56, 42, 180, 0, 231, 4, 100, 104, 21, 4]
abbrev dktX5_book_11 : List UInt8 := dkwX5_book_11 ++ dktX5_book_12
def dkwX5_book_10 : List UInt8 := [4, 181, 1, 150, 27, 4, 160, 0, 56, 42, 180, 0, 59, 4, 46, 158, 0, 47, 42, 182, 1, 48, 3]
abbrev dktX5_book_10 : List UInt8 := dkwX5_book_10 ++ dktX5_book_11
def dkwX5_book_9 : List UInt8 := [42, 180, 0, 33, 16, 62, 46, 79, 42, 180, 0, 59, 6, 42, 180, 0, 33, 16, 63, 46, 28, 100, 79, 42]
abbrev dktX5_book_9 : List UInt8 := dkwX5_book_9 ++ dktX5_book_10
def dkwX5_book_8 : List UInt8 := [167, 0, 13, 42, 180, 0, 59, 4, 92, 46, 4, 96, 79, 132, 4, 1, 167, 255, 174, 42, 180, 0, 59, 5]
abbrev dktX5_book_8 : List UInt8 := dkwX5_book_8 ++ dktX5_book_9
def dkwX5_book_7 : List UInt8 := [21, 4, 104, 5, 96, 46, 182, 1, 147, 79, 42, 180, 0, 59, 3, 46, 158, 0, 9, 21, 4, 62]
abbrev dktX5_book_7 : List UInt8 := dkwX5_book_7 ++ dktX5_book_8
def dkwX5_book_6 : List UInt8 := [180, 0, 40, 6, 21, 4, 104, 46, 42, 180, 0, 40, 6, 21, 4, 104, 4, 96, 46, 42, 180, 0, 40, 6]
abbrev dktX5_book_6 : List UInt8 := dkwX5_book_6 ++ dktX5_book_7
def dkwX5_book_5 : List UInt8 := [54, 4, 21, 4, 42, 180, 1, 141, 162, 0, 79, 29, 156, 0, 75, 42, 180, 0, 59, 3, 42, 42]
abbrev dktX5_book_5 : List UInt8 := dkwX5_book_5 ++ dktX5_book_6
def dkwX5_book_4 : List UInt8 := [42, 180, 0, 59, 28, 3, 79, 132, 2, 1, 167, 255, 241, 42, 180, 0, 33, 16, 63, 46, 61, 2, 62, 3]
abbrev dktX5_book_4 : List UInt8 := dkwX5_book_4 ++ dktX5_book_5
def dkwX5_book_3 : List UInt8 := [42, 89, 180, 1, 141, 4, 96, 181, 1, 141, 167, 255, 215, 42, 182, 1, 101, 3, 61, 28, 7, 162, 0, 16]
abbrev dktX5_book_3 : List UInt8 := dkwX5_book_3 ++ dktX5_book_4
def dkwX5_book_2 : List UInt8 := [42, 182, 1, 144, 153, 0, 12, 42, 16, 59, 182, 0, 228, 154, 0, 11, 16, 254, 42, 180, 0, 159, 100, 172]
abbrev dktX5_book_2 : List UInt8 := dkwX5_book_2 ++ dktX5_book_3
def dkwX5_book_1 : List UInt8 := [182, 0, 219, 42, 3, 181, 0, 156, 42, 3, 181, 1, 141, 42, 182, 0, 168, 42, 180, 0, 139, 153, 0, 40]
abbrev dktX5_book_1 : List UInt8 := dkwX5_book_1 ++ dktX5_book_2
def dkwX5_book_0 : List UInt8 := [42, 3, 181, 0, 1, 27, 3, 4, 184, 0, 171, 154, 0, 7, 17, 252, 24, 172, 42, 17, 1, 144]
abbrev dktX5_book_0 : List UInt8 := dkwX5_book_0 ++ dktX5_book_1
theorem dksX5_book_0 : cX5_book.data.toList.drop 0 = dktX5_book_0 := by decide +kernel
theorem dksX5_book_1 : cX5_book.data.toList.drop 22 = dktX5_book_1 := dk_seg dksX5_book_0 22 rfl rfl
theorem dksX5_book_2 : cX5_book.data.toList.drop 46 = dktX5_book_2 := dk_seg dksX5_book_1 24 rfl rfl
theorem dksX5_book_3 : cX5_book.data.toList.drop 70 = dktX5_book_3 := dk_seg dksX5_book_2 24 rfl rfl
theorem dksX5_book_4 : cX5_book.data.toList.drop 94 = dktX5_book_4 := dk_seg dksX5_book_3 24 rfl rfl
theorem dksX5_book_5 : cX5_book.data.toList.drop 118 = dktX5_book_5 := dk_seg dksX5_book_4 24 rfl rfl
theorem dksX5_book_6 : cX5_book.data.toList.drop 140 = dktX5_book_6 := dk_seg dksX5_book_5 22 rfl rfl
theorem dksX5_book_7 : cX5_book.data.toList.drop 164 = dktX5_book_7 := dk_seg dksX5_book_6 24 rfl rfl
theorem dksX5_book_8 : cX5_book.data.toList.drop 186 = dktX5_book_8 := dk_seg dksX5_book_7 22 rfl rfl
theorem dksX5_book_9 : cX5_book.data.toList.drop 210 = dktX5_book_9 := dk_seg dksX5_book_8 24 rfl rfl
theorem dksX5_book_10 : cX5_book.data.toList.drop 234 = dktX5_book_10 := dk_seg dksX5_book_9 24 rfl rfl
theorem dksX5_book_11 : cX5_book.data.toList.drop 257 = dktX5_book_11 := dk_seg dksX5_book_10 23 rfl rfl
theorem dksX5_book_12 : cX5_book.data.toList.drop 281 = dktX5_book_12 := dk_seg dksX5_book_11 24 rfl rfl
theorem dksX5_book_13 : cX5_book.data.toList.drop 305 = dktX5_book_13 := dk_seg dksX5_book_12 24 rfl rfl
theorem dX5_book_0 : decode cX5_book 0 = .ok (.aload_n 0, 1) := dk_42 (dk_at dksX5_book_0 0 rfl rfl)
theorem dX5_book_1 : decode cX5_book 1 = .ok (.iconst 0, 1) := dk_3 (dk_at dksX5_book_0 1 rfl rfl)
theorem dX5_book_2 : decode cX5_book 2 = .ok (.putfield 1, 3) := dk_181 0 1 (dk_at dksX5_book_0 2 rfl rfl)
theorem dX5_book_5 : decode cX5_book 5 = .ok (.iload_n 1, 1) := dk_27 (dk_at dksX5_book_0 5 rfl rfl)
theorem dX5_book_6 : decode cX5_book 6 = .ok (.iconst 0, 1) := dk_3 (dk_at dksX5_book_0 6 rfl rfl)
theorem dX5_book_7 : decode cX5_book 7 = .ok (.iconst 1, 1) := dk_4 (dk_at dksX5_book_0 7 rfl rfl)
theorem dX5_book_8 : decode cX5_book 8 = .ok (.invokestatic 171, 3) := dk_184 0 171 (dk_at dksX5_book_0 8 rfl rfl)
theorem dX5_book_11 : decode cX5_book 11 = .ok (.ifCond .ne 7, 3) := dk_154 0 7 (dk_at dksX5_book_0 11 rfl rfl)
theorem dX5_book_14 : decode cX5_book 14 = .ok (.sipush (-1000), 3) := dk_17 252 24 (dk_at dksX5_book_0 14 rfl rfl)
theorem dX5_book_17 : decode cX5_book 17 = .ok (.ireturn, 1) := dk_172 (dk_at dksX5_book_0 17 rfl rfl)
theorem dX5_book_18 : decode cX5_book 18 = .ok (.aload_n 0, 1) := dk_42 (dk_at dksX5_book_0 18 rfl rfl)
theorem dX5_book_19 : decode cX5_book 19 = .ok (.sipush 400, 3) := dk_17 1 144 (dk_at dksX5_book_0 19 rfl rfl)
theorem dX5_book_22 : decode cX5_book 22 = .ok (.invokevirtual 219, 3) := dk_182 0 219 (dk_at dksX5_book_1 0 rfl rfl)
theorem dX5_book_25 : decode cX5_book 25 = .ok (.aload_n 0, 1) := dk_42 (dk_at dksX5_book_1 3 rfl rfl)
theorem dX5_book_26 : decode cX5_book 26 = .ok (.iconst 0, 1) := dk_3 (dk_at dksX5_book_1 4 rfl rfl)
theorem dX5_book_27 : decode cX5_book 27 = .ok (.putfield 156, 3) := dk_181 0 156 (dk_at dksX5_book_1 5 rfl rfl)
theorem dX5_book_30 : decode cX5_book 30 = .ok (.aload_n 0, 1) := dk_42 (dk_at dksX5_book_1 8 rfl rfl)
theorem dX5_book_31 : decode cX5_book 31 = .ok (.iconst 0, 1) := dk_3 (dk_at dksX5_book_1 9 rfl rfl)
theorem dX5_book_32 : decode cX5_book 32 = .ok (.putfield 397, 3) := dk_181 1 141 (dk_at dksX5_book_1 10 rfl rfl)
theorem dX5_book_35 : decode cX5_book 35 = .ok (.aload_n 0, 1) := dk_42 (dk_at dksX5_book_1 13 rfl rfl)
theorem dX5_book_36 : decode cX5_book 36 = .ok (.invokevirtual 168, 3) := dk_182 0 168 (dk_at dksX5_book_1 14 rfl rfl)
theorem dX5_book_39 : decode cX5_book 39 = .ok (.aload_n 0, 1) := dk_42 (dk_at dksX5_book_1 17 rfl rfl)
theorem dX5_book_40 : decode cX5_book 40 = .ok (.getfield 139, 3) := dk_180 0 139 (dk_at dksX5_book_1 18 rfl rfl)
theorem dX5_book_43 : decode cX5_book 43 = .ok (.ifCond .eq 40, 3) := dk_153 0 40 (dk_at dksX5_book_1 21 rfl rfl)
theorem dX5_book_46 : decode cX5_book 46 = .ok (.aload_n 0, 1) := dk_42 (dk_at dksX5_book_2 0 rfl rfl)
theorem dX5_book_47 : decode cX5_book 47 = .ok (.invokevirtual 400, 3) := dk_182 1 144 (dk_at dksX5_book_2 1 rfl rfl)
theorem dX5_book_50 : decode cX5_book 50 = .ok (.ifCond .eq 12, 3) := dk_153 0 12 (dk_at dksX5_book_2 4 rfl rfl)
theorem dX5_book_53 : decode cX5_book 53 = .ok (.aload_n 0, 1) := dk_42 (dk_at dksX5_book_2 7 rfl rfl)
theorem dX5_book_54 : decode cX5_book 54 = .ok (.bipush 59, 2) := dk_16 59 (dk_at dksX5_book_2 8 rfl rfl)
theorem dX5_book_56 : decode cX5_book 56 = .ok (.invokevirtual 228, 3) := dk_182 0 228 (dk_at dksX5_book_2 10 rfl rfl)
theorem dX5_book_59 : decode cX5_book 59 = .ok (.ifCond .ne 11, 3) := dk_154 0 11 (dk_at dksX5_book_2 13 rfl rfl)
theorem dX5_book_62 : decode cX5_book 62 = .ok (.bipush (-2), 2) := dk_16 254 (dk_at dksX5_book_2 16 rfl rfl)
theorem dX5_book_64 : decode cX5_book 64 = .ok (.aload_n 0, 1) := dk_42 (dk_at dksX5_book_2 18 rfl rfl)
theorem dX5_book_65 : decode cX5_book 65 = .ok (.getfield 159, 3) := dk_180 0 159 (dk_at dksX5_book_2 19 rfl rfl)
theorem dX5_book_68 : decode cX5_book 68 = .ok (.isub, 1) := dk_100 (dk_at dksX5_book_2 22 rfl rfl)
theorem dX5_book_69 : decode cX5_book 69 = .ok (.ireturn, 1) := dk_172 (dk_at dksX5_book_2 23 rfl rfl)
theorem dX5_book_70 : decode cX5_book 70 = .ok (.aload_n 0, 1) := dk_42 (dk_at dksX5_book_3 0 rfl rfl)
theorem dX5_book_71 : decode cX5_book 71 = .ok (.dup, 1) := dk_89 (dk_at dksX5_book_3 1 rfl rfl)
theorem dX5_book_72 : decode cX5_book 72 = .ok (.getfield 397, 3) := dk_180 1 141 (dk_at dksX5_book_3 2 rfl rfl)
theorem dX5_book_75 : decode cX5_book 75 = .ok (.iconst 1, 1) := dk_4 (dk_at dksX5_book_3 5 rfl rfl)
theorem dX5_book_76 : decode cX5_book 76 = .ok (.iadd, 1) := dk_96 (dk_at dksX5_book_3 6 rfl rfl)
theorem dX5_book_77 : decode cX5_book 77 = .ok (.putfield 397, 3) := dk_181 1 141 (dk_at dksX5_book_3 7 rfl rfl)
theorem dX5_book_80 : decode cX5_book 80 = .ok (.goto (-41), 3) := dk_167 255 215 (dk_at dksX5_book_3 10 rfl rfl)
theorem dX5_book_83 : decode cX5_book 83 = .ok (.aload_n 0, 1) := dk_42 (dk_at dksX5_book_3 13 rfl rfl)
theorem dX5_book_84 : decode cX5_book 84 = .ok (.invokevirtual 357, 3) := dk_182 1 101 (dk_at dksX5_book_3 14 rfl rfl)
theorem dX5_book_87 : decode cX5_book 87 = .ok (.iconst 0, 1) := dk_3 (dk_at dksX5_book_3 17 rfl rfl)
theorem dX5_book_88 : decode cX5_book 88 = .ok (.istore_n 2, 1) := dk_61 (dk_at dksX5_book_3 18 rfl rfl)
theorem dX5_book_89 : decode cX5_book 89 = .ok (.iload_n 2, 1) := dk_28 (dk_at dksX5_book_3 19 rfl rfl)
theorem dX5_book_90 : decode cX5_book 90 = .ok (.iconst 4, 1) := dk_7 (dk_at dksX5_book_3 20 rfl rfl)
theorem dX5_book_91 : decode cX5_book 91 = .ok (.if_icmp .ge 16, 3) := dk_162 0 16 (dk_at dksX5_book_3 21 rfl rfl)
theorem dX5_book_94 : decode cX5_book 94 = .ok (.aload_n 0, 1) := dk_42 (dk_at dksX5_book_4 0 rfl rfl)
theorem dX5_book_95 : decode cX5_book 95 = .ok (.getfield 59, 3) := dk_180 0 59 (dk_at dksX5_book_4 1 rfl rfl)
theorem dX5_book_98 : decode cX5_book 98 = .ok (.iload_n 2, 1) := dk_28 (dk_at dksX5_book_4 4 rfl rfl)
theorem dX5_book_99 : decode cX5_book 99 = .ok (.iconst 0, 1) := dk_3 (dk_at dksX5_book_4 5 rfl rfl)
theorem dX5_book_100 : decode cX5_book 100 = .ok (.iastore, 1) := dk_79 (dk_at dksX5_book_4 6 rfl rfl)
theorem dX5_book_101 : decode cX5_book 101 = .ok (.iinc 2 1, 3) := dk_132 2 1 (dk_at dksX5_book_4 7 rfl rfl)
theorem dX5_book_104 : decode cX5_book 104 = .ok (.goto (-15), 3) := dk_167 255 241 (dk_at dksX5_book_4 10 rfl rfl)
theorem dX5_book_107 : decode cX5_book 107 = .ok (.aload_n 0, 1) := dk_42 (dk_at dksX5_book_4 13 rfl rfl)
theorem dX5_book_108 : decode cX5_book 108 = .ok (.getfield 33, 3) := dk_180 0 33 (dk_at dksX5_book_4 14 rfl rfl)
theorem dX5_book_111 : decode cX5_book 111 = .ok (.bipush 63, 2) := dk_16 63 (dk_at dksX5_book_4 17 rfl rfl)
theorem dX5_book_113 : decode cX5_book 113 = .ok (.iaload, 1) := dk_46 (dk_at dksX5_book_4 19 rfl rfl)
theorem dX5_book_114 : decode cX5_book 114 = .ok (.istore_n 2, 1) := dk_61 (dk_at dksX5_book_4 20 rfl rfl)
theorem dX5_book_115 : decode cX5_book 115 = .ok (.iconst (-1), 1) := dk_2 (dk_at dksX5_book_4 21 rfl rfl)
theorem dX5_book_116 : decode cX5_book 116 = .ok (.istore_n 3, 1) := dk_62 (dk_at dksX5_book_4 22 rfl rfl)
theorem dX5_book_117 : decode cX5_book 117 = .ok (.iconst 0, 1) := dk_3 (dk_at dksX5_book_4 23 rfl rfl)
theorem dX5_book_118 : decode cX5_book 118 = .ok (.istore 4, 2) := dk_54 4 (dk_at dksX5_book_5 0 rfl rfl)
theorem dX5_book_120 : decode cX5_book 120 = .ok (.iload 4, 2) := dk_21 4 (dk_at dksX5_book_5 2 rfl rfl)
theorem dX5_book_122 : decode cX5_book 122 = .ok (.aload_n 0, 1) := dk_42 (dk_at dksX5_book_5 4 rfl rfl)
theorem dX5_book_123 : decode cX5_book 123 = .ok (.getfield 397, 3) := dk_180 1 141 (dk_at dksX5_book_5 5 rfl rfl)
theorem dX5_book_126 : decode cX5_book 126 = .ok (.if_icmp .ge 79, 3) := dk_162 0 79 (dk_at dksX5_book_5 8 rfl rfl)
theorem dX5_book_129 : decode cX5_book 129 = .ok (.iload_n 3, 1) := dk_29 (dk_at dksX5_book_5 11 rfl rfl)
theorem dX5_book_130 : decode cX5_book 130 = .ok (.ifCond .ge 75, 3) := dk_156 0 75 (dk_at dksX5_book_5 12 rfl rfl)
theorem dX5_book_133 : decode cX5_book 133 = .ok (.aload_n 0, 1) := dk_42 (dk_at dksX5_book_5 15 rfl rfl)
theorem dX5_book_134 : decode cX5_book 134 = .ok (.getfield 59, 3) := dk_180 0 59 (dk_at dksX5_book_5 16 rfl rfl)
theorem dX5_book_137 : decode cX5_book 137 = .ok (.iconst 0, 1) := dk_3 (dk_at dksX5_book_5 19 rfl rfl)
theorem dX5_book_138 : decode cX5_book 138 = .ok (.aload_n 0, 1) := dk_42 (dk_at dksX5_book_5 20 rfl rfl)
theorem dX5_book_139 : decode cX5_book 139 = .ok (.aload_n 0, 1) := dk_42 (dk_at dksX5_book_5 21 rfl rfl)
theorem dX5_book_140 : decode cX5_book 140 = .ok (.getfield 40, 3) := dk_180 0 40 (dk_at dksX5_book_6 0 rfl rfl)
theorem dX5_book_143 : decode cX5_book 143 = .ok (.iconst 3, 1) := dk_6 (dk_at dksX5_book_6 3 rfl rfl)
theorem dX5_book_144 : decode cX5_book 144 = .ok (.iload 4, 2) := dk_21 4 (dk_at dksX5_book_6 4 rfl rfl)
theorem dX5_book_146 : decode cX5_book 146 = .ok (.imul, 1) := dk_104 (dk_at dksX5_book_6 6 rfl rfl)
theorem dX5_book_147 : decode cX5_book 147 = .ok (.iaload, 1) := dk_46 (dk_at dksX5_book_6 7 rfl rfl)
theorem dX5_book_148 : decode cX5_book 148 = .ok (.aload_n 0, 1) := dk_42 (dk_at dksX5_book_6 8 rfl rfl)
theorem dX5_book_149 : decode cX5_book 149 = .ok (.getfield 40, 3) := dk_180 0 40 (dk_at dksX5_book_6 9 rfl rfl)
theorem dX5_book_152 : decode cX5_book 152 = .ok (.iconst 3, 1) := dk_6 (dk_at dksX5_book_6 12 rfl rfl)
theorem dX5_book_153 : decode cX5_book 153 = .ok (.iload 4, 2) := dk_21 4 (dk_at dksX5_book_6 13 rfl rfl)
theorem dX5_book_155 : decode cX5_book 155 = .ok (.imul, 1) := dk_104 (dk_at dksX5_book_6 15 rfl rfl)
theorem dX5_book_156 : decode cX5_book 156 = .ok (.iconst 1, 1) := dk_4 (dk_at dksX5_book_6 16 rfl rfl)
theorem dX5_book_157 : decode cX5_book 157 = .ok (.iadd, 1) := dk_96 (dk_at dksX5_book_6 17 rfl rfl)
theorem dX5_book_158 : decode cX5_book 158 = .ok (.iaload, 1) := dk_46 (dk_at dksX5_book_6 18 rfl rfl)
theorem dX5_book_159 : decode cX5_book 159 = .ok (.aload_n 0, 1) := dk_42 (dk_at dksX5_book_6 19 rfl rfl)
theorem dX5_book_160 : decode cX5_book 160 = .ok (.getfield 40, 3) := dk_180 0 40 (dk_at dksX5_book_6 20 rfl rfl)
theorem dX5_book_163 : decode cX5_book 163 = .ok (.iconst 3, 1) := dk_6 (dk_at dksX5_book_6 23 rfl rfl)
theorem dX5_book_164 : decode cX5_book 164 = .ok (.iload 4, 2) := dk_21 4 (dk_at dksX5_book_7 0 rfl rfl)
theorem dX5_book_166 : decode cX5_book 166 = .ok (.imul, 1) := dk_104 (dk_at dksX5_book_7 2 rfl rfl)
theorem dX5_book_167 : decode cX5_book 167 = .ok (.iconst 2, 1) := dk_5 (dk_at dksX5_book_7 3 rfl rfl)
theorem dX5_book_168 : decode cX5_book 168 = .ok (.iadd, 1) := dk_96 (dk_at dksX5_book_7 4 rfl rfl)
theorem dX5_book_169 : decode cX5_book 169 = .ok (.iaload, 1) := dk_46 (dk_at dksX5_book_7 5 rfl rfl)
theorem dX5_book_170 : decode cX5_book 170 = .ok (.invokevirtual 403, 3) := dk_182 1 147 (dk_at dksX5_book_7 6 rfl rfl)
theorem dX5_book_173 : decode cX5_book 173 = .ok (.iastore, 1) := dk_79 (dk_at dksX5_book_7 9 rfl rfl)
theorem dX5_book_174 : decode cX5_book 174 = .ok (.aload_n 0, 1) := dk_42 (dk_at dksX5_book_7 10 rfl rfl)
theorem dX5_book_175 : decode cX5_book 175 = .ok (.getfield 59, 3) := dk_180 0 59 (dk_at dksX5_book_7 11 rfl rfl)
theorem dX5_book_178 : decode cX5_book 178 = .ok (.iconst 0, 1) := dk_3 (dk_at dksX5_book_7 14 rfl rfl)
theorem dX5_book_179 : decode cX5_book 179 = .ok (.iaload, 1) := dk_46 (dk_at dksX5_book_7 15 rfl rfl)
theorem dX5_book_180 : decode cX5_book 180 = .ok (.ifCond .le 9, 3) := dk_158 0 9 (dk_at dksX5_book_7 16 rfl rfl)
theorem dX5_book_183 : decode cX5_book 183 = .ok (.iload 4, 2) := dk_21 4 (dk_at dksX5_book_7 19 rfl rfl)
theorem dX5_book_185 : decode cX5_book 185 = .ok (.istore_n 3, 1) := dk_62 (dk_at dksX5_book_7 21 rfl rfl)
theorem dX5_book_186 : decode cX5_book 186 = .ok (.goto 13, 3) := dk_167 0 13 (dk_at dksX5_book_8 0 rfl rfl)
theorem dX5_book_189 : decode cX5_book 189 = .ok (.aload_n 0, 1) := dk_42 (dk_at dksX5_book_8 3 rfl rfl)
theorem dX5_book_190 : decode cX5_book 190 = .ok (.getfield 59, 3) := dk_180 0 59 (dk_at dksX5_book_8 4 rfl rfl)
theorem dX5_book_193 : decode cX5_book 193 = .ok (.iconst 1, 1) := dk_4 (dk_at dksX5_book_8 7 rfl rfl)
theorem dX5_book_194 : decode cX5_book 194 = .ok (.dup2, 1) := dk_92 (dk_at dksX5_book_8 8 rfl rfl)
theorem dX5_book_195 : decode cX5_book 195 = .ok (.iaload, 1) := dk_46 (dk_at dksX5_book_8 9 rfl rfl)
theorem dX5_book_196 : decode cX5_book 196 = .ok (.iconst 1, 1) := dk_4 (dk_at dksX5_book_8 10 rfl rfl)
theorem dX5_book_197 : decode cX5_book 197 = .ok (.iadd, 1) := dk_96 (dk_at dksX5_book_8 11 rfl rfl)
theorem dX5_book_198 : decode cX5_book 198 = .ok (.iastore, 1) := dk_79 (dk_at dksX5_book_8 12 rfl rfl)
theorem dX5_book_199 : decode cX5_book 199 = .ok (.iinc 4 1, 3) := dk_132 4 1 (dk_at dksX5_book_8 13 rfl rfl)
theorem dX5_book_202 : decode cX5_book 202 = .ok (.goto (-82), 3) := dk_167 255 174 (dk_at dksX5_book_8 16 rfl rfl)
theorem dX5_book_205 : decode cX5_book 205 = .ok (.aload_n 0, 1) := dk_42 (dk_at dksX5_book_8 19 rfl rfl)
theorem dX5_book_206 : decode cX5_book 206 = .ok (.getfield 59, 3) := dk_180 0 59 (dk_at dksX5_book_8 20 rfl rfl)
theorem dX5_book_209 : decode cX5_book 209 = .ok (.iconst 2, 1) := dk_5 (dk_at dksX5_book_8 23 rfl rfl)
theorem dX5_book_210 : decode cX5_book 210 = .ok (.aload_n 0, 1) := dk_42 (dk_at dksX5_book_9 0 rfl rfl)
theorem dX5_book_211 : decode cX5_book 211 = .ok (.getfield 33, 3) := dk_180 0 33 (dk_at dksX5_book_9 1 rfl rfl)
theorem dX5_book_214 : decode cX5_book 214 = .ok (.bipush 62, 2) := dk_16 62 (dk_at dksX5_book_9 4 rfl rfl)
theorem dX5_book_216 : decode cX5_book 216 = .ok (.iaload, 1) := dk_46 (dk_at dksX5_book_9 6 rfl rfl)
theorem dX5_book_217 : decode cX5_book 217 = .ok (.iastore, 1) := dk_79 (dk_at dksX5_book_9 7 rfl rfl)
theorem dX5_book_218 : decode cX5_book 218 = .ok (.aload_n 0, 1) := dk_42 (dk_at dksX5_book_9 8 rfl rfl)
theorem dX5_book_219 : decode cX5_book 219 = .ok (.getfield 59, 3) := dk_180 0 59 (dk_at dksX5_book_9 9 rfl rfl)
theorem dX5_book_222 : decode cX5_book 222 = .ok (.iconst 3, 1) := dk_6 (dk_at dksX5_book_9 12 rfl rfl)
theorem dX5_book_223 : decode cX5_book 223 = .ok (.aload_n 0, 1) := dk_42 (dk_at dksX5_book_9 13 rfl rfl)
theorem dX5_book_224 : decode cX5_book 224 = .ok (.getfield 33, 3) := dk_180 0 33 (dk_at dksX5_book_9 14 rfl rfl)
theorem dX5_book_227 : decode cX5_book 227 = .ok (.bipush 63, 2) := dk_16 63 (dk_at dksX5_book_9 17 rfl rfl)
theorem dX5_book_229 : decode cX5_book 229 = .ok (.iaload, 1) := dk_46 (dk_at dksX5_book_9 19 rfl rfl)
theorem dX5_book_230 : decode cX5_book 230 = .ok (.iload_n 2, 1) := dk_28 (dk_at dksX5_book_9 20 rfl rfl)
theorem dX5_book_231 : decode cX5_book 231 = .ok (.isub, 1) := dk_100 (dk_at dksX5_book_9 21 rfl rfl)
theorem dX5_book_232 : decode cX5_book 232 = .ok (.iastore, 1) := dk_79 (dk_at dksX5_book_9 22 rfl rfl)
theorem dX5_book_233 : decode cX5_book 233 = .ok (.aload_n 0, 1) := dk_42 (dk_at dksX5_book_9 23 rfl rfl)
theorem dX5_book_234 : decode cX5_book 234 = .ok (.iconst 1, 1) := dk_4 (dk_at dksX5_book_10 0 rfl rfl)
theorem dX5_book_235 : decode cX5_book 235 = .ok (.putfield 406, 3) := dk_181 1 150 (dk_at dksX5_book_10 1 rfl rfl)
theorem dX5_book_238 : decode cX5_book 238 = .ok (.iload_n 1, 1) := dk_27 (dk_at dksX5_book_10 4 rfl rfl)
theorem dX5_book_239 : decode cX5_book 239 = .ok (.iconst 1, 1) := dk_4 (dk_at dksX5_book_10 5 rfl rfl)
theorem dX5_book_240 : decode cX5_book 240 = .ok (.if_icmp .ne 56, 3) := dk_160 0 56 (dk_at dksX5_book_10 6 rfl rfl)
theorem dX5_book_243 : decode cX5_book 243 = .ok (.aload_n 0, 1) := dk_42 (dk_at dksX5_book_10 9 rfl rfl)
theorem dX5_book_244 : decode cX5_book 244 = .ok (.getfield 59, 3) := dk_180 0 59 (dk_at dksX5_book_10 10 rfl rfl)
theorem dX5_book_247 : decode cX5_book 247 = .ok (.iconst 1, 1) := dk_4 (dk_at dksX5_book_10 13 rfl rfl)
theorem dX5_book_248 : decode cX5_book 248 = .ok (.iaload, 1) := dk_46 (dk_at dksX5_book_10 14 rfl rfl)
theorem dX5_book_249 : decode cX5_book 249 = .ok (.ifCond .le 47, 3) := dk_158 0 47 (dk_at dksX5_book_10 15 rfl rfl)
theorem dX5_book_252 : decode cX5_book 252 = .ok (.aload_n 0, 1) := dk_42 (dk_at dksX5_book_10 18 rfl rfl)
theorem dX5_book_253 : decode cX5_book 253 = .ok (.invokevirtual 304, 3) := dk_182 1 48 (dk_at dksX5_book_10 19 rfl rfl)
theorem dX5_book_256 : decode cX5_book 256 = .ok (.iconst 0, 1) := dk_3 (dk_at dksX5_book_10 22 rfl rfl)
theorem dX5_book_257 : decode cX5_book 257 = .ok (.istore 4, 2) := dk_54 4 (dk_at dksX5_book_11 0 rfl rfl)
theorem dX5_book_259 : decode cX5_book 259 = .ok (.iload 4, 2) := dk_21 4 (dk_at dksX5_book_11 2 rfl rfl)
theorem dX5_book_261 : decode cX5_book 261 = .ok (.bipush 56, 2) := dk_16 56 (dk_at dksX5_book_11 4 rfl rfl)
theorem dX5_book_263 : decode cX5_book 263 = .ok (.if_icmp .ge 33, 3) := dk_162 0 33 (dk_at dksX5_book_11 6 rfl rfl)
theorem dX5_book_266 : decode cX5_book 266 = .ok (.aload_n 0, 1) := dk_42 (dk_at dksX5_book_11 9 rfl rfl)
theorem dX5_book_267 : decode cX5_book 267 = .ok (.getfield 50, 3) := dk_180 0 50 (dk_at dksX5_book_11 10 rfl rfl)
theorem dX5_book_270 : decode cX5_book 270 = .ok (.bipush 56, 2) := dk_16 56 (dk_at dksX5_book_11 13 rfl rfl)
theorem dX5_book_272 : decode cX5_book 272 = .ok (.aload_n 0, 1) := dk_42 (dk_at dksX5_book_11 15 rfl rfl)
theorem dX5_book_273 : decode cX5_book 273 = .ok (.getfield 231, 3) := dk_180 0 231 (dk_at dksX5_book_11 16 rfl rfl)
theorem dX5_book_276 : decode cX5_book 276 = .ok (.iconst 1, 1) := dk_4 (dk_at dksX5_book_11 19 rfl rfl)
theorem dX5_book_277 : decode cX5_book 277 = .ok (.isub, 1) := dk_100 (dk_at dksX5_book_11 20 rfl rfl)
theorem dX5_book_278 : decode cX5_book 278 = .ok (.imul, 1) := dk_104 (dk_at dksX5_book_11 21 rfl rfl)
theorem dX5_book_279 : decode cX5_book 279 = .ok (.iload 4, 2) := dk_21 4 (dk_at dksX5_book_11 22 rfl rfl)
theorem dX5_book_281 : decode cX5_book 281 = .ok (.iadd, 1) := dk_96 (dk_at dksX5_book_12 0 rfl rfl)
theorem dX5_book_282 : decode cX5_book 282 = .ok (.aload_n 0, 1) := dk_42 (dk_at dksX5_book_12 1 rfl rfl)
theorem dX5_book_283 : decode cX5_book 283 = .ok (.getfield 53, 3) := dk_180 0 53 (dk_at dksX5_book_12 2 rfl rfl)
theorem dX5_book_286 : decode cX5_book 286 = .ok (.iload 4, 2) := dk_21 4 (dk_at dksX5_book_12 5 rfl rfl)
theorem dX5_book_288 : decode cX5_book 288 = .ok (.iaload, 1) := dk_46 (dk_at dksX5_book_12 7 rfl rfl)
theorem dX5_book_289 : decode cX5_book 289 = .ok (.iastore, 1) := dk_79 (dk_at dksX5_book_12 8 rfl rfl)
theorem dX5_book_290 : decode cX5_book 290 = .ok (.iinc 4 1, 3) := dk_132 4 1 (dk_at dksX5_book_12 9 rfl rfl)
theorem dX5_book_293 : decode cX5_book 293 = .ok (.goto (-34), 3) := dk_167 255 222 (dk_at dksX5_book_12 12 rfl rfl)
theorem dX5_book_296 : decode cX5_book 296 = .ok (.iload_n 1, 1) := dk_27 (dk_at dksX5_book_12 15 rfl rfl)
theorem dX5_book_297 : decode cX5_book 297 = .ok (.ifCond .ne 7, 3) := dk_154 0 7 (dk_at dksX5_book_12 16 rfl rfl)
theorem dX5_book_300 : decode cX5_book 300 = .ok (.aload_n 0, 1) := dk_42 (dk_at dksX5_book_12 19 rfl rfl)
theorem dX5_book_301 : decode cX5_book 301 = .ok (.invokevirtual 360, 3) := dk_182 1 104 (dk_at dksX5_book_12 20 rfl rfl)
theorem dX5_book_304 : decode cX5_book 304 = .ok (.iload_n 3, 1) := dk_29 (dk_at dksX5_book_12 23 rfl rfl)
theorem dX5_book_305 : decode cX5_book 305 = .ok (.ireturn, 1) := dk_172 (dk_at dksX5_book_13 0 rfl rfl)
theorem se_HeldCoatsModel_taken__I_V_HeldCoatsModel : ∀ c ∈ ([5] : List Nat), ∃ q : vw_C, cz_cl[c]? = some q ∧ Cond.selects q.1 (⟨"HeldCoatsModel", "taken", "(I)V"⟩ : MethodName) (⟨"HeldCoatsModel", "taken", "(I)V"⟩ : MethodName) ∈ lw_all := List.forall_mem_cons.mpr ⟨⟨_, cz_cl5, qs46⟩, fun _ h => absurd h List.not_mem_nil⟩
theorem md_X5_taken : cz_md yX5_taken 2 (ws_ yX5_taken cX5_taken 2 ((Option.none : Option Jvm.ClassFile.FieldType))) 1 := ⟨cz_ws_code q2075, q123, ⟨by decide, by decide, by decide +kernel⟩, by decide⟩
theorem fp_X5_m_5_36 {nm : String} : cz_FP "HeldCoatsModel" nm [(5, 36)] := List.forall_mem_cons.mpr ⟨⟨RX5, TX5, 49, rfl, Or.inl rfl⟩, fun _ h => absurd h List.not_mem_nil⟩
theorem fw_X5_59 : cz_FW "HeldCoatsModel" 59 [(5, 37)] "[I" := ⟨"HeldCoatsModel", "toldAt", Or.inl q1955, List.forall_mem_cons.mpr ⟨⟨RX5, TX5, 49, rfl, by decide, rfl, rfl, Or.inl rfl⟩, fun _ h => absurd h List.not_mem_nil⟩, by decide⟩
theorem se_HeldCoatsModel_bookLine___Z_HeldCoatsModel : ∀ c ∈ ([5] : List Nat), ∃ q : vw_C, cz_cl[c]? = some q ∧ Cond.selects q.1 (⟨"HeldCoatsModel", "bookLine", "()Z"⟩ : MethodName) (⟨"HeldCoatsModel", "bookLine", "()Z"⟩ : MethodName) ∈ lw_all := List.forall_mem_cons.mpr ⟨⟨_, cz_cl5, qs102⟩, fun _ h => absurd h List.not_mem_nil⟩
theorem md_X5_bookLine : cz_md yX5_bookLine 5 (ws_ yX5_bookLine cX5_bookLine 5 ((Option.some Jvm.ClassFile.FieldType.boolean))) 0 := ⟨cz_ws_code q2446, q123, ⟨by decide, by decide, by decide +kernel⟩, by decide⟩
theorem se_HeldCoatsModel_sign__I_Z_HeldCoatsModel : ∀ c ∈ ([5] : List Nat), ∃ q : vw_C, cz_cl[c]? = some q ∧ Cond.selects q.1 (⟨"HeldCoatsModel", "sign", "(I)Z"⟩ : MethodName) (⟨"HeldCoatsModel", "sign", "(I)Z"⟩ : MethodName) ∈ lw_all := List.forall_mem_cons.mpr ⟨⟨_, cz_cl5, qs61⟩, fun _ h => absurd h List.not_mem_nil⟩
theorem md_X5_sign : cz_md yX5_sign 2 (ws_ yX5_sign cX5_sign 2 ((Option.some Jvm.ClassFile.FieldType.boolean))) 1 := ⟨cz_ws_code q2147, q123, ⟨by decide, by decide, by decide +kernel⟩, by decide⟩
theorem kB_m2 : (Int8.ofInt (-2)).toInt32 = (-2) := by decide
theorem se_HeldCoatsModel_does__III_I_HeldCoatsModel : ∀ c ∈ ([5] : List Nat), ∃ q : vw_C, cz_cl[c]? = some q ∧ Cond.selects q.1 (⟨"HeldCoatsModel", "does", "(III)I"⟩ : MethodName) (⟨"HeldCoatsModel", "does", "(III)I"⟩ : MethodName) ∈ lw_all := List.forall_mem_cons.mpr ⟨⟨_, cz_cl5, qs103⟩, fun _ h => absurd h List.not_mem_nil⟩
theorem md_X5_does : cz_md yX5_does 5 (ws_ yX5_does cX5_does 5 ((Option.some Jvm.ClassFile.FieldType.int))) 3 := ⟨cz_ws_code q2450, q123, ⟨by decide, by decide, by decide +kernel⟩, by decide⟩
theorem fw_X5_406 : cz_FW "HeldCoatsModel" 406 [(5, 38)] "Z" := ⟨"HeldCoatsModel", "hasTold", Or.inl q1956, List.forall_mem_cons.mpr ⟨⟨RX5, TX5, 49, rfl, by decide, rfl, rfl, Or.inl rfl⟩, fun _ h => absurd h List.not_mem_nil⟩, by decide⟩
theorem fp_X5_m_5_38 {nm : String} : cz_FP "HeldCoatsModel" nm [(5, 38)] := List.forall_mem_cons.mpr ⟨⟨RX5, TX5, 49, rfl, Or.inl rfl⟩, fun _ h => absurd h List.not_mem_nil⟩
theorem se_HeldCoatsModel_keepsAll___V_HeldCoatsModel : ∀ c ∈ ([5] : List Nat), ∃ q : vw_C, cz_cl[c]? = some q ∧ Cond.selects q.1 (⟨"HeldCoatsModel", "keepsAll", "()V"⟩ : MethodName) (⟨"HeldCoatsModel", "keepsAll", "()V"⟩ : MethodName) ∈ lw_all := List.forall_mem_cons.mpr ⟨⟨_, cz_cl5, qs80⟩, fun _ h => absurd h List.not_mem_nil⟩
theorem md_X5_keepsAll : cz_md yX5_keepsAll 2 (ws_ yX5_keepsAll cX5_keepsAll 2 ((Option.none : Option Jvm.ClassFile.FieldType))) 0 := ⟨cz_ws_code q2250, q123, ⟨by decide, by decide, by decide +kernel⟩, by decide⟩
theorem kS_m1000 : (Int16.ofInt (-1000)).toInt32 = (-1000) := by decide
set_option maxHeartbeats 4000000 in
set_option maxRecDepth 100000 in
noncomputable def fn_X5_book_39 (l0 : Option Nat) (k0 : cz_H → cz_Z) (k1 : cz_H → cz_Z) : Nat → cz_H → cz_Z
  | 0, _ => none
  | n + 1, h => cz_getI h l0 [(5, 11)] (fun x20 => (if x20 = 0 then k1 h else cz_rc h l0 [5] (cz_cI (fn_X5_bookLine l0 h) (fun x28 h27 => (if x28 = 0 then k0 h27 else cz_rc h27 l0 [5] (cz_cI (fn_X5_sign l0 59 h27) (fun x36 h35 => (if x36 = 0 then k0 h35 else cz_getI h35 l0 [(5, 36)] (fun x37 => cz_put h35 l0 [(5, 36)] (cz_i (x37 + 1)) (fun h38 => fn_X5_book_39 l0 k0 k1 n h38))))))))))
set_option maxHeartbeats 4000000 in
set_option maxRecDepth 100000 in
theorem wk_X5_book_39 {K : cz_K} {D : cz_D} {h0 : cz_H} {oh : cz_O × cz_H} {l0 : Option Nat} {l1 : Int32} {k0 : cz_H → cz_Z} {k1 : cz_H → cz_Z} (S : cz_S K D h0 cX5_book 5 "HeldCoatsModel" ((Option.some Jvm.ClassFile.FieldType.int)) "book" ([])) (hk0 : ∀ (h : cz_H), cz_T K D 9 h0 oh 5 (k0 h) h 62 [(0, cz_r l0)] []) (hk1 : ∀ (h : cz_H), cz_T K D 9 h0 oh 5 (k1 h) h 83 [(0, cz_r l0), (1, cz_i l1)] []) : ∀ (n : Nat) (h : cz_H), cz_T K D 9 h0 oh 5 (fn_X5_book_39 l0 k0 k1 n h) h 39 [(0, cz_r l0), (1, cz_i l1)] [] := by
  intro n
  induction n with
  | zero => intros; exact ct_none
  | succ n ih =>
    intro h
    rw [fn_X5_book_39]
    refine ct_aload_n (k := 0) S dX5_book_39 rfl rfl ?_
    refine ct_getI S fw_X5_139 dX5_book_40 (fun x20 => ?_)
    refine ct_if_eq (tgt := 83) S dX5_book_43 (by decide) ?_ ?_
    · exact hk1 h
    · refine ct_aload_n (k := 0) S dX5_book_46 rfl rfl ?_
      refine ct_rc (fun b21 ci22 V23 hb24 hc25 hi26 => ?_)
      refine ct_cI (st := []) (cg_virtual (av := []) S hb24 hc25 hi26 (fun _ e => mt_X5_bookLine e) md_X5_bookLine q2443 q2445 se_HeldCoatsModel_bookLine___Z_HeldCoatsModel (by decide) (Nat.le_of_ble_eq_true rfl) rfl dX5_book_47) (fun x28 h27 => ?_)
      refine ct_if_eq (tgt := 62) S dX5_book_50 (by decide) ?_ ?_
      · exact ct_sub [0] rfl (hk0 h27)
      · refine ct_aload_n (k := 0) S dX5_book_53 rfl rfl ?_
        refine ct_bipush (v := 59) S dX5_book_54 kB_59 ?_
        refine ct_rc (fun b29 ci30 V31 hb32 hc33 hi34 => ?_)
        refine ct_cI (st := []) (cg_virtual (av := [cz_i 59]) S hb32 hc33 hi34 (fun _ e => mt_X5_sign e) md_X5_sign q2144 q2146 se_HeldCoatsModel_sign__I_Z_HeldCoatsModel (by decide) (Nat.le_of_ble_eq_true rfl) rfl dX5_book_56) (fun x36 h35 => ?_)
        refine ct_if_ne (tgt := 70) S dX5_book_59 (by decide) ?_ ?_
        · refine ct_aload_n (k := 0) S dX5_book_70 rfl rfl ?_
          refine ct_dup S dX5_book_71 rfl ?_
          refine ct_getI S fw_X5_397 dX5_book_72 (fun x37 => ?_)
          refine ct_iconst (v := 1) S dX5_book_75 kI_1 ?_
          refine ct_iadd S dX5_book_76 ?_
          refine ct_put S fw_X5_397 fp_X5_m_5_36 (cz_fits_i pd_I) dX5_book_77 (fun h38 => ?_)
          refine ct_goto (tgt := 39) S dX5_book_80 (by decide) ?_
          exact ih h38
        · exact ct_sub [0] rfl (hk0 h35)
set_option maxHeartbeats 4000000 in
set_option maxRecDepth 100000 in
noncomputable def fn_X5_book_89 (l0 : Option Nat) (k0 : cz_H → cz_Z) : Nat → Int32 → cz_H → cz_Z
  | 0, _, _ => none
  | n + 1, l2, h => (if (4 : Int32) ≤ l2 then k0 h else cz_getR h l0 [(5, 37)] (fun r49 => cz_iast h r49 l2 0 (fun h50 => cz_leti (l2 + 1) (fun x51 => fn_X5_book_89 l0 k0 n x51 h50))))
set_option maxHeartbeats 4000000 in
set_option maxRecDepth 100000 in
theorem wk_X5_book_89 {K : cz_K} {D : cz_D} {h0 : cz_H} {oh : cz_O × cz_H} {l0 : Option Nat} {l1 : Int32} {k0 : cz_H → cz_Z} (S : cz_S K D h0 cX5_book 5 "HeldCoatsModel" ((Option.some Jvm.ClassFile.FieldType.int)) "book" ([])) (hk0 : ∀ (h : cz_H), cz_T K D 9 h0 oh 5 (k0 h) h 107 [(0, cz_r l0), (1, cz_i l1)] []) : ∀ (n : Nat) (l2 : Int32) (h : cz_H), cz_T K D 9 h0 oh 5 (fn_X5_book_89 l0 k0 n l2 h) h 89 [(0, cz_r l0), (1, cz_i l1), (2, cz_i l2)] [] := by
  intro n
  induction n with
  | zero => intros; exact ct_none
  | succ n ih =>
    intro l2 h
    rw [fn_X5_book_89]
    refine ct_iload_n (k := 2) S dX5_book_89 rfl rfl ?_
    refine ct_iconst (v := 4) S dX5_book_90 kI_4 ?_
    refine ct_icmp_ge (tgt := 107) S dX5_book_91 (by decide) ?_ ?_
    · exact ct_sub [0, 1] rfl (hk0 h)
    · refine ct_aload_n (k := 0) S dX5_book_94 rfl rfl ?_
      refine ct_getR S fw_X5_59 dX5_book_95 (fun r49 => ?_)
      refine ct_iload_n (k := 2) S dX5_book_98 rfl rfl ?_
      refine ct_iconst (v := 0) S dX5_book_99 kI_0 ?_
      refine ct_iast S dX5_book_100 (fun h50 => ?_)
      refine ct_iincL (j := 2) (L2 := fun x51 => [(2, cz_i x51), (0, cz_r l0), (1, cz_i l1)]) S dX5_book_101 rfl kI_1 (by decide) (fun _ => rfl) (fun x51 => ?_)
      refine ct_goto (tgt := 89) S dX5_book_104 (by decide) ?_
      exact ct_sub [1, 2, 0] rfl (ih x51 h50)
set_option maxHeartbeats 4000000 in
set_option maxRecDepth 100000 in
noncomputable def fn_X5_book_120 (l0 : Option Nat) (k0 : Int32 → cz_H → cz_Z) : Nat → Int32 → Int32 → cz_H → cz_Z
  | 0, _, _, _ => none
  | n + 1, l3, l4, h => cz_getI h l0 [(5, 36)] (fun x55 => (if x55 ≤ l4 then k0 l3 h else (if 0 ≤ l3 then k0 l3 h else cz_getR h l0 [(5, 37)] (fun r56 => cz_getR h l0 [(5, 8)] (fun r57 => cz_iald h r57 ((3 : Int32) * l4) (fun x58 => cz_getR h l0 [(5, 8)] (fun r59 => cz_iald h r59 (((3 : Int32) * l4) + 1) (fun x60 => cz_getR h l0 [(5, 8)] (fun r61 => cz_iald h r61 (((3 : Int32) * l4) + 2) (fun x62 => cz_rc h l0 [5] (cz_cI (fn_X5_does l0 x58 x60 x62 h) (fun x70 h69 => cz_iast h69 r56 0 x70 (fun h71 => cz_getR h71 l0 [(5, 37)] (fun r72 => cz_iald h71 r72 0 (fun x73 => (if x73 ≤ 0 then cz_getR h71 l0 [(5, 37)] (fun r74 => cz_iald h71 r74 1 (fun x75 => cz_iast h71 r74 1 (x75 + 1) (fun h76 => cz_leti (l4 + 1) (fun x77 => fn_X5_book_120 l0 k0 n l3 x77 h76)))) else cz_leti (l4 + 1) (fun x78 => fn_X5_book_120 l0 k0 n l4 x78 h71)))))))))))))))))
set_option maxHeartbeats 4000000 in
set_option maxRecDepth 100000 in
theorem wk_X5_book_120 {K : cz_K} {D : cz_D} {h0 : cz_H} {oh : cz_O × cz_H} {l0 : Option Nat} {l1 : Int32} {l2 : Int32} {k0 : Int32 → cz_H → cz_Z} (S : cz_S K D h0 cX5_book 5 "HeldCoatsModel" ((Option.some Jvm.ClassFile.FieldType.int)) "book" ([])) (hk0 : ∀ (e3 : Int32) (h : cz_H), cz_T K D 9 h0 oh 5 (k0 e3 h) h 205 [(0, cz_r l0), (1, cz_i l1), (2, cz_i l2), (3, cz_i e3)] []) : ∀ (n : Nat) (l3 : Int32) (l4 : Int32) (h : cz_H), cz_T K D 9 h0 oh 5 (fn_X5_book_120 l0 k0 n l3 l4 h) h 120 [(0, cz_r l0), (1, cz_i l1), (2, cz_i l2), (3, cz_i l3), (4, cz_i l4)] [] := by
  intro n
  induction n with
  | zero => intros; exact ct_none
  | succ n ih =>
    intro l3 l4 h
    rw [fn_X5_book_120]
    refine ct_iload (k := 4) S dX5_book_120 rfl ?_
    refine ct_aload_n (k := 0) S dX5_book_122 rfl rfl ?_
    refine ct_getI S fw_X5_397 dX5_book_123 (fun x55 => ?_)
    refine ct_icmp_ge (tgt := 205) S dX5_book_126 (by decide) ?_ ?_
    · exact ct_sub [0, 1, 2, 3] rfl (hk0 l3 h)
    · refine ct_iload_n (k := 3) S dX5_book_129 rfl rfl ?_
      refine ct_if_ge (tgt := 205) S dX5_book_130 (by decide) ?_ ?_
      · exact ct_sub [0, 1, 2, 3] rfl (hk0 l3 h)
      · refine ct_aload_n (k := 0) S dX5_book_133 rfl rfl ?_
        refine ct_getR S fw_X5_59 dX5_book_134 (fun r56 => ?_)
        refine ct_iconst (v := 0) S dX5_book_137 kI_0 ?_
        refine ct_aload_n (k := 0) S dX5_book_138 rfl rfl ?_
        refine ct_aload_n (k := 0) S dX5_book_139 rfl rfl ?_
        refine ct_getR S fw_X5_40 dX5_book_140 (fun r57 => ?_)
        refine ct_iconst (v := 3) S dX5_book_143 kI_3 ?_
        refine ct_iload (k := 4) S dX5_book_144 rfl ?_
        refine ct_imul S dX5_book_146 ?_
        refine ct_iald S dX5_book_147 (fun x58 => ?_)
        refine ct_aload_n (k := 0) S dX5_book_148 rfl rfl ?_
        refine ct_getR S fw_X5_40 dX5_book_149 (fun r59 => ?_)
        refine ct_iconst (v := 3) S dX5_book_152 kI_3 ?_
        refine ct_iload (k := 4) S dX5_book_153 rfl ?_
        refine ct_imul S dX5_book_155 ?_
        refine ct_iconst (v := 1) S dX5_book_156 kI_1 ?_
        refine ct_iadd S dX5_book_157 ?_
        refine ct_iald S dX5_book_158 (fun x60 => ?_)
        refine ct_aload_n (k := 0) S dX5_book_159 rfl rfl ?_
        refine ct_getR S fw_X5_40 dX5_book_160 (fun r61 => ?_)
        refine ct_iconst (v := 3) S dX5_book_163 kI_3 ?_
        refine ct_iload (k := 4) S dX5_book_164 rfl ?_
        refine ct_imul S dX5_book_166 ?_
        refine ct_iconst (v := 2) S dX5_book_167 kI_2 ?_
        refine ct_iadd S dX5_book_168 ?_
        refine ct_iald S dX5_book_169 (fun x62 => ?_)
        refine ct_rc (fun b63 ci64 V65 hb66 hc67 hi68 => ?_)
        refine ct_cI (st := [cz_i 0, cz_r r56]) (cg_virtual (av := [cz_i x58, cz_i x60, cz_i x62]) S hb66 hc67 hi68 (fun _ e => mt_X5_does e) md_X5_does q2447 q2449 se_HeldCoatsModel_does__III_I_HeldCoatsModel (by decide) (Nat.le_of_ble_eq_true rfl) rfl dX5_book_170) (fun x70 h69 => ?_)
        refine ct_iast S dX5_book_173 (fun h71 => ?_)
        refine ct_aload_n (k := 0) S dX5_book_174 rfl rfl ?_
        refine ct_getR S fw_X5_59 dX5_book_175 (fun r72 => ?_)
        refine ct_iconst (v := 0) S dX5_book_178 kI_0 ?_
        refine ct_iald S dX5_book_179 (fun x73 => ?_)
        refine ct_if_le (tgt := 189) S dX5_book_180 (by decide) ?_ ?_
        · refine ct_aload_n (k := 0) S dX5_book_189 rfl rfl ?_
          refine ct_getR S fw_X5_59 dX5_book_190 (fun r74 => ?_)
          refine ct_iconst (v := 1) S dX5_book_193 kI_1 ?_
          refine ct_dup2 S dX5_book_194 rfl rfl ?_
          refine ct_iald S dX5_book_195 (fun x75 => ?_)
          refine ct_iconst (v := 1) S dX5_book_196 kI_1 ?_
          refine ct_iadd S dX5_book_197 ?_
          refine ct_iast S dX5_book_198 (fun h76 => ?_)
          refine ct_iincL (j := 4) (L2 := fun x77 => [(4, cz_i x77), (0, cz_r l0), (1, cz_i l1), (2, cz_i l2), (3, cz_i l3)]) S dX5_book_199 rfl kI_1 (by decide) (fun _ => rfl) (fun x77 => ?_)
          refine ct_goto (tgt := 120) S dX5_book_202 (by decide) ?_
          exact ct_sub [1, 2, 3, 4, 0] rfl (ih l3 x77 h76)
        · refine ct_iload (k := 4) S dX5_book_183 rfl ?_
          refine ct_istore_n (L' := [(3, cz_i l4), (0, cz_r l0), (1, cz_i l1), (2, cz_i l2), (4, cz_i l4)]) S dX5_book_185 rfl (by decide) rfl ?_
          refine ct_goto (tgt := 199) S dX5_book_186 (by decide) ?_
          refine ct_iincL (j := 4) (L2 := fun x78 => [(4, cz_i x78), (3, cz_i l4), (0, cz_r l0), (1, cz_i l1), (2, cz_i l2)]) S dX5_book_199 rfl kI_1 (by decide) (fun _ => rfl) (fun x78 => ?_)
          refine ct_goto (tgt := 120) S dX5_book_202 (by decide) ?_
          exact ct_sub [2, 3, 4, 1, 0] rfl (ih l4 x78 h71)
set_option maxHeartbeats 4000000 in
set_option maxRecDepth 100000 in
noncomputable def fn_X5_book_259 (l0 : Option Nat) (k0 : cz_H → cz_Z) : Nat → Int32 → cz_H → cz_Z
  | 0, _, _ => none
  | n + 1, l4, h => (if (56 : Int32) ≤ l4 then k0 h else cz_getR h l0 [(5, 21)] (fun r108 => cz_getI h l0 [(5, 23)] (fun x109 => cz_getR h l0 [(5, 22)] (fun r110 => cz_iald h r110 l4 (fun x111 => cz_iast h r108 (((56 : Int32) * (x109 - 1)) + l4) x111 (fun h112 => cz_leti (l4 + 1) (fun x113 => fn_X5_book_259 l0 k0 n x113 h112)))))))
set_option maxHeartbeats 4000000 in
set_option maxRecDepth 100000 in
theorem wk_X5_book_259 {K : cz_K} {D : cz_D} {h0 : cz_H} {oh : cz_O × cz_H} {l0 : Option Nat} {l1 : Int32} {l3 : Int32} {k0 : cz_H → cz_Z} (S : cz_S K D h0 cX5_book 5 "HeldCoatsModel" ((Option.some Jvm.ClassFile.FieldType.int)) "book" ([])) (hk0 : ∀ (h : cz_H), cz_T K D 9 h0 oh 5 (k0 h) h 296 [(0, cz_r l0), (1, cz_i l1), (3, cz_i l3)] []) : ∀ (n : Nat) (l4 : Int32) (h : cz_H), cz_T K D 9 h0 oh 5 (fn_X5_book_259 l0 k0 n l4 h) h 259 [(0, cz_r l0), (1, cz_i l1), (3, cz_i l3), (4, cz_i l4)] [] := by
  intro n
  induction n with
  | zero => intros; exact ct_none
  | succ n ih =>
    intro l4 h
    rw [fn_X5_book_259]
    refine ct_iload (k := 3) S dX5_book_259 rfl ?_
    refine ct_bipush (v := 56) S dX5_book_261 kB_56 ?_
    refine ct_icmp_ge (tgt := 296) S dX5_book_263 (by decide) ?_ ?_
    · exact ct_sub [0, 1, 2] rfl (hk0 h)
    · refine ct_aload_n (k := 0) S dX5_book_266 rfl rfl ?_
      refine ct_getR S fw_X5_50 dX5_book_267 (fun r108 => ?_)
      refine ct_bipush (v := 56) S dX5_book_270 kB_56 ?_
      refine ct_aload_n (k := 0) S dX5_book_272 rfl rfl ?_
      refine ct_getI S fw_X5_231 dX5_book_273 (fun x109 => ?_)
      refine ct_iconst (v := 1) S dX5_book_276 kI_1 ?_
      refine ct_isub S dX5_book_277 ?_
      refine ct_imul S dX5_book_278 ?_
      refine ct_iload (k := 3) S dX5_book_279 rfl ?_
      refine ct_iadd S dX5_book_281 ?_
      refine ct_aload_n (k := 0) S dX5_book_282 rfl rfl ?_
      refine ct_getR S fw_X5_53 dX5_book_283 (fun r110 => ?_)
      refine ct_iload (k := 3) S dX5_book_286 rfl ?_
      refine ct_iald S dX5_book_288 (fun x111 => ?_)
      refine ct_iast S dX5_book_289 (fun h112 => ?_)
      refine ct_iincL (j := 3) (L2 := fun x113 => [(4, cz_i x113), (0, cz_r l0), (1, cz_i l1), (3, cz_i l3)]) S dX5_book_290 rfl kI_1 (by decide) (fun _ => rfl) (fun x113 => ?_)
      refine ct_goto (tgt := 259) S dX5_book_293 (by decide) ?_
      exact ct_sub [1, 2, 3, 0] rfl (ih x113 h112)
set_option maxHeartbeats 4000000 in
set_option maxRecDepth 100000 in
noncomputable def fn_X5_book (l0 : Option Nat) (l1 : Int32) (h : cz_H) : cz_Z := cz_put h l0 [(5, 0)] (cz_i 0) (fun h1 => cz_cI (fn_X5_isIn l1 0 1 h1) (fun x3 h2 => (if x3 = 0 then some (.inl (some (cz_i (-1000))), h2) else cz_rc h2 l0 [5] (cz_cV (fn_X5_taken l0 400 h2) (fun h10 => cz_put h10 l0 [(5, 15)] (cz_i 0) (fun h11 => cz_put h11 l0 [(5, 36)] (cz_i 0) (fun h12 => cz_rc h12 l0 [5] (cz_cV (fn_X5_next l0 h12) (fun h19 => fn_X5_book_39 l0 (fun (h39 : cz_H) => cz_getI h39 l0 [(5, 16)] (fun x40 => some (.inl (some (cz_i (((-2) : Int32) - x40))), h39))) (fun (h41 : cz_H) => cz_rc h41 l0 [5] (cz_cV (fn_X5_tries l0 h41) (fun h48 => fn_X5_book_89 l0 (fun (h52 : cz_H) => cz_getR h52 l0 [(5, 6)] (fun r53 => cz_iald h52 r53 63 (fun x54 => fn_X5_book_120 l0 (fun (e79 : Int32) (h80 : cz_H) => cz_getR h80 l0 [(5, 37)] (fun r81 => cz_getR h80 l0 [(5, 6)] (fun r82 => cz_iald h80 r82 62 (fun x83 => cz_iast h80 r81 2 x83 (fun h84 => cz_getR h84 l0 [(5, 37)] (fun r85 => cz_getR h84 l0 [(5, 6)] (fun r86 => cz_iald h84 r86 63 (fun x87 => cz_iast h84 r85 3 (x87 - x54) (fun h88 => cz_put h88 l0 [(5, 38)] (cz_i 1) (fun h89 => cz_jn (fun (h90 : cz_H) => (if l1 = 0 then cz_rc h90 l0 [5] (cz_cV (fn_X5_back l0 h90) (fun h97 => some (.inl (some (cz_i e79)), h97))) else some (.inl (some (cz_i e79)), h90))) (fun j98 => (if l1 = 1 then cz_getR h89 l0 [(5, 37)] (fun r99 => cz_iald h89 r99 1 (fun x100 => (if x100 ≤ 0 then j98 h89 else cz_rc h89 l0 [5] (cz_cV (fn_X5_keepsAll l0 h89) (fun h107 => fn_X5_book_259 l0 (fun (h114 : cz_H) => j98 h114) 1000 0 h107))))) else j98 h89)))))))))))) 1000 (-1) 0 h52))) 1000 0 h48))) 1000 h19)))))))))
set_option maxHeartbeats 4000000 in
set_option maxRecDepth 100000 in
theorem wk_X5_book {K : cz_K} {D : cz_D} {h0 : cz_H} {oh : cz_O × cz_H} {l0 : Option Nat} {l1 : Int32} {h : cz_H} (S : cz_S K D h0 cX5_book 5 "HeldCoatsModel" ((Option.some Jvm.ClassFile.FieldType.int)) "book" ([])) : cz_T K D 9 h0 oh 5 (fn_X5_book l0 l1 h) h 0 [(0, cz_r l0), (1, cz_i l1)] [] := by
  unfold fn_X5_book
  refine ct_aload_n (k := 0) S dX5_book_0 rfl rfl ?_
  refine ct_iconst (v := 0) S dX5_book_1 kI_0 ?_
  refine ct_put S fw_X5_1 fp_X5_m_5_0 (cz_fits_i pd_I) dX5_book_2 (fun h1 => ?_)
  refine ct_iload_n (k := 1) S dX5_book_5 rfl rfl ?_
  refine ct_iconst (v := 0) S dX5_book_6 kI_0 ?_
  refine ct_iconst (v := 1) S dX5_book_7 kI_1 ?_
  refine ct_cI (st := []) (cg_static (av := [cz_i l1, cz_i 0, cz_i 1]) S (fun _ e => mt_X5_isIn e) md_X5_isIn (Or.inl q2122) q2123 (by decide) (Nat.le_of_ble_eq_true rfl) rfl dX5_book_8) (fun x3 h2 => ?_)
  refine ct_if_ne (tgt := 18) S dX5_book_11 (by decide) ?_ ?_
  · refine ct_aload_n (k := 0) S dX5_book_18 rfl rfl ?_
    refine ct_sipush (v := 400) S dX5_book_19 kS_400 ?_
    refine ct_rc (fun b4 ci5 V6 hb7 hc8 hi9 => ?_)
    refine ct_cV (st := []) (cg_virtual (av := [cz_i 400]) S hb7 hc8 hi9 (fun _ e => mt_X5_taken e) md_X5_taken q2072 q2074 se_HeldCoatsModel_taken__I_V_HeldCoatsModel (by decide) (Nat.le_of_ble_eq_true rfl) rfl dX5_book_22) (fun h10 => ?_)
    refine ct_aload_n (k := 0) S dX5_book_25 rfl rfl ?_
    refine ct_iconst (v := 0) S dX5_book_26 kI_0 ?_
    refine ct_put S fw_X5_156 fp_X5_m_5_15 (cz_fits_i pd_I) dX5_book_27 (fun h11 => ?_)
    refine ct_aload_n (k := 0) S dX5_book_30 rfl rfl ?_
    refine ct_iconst (v := 0) S dX5_book_31 kI_0 ?_
    refine ct_put S fw_X5_397 fp_X5_m_5_36 (cz_fits_i pd_I) dX5_book_32 (fun h12 => ?_)
    refine ct_aload_n (k := 0) S dX5_book_35 rfl rfl ?_
    refine ct_rc (fun b13 ci14 V15 hb16 hc17 hi18 => ?_)
    refine ct_cV (st := []) (cg_virtual (av := []) S hb16 hc17 hi18 (fun _ e => mt_X5_next e) md_X5_next q2076 q2078 se_HeldCoatsModel_next___V_HeldCoatsModel (by decide) (Nat.le_of_ble_eq_true rfl) rfl dX5_book_36) (fun h19 => ?_)
    refine ct_sub [0, 1] (L' := [(0, cz_r l0), (1, cz_i l1)]) rfl (wk_X5_book_39 S ?_ ?_ 1000 h19)
    · intro h39
      refine ct_bipush (v := (-2)) S dX5_book_62 kB_m2 ?_
      refine ct_aload_n (k := 0) S dX5_book_64 rfl rfl ?_
      refine ct_getI S fw_X5_159 dX5_book_65 (fun x40 => ?_)
      refine ct_isub S dX5_book_68 ?_
      exact ct_iret S rfl dX5_book_69
    · intro h41
      refine ct_aload_n (k := 0) S dX5_book_83 rfl rfl ?_
      refine ct_rc (fun b42 ci43 V44 hb45 hc46 hi47 => ?_)
      refine ct_cV (st := []) (cg_virtual (av := []) S hb45 hc46 hi47 (fun _ e => mt_X5_tries e) md_X5_tries q2370 q2372 se_HeldCoatsModel_tries___V_HeldCoatsModel (by decide) (Nat.le_of_ble_eq_true rfl) rfl dX5_book_84) (fun h48 => ?_)
      refine ct_iconst (v := 0) S dX5_book_87 kI_0 ?_
      refine ct_istore_n (L' := [(2, cz_i 0), (0, cz_r l0), (1, cz_i l1)]) S dX5_book_88 rfl (by decide) rfl ?_
      refine ct_sub [1, 2, 0] (L' := [(0, cz_r l0), (1, cz_i l1), (2, cz_i 0)]) rfl (wk_X5_book_89 S ?_ 1000 0 h48)
      · intro h52
        refine ct_aload_n (k := 0) S dX5_book_107 rfl rfl ?_
        refine ct_getR S fw_X5_33 dX5_book_108 (fun r53 => ?_)
        refine ct_bipush (v := 63) S dX5_book_111 kB_63 ?_
        refine ct_iald S dX5_book_113 (fun x54 => ?_)
        refine ct_istore_n (L' := [(2, cz_i x54), (0, cz_r l0), (1, cz_i l1)]) S dX5_book_114 rfl (by decide) rfl ?_
        refine ct_iconst (v := (-1)) S dX5_book_115 kI_m1 ?_
        refine ct_istore_n (L' := [(3, cz_i (-1)), (2, cz_i x54), (0, cz_r l0), (1, cz_i l1)]) S dX5_book_116 rfl (by decide) rfl ?_
        refine ct_iconst (v := 0) S dX5_book_117 kI_0 ?_
        refine ct_istore (L' := [(4, cz_i 0), (3, cz_i (-1)), (2, cz_i x54), (0, cz_r l0), (1, cz_i l1)]) S dX5_book_118 (by decide) rfl ?_
        refine ct_sub [3, 4, 2, 1, 0] (L' := [(0, cz_r l0), (1, cz_i l1), (2, cz_i x54), (3, cz_i (-1)), (4, cz_i 0)]) rfl (wk_X5_book_120 S ?_ 1000 (-1) 0 h52)
        · intro e79 h80
          refine ct_aload_n (k := 0) S dX5_book_205 rfl rfl ?_
          refine ct_getR S fw_X5_59 dX5_book_206 (fun r81 => ?_)
          refine ct_iconst (v := 2) S dX5_book_209 kI_2 ?_
          refine ct_aload_n (k := 0) S dX5_book_210 rfl rfl ?_
          refine ct_getR S fw_X5_33 dX5_book_211 (fun r82 => ?_)
          refine ct_bipush (v := 62) S dX5_book_214 kB_62 ?_
          refine ct_iald S dX5_book_216 (fun x83 => ?_)
          refine ct_iast S dX5_book_217 (fun h84 => ?_)
          refine ct_aload_n (k := 0) S dX5_book_218 rfl rfl ?_
          refine ct_getR S fw_X5_59 dX5_book_219 (fun r85 => ?_)
          refine ct_iconst (v := 3) S dX5_book_222 kI_3 ?_
          refine ct_aload_n (k := 0) S dX5_book_223 rfl rfl ?_
          refine ct_getR S fw_X5_33 dX5_book_224 (fun r86 => ?_)
          refine ct_bipush (v := 63) S dX5_book_227 kB_63 ?_
          refine ct_iald S dX5_book_229 (fun x87 => ?_)
          refine ct_iload_n (k := 2) S dX5_book_230 rfl rfl ?_
          refine ct_isub S dX5_book_231 ?_
          refine ct_iast S dX5_book_232 (fun h88 => ?_)
          refine ct_aload_n (k := 0) S dX5_book_233 rfl rfl ?_
          refine ct_iconst (v := 1) S dX5_book_234 kI_1 ?_
          refine ct_put S fw_X5_406 fp_X5_m_5_38 (cz_fits_z pd_Z (Or.inr rfl)) dX5_book_235 (fun h89 => ?_)
          refine ct_iload_n (k := 1) S dX5_book_238 rfl rfl ?_
          refine ct_iconst (v := 1) S dX5_book_239 kI_1 ?_
          refine ct_jnP (fun j98 => ∀ (h90 : cz_H), cz_T K D 9 h0 oh 5 (j98 h90) h90 296 [(0, cz_r l0), (1, cz_i l1), (3, cz_i e79)] []) (fun h90 => ?_) (fun j98 Hj98 => ?_)
          · refine ct_iload_n (k := 1) S dX5_book_296 rfl rfl ?_
            refine ct_if_ne (tgt := 304) S dX5_book_297 (by decide) ?_ ?_
            · refine ct_iload_n (k := 2) S dX5_book_304 rfl rfl ?_
              exact ct_iret S rfl dX5_book_305
            · refine ct_aload_n (k := 0) S dX5_book_300 rfl rfl ?_
              refine ct_rc (fun b91 ci92 V93 hb94 hc95 hi96 => ?_)
              refine ct_cV (st := []) (cg_virtual (av := []) S hb94 hc95 hi96 (fun _ e => mt_X5_back e) md_X5_back q2374 q2376 se_HeldCoatsModel_back___V_HeldCoatsModel (by decide) (Nat.le_of_ble_eq_true rfl) rfl dX5_book_301) (fun h97 => ?_)
              refine ct_iload_n (k := 2) S dX5_book_304 rfl rfl ?_
              exact ct_iret S rfl dX5_book_305
          · refine ct_icmp_ne (tgt := 296) S dX5_book_240 (by decide) ?_ ?_
            · exact ct_sub [0, 1, 3] rfl (Hj98 h89)
            · refine ct_aload_n (k := 0) S dX5_book_243 rfl rfl ?_
              refine ct_getR S fw_X5_59 dX5_book_244 (fun r99 => ?_)
              refine ct_iconst (v := 1) S dX5_book_247 kI_1 ?_
              refine ct_iald S dX5_book_248 (fun x100 => ?_)
              refine ct_if_le (tgt := 296) S dX5_book_249 (by decide) ?_ ?_
              · exact ct_sub [0, 1, 3] rfl (Hj98 h89)
              · refine ct_aload_n (k := 0) S dX5_book_252 rfl rfl ?_
                refine ct_rc (fun b101 ci102 V103 hb104 hc105 hi106 => ?_)
                refine ct_cV (st := []) (cg_virtual (av := []) S hb104 hc105 hi106 (fun _ e => mt_X5_keepsAll e) md_X5_keepsAll q2247 q2249 se_HeldCoatsModel_keepsAll___V_HeldCoatsModel (by decide) (Nat.le_of_ble_eq_true rfl) rfl dX5_book_253) (fun h107 => ?_)
                refine ct_iconst (v := 0) S dX5_book_256 kI_0 ?_
                refine ct_istore (L' := [(4, cz_i 0), (0, cz_r l0), (1, cz_i l1), (2, cz_i x54), (3, cz_i e79)]) S dX5_book_257 (by decide) rfl ?_
                refine ct_sub [1, 2, 4, 0] (L' := [(0, cz_r l0), (1, cz_i l1), (3, cz_i e79), (4, cz_i 0)]) rfl (wk_X5_book_259 S ?_ 1000 0 h107)
                · intro h114
                  exact Hj98 h114
  · refine ct_sipush (v := (-1000)) S dX5_book_14 kS_m1000 ?_
    exact ct_iret S rfl dX5_book_17
theorem mt_X5_book {l : Launch} {D : cz_D} {l0 : Option Nat} {l1 : Int32} {h : cz_H} {oh : cz_O × cz_H} (hz : fn_X5_book l0 l1 h = some oh) : cz_M l D yX5_book (ws_ yX5_book cX5_book 5 ((Option.some Jvm.ClassFile.FieldType.int))) 9 [cz_r l0, cz_i l1] h oh := cz_met (plainFor_of_name (by decide)) (Nat.le_of_ble_eq_true rfl) hz (fun K hl S => wk_X5_book S)
/-! HeldCoatsModel.bribes(I)I -/
def dkwX5_bribes_3 : List UInt8 := [167, 255, 226, 27, 184, 1, 67, 28, 100, 172]
abbrev dktX5_bribes_3 : List UInt8 := dkwX5_bribes_3 ++ []
def dkwX5_bribes_2 : List UInt8 := [162, 0, 25, 27, 42, 180, 0, 33, 16, 109, 28, 96, 46, 184, 0, 196, 153, 0, 9, 132, 2, 1]
abbrev dktX5_bribes_2 : List UInt8 := dkwX5_bribes_2 ++ dktX5_bribes_3
def dkwX5_bribes_1 : List UInt8 := [16, 20, 182, 0, 253, 2, 130, 126, 153, 0, 5, 2, 172, 3, 61, 28, 42, 180, 0, 33, 16, 117, 46]
abbrev dktX5_bribes_1 : List UInt8 := dkwX5_bribes_1 ++ dktX5_bribes_2
def dkwX5_bribes_0 : List UInt8 := [42, 3, 181, 0, 1, 27, 155, 0, 28, 27, 4, 42, 180, 0, 33, 5, 46, 120, 162, 0, 16, 27, 42]
abbrev dktX5_bribes_0 : List UInt8 := dkwX5_bribes_0 ++ dktX5_bribes_1
theorem dksX5_bribes_0 : cX5_bribes.data.toList.drop 0 = dktX5_bribes_0 := by decide +kernel
theorem dksX5_bribes_1 : cX5_bribes.data.toList.drop 23 = dktX5_bribes_1 := dk_seg dksX5_bribes_0 23 rfl rfl
theorem dksX5_bribes_2 : cX5_bribes.data.toList.drop 46 = dktX5_bribes_2 := dk_seg dksX5_bribes_1 23 rfl rfl
theorem dksX5_bribes_3 : cX5_bribes.data.toList.drop 68 = dktX5_bribes_3 := dk_seg dksX5_bribes_2 22 rfl rfl
theorem dX5_bribes_0 : decode cX5_bribes 0 = .ok (.aload_n 0, 1) := dk_42 (dk_at dksX5_bribes_0 0 rfl rfl)
theorem dX5_bribes_1 : decode cX5_bribes 1 = .ok (.iconst 0, 1) := dk_3 (dk_at dksX5_bribes_0 1 rfl rfl)
theorem dX5_bribes_2 : decode cX5_bribes 2 = .ok (.putfield 1, 3) := dk_181 0 1 (dk_at dksX5_bribes_0 2 rfl rfl)
theorem dX5_bribes_5 : decode cX5_bribes 5 = .ok (.iload_n 1, 1) := dk_27 (dk_at dksX5_bribes_0 5 rfl rfl)
theorem dX5_bribes_6 : decode cX5_bribes 6 = .ok (.ifCond .lt 28, 3) := dk_155 0 28 (dk_at dksX5_bribes_0 6 rfl rfl)
theorem dX5_bribes_9 : decode cX5_bribes 9 = .ok (.iload_n 1, 1) := dk_27 (dk_at dksX5_bribes_0 9 rfl rfl)
theorem dX5_bribes_10 : decode cX5_bribes 10 = .ok (.iconst 1, 1) := dk_4 (dk_at dksX5_bribes_0 10 rfl rfl)
theorem dX5_bribes_11 : decode cX5_bribes 11 = .ok (.aload_n 0, 1) := dk_42 (dk_at dksX5_bribes_0 11 rfl rfl)
theorem dX5_bribes_12 : decode cX5_bribes 12 = .ok (.getfield 33, 3) := dk_180 0 33 (dk_at dksX5_bribes_0 12 rfl rfl)
theorem dX5_bribes_15 : decode cX5_bribes 15 = .ok (.iconst 2, 1) := dk_5 (dk_at dksX5_bribes_0 15 rfl rfl)
theorem dX5_bribes_16 : decode cX5_bribes 16 = .ok (.iaload, 1) := dk_46 (dk_at dksX5_bribes_0 16 rfl rfl)
theorem dX5_bribes_17 : decode cX5_bribes 17 = .ok (.ishl, 1) := dk_120 (dk_at dksX5_bribes_0 17 rfl rfl)
theorem dX5_bribes_18 : decode cX5_bribes 18 = .ok (.if_icmp .ge 16, 3) := dk_162 0 16 (dk_at dksX5_bribes_0 18 rfl rfl)
theorem dX5_bribes_21 : decode cX5_bribes 21 = .ok (.iload_n 1, 1) := dk_27 (dk_at dksX5_bribes_0 21 rfl rfl)
theorem dX5_bribes_22 : decode cX5_bribes 22 = .ok (.aload_n 0, 1) := dk_42 (dk_at dksX5_bribes_0 22 rfl rfl)
theorem dX5_bribes_23 : decode cX5_bribes 23 = .ok (.bipush 20, 2) := dk_16 20 (dk_at dksX5_bribes_1 0 rfl rfl)
theorem dX5_bribes_25 : decode cX5_bribes 25 = .ok (.invokevirtual 253, 3) := dk_182 0 253 (dk_at dksX5_bribes_1 2 rfl rfl)
theorem dX5_bribes_28 : decode cX5_bribes 28 = .ok (.iconst (-1), 1) := dk_2 (dk_at dksX5_bribes_1 5 rfl rfl)
theorem dX5_bribes_29 : decode cX5_bribes 29 = .ok (.ixor, 1) := dk_130 (dk_at dksX5_bribes_1 6 rfl rfl)
theorem dX5_bribes_30 : decode cX5_bribes 30 = .ok (.iand, 1) := dk_126 (dk_at dksX5_bribes_1 7 rfl rfl)
theorem dX5_bribes_31 : decode cX5_bribes 31 = .ok (.ifCond .eq 5, 3) := dk_153 0 5 (dk_at dksX5_bribes_1 8 rfl rfl)
theorem dX5_bribes_34 : decode cX5_bribes 34 = .ok (.iconst (-1), 1) := dk_2 (dk_at dksX5_bribes_1 11 rfl rfl)
theorem dX5_bribes_35 : decode cX5_bribes 35 = .ok (.ireturn, 1) := dk_172 (dk_at dksX5_bribes_1 12 rfl rfl)
theorem dX5_bribes_36 : decode cX5_bribes 36 = .ok (.iconst 0, 1) := dk_3 (dk_at dksX5_bribes_1 13 rfl rfl)
theorem dX5_bribes_37 : decode cX5_bribes 37 = .ok (.istore_n 2, 1) := dk_61 (dk_at dksX5_bribes_1 14 rfl rfl)
theorem dX5_bribes_38 : decode cX5_bribes 38 = .ok (.iload_n 2, 1) := dk_28 (dk_at dksX5_bribes_1 15 rfl rfl)
theorem dX5_bribes_39 : decode cX5_bribes 39 = .ok (.aload_n 0, 1) := dk_42 (dk_at dksX5_bribes_1 16 rfl rfl)
theorem dX5_bribes_40 : decode cX5_bribes 40 = .ok (.getfield 33, 3) := dk_180 0 33 (dk_at dksX5_bribes_1 17 rfl rfl)
theorem dX5_bribes_43 : decode cX5_bribes 43 = .ok (.bipush 117, 2) := dk_16 117 (dk_at dksX5_bribes_1 20 rfl rfl)
theorem dX5_bribes_45 : decode cX5_bribes 45 = .ok (.iaload, 1) := dk_46 (dk_at dksX5_bribes_1 22 rfl rfl)
theorem dX5_bribes_46 : decode cX5_bribes 46 = .ok (.if_icmp .ge 25, 3) := dk_162 0 25 (dk_at dksX5_bribes_2 0 rfl rfl)
theorem dX5_bribes_49 : decode cX5_bribes 49 = .ok (.iload_n 1, 1) := dk_27 (dk_at dksX5_bribes_2 3 rfl rfl)
theorem dX5_bribes_50 : decode cX5_bribes 50 = .ok (.aload_n 0, 1) := dk_42 (dk_at dksX5_bribes_2 4 rfl rfl)
theorem dX5_bribes_51 : decode cX5_bribes 51 = .ok (.getfield 33, 3) := dk_180 0 33 (dk_at dksX5_bribes_2 5 rfl rfl)
theorem dX5_bribes_54 : decode cX5_bribes 54 = .ok (.bipush 109, 2) := dk_16 109 (dk_at dksX5_bribes_2 8 rfl rfl)
theorem dX5_bribes_56 : decode cX5_bribes 56 = .ok (.iload_n 2, 1) := dk_28 (dk_at dksX5_bribes_2 10 rfl rfl)
theorem dX5_bribes_57 : decode cX5_bribes 57 = .ok (.iadd, 1) := dk_96 (dk_at dksX5_bribes_2 11 rfl rfl)
theorem dX5_bribes_58 : decode cX5_bribes 58 = .ok (.iaload, 1) := dk_46 (dk_at dksX5_bribes_2 12 rfl rfl)
theorem dX5_bribes_59 : decode cX5_bribes 59 = .ok (.invokestatic 196, 3) := dk_184 0 196 (dk_at dksX5_bribes_2 13 rfl rfl)
theorem dX5_bribes_62 : decode cX5_bribes 62 = .ok (.ifCond .eq 9, 3) := dk_153 0 9 (dk_at dksX5_bribes_2 16 rfl rfl)
theorem dX5_bribes_65 : decode cX5_bribes 65 = .ok (.iinc 2 1, 3) := dk_132 2 1 (dk_at dksX5_bribes_2 19 rfl rfl)
theorem dX5_bribes_68 : decode cX5_bribes 68 = .ok (.goto (-30), 3) := dk_167 255 226 (dk_at dksX5_bribes_3 0 rfl rfl)
theorem dX5_bribes_71 : decode cX5_bribes 71 = .ok (.iload_n 1, 1) := dk_27 (dk_at dksX5_bribes_3 3 rfl rfl)
theorem dX5_bribes_72 : decode cX5_bribes 72 = .ok (.invokestatic 323, 3) := dk_184 1 67 (dk_at dksX5_bribes_3 4 rfl rfl)
theorem dX5_bribes_75 : decode cX5_bribes 75 = .ok (.iload_n 2, 1) := dk_28 (dk_at dksX5_bribes_3 7 rfl rfl)
theorem dX5_bribes_76 : decode cX5_bribes 76 = .ok (.isub, 1) := dk_100 (dk_at dksX5_bribes_3 8 rfl rfl)
theorem dX5_bribes_77 : decode cX5_bribes 77 = .ok (.ireturn, 1) := dk_172 (dk_at dksX5_bribes_3 9 rfl rfl)
set_option maxHeartbeats 4000000 in
set_option maxRecDepth 100000 in
noncomputable def fn_X5_bribes_38 (l0 : Option Nat) (l1 : Int32) (k0 : Int32 → cz_H → cz_Z) : Nat → Int32 → cz_H → cz_Z
  | 0, _, _ => none
  | n + 1, l2, h => cz_getR h l0 [(5, 6)] (fun r12 => cz_iald h r12 117 (fun x13 => (if x13 ≤ l2 then k0 l2 h else cz_getR h l0 [(5, 6)] (fun r14 => cz_iald h r14 ((109 : Int32) + l2) (fun x15 => cz_cI (fn_X5_bitOf l1 x15 h) (fun x17 h16 => (if x17 = 0 then k0 l2 h16 else cz_leti (l2 + 1) (fun x18 => fn_X5_bribes_38 l0 l1 k0 n x18 h16))))))))
set_option maxHeartbeats 4000000 in
set_option maxRecDepth 100000 in
theorem wk_X5_bribes_38 {K : cz_K} {D : cz_D} {h0 : cz_H} {oh : cz_O × cz_H} {l0 : Option Nat} {l1 : Int32} {k0 : Int32 → cz_H → cz_Z} (S : cz_S K D h0 cX5_bribes 3 "HeldCoatsModel" ((Option.some Jvm.ClassFile.FieldType.int)) "bribes" ([])) (hk0 : ∀ (e2 : Int32) (h : cz_H), cz_T K D 3 h0 oh 3 (k0 e2 h) h 71 [(1, cz_i l1), (2, cz_i e2)] []) : ∀ (n : Nat) (l2 : Int32) (h : cz_H), cz_T K D 3 h0 oh 3 (fn_X5_bribes_38 l0 l1 k0 n l2 h) h 38 [(0, cz_r l0), (1, cz_i l1), (2, cz_i l2)] [] := by
  intro n
  induction n with
  | zero => intros; exact ct_none
  | succ n ih =>
    intro l2 h
    rw [fn_X5_bribes_38]
    refine ct_iload_n (k := 2) S dX5_bribes_38 rfl rfl ?_
    refine ct_aload_n (k := 0) S dX5_bribes_39 rfl rfl ?_
    refine ct_getR S fw_X5_33 dX5_bribes_40 (fun r12 => ?_)
    refine ct_bipush (v := 117) S dX5_bribes_43 kB_117 ?_
    refine ct_iald S dX5_bribes_45 (fun x13 => ?_)
    refine ct_icmp_ge (tgt := 71) S dX5_bribes_46 (by decide) ?_ ?_
    · exact ct_sub [1, 2] rfl (hk0 l2 h)
    · refine ct_iload_n (k := 1) S dX5_bribes_49 rfl rfl ?_
      refine ct_aload_n (k := 0) S dX5_bribes_50 rfl rfl ?_
      refine ct_getR S fw_X5_33 dX5_bribes_51 (fun r14 => ?_)
      refine ct_bipush (v := 109) S dX5_bribes_54 kB_109 ?_
      refine ct_iload_n (k := 2) S dX5_bribes_56 rfl rfl ?_
      refine ct_iadd S dX5_bribes_57 ?_
      refine ct_iald S dX5_bribes_58 (fun x15 => ?_)
      refine ct_cI (st := []) (cg_static (av := [cz_i l1, cz_i x15]) S (fun _ e => mt_X5_bitOf e) md_X5_bitOf (Or.inl q2141) q2142 (by decide) (Nat.le_of_ble_eq_true rfl) rfl dX5_bribes_59) (fun x17 h16 => ?_)
      refine ct_if_eq (tgt := 71) S dX5_bribes_62 (by decide) ?_ ?_
      · exact ct_sub [1, 2] rfl (hk0 l2 h16)
      · refine ct_iincL (j := 2) (L2 := fun x18 => [(2, cz_i x18), (0, cz_r l0), (1, cz_i l1)]) S dX5_bribes_65 rfl kI_1 (by decide) (fun _ => rfl) (fun x18 => ?_)
        refine ct_goto (tgt := 38) S dX5_bribes_68 (by decide) ?_
        exact ct_sub [1, 2, 0] rfl (ih x18 h16)
set_option maxHeartbeats 4000000 in
set_option maxRecDepth 100000 in
noncomputable def fn_X5_bribes (l0 : Option Nat) (l1 : Int32) (h : cz_H) : cz_Z := cz_put h l0 [(5, 0)] (cz_i 0) (fun h1 => (if l1 < 0 then some (.inl (some (cz_i (-1))), h1) else cz_getR h1 l0 [(5, 6)] (fun r2 => cz_iald h1 r2 2 (fun x3 => (if ((1 : Int32) <<< (x3 &&& 31)) ≤ l1 then some (.inl (some (cz_i (-1))), h1) else cz_rc h1 l0 [5] (cz_cI (fn_X5_coatsAt l0 20 h1) (fun x11 h10 => (if (l1 &&& (x11 ^^^ (-1))) = 0 then fn_X5_bribes_38 l0 l1 (fun (e19 : Int32) (h20 : cz_H) => cz_cI (fn_X5_bits l1 h20) (fun x22 h21 => some (.inl (some (cz_i (x22 - e19))), h21))) 1000 0 h10 else some (.inl (some (cz_i (-1))), h10)))))))))
set_option maxHeartbeats 4000000 in
set_option maxRecDepth 100000 in
theorem wk_X5_bribes {K : cz_K} {D : cz_D} {h0 : cz_H} {oh : cz_O × cz_H} {l0 : Option Nat} {l1 : Int32} {h : cz_H} (S : cz_S K D h0 cX5_bribes 3 "HeldCoatsModel" ((Option.some Jvm.ClassFile.FieldType.int)) "bribes" ([])) : cz_T K D 3 h0 oh 3 (fn_X5_bribes l0 l1 h) h 0 [(0, cz_r l0), (1, cz_i l1)] [] := by
  unfold fn_X5_bribes
  refine ct_aload_n (k := 0) S dX5_bribes_0 rfl rfl ?_
  refine ct_iconst (v := 0) S dX5_bribes_1 kI_0 ?_
  refine ct_put S fw_X5_1 fp_X5_m_5_0 (cz_fits_i pd_I) dX5_bribes_2 (fun h1 => ?_)
  refine ct_iload_n (k := 1) S dX5_bribes_5 rfl rfl ?_
  refine ct_if_lt (tgt := 34) S dX5_bribes_6 (by decide) ?_ ?_
  · refine ct_iconst (v := (-1)) S dX5_bribes_34 kI_m1 ?_
    exact ct_iret S rfl dX5_bribes_35
  · refine ct_iload_n (k := 1) S dX5_bribes_9 rfl rfl ?_
    refine ct_iconst (v := 1) S dX5_bribes_10 kI_1 ?_
    refine ct_aload_n (k := 0) S dX5_bribes_11 rfl rfl ?_
    refine ct_getR S fw_X5_33 dX5_bribes_12 (fun r2 => ?_)
    refine ct_iconst (v := 2) S dX5_bribes_15 kI_2 ?_
    refine ct_iald S dX5_bribes_16 (fun x3 => ?_)
    refine ct_ishl S dX5_bribes_17 ?_
    refine ct_icmp_ge (tgt := 34) S dX5_bribes_18 (by decide) ?_ ?_
    · refine ct_iconst (v := (-1)) S dX5_bribes_34 kI_m1 ?_
      exact ct_iret S rfl dX5_bribes_35
    · refine ct_iload_n (k := 1) S dX5_bribes_21 rfl rfl ?_
      refine ct_aload_n (k := 0) S dX5_bribes_22 rfl rfl ?_
      refine ct_bipush (v := 20) S dX5_bribes_23 kB_20 ?_
      refine ct_rc (fun b4 ci5 V6 hb7 hc8 hi9 => ?_)
      refine ct_cI (st := [cz_i l1]) (cg_virtual (av := [cz_i 20]) S hb7 hc8 hi9 (fun _ e => mt_X5_coatsAt e) md_X5_coatsAt q2200 q2202 se_HeldCoatsModel_coatsAt__I_I_HeldCoatsModel (by decide) (Nat.le_of_ble_eq_true rfl) rfl dX5_bribes_25) (fun x11 h10 => ?_)
      refine ct_iconst (v := (-1)) S dX5_bribes_28 kI_m1 ?_
      refine ct_ixor S dX5_bribes_29 ?_
      refine ct_iand S dX5_bribes_30 ?_
      refine ct_if_eq (tgt := 36) S dX5_bribes_31 (by decide) ?_ ?_
      · refine ct_iconst (v := 0) S dX5_bribes_36 kI_0 ?_
        refine ct_istore_n (L' := [(2, cz_i 0), (0, cz_r l0), (1, cz_i l1)]) S dX5_bribes_37 rfl (by decide) rfl ?_
        refine ct_sub [1, 2, 0] (L' := [(0, cz_r l0), (1, cz_i l1), (2, cz_i 0)]) rfl (wk_X5_bribes_38 S ?_ 1000 0 h10)
        · intro e19 h20
          refine ct_iload_n (k := 0) S dX5_bribes_71 rfl rfl ?_
          refine ct_cI (st := []) (cg_static (av := [cz_i l1]) S (fun _ e => mt_X5_bits e) md_X5_bits (Or.inl q2311) q2312 (by decide) (Nat.le_of_ble_eq_true rfl) rfl dX5_bribes_72) (fun x22 h21 => ?_)
          refine ct_iload_n (k := 1) S dX5_bribes_75 rfl rfl ?_
          refine ct_isub S dX5_bribes_76 ?_
          exact ct_iret S rfl dX5_bribes_77
      · refine ct_iconst (v := (-1)) S dX5_bribes_34 kI_m1 ?_
        exact ct_iret S rfl dX5_bribes_35
theorem mt_X5_bribes {l : Launch} {D : cz_D} {l0 : Option Nat} {l1 : Int32} {h : cz_H} {oh : cz_O × cz_H} (hz : fn_X5_bribes l0 l1 h = some oh) : cz_M l D yX5_bribes (ws_ yX5_bribes cX5_bribes 3 ((Option.some Jvm.ClassFile.FieldType.int))) 3 [cz_r l0, cz_i l1] h oh := cz_met (plainFor_of_name (by decide)) (Nat.le_of_ble_eq_true rfl) hz (fun K hl S => wk_X5_bribes S)
/-! HeldCoatsModel.clears()V -/
def dkwX5_clears_2 : List UInt8 := [177]
abbrev dktX5_clears_2 : List UInt8 := dkwX5_clears_2 ++ []
def dkwX5_clears_1 : List UInt8 := [180, 0, 37, 7, 16, 9, 79, 42, 180, 0, 37, 8, 4, 79, 42, 180, 0, 37, 16, 6, 17, 0, 200, 79]
abbrev dktX5_clears_1 : List UInt8 := dkwX5_clears_1 ++ dktX5_clears_2
def dkwX5_clears_0 : List UInt8 := [3, 60, 27, 16, 62, 162, 0, 16, 42, 180, 0, 37, 27, 3, 79, 132, 1, 1, 167, 255, 240, 42]
abbrev dktX5_clears_0 : List UInt8 := dkwX5_clears_0 ++ dktX5_clears_1
theorem dksX5_clears_0 : cX5_clears.data.toList.drop 0 = dktX5_clears_0 := by decide +kernel
theorem dksX5_clears_1 : cX5_clears.data.toList.drop 22 = dktX5_clears_1 := dk_seg dksX5_clears_0 22 rfl rfl
theorem dksX5_clears_2 : cX5_clears.data.toList.drop 46 = dktX5_clears_2 := dk_seg dksX5_clears_1 24 rfl rfl
theorem dX5_clears_0 : decode cX5_clears 0 = .ok (.iconst 0, 1) := dk_3 (dk_at dksX5_clears_0 0 rfl rfl)
theorem dX5_clears_1 : decode cX5_clears 1 = .ok (.istore_n 1, 1) := dk_60 (dk_at dksX5_clears_0 1 rfl rfl)
theorem dX5_clears_2 : decode cX5_clears 2 = .ok (.iload_n 1, 1) := dk_27 (dk_at dksX5_clears_0 2 rfl rfl)
theorem dX5_clears_3 : decode cX5_clears 3 = .ok (.bipush 62, 2) := dk_16 62 (dk_at dksX5_clears_0 3 rfl rfl)
theorem dX5_clears_5 : decode cX5_clears 5 = .ok (.if_icmp .ge 16, 3) := dk_162 0 16 (dk_at dksX5_clears_0 5 rfl rfl)
theorem dX5_clears_8 : decode cX5_clears 8 = .ok (.aload_n 0, 1) := dk_42 (dk_at dksX5_clears_0 8 rfl rfl)
theorem dX5_clears_9 : decode cX5_clears 9 = .ok (.getfield 37, 3) := dk_180 0 37 (dk_at dksX5_clears_0 9 rfl rfl)
theorem dX5_clears_12 : decode cX5_clears 12 = .ok (.iload_n 1, 1) := dk_27 (dk_at dksX5_clears_0 12 rfl rfl)
theorem dX5_clears_13 : decode cX5_clears 13 = .ok (.iconst 0, 1) := dk_3 (dk_at dksX5_clears_0 13 rfl rfl)
theorem dX5_clears_14 : decode cX5_clears 14 = .ok (.iastore, 1) := dk_79 (dk_at dksX5_clears_0 14 rfl rfl)
theorem dX5_clears_15 : decode cX5_clears 15 = .ok (.iinc 1 1, 3) := dk_132 1 1 (dk_at dksX5_clears_0 15 rfl rfl)
theorem dX5_clears_18 : decode cX5_clears 18 = .ok (.goto (-16), 3) := dk_167 255 240 (dk_at dksX5_clears_0 18 rfl rfl)
theorem dX5_clears_21 : decode cX5_clears 21 = .ok (.aload_n 0, 1) := dk_42 (dk_at dksX5_clears_0 21 rfl rfl)
theorem dX5_clears_22 : decode cX5_clears 22 = .ok (.getfield 37, 3) := dk_180 0 37 (dk_at dksX5_clears_1 0 rfl rfl)
theorem dX5_clears_25 : decode cX5_clears 25 = .ok (.iconst 4, 1) := dk_7 (dk_at dksX5_clears_1 3 rfl rfl)
theorem dX5_clears_26 : decode cX5_clears 26 = .ok (.bipush 9, 2) := dk_16 9 (dk_at dksX5_clears_1 4 rfl rfl)
theorem dX5_clears_28 : decode cX5_clears 28 = .ok (.iastore, 1) := dk_79 (dk_at dksX5_clears_1 6 rfl rfl)
theorem dX5_clears_29 : decode cX5_clears 29 = .ok (.aload_n 0, 1) := dk_42 (dk_at dksX5_clears_1 7 rfl rfl)
theorem dX5_clears_30 : decode cX5_clears 30 = .ok (.getfield 37, 3) := dk_180 0 37 (dk_at dksX5_clears_1 8 rfl rfl)
theorem dX5_clears_33 : decode cX5_clears 33 = .ok (.iconst 5, 1) := dk_8 (dk_at dksX5_clears_1 11 rfl rfl)
theorem dX5_clears_34 : decode cX5_clears 34 = .ok (.iconst 1, 1) := dk_4 (dk_at dksX5_clears_1 12 rfl rfl)
theorem dX5_clears_35 : decode cX5_clears 35 = .ok (.iastore, 1) := dk_79 (dk_at dksX5_clears_1 13 rfl rfl)
theorem dX5_clears_36 : decode cX5_clears 36 = .ok (.aload_n 0, 1) := dk_42 (dk_at dksX5_clears_1 14 rfl rfl)
theorem dX5_clears_37 : decode cX5_clears 37 = .ok (.getfield 37, 3) := dk_180 0 37 (dk_at dksX5_clears_1 15 rfl rfl)
theorem dX5_clears_40 : decode cX5_clears 40 = .ok (.bipush 6, 2) := dk_16 6 (dk_at dksX5_clears_1 18 rfl rfl)
theorem dX5_clears_42 : decode cX5_clears 42 = .ok (.sipush 200, 3) := dk_17 0 200 (dk_at dksX5_clears_1 20 rfl rfl)
theorem dX5_clears_45 : decode cX5_clears 45 = .ok (.iastore, 1) := dk_79 (dk_at dksX5_clears_1 23 rfl rfl)
theorem dX5_clears_46 : decode cX5_clears 46 = .ok (.return_, 1) := dk_177 (dk_at dksX5_clears_2 0 rfl rfl)
theorem fw_X5_37 : cz_FW "HeldCoatsModel" 37 [(5, 7)] "[I" := ⟨"HeldCoatsModel", "h", Or.inl q1925, List.forall_mem_cons.mpr ⟨⟨RX5, TX5, 49, rfl, by decide, rfl, rfl, Or.inl rfl⟩, fun _ h => absurd h List.not_mem_nil⟩, by decide⟩
theorem kS_200 : (Int16.ofInt (200)).toInt32 = 200 := by decide
theorem kB_6 : (Int8.ofInt (6)).toInt32 = 6 := by decide
theorem kB_9 : (Int8.ofInt (9)).toInt32 = 9 := by decide
set_option maxHeartbeats 4000000 in
set_option maxRecDepth 100000 in
noncomputable def fn_X5_clears_2 (l0 : Option Nat) (k0 : cz_H → cz_Z) : Nat → Int32 → cz_H → cz_Z
  | 0, _, _ => none
  | n + 1, l1, h => (if (62 : Int32) ≤ l1 then k0 h else cz_getR h l0 [(5, 7)] (fun r1 => cz_iast h r1 l1 0 (fun h2 => cz_leti (l1 + 1) (fun x3 => fn_X5_clears_2 l0 k0 n x3 h2))))
set_option maxHeartbeats 4000000 in
set_option maxRecDepth 100000 in
theorem wk_X5_clears_2 {K : cz_K} {D : cz_D} {h0 : cz_H} {oh : cz_O × cz_H} {l0 : Option Nat} {k0 : cz_H → cz_Z} (S : cz_S K D h0 cX5_clears 2 "HeldCoatsModel" ((Option.none : Option Jvm.ClassFile.FieldType)) "clears" ([])) (hk0 : ∀ (h : cz_H), cz_T K D 2 h0 oh 2 (k0 h) h 21 [(0, cz_r l0)] []) : ∀ (n : Nat) (l1 : Int32) (h : cz_H), cz_T K D 2 h0 oh 2 (fn_X5_clears_2 l0 k0 n l1 h) h 2 [(0, cz_r l0), (1, cz_i l1)] [] := by
  intro n
  induction n with
  | zero => intros; exact ct_none
  | succ n ih =>
    intro l1 h
    rw [fn_X5_clears_2]
    refine ct_iload_n (k := 1) S dX5_clears_2 rfl rfl ?_
    refine ct_bipush (v := 62) S dX5_clears_3 kB_62 ?_
    refine ct_icmp_ge (tgt := 21) S dX5_clears_5 (by decide) ?_ ?_
    · exact ct_sub [0] rfl (hk0 h)
    · refine ct_aload_n (k := 0) S dX5_clears_8 rfl rfl ?_
      refine ct_getR S fw_X5_37 dX5_clears_9 (fun r1 => ?_)
      refine ct_iload_n (k := 1) S dX5_clears_12 rfl rfl ?_
      refine ct_iconst (v := 0) S dX5_clears_13 kI_0 ?_
      refine ct_iast S dX5_clears_14 (fun h2 => ?_)
      refine ct_iincL (j := 1) (L2 := fun x3 => [(1, cz_i x3), (0, cz_r l0)]) S dX5_clears_15 rfl kI_1 (by decide) (fun _ => rfl) (fun x3 => ?_)
      refine ct_goto (tgt := 2) S dX5_clears_18 (by decide) ?_
      exact ct_sub [1, 0] rfl (ih x3 h2)
set_option maxHeartbeats 4000000 in
set_option maxRecDepth 100000 in
noncomputable def fn_X5_clears (l0 : Option Nat) (h : cz_H) : cz_Z := fn_X5_clears_2 l0 (fun (h4 : cz_H) => cz_getR h4 l0 [(5, 7)] (fun r5 => cz_iast h4 r5 4 9 (fun h6 => cz_getR h6 l0 [(5, 7)] (fun r7 => cz_iast h6 r7 5 1 (fun h8 => cz_getR h8 l0 [(5, 7)] (fun r9 => cz_iast h8 r9 6 200 (fun h10 => some (.inl none, h10)))))))) 1000 0 h
set_option maxHeartbeats 4000000 in
set_option maxRecDepth 100000 in
theorem wk_X5_clears {K : cz_K} {D : cz_D} {h0 : cz_H} {oh : cz_O × cz_H} {l0 : Option Nat} {h : cz_H} (S : cz_S K D h0 cX5_clears 2 "HeldCoatsModel" ((Option.none : Option Jvm.ClassFile.FieldType)) "clears" ([])) : cz_T K D 2 h0 oh 2 (fn_X5_clears l0 h) h 0 [(0, cz_r l0)] [] := by
  unfold fn_X5_clears
  refine ct_iconst (v := 0) S dX5_clears_0 kI_0 ?_
  refine ct_istore_n (L' := [(1, cz_i 0), (0, cz_r l0)]) S dX5_clears_1 rfl (by decide) rfl ?_
  refine ct_sub [1, 0] (L' := [(0, cz_r l0), (1, cz_i 0)]) rfl (wk_X5_clears_2 S ?_ 1000 0 h)
  · intro h4
    refine ct_aload_n (k := 0) S dX5_clears_21 rfl rfl ?_
    refine ct_getR S fw_X5_37 dX5_clears_22 (fun r5 => ?_)
    refine ct_iconst (v := 4) S dX5_clears_25 kI_4 ?_
    refine ct_bipush (v := 9) S dX5_clears_26 kB_9 ?_
    refine ct_iast S dX5_clears_28 (fun h6 => ?_)
    refine ct_aload_n (k := 0) S dX5_clears_29 rfl rfl ?_
    refine ct_getR S fw_X5_37 dX5_clears_30 (fun r7 => ?_)
    refine ct_iconst (v := 5) S dX5_clears_33 kI_5 ?_
    refine ct_iconst (v := 1) S dX5_clears_34 kI_1 ?_
    refine ct_iast S dX5_clears_35 (fun h8 => ?_)
    refine ct_aload_n (k := 0) S dX5_clears_36 rfl rfl ?_
    refine ct_getR S fw_X5_37 dX5_clears_37 (fun r9 => ?_)
    refine ct_bipush (v := 6) S dX5_clears_40 kB_6 ?_
    refine ct_sipush (v := 200) S dX5_clears_42 kS_200 ?_
    refine ct_iast S dX5_clears_45 (fun h10 => ?_)
    exact ct_vret S rfl dX5_clears_46
theorem mt_X5_clears {l : Launch} {D : cz_D} {l0 : Option Nat} {h : cz_H} {oh : cz_O × cz_H} (hz : fn_X5_clears l0 h = some oh) : cz_M l D yX5_clears (ws_ yX5_clears cX5_clears 2 ((Option.none : Option Jvm.ClassFile.FieldType))) 2 [cz_r l0] h oh := cz_met (plainFor_of_name (by decide)) (Nat.le_of_ble_eq_true rfl) hz (fun K hl S => wk_X5_clears S)
/-! HeldCoatsModel.fresh(I)Z -/
def dkwX5_fresh_3 : List UInt8 := [180, 0, 152, 80, 42, 182, 0, 168, 4, 172]
abbrev dktX5_fresh_3 : List UInt8 := dkwX5_fresh_3 ++ []
def dkwX5_fresh_2 : List UInt8 := [42, 180, 0, 37, 5, 46, 182, 0, 186, 155, 0, 9, 42, 6, 182, 0, 165, 172, 42, 180, 0, 43, 27, 42]
abbrev dktX5_fresh_2 : List UInt8 := dkwX5_fresh_2 ++ dktX5_fresh_3
def dkwX5_fresh_1 : List UInt8 := [182, 0, 186, 156, 0, 33, 42, 16, 30, 42, 180, 0, 37, 4, 46, 182, 0, 186, 156, 0, 18, 42, 16, 36]
abbrev dktX5_fresh_1 : List UInt8 := dkwX5_fresh_1 ++ dktX5_fresh_2
def dkwX5_fresh_0 : List UInt8 := [42, 182, 0, 182, 154, 0, 9, 42, 4, 182, 0, 165, 172, 42, 16, 22, 42, 180, 0, 37, 3, 46]
abbrev dktX5_fresh_0 : List UInt8 := dkwX5_fresh_0 ++ dktX5_fresh_1
theorem dksX5_fresh_0 : cX5_fresh.data.toList.drop 0 = dktX5_fresh_0 := by decide +kernel
theorem dksX5_fresh_1 : cX5_fresh.data.toList.drop 22 = dktX5_fresh_1 := dk_seg dksX5_fresh_0 22 rfl rfl
theorem dksX5_fresh_2 : cX5_fresh.data.toList.drop 46 = dktX5_fresh_2 := dk_seg dksX5_fresh_1 24 rfl rfl
theorem dksX5_fresh_3 : cX5_fresh.data.toList.drop 70 = dktX5_fresh_3 := dk_seg dksX5_fresh_2 24 rfl rfl
theorem dX5_fresh_0 : decode cX5_fresh 0 = .ok (.aload_n 0, 1) := dk_42 (dk_at dksX5_fresh_0 0 rfl rfl)
theorem dX5_fresh_1 : decode cX5_fresh 1 = .ok (.invokevirtual 182, 3) := dk_182 0 182 (dk_at dksX5_fresh_0 1 rfl rfl)
theorem dX5_fresh_4 : decode cX5_fresh 4 = .ok (.ifCond .ne 9, 3) := dk_154 0 9 (dk_at dksX5_fresh_0 4 rfl rfl)
theorem dX5_fresh_7 : decode cX5_fresh 7 = .ok (.aload_n 0, 1) := dk_42 (dk_at dksX5_fresh_0 7 rfl rfl)
theorem dX5_fresh_8 : decode cX5_fresh 8 = .ok (.iconst 1, 1) := dk_4 (dk_at dksX5_fresh_0 8 rfl rfl)
theorem dX5_fresh_9 : decode cX5_fresh 9 = .ok (.invokevirtual 165, 3) := dk_182 0 165 (dk_at dksX5_fresh_0 9 rfl rfl)
theorem dX5_fresh_12 : decode cX5_fresh 12 = .ok (.ireturn, 1) := dk_172 (dk_at dksX5_fresh_0 12 rfl rfl)
theorem dX5_fresh_13 : decode cX5_fresh 13 = .ok (.aload_n 0, 1) := dk_42 (dk_at dksX5_fresh_0 13 rfl rfl)
theorem dX5_fresh_14 : decode cX5_fresh 14 = .ok (.bipush 22, 2) := dk_16 22 (dk_at dksX5_fresh_0 14 rfl rfl)
theorem dX5_fresh_16 : decode cX5_fresh 16 = .ok (.aload_n 0, 1) := dk_42 (dk_at dksX5_fresh_0 16 rfl rfl)
theorem dX5_fresh_17 : decode cX5_fresh 17 = .ok (.getfield 37, 3) := dk_180 0 37 (dk_at dksX5_fresh_0 17 rfl rfl)
theorem dX5_fresh_20 : decode cX5_fresh 20 = .ok (.iconst 0, 1) := dk_3 (dk_at dksX5_fresh_0 20 rfl rfl)
theorem dX5_fresh_21 : decode cX5_fresh 21 = .ok (.iaload, 1) := dk_46 (dk_at dksX5_fresh_0 21 rfl rfl)
theorem dX5_fresh_22 : decode cX5_fresh 22 = .ok (.invokevirtual 186, 3) := dk_182 0 186 (dk_at dksX5_fresh_1 0 rfl rfl)
theorem dX5_fresh_25 : decode cX5_fresh 25 = .ok (.ifCond .ge 33, 3) := dk_156 0 33 (dk_at dksX5_fresh_1 3 rfl rfl)
theorem dX5_fresh_28 : decode cX5_fresh 28 = .ok (.aload_n 0, 1) := dk_42 (dk_at dksX5_fresh_1 6 rfl rfl)
theorem dX5_fresh_29 : decode cX5_fresh 29 = .ok (.bipush 30, 2) := dk_16 30 (dk_at dksX5_fresh_1 7 rfl rfl)
theorem dX5_fresh_31 : decode cX5_fresh 31 = .ok (.aload_n 0, 1) := dk_42 (dk_at dksX5_fresh_1 9 rfl rfl)
theorem dX5_fresh_32 : decode cX5_fresh 32 = .ok (.getfield 37, 3) := dk_180 0 37 (dk_at dksX5_fresh_1 10 rfl rfl)
theorem dX5_fresh_35 : decode cX5_fresh 35 = .ok (.iconst 1, 1) := dk_4 (dk_at dksX5_fresh_1 13 rfl rfl)
theorem dX5_fresh_36 : decode cX5_fresh 36 = .ok (.iaload, 1) := dk_46 (dk_at dksX5_fresh_1 14 rfl rfl)
theorem dX5_fresh_37 : decode cX5_fresh 37 = .ok (.invokevirtual 186, 3) := dk_182 0 186 (dk_at dksX5_fresh_1 15 rfl rfl)
theorem dX5_fresh_40 : decode cX5_fresh 40 = .ok (.ifCond .ge 18, 3) := dk_156 0 18 (dk_at dksX5_fresh_1 18 rfl rfl)
theorem dX5_fresh_43 : decode cX5_fresh 43 = .ok (.aload_n 0, 1) := dk_42 (dk_at dksX5_fresh_1 21 rfl rfl)
theorem dX5_fresh_44 : decode cX5_fresh 44 = .ok (.bipush 36, 2) := dk_16 36 (dk_at dksX5_fresh_1 22 rfl rfl)
theorem dX5_fresh_46 : decode cX5_fresh 46 = .ok (.aload_n 0, 1) := dk_42 (dk_at dksX5_fresh_2 0 rfl rfl)
theorem dX5_fresh_47 : decode cX5_fresh 47 = .ok (.getfield 37, 3) := dk_180 0 37 (dk_at dksX5_fresh_2 1 rfl rfl)
theorem dX5_fresh_50 : decode cX5_fresh 50 = .ok (.iconst 2, 1) := dk_5 (dk_at dksX5_fresh_2 4 rfl rfl)
theorem dX5_fresh_51 : decode cX5_fresh 51 = .ok (.iaload, 1) := dk_46 (dk_at dksX5_fresh_2 5 rfl rfl)
theorem dX5_fresh_52 : decode cX5_fresh 52 = .ok (.invokevirtual 186, 3) := dk_182 0 186 (dk_at dksX5_fresh_2 6 rfl rfl)
theorem dX5_fresh_55 : decode cX5_fresh 55 = .ok (.ifCond .lt 9, 3) := dk_155 0 9 (dk_at dksX5_fresh_2 9 rfl rfl)
theorem dX5_fresh_58 : decode cX5_fresh 58 = .ok (.aload_n 0, 1) := dk_42 (dk_at dksX5_fresh_2 12 rfl rfl)
theorem dX5_fresh_59 : decode cX5_fresh 59 = .ok (.iconst 3, 1) := dk_6 (dk_at dksX5_fresh_2 13 rfl rfl)
theorem dX5_fresh_60 : decode cX5_fresh 60 = .ok (.invokevirtual 165, 3) := dk_182 0 165 (dk_at dksX5_fresh_2 14 rfl rfl)
theorem dX5_fresh_63 : decode cX5_fresh 63 = .ok (.ireturn, 1) := dk_172 (dk_at dksX5_fresh_2 17 rfl rfl)
theorem dX5_fresh_64 : decode cX5_fresh 64 = .ok (.aload_n 0, 1) := dk_42 (dk_at dksX5_fresh_2 18 rfl rfl)
theorem dX5_fresh_65 : decode cX5_fresh 65 = .ok (.getfield 43, 3) := dk_180 0 43 (dk_at dksX5_fresh_2 19 rfl rfl)
theorem dX5_fresh_68 : decode cX5_fresh 68 = .ok (.iload_n 1, 1) := dk_27 (dk_at dksX5_fresh_2 22 rfl rfl)
theorem dX5_fresh_69 : decode cX5_fresh 69 = .ok (.aload_n 0, 1) := dk_42 (dk_at dksX5_fresh_2 23 rfl rfl)
theorem dX5_fresh_70 : decode cX5_fresh 70 = .ok (.getfield 152, 3) := dk_180 0 152 (dk_at dksX5_fresh_3 0 rfl rfl)
theorem dX5_fresh_73 : decode cX5_fresh 73 = .ok (.lastore, 1) := dk_80 (dk_at dksX5_fresh_3 3 rfl rfl)
theorem dX5_fresh_74 : decode cX5_fresh 74 = .ok (.aload_n 0, 1) := dk_42 (dk_at dksX5_fresh_3 4 rfl rfl)
theorem dX5_fresh_75 : decode cX5_fresh 75 = .ok (.invokevirtual 168, 3) := dk_182 0 168 (dk_at dksX5_fresh_3 5 rfl rfl)
theorem dX5_fresh_78 : decode cX5_fresh 78 = .ok (.iconst 1, 1) := dk_4 (dk_at dksX5_fresh_3 8 rfl rfl)
theorem dX5_fresh_79 : decode cX5_fresh 79 = .ok (.ireturn, 1) := dk_172 (dk_at dksX5_fresh_3 9 rfl rfl)
theorem kB_36 : (Int8.ofInt (36)).toInt32 = 36 := by decide
set_option maxHeartbeats 4000000 in
set_option maxRecDepth 100000 in
noncomputable def fn_X5_fresh (l0 : Option Nat) (l1 : Int32) (h : cz_H) : cz_Z := cz_rc h l0 [5] (cz_cI (fn_X5_isName l0 h) (fun x8 h7 => (if x8 = 0 then cz_rc h7 l0 [5] (cz_cI (fn_X5_bad l0 1 h7) (fun x80 h79 => cz_ckz x80 (some (.inl (some (cz_i x80)), h79)))) else cz_getR h7 l0 [(5, 7)] (fun r9 => cz_iald h7 r9 0 (fun x10 => cz_rc h7 l0 [5] (cz_cI (fn_X5_find l0 22 x10 h7) (fun x18 h17 => (if 0 ≤ x18 then cz_rc h17 l0 [5] (cz_cI (fn_X5_bad l0 3 h17) (fun x26 h25 => cz_ckz x26 (some (.inl (some (cz_i x26)), h25)))) else cz_getR h17 l0 [(5, 7)] (fun r27 => cz_iald h17 r27 1 (fun x28 => cz_rc h17 l0 [5] (cz_cI (fn_X5_find l0 30 x28 h17) (fun x36 h35 => (if 0 ≤ x36 then cz_rc h35 l0 [5] (cz_cI (fn_X5_bad l0 3 h35) (fun x44 h43 => cz_ckz x44 (some (.inl (some (cz_i x44)), h43)))) else cz_getR h35 l0 [(5, 7)] (fun r45 => cz_iald h35 r45 2 (fun x46 => cz_rc h35 l0 [5] (cz_cI (fn_X5_find l0 36 x46 h35) (fun x54 h53 => (if x54 < 0 then cz_getR h53 l0 [(5, 9)] (fun r55 => cz_getJ h53 l0 [(5, 17)] (fun y56 => cz_last h53 r55 l1 y56 (fun h57 => cz_rc h57 l0 [5] (cz_cV (fn_X5_next l0 h57) (fun h64 => some (.inl (some (cz_i 1)), h64)))))) else cz_rc h53 l0 [5] (cz_cI (fn_X5_bad l0 3 h53) (fun x72 h71 => cz_ckz x72 (some (.inl (some (cz_i x72)), h71))))))))))))))))))))))
set_option maxHeartbeats 4000000 in
set_option maxRecDepth 100000 in
theorem wk_X5_fresh {K : cz_K} {D : cz_D} {h0 : cz_H} {oh : cz_O × cz_H} {l0 : Option Nat} {l1 : Int32} {h : cz_H} (S : cz_S K D h0 cX5_fresh 2 "HeldCoatsModel" ((Option.some Jvm.ClassFile.FieldType.boolean)) "fresh" ([])) : cz_T K D 4 h0 oh 2 (fn_X5_fresh l0 l1 h) h 0 [(0, cz_r l0), (1, cz_i l1)] [] := by
  unfold fn_X5_fresh
  refine ct_aload_n (k := 0) S dX5_fresh_0 rfl rfl ?_
  refine ct_rc (fun b1 ci2 V3 hb4 hc5 hi6 => ?_)
  refine ct_cI (st := []) (cg_virtual (av := []) S hb4 hc5 hi6 (fun _ e => mt_X5_isName e) md_X5_isName q2106 q2108 se_HeldCoatsModel_isName___Z_HeldCoatsModel (by decide) (Nat.le_of_ble_eq_true rfl) rfl dX5_fresh_1) (fun x8 h7 => ?_)
  refine ct_if_ne (tgt := 13) S dX5_fresh_4 (by decide) ?_ ?_
  · refine ct_aload_n (k := 0) S dX5_fresh_13 rfl rfl ?_
    refine ct_bipush (v := 22) S dX5_fresh_14 kB_22 ?_
    refine ct_aload_n (k := 0) S dX5_fresh_16 rfl rfl ?_
    refine ct_getR S fw_X5_37 dX5_fresh_17 (fun r9 => ?_)
    refine ct_iconst (v := 0) S dX5_fresh_20 kI_0 ?_
    refine ct_iald S dX5_fresh_21 (fun x10 => ?_)
    refine ct_rc (fun b11 ci12 V13 hb14 hc15 hi16 => ?_)
    refine ct_cI (st := []) (cg_virtual (av := [cz_i 22, cz_i x10]) S hb14 hc15 hi16 (fun _ e => mt_X5_find e) md_X5_find q2110 q2112 se_HeldCoatsModel_find__II_I_HeldCoatsModel (by decide) (Nat.le_of_ble_eq_true rfl) rfl dX5_fresh_22) (fun x18 h17 => ?_)
    refine ct_if_ge (tgt := 58) S dX5_fresh_25 (by decide) ?_ ?_
    · refine ct_aload_n (k := 0) S dX5_fresh_58 rfl rfl ?_
      refine ct_iconst (v := 3) S dX5_fresh_59 kI_3 ?_
      refine ct_rc (fun b19 ci20 V21 hb22 hc23 hi24 => ?_)
      refine ct_cI (st := []) (cg_virtual (av := [cz_i 3]) S hb22 hc23 hi24 (fun _ e => mt_X5_bad e) md_X5_bad q2098 q2100 se_HeldCoatsModel_bad__I_Z_HeldCoatsModel (by decide) (Nat.le_of_ble_eq_true rfl) rfl dX5_fresh_60) (fun x26 h25 => ?_)
      refine ct_ckz (fun hx => ?_)
      exact ct_zr (ty := .boolean) S rfl (cz_nz hx) dX5_fresh_63
    · refine ct_aload_n (k := 0) S dX5_fresh_28 rfl rfl ?_
      refine ct_bipush (v := 30) S dX5_fresh_29 kB_30 ?_
      refine ct_aload_n (k := 0) S dX5_fresh_31 rfl rfl ?_
      refine ct_getR S fw_X5_37 dX5_fresh_32 (fun r27 => ?_)
      refine ct_iconst (v := 1) S dX5_fresh_35 kI_1 ?_
      refine ct_iald S dX5_fresh_36 (fun x28 => ?_)
      refine ct_rc (fun b29 ci30 V31 hb32 hc33 hi34 => ?_)
      refine ct_cI (st := []) (cg_virtual (av := [cz_i 30, cz_i x28]) S hb32 hc33 hi34 (fun _ e => mt_X5_find e) md_X5_find q2110 q2112 se_HeldCoatsModel_find__II_I_HeldCoatsModel (by decide) (Nat.le_of_ble_eq_true rfl) rfl dX5_fresh_37) (fun x36 h35 => ?_)
      refine ct_if_ge (tgt := 58) S dX5_fresh_40 (by decide) ?_ ?_
      · refine ct_aload_n (k := 0) S dX5_fresh_58 rfl rfl ?_
        refine ct_iconst (v := 3) S dX5_fresh_59 kI_3 ?_
        refine ct_rc (fun b37 ci38 V39 hb40 hc41 hi42 => ?_)
        refine ct_cI (st := []) (cg_virtual (av := [cz_i 3]) S hb40 hc41 hi42 (fun _ e => mt_X5_bad e) md_X5_bad q2098 q2100 se_HeldCoatsModel_bad__I_Z_HeldCoatsModel (by decide) (Nat.le_of_ble_eq_true rfl) rfl dX5_fresh_60) (fun x44 h43 => ?_)
        refine ct_ckz (fun hx => ?_)
        exact ct_zr (ty := .boolean) S rfl (cz_nz hx) dX5_fresh_63
      · refine ct_aload_n (k := 0) S dX5_fresh_43 rfl rfl ?_
        refine ct_bipush (v := 36) S dX5_fresh_44 kB_36 ?_
        refine ct_aload_n (k := 0) S dX5_fresh_46 rfl rfl ?_
        refine ct_getR S fw_X5_37 dX5_fresh_47 (fun r45 => ?_)
        refine ct_iconst (v := 2) S dX5_fresh_50 kI_2 ?_
        refine ct_iald S dX5_fresh_51 (fun x46 => ?_)
        refine ct_rc (fun b47 ci48 V49 hb50 hc51 hi52 => ?_)
        refine ct_cI (st := []) (cg_virtual (av := [cz_i 36, cz_i x46]) S hb50 hc51 hi52 (fun _ e => mt_X5_find e) md_X5_find q2110 q2112 se_HeldCoatsModel_find__II_I_HeldCoatsModel (by decide) (Nat.le_of_ble_eq_true rfl) rfl dX5_fresh_52) (fun x54 h53 => ?_)
        refine ct_if_lt (tgt := 64) S dX5_fresh_55 (by decide) ?_ ?_
        · refine ct_aload_n (k := 0) S dX5_fresh_64 rfl rfl ?_
          refine ct_getR S fw_X5_43 dX5_fresh_65 (fun r55 => ?_)
          refine ct_iload_n (k := 1) S dX5_fresh_68 rfl rfl ?_
          refine ct_aload_n (k := 0) S dX5_fresh_69 rfl rfl ?_
          refine ct_getJ S fw_X5_152 dX5_fresh_70 (fun y56 => ?_)
          refine ct_last S dX5_fresh_73 (fun h57 => ?_)
          refine ct_aload_n (k := 0) S dX5_fresh_74 rfl rfl ?_
          refine ct_rc (fun b58 ci59 V60 hb61 hc62 hi63 => ?_)
          refine ct_cV (st := []) (cg_virtual (av := []) S hb61 hc62 hi63 (fun _ e => mt_X5_next e) md_X5_next q2076 q2078 se_HeldCoatsModel_next___V_HeldCoatsModel (by decide) (Nat.le_of_ble_eq_true rfl) rfl dX5_fresh_75) (fun h64 => ?_)
          refine ct_iconst (v := 1) S dX5_fresh_78 kI_1 ?_
          exact ct_zr (ty := .boolean) S rfl rfl dX5_fresh_79
        · refine ct_aload_n (k := 0) S dX5_fresh_58 rfl rfl ?_
          refine ct_iconst (v := 3) S dX5_fresh_59 kI_3 ?_
          refine ct_rc (fun b65 ci66 V67 hb68 hc69 hi70 => ?_)
          refine ct_cI (st := []) (cg_virtual (av := [cz_i 3]) S hb68 hc69 hi70 (fun _ e => mt_X5_bad e) md_X5_bad q2098 q2100 se_HeldCoatsModel_bad__I_Z_HeldCoatsModel (by decide) (Nat.le_of_ble_eq_true rfl) rfl dX5_fresh_60) (fun x72 h71 => ?_)
          refine ct_ckz (fun hx => ?_)
          exact ct_zr (ty := .boolean) S rfl (cz_nz hx) dX5_fresh_63
  · refine ct_aload_n (k := 0) S dX5_fresh_7 rfl rfl ?_
    refine ct_iconst (v := 1) S dX5_fresh_8 kI_1 ?_
    refine ct_rc (fun b73 ci74 V75 hb76 hc77 hi78 => ?_)
    refine ct_cI (st := []) (cg_virtual (av := [cz_i 1]) S hb76 hc77 hi78 (fun _ e => mt_X5_bad e) md_X5_bad q2098 q2100 se_HeldCoatsModel_bad__I_Z_HeldCoatsModel (by decide) (Nat.le_of_ble_eq_true rfl) rfl dX5_fresh_9) (fun x80 h79 => ?_)
    refine ct_ckz (fun hx => ?_)
    exact ct_zr (ty := .boolean) S rfl (cz_nz hx) dX5_fresh_12
theorem mt_X5_fresh {l : Launch} {D : cz_D} {l0 : Option Nat} {l1 : Int32} {h : cz_H} {oh : cz_O × cz_H} (hz : fn_X5_fresh l0 l1 h = some oh) : cz_M l D yX5_fresh (ws_ yX5_fresh cX5_fresh 2 ((Option.some Jvm.ClassFile.FieldType.boolean))) 4 [cz_r l0, cz_i l1] h oh := cz_met (plainFor_of_name (by decide)) (Nat.le_of_ble_eq_true rfl) hz (fun K hl S => wk_X5_fresh S)
/-! HeldCoatsModel.puts(III)Z -/
def dkwX5_puts_0 : List UInt8 := [42, 28, 29, 182, 0, 178, 154, 0, 5, 3, 172, 42, 180, 0, 37, 27, 42, 180, 0, 175, 79, 4, 172]
abbrev dktX5_puts_0 : List UInt8 := dkwX5_puts_0 ++ []
theorem dksX5_puts_0 : cX5_puts.data.toList.drop 0 = dktX5_puts_0 := by decide +kernel
theorem dX5_puts_0 : decode cX5_puts 0 = .ok (.aload_n 0, 1) := dk_42 (dk_at dksX5_puts_0 0 rfl rfl)
theorem dX5_puts_1 : decode cX5_puts 1 = .ok (.iload_n 2, 1) := dk_28 (dk_at dksX5_puts_0 1 rfl rfl)
theorem dX5_puts_2 : decode cX5_puts 2 = .ok (.iload_n 3, 1) := dk_29 (dk_at dksX5_puts_0 2 rfl rfl)
theorem dX5_puts_3 : decode cX5_puts 3 = .ok (.invokevirtual 178, 3) := dk_182 0 178 (dk_at dksX5_puts_0 3 rfl rfl)
theorem dX5_puts_6 : decode cX5_puts 6 = .ok (.ifCond .ne 5, 3) := dk_154 0 5 (dk_at dksX5_puts_0 6 rfl rfl)
theorem dX5_puts_9 : decode cX5_puts 9 = .ok (.iconst 0, 1) := dk_3 (dk_at dksX5_puts_0 9 rfl rfl)
theorem dX5_puts_10 : decode cX5_puts 10 = .ok (.ireturn, 1) := dk_172 (dk_at dksX5_puts_0 10 rfl rfl)
theorem dX5_puts_11 : decode cX5_puts 11 = .ok (.aload_n 0, 1) := dk_42 (dk_at dksX5_puts_0 11 rfl rfl)
theorem dX5_puts_12 : decode cX5_puts 12 = .ok (.getfield 37, 3) := dk_180 0 37 (dk_at dksX5_puts_0 12 rfl rfl)
theorem dX5_puts_15 : decode cX5_puts 15 = .ok (.iload_n 1, 1) := dk_27 (dk_at dksX5_puts_0 15 rfl rfl)
theorem dX5_puts_16 : decode cX5_puts 16 = .ok (.aload_n 0, 1) := dk_42 (dk_at dksX5_puts_0 16 rfl rfl)
theorem dX5_puts_17 : decode cX5_puts 17 = .ok (.getfield 175, 3) := dk_180 0 175 (dk_at dksX5_puts_0 17 rfl rfl)
theorem dX5_puts_20 : decode cX5_puts 20 = .ok (.iastore, 1) := dk_79 (dk_at dksX5_puts_0 20 rfl rfl)
theorem dX5_puts_21 : decode cX5_puts 21 = .ok (.iconst 1, 1) := dk_4 (dk_at dksX5_puts_0 21 rfl rfl)
theorem dX5_puts_22 : decode cX5_puts 22 = .ok (.ireturn, 1) := dk_172 (dk_at dksX5_puts_0 22 rfl rfl)
set_option maxHeartbeats 4000000 in
set_option maxRecDepth 100000 in
noncomputable def fn_X5_puts (l0 : Option Nat) (l1 : Int32) (l2 : Int32) (l3 : Int32) (h : cz_H) : cz_Z := cz_rc h l0 [5] (cz_cI (fn_X5_takes l0 l2 l3 h) (fun x8 h7 => (if x8 = 0 then some (.inl (some (cz_i 0)), h7) else cz_getR h7 l0 [(5, 7)] (fun r9 => cz_getI h7 l0 [(5, 18)] (fun x10 => cz_iast h7 r9 l1 x10 (fun h11 => some (.inl (some (cz_i 1)), h11)))))))
set_option maxHeartbeats 4000000 in
set_option maxRecDepth 100000 in
theorem wk_X5_puts {K : cz_K} {D : cz_D} {h0 : cz_H} {oh : cz_O × cz_H} {l0 : Option Nat} {l1 : Int32} {l2 : Int32} {l3 : Int32} {h : cz_H} (S : cz_S K D h0 cX5_puts 4 "HeldCoatsModel" ((Option.some Jvm.ClassFile.FieldType.boolean)) "puts" ([])) : cz_T K D 5 h0 oh 4 (fn_X5_puts l0 l1 l2 l3 h) h 0 [(0, cz_r l0), (1, cz_i l1), (2, cz_i l2), (3, cz_i l3)] [] := by
  unfold fn_X5_puts
  refine ct_aload_n (k := 0) S dX5_puts_0 rfl rfl ?_
  refine ct_iload_n (k := 2) S dX5_puts_1 rfl rfl ?_
  refine ct_iload_n (k := 3) S dX5_puts_2 rfl rfl ?_
  refine ct_rc (fun b1 ci2 V3 hb4 hc5 hi6 => ?_)
  refine ct_cI (st := []) (cg_virtual (av := [cz_i l2, cz_i l3]) S hb4 hc5 hi6 (fun _ e => mt_X5_takes e) md_X5_takes q2118 q2120 se_HeldCoatsModel_takes__II_Z_HeldCoatsModel (by decide) (Nat.le_of_ble_eq_true rfl) rfl dX5_puts_3) (fun x8 h7 => ?_)
  refine ct_if_ne (tgt := 11) S dX5_puts_6 (by decide) ?_ ?_
  · refine ct_aload_n (k := 0) S dX5_puts_11 rfl rfl ?_
    refine ct_getR S fw_X5_37 dX5_puts_12 (fun r9 => ?_)
    refine ct_iload_n (k := 1) S dX5_puts_15 rfl rfl ?_
    refine ct_aload_n (k := 0) S dX5_puts_16 rfl rfl ?_
    refine ct_getI S fw_X5_175 dX5_puts_17 (fun x10 => ?_)
    refine ct_iast S dX5_puts_20 (fun h11 => ?_)
    refine ct_iconst (v := 1) S dX5_puts_21 kI_1 ?_
    exact ct_zr (ty := .boolean) S rfl rfl dX5_puts_22
  · refine ct_iconst (v := 0) S dX5_puts_9 kI_0 ?_
    exact ct_zr (ty := .boolean) S rfl rfl dX5_puts_10
theorem mt_X5_puts {l : Launch} {D : cz_D} {l0 : Option Nat} {l1 : Int32} {l2 : Int32} {l3 : Int32} {h : cz_H} {oh : cz_O × cz_H} (hz : fn_X5_puts l0 l1 l2 l3 h = some oh) : cz_M l D yX5_puts (ws_ yX5_puts cX5_puts 4 ((Option.some Jvm.ClassFile.FieldType.boolean))) 5 [cz_r l0, cz_i l1, cz_i l2, cz_i l3] h oh := cz_met (plainFor_of_name (by decide)) (Nat.le_of_ble_eq_true rfl) hz (fun K hl S => wk_X5_puts S)
/-! HeldCoatsModel.once(IIII)Z -/
def dkwX5_once_1 : List UInt8 := [120, 128, 181, 0, 193, 42, 182, 0, 168, 42, 28, 29, 21, 4, 182, 0, 199, 172]
abbrev dktX5_once_1 : List UInt8 := dkwX5_once_1 ++ []
def dkwX5_once_0 : List UInt8 := [42, 180, 0, 193, 27, 184, 0, 196, 153, 0, 9, 42, 6, 182, 0, 165, 172, 42, 89, 180, 0, 193, 4, 27]
abbrev dktX5_once_0 : List UInt8 := dkwX5_once_0 ++ dktX5_once_1
theorem dksX5_once_0 : cX5_once.data.toList.drop 0 = dktX5_once_0 := by decide +kernel
theorem dksX5_once_1 : cX5_once.data.toList.drop 24 = dktX5_once_1 := dk_seg dksX5_once_0 24 rfl rfl
theorem dX5_once_0 : decode cX5_once 0 = .ok (.aload_n 0, 1) := dk_42 (dk_at dksX5_once_0 0 rfl rfl)
theorem dX5_once_1 : decode cX5_once 1 = .ok (.getfield 193, 3) := dk_180 0 193 (dk_at dksX5_once_0 1 rfl rfl)
theorem dX5_once_4 : decode cX5_once 4 = .ok (.iload_n 1, 1) := dk_27 (dk_at dksX5_once_0 4 rfl rfl)
theorem dX5_once_5 : decode cX5_once 5 = .ok (.invokestatic 196, 3) := dk_184 0 196 (dk_at dksX5_once_0 5 rfl rfl)
theorem dX5_once_8 : decode cX5_once 8 = .ok (.ifCond .eq 9, 3) := dk_153 0 9 (dk_at dksX5_once_0 8 rfl rfl)
theorem dX5_once_11 : decode cX5_once 11 = .ok (.aload_n 0, 1) := dk_42 (dk_at dksX5_once_0 11 rfl rfl)
theorem dX5_once_12 : decode cX5_once 12 = .ok (.iconst 3, 1) := dk_6 (dk_at dksX5_once_0 12 rfl rfl)
theorem dX5_once_13 : decode cX5_once 13 = .ok (.invokevirtual 165, 3) := dk_182 0 165 (dk_at dksX5_once_0 13 rfl rfl)
theorem dX5_once_16 : decode cX5_once 16 = .ok (.ireturn, 1) := dk_172 (dk_at dksX5_once_0 16 rfl rfl)
theorem dX5_once_17 : decode cX5_once 17 = .ok (.aload_n 0, 1) := dk_42 (dk_at dksX5_once_0 17 rfl rfl)
theorem dX5_once_18 : decode cX5_once 18 = .ok (.dup, 1) := dk_89 (dk_at dksX5_once_0 18 rfl rfl)
theorem dX5_once_19 : decode cX5_once 19 = .ok (.getfield 193, 3) := dk_180 0 193 (dk_at dksX5_once_0 19 rfl rfl)
theorem dX5_once_22 : decode cX5_once 22 = .ok (.iconst 1, 1) := dk_4 (dk_at dksX5_once_0 22 rfl rfl)
theorem dX5_once_23 : decode cX5_once 23 = .ok (.iload_n 1, 1) := dk_27 (dk_at dksX5_once_0 23 rfl rfl)
theorem dX5_once_24 : decode cX5_once 24 = .ok (.ishl, 1) := dk_120 (dk_at dksX5_once_1 0 rfl rfl)
theorem dX5_once_25 : decode cX5_once 25 = .ok (.ior, 1) := dk_128 (dk_at dksX5_once_1 1 rfl rfl)
theorem dX5_once_26 : decode cX5_once 26 = .ok (.putfield 193, 3) := dk_181 0 193 (dk_at dksX5_once_1 2 rfl rfl)
theorem dX5_once_29 : decode cX5_once 29 = .ok (.aload_n 0, 1) := dk_42 (dk_at dksX5_once_1 5 rfl rfl)
theorem dX5_once_30 : decode cX5_once 30 = .ok (.invokevirtual 168, 3) := dk_182 0 168 (dk_at dksX5_once_1 6 rfl rfl)
theorem dX5_once_33 : decode cX5_once 33 = .ok (.aload_n 0, 1) := dk_42 (dk_at dksX5_once_1 9 rfl rfl)
theorem dX5_once_34 : decode cX5_once 34 = .ok (.iload_n 2, 1) := dk_28 (dk_at dksX5_once_1 10 rfl rfl)
theorem dX5_once_35 : decode cX5_once 35 = .ok (.iload_n 3, 1) := dk_29 (dk_at dksX5_once_1 11 rfl rfl)
theorem dX5_once_36 : decode cX5_once 36 = .ok (.iload 4, 2) := dk_21 4 (dk_at dksX5_once_1 12 rfl rfl)
theorem dX5_once_38 : decode cX5_once 38 = .ok (.invokevirtual 199, 3) := dk_182 0 199 (dk_at dksX5_once_1 14 rfl rfl)
theorem dX5_once_41 : decode cX5_once 41 = .ok (.ireturn, 1) := dk_172 (dk_at dksX5_once_1 17 rfl rfl)
theorem fw_X5_193 : cz_FW "HeldCoatsModel" 193 [(5, 20)] "I" := ⟨"HeldCoatsModel", "onces", Or.inl q1938, List.forall_mem_cons.mpr ⟨⟨RX5, TX5, 49, rfl, by decide, rfl, rfl, Or.inl rfl⟩, fun _ h => absurd h List.not_mem_nil⟩, by decide⟩
theorem fp_X5_m_5_20 {nm : String} : cz_FP "HeldCoatsModel" nm [(5, 20)] := List.forall_mem_cons.mpr ⟨⟨RX5, TX5, 49, rfl, Or.inl rfl⟩, fun _ h => absurd h List.not_mem_nil⟩
theorem se_HeldCoatsModel_puts__III_Z_HeldCoatsModel : ∀ c ∈ ([5] : List Nat), ∃ q : vw_C, cz_cl[c]? = some q ∧ Cond.selects q.1 (⟨"HeldCoatsModel", "puts", "(III)Z"⟩ : MethodName) (⟨"HeldCoatsModel", "puts", "(III)Z"⟩ : MethodName) ∈ lw_all := List.forall_mem_cons.mpr ⟨⟨_, cz_cl5, qs55⟩, fun _ h => absurd h List.not_mem_nil⟩
theorem md_X5_puts : cz_md yX5_puts 4 (ws_ yX5_puts cX5_puts 4 ((Option.some Jvm.ClassFile.FieldType.boolean))) 3 := ⟨cz_ws_code q2117, q123, ⟨by decide, by decide, by decide +kernel⟩, by decide⟩
set_option maxHeartbeats 4000000 in
set_option maxRecDepth 100000 in
noncomputable def fn_X5_once (l0 : Option Nat) (l1 : Int32) (l2 : Int32) (l3 : Int32) (l4 : Int32) (h : cz_H) : cz_Z := cz_getI h l0 [(5, 20)] (fun x1 => cz_cI (fn_X5_bitOf x1 l1 h) (fun x3 h2 => (if x3 = 0 then cz_getI h2 l0 [(5, 20)] (fun x4 => cz_put h2 l0 [(5, 20)] (cz_i (x4 ||| ((1 : Int32) <<< (l1 &&& 31)))) (fun h5 => cz_rc h5 l0 [5] (cz_cV (fn_X5_next l0 h5) (fun h12 => cz_rc h12 l0 [5] (cz_cI (fn_X5_puts l0 l2 l3 l4 h12) (fun x20 h19 => cz_ckz x20 (some (.inl (some (cz_i x20)), h19)))))))) else cz_rc h2 l0 [5] (cz_cI (fn_X5_bad l0 3 h2) (fun x28 h27 => cz_ckz x28 (some (.inl (some (cz_i x28)), h27)))))))
set_option maxHeartbeats 4000000 in
set_option maxRecDepth 100000 in
theorem wk_X5_once {K : cz_K} {D : cz_D} {h0 : cz_H} {oh : cz_O × cz_H} {l0 : Option Nat} {l1 : Int32} {l2 : Int32} {l3 : Int32} {l4 : Int32} {h : cz_H} (S : cz_S K D h0 cX5_once 5 "HeldCoatsModel" ((Option.some Jvm.ClassFile.FieldType.boolean)) "once" ([])) : cz_T K D 6 h0 oh 5 (fn_X5_once l0 l1 l2 l3 l4 h) h 0 [(0, cz_r l0), (1, cz_i l1), (2, cz_i l2), (3, cz_i l3), (4, cz_i l4)] [] := by
  unfold fn_X5_once
  refine ct_aload_n (k := 0) S dX5_once_0 rfl rfl ?_
  refine ct_getI S fw_X5_193 dX5_once_1 (fun x1 => ?_)
  refine ct_iload_n (k := 1) S dX5_once_4 rfl rfl ?_
  refine ct_cI (st := []) (cg_static (av := [cz_i x1, cz_i l1]) S (fun _ e => mt_X5_bitOf e) md_X5_bitOf (Or.inl q2141) q2142 (by decide) (Nat.le_of_ble_eq_true rfl) rfl dX5_once_5) (fun x3 h2 => ?_)
  refine ct_if_eq (tgt := 17) S dX5_once_8 (by decide) ?_ ?_
  · refine ct_aload_n (k := 0) S dX5_once_17 rfl rfl ?_
    refine ct_dup S dX5_once_18 rfl ?_
    refine ct_getI S fw_X5_193 dX5_once_19 (fun x4 => ?_)
    refine ct_iconst (v := 1) S dX5_once_22 kI_1 ?_
    refine ct_iload_n (k := 1) S dX5_once_23 rfl rfl ?_
    refine ct_ishl S dX5_once_24 ?_
    refine ct_ior S dX5_once_25 ?_
    refine ct_put S fw_X5_193 fp_X5_m_5_20 (cz_fits_i pd_I) dX5_once_26 (fun h5 => ?_)
    refine ct_aload_n (k := 0) S dX5_once_29 rfl rfl ?_
    refine ct_rc (fun b6 ci7 V8 hb9 hc10 hi11 => ?_)
    refine ct_cV (st := []) (cg_virtual (av := []) S hb9 hc10 hi11 (fun _ e => mt_X5_next e) md_X5_next q2076 q2078 se_HeldCoatsModel_next___V_HeldCoatsModel (by decide) (Nat.le_of_ble_eq_true rfl) rfl dX5_once_30) (fun h12 => ?_)
    refine ct_aload_n (k := 0) S dX5_once_33 rfl rfl ?_
    refine ct_iload_n (k := 2) S dX5_once_34 rfl rfl ?_
    refine ct_iload_n (k := 3) S dX5_once_35 rfl rfl ?_
    refine ct_iload (k := 4) S dX5_once_36 rfl ?_
    refine ct_rc (fun b13 ci14 V15 hb16 hc17 hi18 => ?_)
    refine ct_cI (st := []) (cg_virtual (av := [cz_i l2, cz_i l3, cz_i l4]) S hb16 hc17 hi18 (fun _ e => mt_X5_puts e) md_X5_puts q2114 q2116 se_HeldCoatsModel_puts__III_Z_HeldCoatsModel (by decide) (Nat.le_of_ble_eq_true rfl) rfl dX5_once_38) (fun x20 h19 => ?_)
    refine ct_ckz (fun hx => ?_)
    exact ct_zr (ty := .boolean) S rfl (cz_nz hx) dX5_once_41
  · refine ct_aload_n (k := 0) S dX5_once_11 rfl rfl ?_
    refine ct_iconst (v := 3) S dX5_once_12 kI_3 ?_
    refine ct_rc (fun b21 ci22 V23 hb24 hc25 hi26 => ?_)
    refine ct_cI (st := []) (cg_virtual (av := [cz_i 3]) S hb24 hc25 hi26 (fun _ e => mt_X5_bad e) md_X5_bad q2098 q2100 se_HeldCoatsModel_bad__I_Z_HeldCoatsModel (by decide) (Nat.le_of_ble_eq_true rfl) rfl dX5_once_13) (fun x28 h27 => ?_)
    refine ct_ckz (fun hx => ?_)
    exact ct_zr (ty := .boolean) S rfl (cz_nz hx) dX5_once_16
theorem mt_X5_once {l : Launch} {D : cz_D} {l0 : Option Nat} {l1 : Int32} {l2 : Int32} {l3 : Int32} {l4 : Int32} {h : cz_H} {oh : cz_O × cz_H} (hz : fn_X5_once l0 l1 l2 l3 l4 h = some oh) : cz_M l D yX5_once (ws_ yX5_once cX5_once 5 ((Option.some Jvm.ClassFile.FieldType.boolean))) 6 [cz_r l0, cz_i l1, cz_i l2, cz_i l3, cz_i l4] h oh := cz_met (plainFor_of_name (by decide)) (Nat.le_of_ble_eq_true rfl) hz (fun K hl S => wk_X5_once S)
/-! HeldCoatsModel.readCold()Z -/
def dkwX5_readCold_5 : List UInt8 := [154, 0, 5, 3, 172, 42, 180, 0, 37, 16, 7, 92, 46, 4, 96, 79, 4, 172]
abbrev dktX5_readCold_5 : List UInt8 := dkwX5_readCold_5 ++ []
def dkwX5_readCold_4 : List UInt8 := [27, 96, 42, 180, 0, 149, 79, 42, 182, 0, 168, 42, 16, 54, 27, 96, 3, 16, 40, 182, 0, 199]
abbrev dktX5_readCold_4 : List UInt8 := dkwX5_readCold_4 ++ dktX5_readCold_5
def dkwX5_readCold_3 : List UInt8 := [180, 0, 149, 160, 0, 9, 42, 6, 182, 0, 165, 172, 132, 2, 1, 167, 255, 226, 42, 180, 0, 37, 16, 46]
abbrev dktX5_readCold_3 : List UInt8 := dkwX5_readCold_3 ++ dktX5_readCold_4
def dkwX5_readCold_2 : List UInt8 := [42, 5, 182, 0, 165, 172, 3, 61, 28, 27, 162, 0, 31, 42, 180, 0, 37, 16, 46, 28, 96, 46, 42]
abbrev dktX5_readCold_2 : List UInt8 := dkwX5_readCold_2 ++ dktX5_readCold_3
def dkwX5_readCold_1 : List UInt8 := [42, 180, 0, 139, 5, 159, 0, 9, 42, 4, 182, 0, 165, 172, 42, 180, 0, 149, 17, 1, 144, 161, 0, 9]
abbrev dktX5_readCold_1 : List UInt8 := dkwX5_readCold_1 ++ dktX5_readCold_2
def dkwX5_readCold_0 : List UInt8 := [42, 180, 0, 37, 16, 7, 46, 60, 27, 16, 8, 160, 0, 9, 42, 7, 182, 0, 165, 172, 42, 182, 0, 168]
abbrev dktX5_readCold_0 : List UInt8 := dkwX5_readCold_0 ++ dktX5_readCold_1
theorem dksX5_readCold_0 : cX5_readCold.data.toList.drop 0 = dktX5_readCold_0 := by decide +kernel
theorem dksX5_readCold_1 : cX5_readCold.data.toList.drop 24 = dktX5_readCold_1 := dk_seg dksX5_readCold_0 24 rfl rfl
theorem dksX5_readCold_2 : cX5_readCold.data.toList.drop 48 = dktX5_readCold_2 := dk_seg dksX5_readCold_1 24 rfl rfl
theorem dksX5_readCold_3 : cX5_readCold.data.toList.drop 71 = dktX5_readCold_3 := dk_seg dksX5_readCold_2 23 rfl rfl
theorem dksX5_readCold_4 : cX5_readCold.data.toList.drop 95 = dktX5_readCold_4 := dk_seg dksX5_readCold_3 24 rfl rfl
theorem dksX5_readCold_5 : cX5_readCold.data.toList.drop 117 = dktX5_readCold_5 := dk_seg dksX5_readCold_4 22 rfl rfl
theorem dX5_readCold_0 : decode cX5_readCold 0 = .ok (.aload_n 0, 1) := dk_42 (dk_at dksX5_readCold_0 0 rfl rfl)
theorem dX5_readCold_1 : decode cX5_readCold 1 = .ok (.getfield 37, 3) := dk_180 0 37 (dk_at dksX5_readCold_0 1 rfl rfl)
theorem dX5_readCold_4 : decode cX5_readCold 4 = .ok (.bipush 7, 2) := dk_16 7 (dk_at dksX5_readCold_0 4 rfl rfl)
theorem dX5_readCold_6 : decode cX5_readCold 6 = .ok (.iaload, 1) := dk_46 (dk_at dksX5_readCold_0 6 rfl rfl)
theorem dX5_readCold_7 : decode cX5_readCold 7 = .ok (.istore_n 1, 1) := dk_60 (dk_at dksX5_readCold_0 7 rfl rfl)
theorem dX5_readCold_8 : decode cX5_readCold 8 = .ok (.iload_n 1, 1) := dk_27 (dk_at dksX5_readCold_0 8 rfl rfl)
theorem dX5_readCold_9 : decode cX5_readCold 9 = .ok (.bipush 8, 2) := dk_16 8 (dk_at dksX5_readCold_0 9 rfl rfl)
theorem dX5_readCold_11 : decode cX5_readCold 11 = .ok (.if_icmp .ne 9, 3) := dk_160 0 9 (dk_at dksX5_readCold_0 11 rfl rfl)
theorem dX5_readCold_14 : decode cX5_readCold 14 = .ok (.aload_n 0, 1) := dk_42 (dk_at dksX5_readCold_0 14 rfl rfl)
theorem dX5_readCold_15 : decode cX5_readCold 15 = .ok (.iconst 4, 1) := dk_7 (dk_at dksX5_readCold_0 15 rfl rfl)
theorem dX5_readCold_16 : decode cX5_readCold 16 = .ok (.invokevirtual 165, 3) := dk_182 0 165 (dk_at dksX5_readCold_0 16 rfl rfl)
theorem dX5_readCold_19 : decode cX5_readCold 19 = .ok (.ireturn, 1) := dk_172 (dk_at dksX5_readCold_0 19 rfl rfl)
theorem dX5_readCold_20 : decode cX5_readCold 20 = .ok (.aload_n 0, 1) := dk_42 (dk_at dksX5_readCold_0 20 rfl rfl)
theorem dX5_readCold_21 : decode cX5_readCold 21 = .ok (.invokevirtual 168, 3) := dk_182 0 168 (dk_at dksX5_readCold_0 21 rfl rfl)
theorem dX5_readCold_24 : decode cX5_readCold 24 = .ok (.aload_n 0, 1) := dk_42 (dk_at dksX5_readCold_1 0 rfl rfl)
theorem dX5_readCold_25 : decode cX5_readCold 25 = .ok (.getfield 139, 3) := dk_180 0 139 (dk_at dksX5_readCold_1 1 rfl rfl)
theorem dX5_readCold_28 : decode cX5_readCold 28 = .ok (.iconst 2, 1) := dk_5 (dk_at dksX5_readCold_1 4 rfl rfl)
theorem dX5_readCold_29 : decode cX5_readCold 29 = .ok (.if_icmp .eq 9, 3) := dk_159 0 9 (dk_at dksX5_readCold_1 5 rfl rfl)
theorem dX5_readCold_32 : decode cX5_readCold 32 = .ok (.aload_n 0, 1) := dk_42 (dk_at dksX5_readCold_1 8 rfl rfl)
theorem dX5_readCold_33 : decode cX5_readCold 33 = .ok (.iconst 1, 1) := dk_4 (dk_at dksX5_readCold_1 9 rfl rfl)
theorem dX5_readCold_34 : decode cX5_readCold 34 = .ok (.invokevirtual 165, 3) := dk_182 0 165 (dk_at dksX5_readCold_1 10 rfl rfl)
theorem dX5_readCold_37 : decode cX5_readCold 37 = .ok (.ireturn, 1) := dk_172 (dk_at dksX5_readCold_1 13 rfl rfl)
theorem dX5_readCold_38 : decode cX5_readCold 38 = .ok (.aload_n 0, 1) := dk_42 (dk_at dksX5_readCold_1 14 rfl rfl)
theorem dX5_readCold_39 : decode cX5_readCold 39 = .ok (.getfield 149, 3) := dk_180 0 149 (dk_at dksX5_readCold_1 15 rfl rfl)
theorem dX5_readCold_42 : decode cX5_readCold 42 = .ok (.sipush 400, 3) := dk_17 1 144 (dk_at dksX5_readCold_1 18 rfl rfl)
theorem dX5_readCold_45 : decode cX5_readCold 45 = .ok (.if_icmp .lt 9, 3) := dk_161 0 9 (dk_at dksX5_readCold_1 21 rfl rfl)
theorem dX5_readCold_48 : decode cX5_readCold 48 = .ok (.aload_n 0, 1) := dk_42 (dk_at dksX5_readCold_2 0 rfl rfl)
theorem dX5_readCold_49 : decode cX5_readCold 49 = .ok (.iconst 2, 1) := dk_5 (dk_at dksX5_readCold_2 1 rfl rfl)
theorem dX5_readCold_50 : decode cX5_readCold 50 = .ok (.invokevirtual 165, 3) := dk_182 0 165 (dk_at dksX5_readCold_2 2 rfl rfl)
theorem dX5_readCold_53 : decode cX5_readCold 53 = .ok (.ireturn, 1) := dk_172 (dk_at dksX5_readCold_2 5 rfl rfl)
theorem dX5_readCold_54 : decode cX5_readCold 54 = .ok (.iconst 0, 1) := dk_3 (dk_at dksX5_readCold_2 6 rfl rfl)
theorem dX5_readCold_55 : decode cX5_readCold 55 = .ok (.istore_n 2, 1) := dk_61 (dk_at dksX5_readCold_2 7 rfl rfl)
theorem dX5_readCold_56 : decode cX5_readCold 56 = .ok (.iload_n 2, 1) := dk_28 (dk_at dksX5_readCold_2 8 rfl rfl)
theorem dX5_readCold_57 : decode cX5_readCold 57 = .ok (.iload_n 1, 1) := dk_27 (dk_at dksX5_readCold_2 9 rfl rfl)
theorem dX5_readCold_58 : decode cX5_readCold 58 = .ok (.if_icmp .ge 31, 3) := dk_162 0 31 (dk_at dksX5_readCold_2 10 rfl rfl)
theorem dX5_readCold_61 : decode cX5_readCold 61 = .ok (.aload_n 0, 1) := dk_42 (dk_at dksX5_readCold_2 13 rfl rfl)
theorem dX5_readCold_62 : decode cX5_readCold 62 = .ok (.getfield 37, 3) := dk_180 0 37 (dk_at dksX5_readCold_2 14 rfl rfl)
theorem dX5_readCold_65 : decode cX5_readCold 65 = .ok (.bipush 46, 2) := dk_16 46 (dk_at dksX5_readCold_2 17 rfl rfl)
theorem dX5_readCold_67 : decode cX5_readCold 67 = .ok (.iload_n 2, 1) := dk_28 (dk_at dksX5_readCold_2 19 rfl rfl)
theorem dX5_readCold_68 : decode cX5_readCold 68 = .ok (.iadd, 1) := dk_96 (dk_at dksX5_readCold_2 20 rfl rfl)
theorem dX5_readCold_69 : decode cX5_readCold 69 = .ok (.iaload, 1) := dk_46 (dk_at dksX5_readCold_2 21 rfl rfl)
theorem dX5_readCold_70 : decode cX5_readCold 70 = .ok (.aload_n 0, 1) := dk_42 (dk_at dksX5_readCold_2 22 rfl rfl)
theorem dX5_readCold_71 : decode cX5_readCold 71 = .ok (.getfield 149, 3) := dk_180 0 149 (dk_at dksX5_readCold_3 0 rfl rfl)
theorem dX5_readCold_74 : decode cX5_readCold 74 = .ok (.if_icmp .ne 9, 3) := dk_160 0 9 (dk_at dksX5_readCold_3 3 rfl rfl)
theorem dX5_readCold_77 : decode cX5_readCold 77 = .ok (.aload_n 0, 1) := dk_42 (dk_at dksX5_readCold_3 6 rfl rfl)
theorem dX5_readCold_78 : decode cX5_readCold 78 = .ok (.iconst 3, 1) := dk_6 (dk_at dksX5_readCold_3 7 rfl rfl)
theorem dX5_readCold_79 : decode cX5_readCold 79 = .ok (.invokevirtual 165, 3) := dk_182 0 165 (dk_at dksX5_readCold_3 8 rfl rfl)
theorem dX5_readCold_82 : decode cX5_readCold 82 = .ok (.ireturn, 1) := dk_172 (dk_at dksX5_readCold_3 11 rfl rfl)
theorem dX5_readCold_83 : decode cX5_readCold 83 = .ok (.iinc 2 1, 3) := dk_132 2 1 (dk_at dksX5_readCold_3 12 rfl rfl)
theorem dX5_readCold_86 : decode cX5_readCold 86 = .ok (.goto (-30), 3) := dk_167 255 226 (dk_at dksX5_readCold_3 15 rfl rfl)
theorem dX5_readCold_89 : decode cX5_readCold 89 = .ok (.aload_n 0, 1) := dk_42 (dk_at dksX5_readCold_3 18 rfl rfl)
theorem dX5_readCold_90 : decode cX5_readCold 90 = .ok (.getfield 37, 3) := dk_180 0 37 (dk_at dksX5_readCold_3 19 rfl rfl)
theorem dX5_readCold_93 : decode cX5_readCold 93 = .ok (.bipush 46, 2) := dk_16 46 (dk_at dksX5_readCold_3 22 rfl rfl)
theorem dX5_readCold_95 : decode cX5_readCold 95 = .ok (.iload_n 1, 1) := dk_27 (dk_at dksX5_readCold_4 0 rfl rfl)
theorem dX5_readCold_96 : decode cX5_readCold 96 = .ok (.iadd, 1) := dk_96 (dk_at dksX5_readCold_4 1 rfl rfl)
theorem dX5_readCold_97 : decode cX5_readCold 97 = .ok (.aload_n 0, 1) := dk_42 (dk_at dksX5_readCold_4 2 rfl rfl)
theorem dX5_readCold_98 : decode cX5_readCold 98 = .ok (.getfield 149, 3) := dk_180 0 149 (dk_at dksX5_readCold_4 3 rfl rfl)
theorem dX5_readCold_101 : decode cX5_readCold 101 = .ok (.iastore, 1) := dk_79 (dk_at dksX5_readCold_4 6 rfl rfl)
theorem dX5_readCold_102 : decode cX5_readCold 102 = .ok (.aload_n 0, 1) := dk_42 (dk_at dksX5_readCold_4 7 rfl rfl)
theorem dX5_readCold_103 : decode cX5_readCold 103 = .ok (.invokevirtual 168, 3) := dk_182 0 168 (dk_at dksX5_readCold_4 8 rfl rfl)
theorem dX5_readCold_106 : decode cX5_readCold 106 = .ok (.aload_n 0, 1) := dk_42 (dk_at dksX5_readCold_4 11 rfl rfl)
theorem dX5_readCold_107 : decode cX5_readCold 107 = .ok (.bipush 54, 2) := dk_16 54 (dk_at dksX5_readCold_4 12 rfl rfl)
theorem dX5_readCold_109 : decode cX5_readCold 109 = .ok (.iload_n 1, 1) := dk_27 (dk_at dksX5_readCold_4 14 rfl rfl)
theorem dX5_readCold_110 : decode cX5_readCold 110 = .ok (.iadd, 1) := dk_96 (dk_at dksX5_readCold_4 15 rfl rfl)
theorem dX5_readCold_111 : decode cX5_readCold 111 = .ok (.iconst 0, 1) := dk_3 (dk_at dksX5_readCold_4 16 rfl rfl)
theorem dX5_readCold_112 : decode cX5_readCold 112 = .ok (.bipush 40, 2) := dk_16 40 (dk_at dksX5_readCold_4 17 rfl rfl)
theorem dX5_readCold_114 : decode cX5_readCold 114 = .ok (.invokevirtual 199, 3) := dk_182 0 199 (dk_at dksX5_readCold_4 19 rfl rfl)
theorem dX5_readCold_117 : decode cX5_readCold 117 = .ok (.ifCond .ne 5, 3) := dk_154 0 5 (dk_at dksX5_readCold_5 0 rfl rfl)
theorem dX5_readCold_120 : decode cX5_readCold 120 = .ok (.iconst 0, 1) := dk_3 (dk_at dksX5_readCold_5 3 rfl rfl)
theorem dX5_readCold_121 : decode cX5_readCold 121 = .ok (.ireturn, 1) := dk_172 (dk_at dksX5_readCold_5 4 rfl rfl)
theorem dX5_readCold_122 : decode cX5_readCold 122 = .ok (.aload_n 0, 1) := dk_42 (dk_at dksX5_readCold_5 5 rfl rfl)
theorem dX5_readCold_123 : decode cX5_readCold 123 = .ok (.getfield 37, 3) := dk_180 0 37 (dk_at dksX5_readCold_5 6 rfl rfl)
theorem dX5_readCold_126 : decode cX5_readCold 126 = .ok (.bipush 7, 2) := dk_16 7 (dk_at dksX5_readCold_5 9 rfl rfl)
theorem dX5_readCold_128 : decode cX5_readCold 128 = .ok (.dup2, 1) := dk_92 (dk_at dksX5_readCold_5 11 rfl rfl)
theorem dX5_readCold_129 : decode cX5_readCold 129 = .ok (.iaload, 1) := dk_46 (dk_at dksX5_readCold_5 12 rfl rfl)
theorem dX5_readCold_130 : decode cX5_readCold 130 = .ok (.iconst 1, 1) := dk_4 (dk_at dksX5_readCold_5 13 rfl rfl)
theorem dX5_readCold_131 : decode cX5_readCold 131 = .ok (.iadd, 1) := dk_96 (dk_at dksX5_readCold_5 14 rfl rfl)
theorem dX5_readCold_132 : decode cX5_readCold 132 = .ok (.iastore, 1) := dk_79 (dk_at dksX5_readCold_5 15 rfl rfl)
theorem dX5_readCold_133 : decode cX5_readCold 133 = .ok (.iconst 1, 1) := dk_4 (dk_at dksX5_readCold_5 16 rfl rfl)
theorem dX5_readCold_134 : decode cX5_readCold 134 = .ok (.ireturn, 1) := dk_172 (dk_at dksX5_readCold_5 17 rfl rfl)
set_option maxHeartbeats 4000000 in
set_option maxRecDepth 100000 in
noncomputable def fn_X5_readCold_56 (l0 : Option Nat) (l1 : Int32) (k0 : cz_H → cz_Z) (k1 : cz_H → cz_Z) : Nat → Int32 → cz_H → cz_Z
  | 0, _, _ => none
  | n + 1, l2, h => (if l1 ≤ l2 then k1 h else cz_getR h l0 [(5, 7)] (fun r12 => cz_iald h r12 ((46 : Int32) + l2) (fun x13 => cz_getI h l0 [(5, 14)] (fun x14 => (if x13 = x14 then k0 h else cz_leti (l2 + 1) (fun x15 => fn_X5_readCold_56 l0 l1 k0 k1 n x15 h))))))
set_option maxHeartbeats 4000000 in
set_option maxRecDepth 100000 in
theorem wk_X5_readCold_56 {K : cz_K} {D : cz_D} {h0 : cz_H} {oh : cz_O × cz_H} {l0 : Option Nat} {l1 : Int32} {k0 : cz_H → cz_Z} {k1 : cz_H → cz_Z} (S : cz_S K D h0 cX5_readCold 3 "HeldCoatsModel" ((Option.some Jvm.ClassFile.FieldType.boolean)) "readCold" ([])) (hk0 : ∀ (h : cz_H), cz_T K D 6 h0 oh 3 (k0 h) h 77 [(0, cz_r l0)] []) (hk1 : ∀ (h : cz_H), cz_T K D 6 h0 oh 3 (k1 h) h 89 [(0, cz_r l0), (1, cz_i l1)] []) : ∀ (n : Nat) (l2 : Int32) (h : cz_H), cz_T K D 6 h0 oh 3 (fn_X5_readCold_56 l0 l1 k0 k1 n l2 h) h 56 [(0, cz_r l0), (1, cz_i l1), (2, cz_i l2)] [] := by
  intro n
  induction n with
  | zero => intros; exact ct_none
  | succ n ih =>
    intro l2 h
    rw [fn_X5_readCold_56]
    refine ct_iload_n (k := 2) S dX5_readCold_56 rfl rfl ?_
    refine ct_iload_n (k := 1) S dX5_readCold_57 rfl rfl ?_
    refine ct_icmp_ge (tgt := 89) S dX5_readCold_58 (by decide) ?_ ?_
    · exact ct_sub [0, 1] rfl (hk1 h)
    · refine ct_aload_n (k := 0) S dX5_readCold_61 rfl rfl ?_
      refine ct_getR S fw_X5_37 dX5_readCold_62 (fun r12 => ?_)
      refine ct_bipush (v := 46) S dX5_readCold_65 kB_46 ?_
      refine ct_iload_n (k := 2) S dX5_readCold_67 rfl rfl ?_
      refine ct_iadd S dX5_readCold_68 ?_
      refine ct_iald S dX5_readCold_69 (fun x13 => ?_)
      refine ct_aload_n (k := 0) S dX5_readCold_70 rfl rfl ?_
      refine ct_getI S fw_X5_149 dX5_readCold_71 (fun x14 => ?_)
      refine ct_icmp_ne (tgt := 83) S dX5_readCold_74 (by decide) ?_ ?_
      · refine ct_iincL (j := 2) (L2 := fun x15 => [(2, cz_i x15), (0, cz_r l0), (1, cz_i l1)]) S dX5_readCold_83 rfl kI_1 (by decide) (fun _ => rfl) (fun x15 => ?_)
        refine ct_goto (tgt := 56) S dX5_readCold_86 (by decide) ?_
        exact ct_sub [1, 2, 0] rfl (ih x15 h)
      · exact ct_sub [0] rfl (hk0 h)
set_option maxHeartbeats 4000000 in
set_option maxRecDepth 100000 in
noncomputable def fn_X5_readCold (l0 : Option Nat) (h : cz_H) : cz_Z := cz_getR h l0 [(5, 7)] (fun r1 => cz_iald h r1 7 (fun x2 => (if x2 = 8 then cz_rc h l0 [5] (cz_cI (fn_X5_bad l0 4 h) (fun x70 h69 => cz_ckz x70 (some (.inl (some (cz_i x70)), h69)))) else cz_rc h l0 [5] (cz_cV (fn_X5_next l0 h) (fun h9 => cz_getI h9 l0 [(5, 11)] (fun x10 => (if x10 = 2 then cz_getI h9 l0 [(5, 14)] (fun x11 => (if x11 < 400 then fn_X5_readCold_56 l0 x2 (fun (h16 : cz_H) => cz_rc h16 l0 [5] (cz_cI (fn_X5_bad l0 3 h16) (fun x24 h23 => cz_ckz x24 (some (.inl (some (cz_i x24)), h23))))) (fun (h25 : cz_H) => cz_getR h25 l0 [(5, 7)] (fun r26 => cz_getI h25 l0 [(5, 14)] (fun x27 => cz_iast h25 r26 ((46 : Int32) + x2) x27 (fun h28 => cz_rc h28 l0 [5] (cz_cV (fn_X5_next l0 h28) (fun h35 => cz_rc h35 l0 [5] (cz_cI (fn_X5_puts l0 ((54 : Int32) + x2) 0 40 h35) (fun x43 h42 => (if x43 = 0 then some (.inl (some (cz_i 0)), h42) else cz_getR h42 l0 [(5, 7)] (fun r44 => cz_iald h42 r44 7 (fun x45 => cz_iast h42 r44 7 (x45 + 1) (fun h46 => some (.inl (some (cz_i 1)), h46))))))))))))) 1000 0 h9 else cz_rc h9 l0 [5] (cz_cI (fn_X5_bad l0 2 h9) (fun x54 h53 => cz_ckz x54 (some (.inl (some (cz_i x54)), h53)))))) else cz_rc h9 l0 [5] (cz_cI (fn_X5_bad l0 1 h9) (fun x62 h61 => cz_ckz x62 (some (.inl (some (cz_i x62)), h61)))))))))))
set_option maxHeartbeats 4000000 in
set_option maxRecDepth 100000 in
theorem wk_X5_readCold {K : cz_K} {D : cz_D} {h0 : cz_H} {oh : cz_O × cz_H} {l0 : Option Nat} {h : cz_H} (S : cz_S K D h0 cX5_readCold 3 "HeldCoatsModel" ((Option.some Jvm.ClassFile.FieldType.boolean)) "readCold" ([])) : cz_T K D 6 h0 oh 3 (fn_X5_readCold l0 h) h 0 [(0, cz_r l0)] [] := by
  unfold fn_X5_readCold
  refine ct_aload_n (k := 0) S dX5_readCold_0 rfl rfl ?_
  refine ct_getR S fw_X5_37 dX5_readCold_1 (fun r1 => ?_)
  refine ct_bipush (v := 7) S dX5_readCold_4 kB_7 ?_
  refine ct_iald S dX5_readCold_6 (fun x2 => ?_)
  refine ct_istore_n (L' := [(1, cz_i x2), (0, cz_r l0)]) S dX5_readCold_7 rfl (by decide) rfl ?_
  refine ct_iload_n (k := 0) S dX5_readCold_8 rfl rfl ?_
  refine ct_bipush (v := 8) S dX5_readCold_9 kB_8 ?_
  refine ct_icmp_ne (tgt := 20) S dX5_readCold_11 (by decide) ?_ ?_
  · refine ct_aload_n (k := 1) S dX5_readCold_20 rfl rfl ?_
    refine ct_rc (fun b3 ci4 V5 hb6 hc7 hi8 => ?_)
    refine ct_cV (st := []) (cg_virtual (av := []) S hb6 hc7 hi8 (fun _ e => mt_X5_next e) md_X5_next q2076 q2078 se_HeldCoatsModel_next___V_HeldCoatsModel (by decide) (Nat.le_of_ble_eq_true rfl) rfl dX5_readCold_21) (fun h9 => ?_)
    refine ct_aload_n (k := 1) S dX5_readCold_24 rfl rfl ?_
    refine ct_getI S fw_X5_139 dX5_readCold_25 (fun x10 => ?_)
    refine ct_iconst (v := 2) S dX5_readCold_28 kI_2 ?_
    refine ct_icmp_eq (tgt := 38) S dX5_readCold_29 (by decide) ?_ ?_
    · refine ct_aload_n (k := 1) S dX5_readCold_38 rfl rfl ?_
      refine ct_getI S fw_X5_149 dX5_readCold_39 (fun x11 => ?_)
      refine ct_sipush (v := 400) S dX5_readCold_42 kS_400 ?_
      refine ct_icmp_lt (tgt := 54) S dX5_readCold_45 (by decide) ?_ ?_
      · refine ct_iconst (v := 0) S dX5_readCold_54 kI_0 ?_
        refine ct_istore_n (L' := [(2, cz_i 0), (1, cz_i x2), (0, cz_r l0)]) S dX5_readCold_55 rfl (by decide) rfl ?_
        refine ct_sub [2, 1, 0] (L' := [(0, cz_r l0), (1, cz_i x2), (2, cz_i 0)]) rfl (wk_X5_readCold_56 S ?_ ?_ 1000 0 h9)
        · intro h16
          refine ct_aload_n (k := 0) S dX5_readCold_77 rfl rfl ?_
          refine ct_iconst (v := 3) S dX5_readCold_78 kI_3 ?_
          refine ct_rc (fun b17 ci18 V19 hb20 hc21 hi22 => ?_)
          refine ct_cI (st := []) (cg_virtual (av := [cz_i 3]) S hb20 hc21 hi22 (fun _ e => mt_X5_bad e) md_X5_bad q2098 q2100 se_HeldCoatsModel_bad__I_Z_HeldCoatsModel (by decide) (Nat.le_of_ble_eq_true rfl) rfl dX5_readCold_79) (fun x24 h23 => ?_)
          refine ct_ckz (fun hx => ?_)
          exact ct_zr (ty := .boolean) S rfl (cz_nz hx) dX5_readCold_82
        · intro h25
          refine ct_aload_n (k := 0) S dX5_readCold_89 rfl rfl ?_
          refine ct_getR S fw_X5_37 dX5_readCold_90 (fun r26 => ?_)
          refine ct_bipush (v := 46) S dX5_readCold_93 kB_46 ?_
          refine ct_iload_n (k := 1) S dX5_readCold_95 rfl rfl ?_
          refine ct_iadd S dX5_readCold_96 ?_
          refine ct_aload_n (k := 0) S dX5_readCold_97 rfl rfl ?_
          refine ct_getI S fw_X5_149 dX5_readCold_98 (fun x27 => ?_)
          refine ct_iast S dX5_readCold_101 (fun h28 => ?_)
          refine ct_aload_n (k := 0) S dX5_readCold_102 rfl rfl ?_
          refine ct_rc (fun b29 ci30 V31 hb32 hc33 hi34 => ?_)
          refine ct_cV (st := []) (cg_virtual (av := []) S hb32 hc33 hi34 (fun _ e => mt_X5_next e) md_X5_next q2076 q2078 se_HeldCoatsModel_next___V_HeldCoatsModel (by decide) (Nat.le_of_ble_eq_true rfl) rfl dX5_readCold_103) (fun h35 => ?_)
          refine ct_aload_n (k := 0) S dX5_readCold_106 rfl rfl ?_
          refine ct_bipush (v := 54) S dX5_readCold_107 kB_54 ?_
          refine ct_iload_n (k := 1) S dX5_readCold_109 rfl rfl ?_
          refine ct_iadd S dX5_readCold_110 ?_
          refine ct_iconst (v := 0) S dX5_readCold_111 kI_0 ?_
          refine ct_bipush (v := 40) S dX5_readCold_112 kB_40 ?_
          refine ct_rc (fun b36 ci37 V38 hb39 hc40 hi41 => ?_)
          refine ct_cI (st := []) (cg_virtual (av := [cz_i ((54 : Int32) + x2), cz_i 0, cz_i 40]) S hb39 hc40 hi41 (fun _ e => mt_X5_puts e) md_X5_puts q2114 q2116 se_HeldCoatsModel_puts__III_Z_HeldCoatsModel (by decide) (Nat.le_of_ble_eq_true rfl) rfl dX5_readCold_114) (fun x43 h42 => ?_)
          refine ct_if_ne (tgt := 122) S dX5_readCold_117 (by decide) ?_ ?_
          · refine ct_aload_n (k := 0) S dX5_readCold_122 rfl rfl ?_
            refine ct_getR S fw_X5_37 dX5_readCold_123 (fun r44 => ?_)
            refine ct_bipush (v := 7) S dX5_readCold_126 kB_7 ?_
            refine ct_dup2 S dX5_readCold_128 rfl rfl ?_
            refine ct_iald S dX5_readCold_129 (fun x45 => ?_)
            refine ct_iconst (v := 1) S dX5_readCold_130 kI_1 ?_
            refine ct_iadd S dX5_readCold_131 ?_
            refine ct_iast S dX5_readCold_132 (fun h46 => ?_)
            refine ct_iconst (v := 1) S dX5_readCold_133 kI_1 ?_
            exact ct_zr (ty := .boolean) S rfl rfl dX5_readCold_134
          · refine ct_iconst (v := 0) S dX5_readCold_120 kI_0 ?_
            exact ct_zr (ty := .boolean) S rfl rfl dX5_readCold_121
      · refine ct_aload_n (k := 1) S dX5_readCold_48 rfl rfl ?_
        refine ct_iconst (v := 2) S dX5_readCold_49 kI_2 ?_
        refine ct_rc (fun b47 ci48 V49 hb50 hc51 hi52 => ?_)
        refine ct_cI (st := []) (cg_virtual (av := [cz_i 2]) S hb50 hc51 hi52 (fun _ e => mt_X5_bad e) md_X5_bad q2098 q2100 se_HeldCoatsModel_bad__I_Z_HeldCoatsModel (by decide) (Nat.le_of_ble_eq_true rfl) rfl dX5_readCold_50) (fun x54 h53 => ?_)
        refine ct_ckz (fun hx => ?_)
        exact ct_zr (ty := .boolean) S rfl (cz_nz hx) dX5_readCold_53
    · refine ct_aload_n (k := 1) S dX5_readCold_32 rfl rfl ?_
      refine ct_iconst (v := 1) S dX5_readCold_33 kI_1 ?_
      refine ct_rc (fun b55 ci56 V57 hb58 hc59 hi60 => ?_)
      refine ct_cI (st := []) (cg_virtual (av := [cz_i 1]) S hb58 hc59 hi60 (fun _ e => mt_X5_bad e) md_X5_bad q2098 q2100 se_HeldCoatsModel_bad__I_Z_HeldCoatsModel (by decide) (Nat.le_of_ble_eq_true rfl) rfl dX5_readCold_34) (fun x62 h61 => ?_)
      refine ct_ckz (fun hx => ?_)
      exact ct_zr (ty := .boolean) S rfl (cz_nz hx) dX5_readCold_37
  · refine ct_aload_n (k := 1) S dX5_readCold_14 rfl rfl ?_
    refine ct_iconst (v := 4) S dX5_readCold_15 kI_4 ?_
    refine ct_rc (fun b63 ci64 V65 hb66 hc67 hi68 => ?_)
    refine ct_cI (st := []) (cg_virtual (av := [cz_i 4]) S hb66 hc67 hi68 (fun _ e => mt_X5_bad e) md_X5_bad q2098 q2100 se_HeldCoatsModel_bad__I_Z_HeldCoatsModel (by decide) (Nat.le_of_ble_eq_true rfl) rfl dX5_readCold_16) (fun x70 h69 => ?_)
    refine ct_ckz (fun hx => ?_)
    exact ct_zr (ty := .boolean) S rfl (cz_nz hx) dX5_readCold_19
theorem mt_X5_readCold {l : Launch} {D : cz_D} {l0 : Option Nat} {h : cz_H} {oh : cz_O × cz_H} (hz : fn_X5_readCold l0 h = some oh) : cz_M l D yX5_readCold (ws_ yX5_readCold cX5_readCold 3 ((Option.some Jvm.ClassFile.FieldType.boolean))) 6 [cz_r l0] h oh := cz_met (plainFor_of_name (by decide)) (Nat.le_of_ble_eq_true rfl) hz (fun K hl S => wk_X5_readCold S)
/-! HeldCoatsModel.line()Z -/
def dkwX5_line_15 : List UInt8 := [182, 0, 215, 167, 0, 8, 42, 4, 182, 0, 165, 172]
abbrev dktX5_line_15 : List UInt8 := dkwX5_line_15 ++ []
def dkwX5_line_14 : List UInt8 := [182, 0, 215, 172, 42, 20, 0, 92, 182, 0, 202, 153, 0, 17, 42, 6, 16, 6, 4, 17, 3, 231]
abbrev dktX5_line_14 : List UInt8 := dkwX5_line_14 ++ dktX5_line_15
def dkwX5_line_13 : List UInt8 := [16, 30, 182, 0, 215, 172, 42, 20, 0, 90, 182, 0, 202, 153, 0, 13, 42, 5, 8, 3, 16, 9]
abbrev dktX5_line_13 : List UInt8 := dkwX5_line_13 ++ dktX5_line_14
def dkwX5_line_12 : List UInt8 := [42, 3, 6, 3, 16, 40, 182, 0, 215, 172, 42, 20, 0, 88, 182, 0, 202, 153, 0, 13, 42, 4, 7, 4]
abbrev dktX5_line_12 : List UInt8 := dkwX5_line_12 ++ dktX5_line_13
def dkwX5_line_11 : List UInt8 := [20, 0, 84, 182, 0, 202, 153, 0, 8, 42, 182, 0, 212, 172, 42, 20, 0, 86, 182, 0, 202, 153, 0, 13]
abbrev dktX5_line_11 : List UInt8 := dkwX5_line_11 ++ dktX5_line_12
def dkwX5_line_10 : List UInt8 := [16, 99, 182, 0, 199, 154, 0, 5, 3, 172, 42, 180, 0, 37, 5, 92, 46, 4, 96, 79, 4, 172, 42]
abbrev dktX5_line_10 : List UInt8 := dkwX5_line_10 ++ dktX5_line_11
def dkwX5_line_9 : List UInt8 := [180, 0, 175, 79, 42, 16, 30, 27, 96, 3, 16, 20, 182, 0, 199, 153, 0, 17, 42, 16, 38, 27, 96, 4]
abbrev dktX5_line_9 : List UInt8 := dkwX5_line_9 ++ dktX5_line_10
def dkwX5_line_8 : List UInt8 := [180, 0, 37, 4, 46, 182, 0, 209, 154, 0, 5, 3, 172, 42, 180, 0, 37, 16, 22, 27, 96, 42]
abbrev dktX5_line_8 : List UInt8 := dkwX5_line_8 ++ dktX5_line_9
def dkwX5_line_7 : List UInt8 := [7, 182, 0, 165, 172, 42, 182, 0, 168, 42, 16, 36, 27, 96, 182, 0, 206, 153, 0, 18, 42, 16, 30, 42]
abbrev dktX5_line_7 : List UInt8 := dkwX5_line_7 ++ dktX5_line_8
def dkwX5_line_6 : List UInt8 := [42, 20, 0, 82, 182, 0, 202, 153, 0, 109, 42, 180, 0, 37, 5, 46, 60, 27, 16, 8, 160, 0, 9, 42]
abbrev dktX5_line_6 : List UInt8 := dkwX5_line_6 ++ dktX5_line_7
def dkwX5_line_5 : List UInt8 := [96, 3, 16, 20, 182, 0, 199, 154, 0, 5, 3, 172, 42, 180, 0, 37, 4, 92, 46, 4, 96, 79, 4, 172]
abbrev dktX5_line_5 : List UInt8 := dkwX5_line_5 ++ dktX5_line_6
def dkwX5_line_4 : List UInt8 := [7, 182, 0, 165, 172, 42, 182, 0, 168, 42, 16, 30, 27, 96, 182, 0, 206, 153, 0, 17, 42, 16, 16, 27]
abbrev dktX5_line_4 : List UInt8 := dkwX5_line_4 ++ dktX5_line_5
def dkwX5_line_3 : List UInt8 := [42, 20, 0, 80, 182, 0, 202, 153, 0, 65, 42, 180, 0, 37, 4, 46, 60, 27, 16, 6, 160, 0, 9, 42]
abbrev dktX5_line_3 : List UInt8 := dkwX5_line_3 ++ dktX5_line_4
def dkwX5_line_2 : List UInt8 := [96, 4, 16, 99, 182, 0, 199, 154, 0, 5, 3, 172, 42, 180, 0, 37, 3, 92, 46, 4, 96, 79, 4, 172]
abbrev dktX5_line_2 : List UInt8 := dkwX5_line_2 ++ dktX5_line_3
def dkwX5_line_1 : List UInt8 := [7, 182, 0, 165, 172, 42, 182, 0, 168, 42, 16, 22, 27, 96, 182, 0, 206, 153, 0, 17, 42, 16, 8, 27]
abbrev dktX5_line_1 : List UInt8 := dkwX5_line_1 ++ dktX5_line_2
def dkwX5_line_0 : List UInt8 := [42, 20, 0, 78, 182, 0, 202, 153, 0, 65, 42, 180, 0, 37, 3, 46, 60, 27, 16, 8, 160, 0, 9, 42]
abbrev dktX5_line_0 : List UInt8 := dkwX5_line_0 ++ dktX5_line_1
theorem dksX5_line_0 : cX5_line.data.toList.drop 0 = dktX5_line_0 := by decide +kernel
theorem dksX5_line_1 : cX5_line.data.toList.drop 24 = dktX5_line_1 := dk_seg dksX5_line_0 24 rfl rfl
theorem dksX5_line_2 : cX5_line.data.toList.drop 48 = dktX5_line_2 := dk_seg dksX5_line_1 24 rfl rfl
theorem dksX5_line_3 : cX5_line.data.toList.drop 72 = dktX5_line_3 := dk_seg dksX5_line_2 24 rfl rfl
theorem dksX5_line_4 : cX5_line.data.toList.drop 96 = dktX5_line_4 := dk_seg dksX5_line_3 24 rfl rfl
theorem dksX5_line_5 : cX5_line.data.toList.drop 120 = dktX5_line_5 := dk_seg dksX5_line_4 24 rfl rfl
theorem dksX5_line_6 : cX5_line.data.toList.drop 144 = dktX5_line_6 := dk_seg dksX5_line_5 24 rfl rfl
theorem dksX5_line_7 : cX5_line.data.toList.drop 168 = dktX5_line_7 := dk_seg dksX5_line_6 24 rfl rfl
theorem dksX5_line_8 : cX5_line.data.toList.drop 192 = dktX5_line_8 := dk_seg dksX5_line_7 24 rfl rfl
theorem dksX5_line_9 : cX5_line.data.toList.drop 214 = dktX5_line_9 := dk_seg dksX5_line_8 22 rfl rfl
theorem dksX5_line_10 : cX5_line.data.toList.drop 238 = dktX5_line_10 := dk_seg dksX5_line_9 24 rfl rfl
theorem dksX5_line_11 : cX5_line.data.toList.drop 261 = dktX5_line_11 := dk_seg dksX5_line_10 23 rfl rfl
theorem dksX5_line_12 : cX5_line.data.toList.drop 285 = dktX5_line_12 := dk_seg dksX5_line_11 24 rfl rfl
theorem dksX5_line_13 : cX5_line.data.toList.drop 309 = dktX5_line_13 := dk_seg dksX5_line_12 24 rfl rfl
theorem dksX5_line_14 : cX5_line.data.toList.drop 331 = dktX5_line_14 := dk_seg dksX5_line_13 22 rfl rfl
theorem dksX5_line_15 : cX5_line.data.toList.drop 353 = dktX5_line_15 := dk_seg dksX5_line_14 22 rfl rfl
theorem dX5_line_0 : decode cX5_line 0 = .ok (.aload_n 0, 1) := dk_42 (dk_at dksX5_line_0 0 rfl rfl)
theorem dX5_line_1 : decode cX5_line 1 = .ok (.ldc2_w 78, 3) := dk_20 0 78 (dk_at dksX5_line_0 1 rfl rfl)
theorem dX5_line_4 : decode cX5_line 4 = .ok (.invokevirtual 202, 3) := dk_182 0 202 (dk_at dksX5_line_0 4 rfl rfl)
theorem dX5_line_7 : decode cX5_line 7 = .ok (.ifCond .eq 65, 3) := dk_153 0 65 (dk_at dksX5_line_0 7 rfl rfl)
theorem dX5_line_10 : decode cX5_line 10 = .ok (.aload_n 0, 1) := dk_42 (dk_at dksX5_line_0 10 rfl rfl)
theorem dX5_line_11 : decode cX5_line 11 = .ok (.getfield 37, 3) := dk_180 0 37 (dk_at dksX5_line_0 11 rfl rfl)
theorem dX5_line_14 : decode cX5_line 14 = .ok (.iconst 0, 1) := dk_3 (dk_at dksX5_line_0 14 rfl rfl)
theorem dX5_line_15 : decode cX5_line 15 = .ok (.iaload, 1) := dk_46 (dk_at dksX5_line_0 15 rfl rfl)
theorem dX5_line_16 : decode cX5_line 16 = .ok (.istore_n 1, 1) := dk_60 (dk_at dksX5_line_0 16 rfl rfl)
theorem dX5_line_17 : decode cX5_line 17 = .ok (.iload_n 1, 1) := dk_27 (dk_at dksX5_line_0 17 rfl rfl)
theorem dX5_line_18 : decode cX5_line 18 = .ok (.bipush 8, 2) := dk_16 8 (dk_at dksX5_line_0 18 rfl rfl)
theorem dX5_line_20 : decode cX5_line 20 = .ok (.if_icmp .ne 9, 3) := dk_160 0 9 (dk_at dksX5_line_0 20 rfl rfl)
theorem dX5_line_23 : decode cX5_line 23 = .ok (.aload_n 0, 1) := dk_42 (dk_at dksX5_line_0 23 rfl rfl)
theorem dX5_line_24 : decode cX5_line 24 = .ok (.iconst 4, 1) := dk_7 (dk_at dksX5_line_1 0 rfl rfl)
theorem dX5_line_25 : decode cX5_line 25 = .ok (.invokevirtual 165, 3) := dk_182 0 165 (dk_at dksX5_line_1 1 rfl rfl)
theorem dX5_line_28 : decode cX5_line 28 = .ok (.ireturn, 1) := dk_172 (dk_at dksX5_line_1 4 rfl rfl)
theorem dX5_line_29 : decode cX5_line 29 = .ok (.aload_n 0, 1) := dk_42 (dk_at dksX5_line_1 5 rfl rfl)
theorem dX5_line_30 : decode cX5_line 30 = .ok (.invokevirtual 168, 3) := dk_182 0 168 (dk_at dksX5_line_1 6 rfl rfl)
theorem dX5_line_33 : decode cX5_line 33 = .ok (.aload_n 0, 1) := dk_42 (dk_at dksX5_line_1 9 rfl rfl)
theorem dX5_line_34 : decode cX5_line 34 = .ok (.bipush 22, 2) := dk_16 22 (dk_at dksX5_line_1 10 rfl rfl)
theorem dX5_line_36 : decode cX5_line 36 = .ok (.iload_n 1, 1) := dk_27 (dk_at dksX5_line_1 12 rfl rfl)
theorem dX5_line_37 : decode cX5_line 37 = .ok (.iadd, 1) := dk_96 (dk_at dksX5_line_1 13 rfl rfl)
theorem dX5_line_38 : decode cX5_line 38 = .ok (.invokevirtual 206, 3) := dk_182 0 206 (dk_at dksX5_line_1 14 rfl rfl)
theorem dX5_line_41 : decode cX5_line 41 = .ok (.ifCond .eq 17, 3) := dk_153 0 17 (dk_at dksX5_line_1 17 rfl rfl)
theorem dX5_line_44 : decode cX5_line 44 = .ok (.aload_n 0, 1) := dk_42 (dk_at dksX5_line_1 20 rfl rfl)
theorem dX5_line_45 : decode cX5_line 45 = .ok (.bipush 8, 2) := dk_16 8 (dk_at dksX5_line_1 21 rfl rfl)
theorem dX5_line_47 : decode cX5_line 47 = .ok (.iload_n 1, 1) := dk_27 (dk_at dksX5_line_1 23 rfl rfl)
theorem dX5_line_48 : decode cX5_line 48 = .ok (.iadd, 1) := dk_96 (dk_at dksX5_line_2 0 rfl rfl)
theorem dX5_line_49 : decode cX5_line 49 = .ok (.iconst 1, 1) := dk_4 (dk_at dksX5_line_2 1 rfl rfl)
theorem dX5_line_50 : decode cX5_line 50 = .ok (.bipush 99, 2) := dk_16 99 (dk_at dksX5_line_2 2 rfl rfl)
theorem dX5_line_52 : decode cX5_line 52 = .ok (.invokevirtual 199, 3) := dk_182 0 199 (dk_at dksX5_line_2 4 rfl rfl)
theorem dX5_line_55 : decode cX5_line 55 = .ok (.ifCond .ne 5, 3) := dk_154 0 5 (dk_at dksX5_line_2 7 rfl rfl)
theorem dX5_line_58 : decode cX5_line 58 = .ok (.iconst 0, 1) := dk_3 (dk_at dksX5_line_2 10 rfl rfl)
theorem dX5_line_59 : decode cX5_line 59 = .ok (.ireturn, 1) := dk_172 (dk_at dksX5_line_2 11 rfl rfl)
theorem dX5_line_60 : decode cX5_line 60 = .ok (.aload_n 0, 1) := dk_42 (dk_at dksX5_line_2 12 rfl rfl)
theorem dX5_line_61 : decode cX5_line 61 = .ok (.getfield 37, 3) := dk_180 0 37 (dk_at dksX5_line_2 13 rfl rfl)
theorem dX5_line_64 : decode cX5_line 64 = .ok (.iconst 0, 1) := dk_3 (dk_at dksX5_line_2 16 rfl rfl)
theorem dX5_line_65 : decode cX5_line 65 = .ok (.dup2, 1) := dk_92 (dk_at dksX5_line_2 17 rfl rfl)
theorem dX5_line_66 : decode cX5_line 66 = .ok (.iaload, 1) := dk_46 (dk_at dksX5_line_2 18 rfl rfl)
theorem dX5_line_67 : decode cX5_line 67 = .ok (.iconst 1, 1) := dk_4 (dk_at dksX5_line_2 19 rfl rfl)
theorem dX5_line_68 : decode cX5_line 68 = .ok (.iadd, 1) := dk_96 (dk_at dksX5_line_2 20 rfl rfl)
theorem dX5_line_69 : decode cX5_line 69 = .ok (.iastore, 1) := dk_79 (dk_at dksX5_line_2 21 rfl rfl)
theorem dX5_line_70 : decode cX5_line 70 = .ok (.iconst 1, 1) := dk_4 (dk_at dksX5_line_2 22 rfl rfl)
theorem dX5_line_71 : decode cX5_line 71 = .ok (.ireturn, 1) := dk_172 (dk_at dksX5_line_2 23 rfl rfl)
theorem dX5_line_72 : decode cX5_line 72 = .ok (.aload_n 0, 1) := dk_42 (dk_at dksX5_line_3 0 rfl rfl)
theorem dX5_line_73 : decode cX5_line 73 = .ok (.ldc2_w 80, 3) := dk_20 0 80 (dk_at dksX5_line_3 1 rfl rfl)
theorem dX5_line_76 : decode cX5_line 76 = .ok (.invokevirtual 202, 3) := dk_182 0 202 (dk_at dksX5_line_3 4 rfl rfl)
theorem dX5_line_79 : decode cX5_line 79 = .ok (.ifCond .eq 65, 3) := dk_153 0 65 (dk_at dksX5_line_3 7 rfl rfl)
theorem dX5_line_82 : decode cX5_line 82 = .ok (.aload_n 0, 1) := dk_42 (dk_at dksX5_line_3 10 rfl rfl)
theorem dX5_line_83 : decode cX5_line 83 = .ok (.getfield 37, 3) := dk_180 0 37 (dk_at dksX5_line_3 11 rfl rfl)
theorem dX5_line_86 : decode cX5_line 86 = .ok (.iconst 1, 1) := dk_4 (dk_at dksX5_line_3 14 rfl rfl)
theorem dX5_line_87 : decode cX5_line 87 = .ok (.iaload, 1) := dk_46 (dk_at dksX5_line_3 15 rfl rfl)
theorem dX5_line_88 : decode cX5_line 88 = .ok (.istore_n 1, 1) := dk_60 (dk_at dksX5_line_3 16 rfl rfl)
theorem dX5_line_89 : decode cX5_line 89 = .ok (.iload_n 1, 1) := dk_27 (dk_at dksX5_line_3 17 rfl rfl)
theorem dX5_line_90 : decode cX5_line 90 = .ok (.bipush 6, 2) := dk_16 6 (dk_at dksX5_line_3 18 rfl rfl)
theorem dX5_line_92 : decode cX5_line 92 = .ok (.if_icmp .ne 9, 3) := dk_160 0 9 (dk_at dksX5_line_3 20 rfl rfl)
theorem dX5_line_95 : decode cX5_line 95 = .ok (.aload_n 0, 1) := dk_42 (dk_at dksX5_line_3 23 rfl rfl)
theorem dX5_line_96 : decode cX5_line 96 = .ok (.iconst 4, 1) := dk_7 (dk_at dksX5_line_4 0 rfl rfl)
theorem dX5_line_97 : decode cX5_line 97 = .ok (.invokevirtual 165, 3) := dk_182 0 165 (dk_at dksX5_line_4 1 rfl rfl)
theorem dX5_line_100 : decode cX5_line 100 = .ok (.ireturn, 1) := dk_172 (dk_at dksX5_line_4 4 rfl rfl)
theorem dX5_line_101 : decode cX5_line 101 = .ok (.aload_n 0, 1) := dk_42 (dk_at dksX5_line_4 5 rfl rfl)
theorem dX5_line_102 : decode cX5_line 102 = .ok (.invokevirtual 168, 3) := dk_182 0 168 (dk_at dksX5_line_4 6 rfl rfl)
theorem dX5_line_105 : decode cX5_line 105 = .ok (.aload_n 0, 1) := dk_42 (dk_at dksX5_line_4 9 rfl rfl)
theorem dX5_line_106 : decode cX5_line 106 = .ok (.bipush 30, 2) := dk_16 30 (dk_at dksX5_line_4 10 rfl rfl)
theorem dX5_line_108 : decode cX5_line 108 = .ok (.iload_n 1, 1) := dk_27 (dk_at dksX5_line_4 12 rfl rfl)
theorem dX5_line_109 : decode cX5_line 109 = .ok (.iadd, 1) := dk_96 (dk_at dksX5_line_4 13 rfl rfl)
theorem dX5_line_110 : decode cX5_line 110 = .ok (.invokevirtual 206, 3) := dk_182 0 206 (dk_at dksX5_line_4 14 rfl rfl)
theorem dX5_line_113 : decode cX5_line 113 = .ok (.ifCond .eq 17, 3) := dk_153 0 17 (dk_at dksX5_line_4 17 rfl rfl)
theorem dX5_line_116 : decode cX5_line 116 = .ok (.aload_n 0, 1) := dk_42 (dk_at dksX5_line_4 20 rfl rfl)
theorem dX5_line_117 : decode cX5_line 117 = .ok (.bipush 16, 2) := dk_16 16 (dk_at dksX5_line_4 21 rfl rfl)
theorem dX5_line_119 : decode cX5_line 119 = .ok (.iload_n 1, 1) := dk_27 (dk_at dksX5_line_4 23 rfl rfl)
theorem dX5_line_120 : decode cX5_line 120 = .ok (.iadd, 1) := dk_96 (dk_at dksX5_line_5 0 rfl rfl)
theorem dX5_line_121 : decode cX5_line 121 = .ok (.iconst 0, 1) := dk_3 (dk_at dksX5_line_5 1 rfl rfl)
theorem dX5_line_122 : decode cX5_line 122 = .ok (.bipush 20, 2) := dk_16 20 (dk_at dksX5_line_5 2 rfl rfl)
theorem dX5_line_124 : decode cX5_line 124 = .ok (.invokevirtual 199, 3) := dk_182 0 199 (dk_at dksX5_line_5 4 rfl rfl)
theorem dX5_line_127 : decode cX5_line 127 = .ok (.ifCond .ne 5, 3) := dk_154 0 5 (dk_at dksX5_line_5 7 rfl rfl)
theorem dX5_line_130 : decode cX5_line 130 = .ok (.iconst 0, 1) := dk_3 (dk_at dksX5_line_5 10 rfl rfl)
theorem dX5_line_131 : decode cX5_line 131 = .ok (.ireturn, 1) := dk_172 (dk_at dksX5_line_5 11 rfl rfl)
theorem dX5_line_132 : decode cX5_line 132 = .ok (.aload_n 0, 1) := dk_42 (dk_at dksX5_line_5 12 rfl rfl)
theorem dX5_line_133 : decode cX5_line 133 = .ok (.getfield 37, 3) := dk_180 0 37 (dk_at dksX5_line_5 13 rfl rfl)
theorem dX5_line_136 : decode cX5_line 136 = .ok (.iconst 1, 1) := dk_4 (dk_at dksX5_line_5 16 rfl rfl)
theorem dX5_line_137 : decode cX5_line 137 = .ok (.dup2, 1) := dk_92 (dk_at dksX5_line_5 17 rfl rfl)
theorem dX5_line_138 : decode cX5_line 138 = .ok (.iaload, 1) := dk_46 (dk_at dksX5_line_5 18 rfl rfl)
theorem dX5_line_139 : decode cX5_line 139 = .ok (.iconst 1, 1) := dk_4 (dk_at dksX5_line_5 19 rfl rfl)
theorem dX5_line_140 : decode cX5_line 140 = .ok (.iadd, 1) := dk_96 (dk_at dksX5_line_5 20 rfl rfl)
theorem dX5_line_141 : decode cX5_line 141 = .ok (.iastore, 1) := dk_79 (dk_at dksX5_line_5 21 rfl rfl)
theorem dX5_line_142 : decode cX5_line 142 = .ok (.iconst 1, 1) := dk_4 (dk_at dksX5_line_5 22 rfl rfl)
theorem dX5_line_143 : decode cX5_line 143 = .ok (.ireturn, 1) := dk_172 (dk_at dksX5_line_5 23 rfl rfl)
theorem dX5_line_144 : decode cX5_line 144 = .ok (.aload_n 0, 1) := dk_42 (dk_at dksX5_line_6 0 rfl rfl)
theorem dX5_line_145 : decode cX5_line 145 = .ok (.ldc2_w 82, 3) := dk_20 0 82 (dk_at dksX5_line_6 1 rfl rfl)
theorem dX5_line_148 : decode cX5_line 148 = .ok (.invokevirtual 202, 3) := dk_182 0 202 (dk_at dksX5_line_6 4 rfl rfl)
theorem dX5_line_151 : decode cX5_line 151 = .ok (.ifCond .eq 109, 3) := dk_153 0 109 (dk_at dksX5_line_6 7 rfl rfl)
theorem dX5_line_154 : decode cX5_line 154 = .ok (.aload_n 0, 1) := dk_42 (dk_at dksX5_line_6 10 rfl rfl)
theorem dX5_line_155 : decode cX5_line 155 = .ok (.getfield 37, 3) := dk_180 0 37 (dk_at dksX5_line_6 11 rfl rfl)
theorem dX5_line_158 : decode cX5_line 158 = .ok (.iconst 2, 1) := dk_5 (dk_at dksX5_line_6 14 rfl rfl)
theorem dX5_line_159 : decode cX5_line 159 = .ok (.iaload, 1) := dk_46 (dk_at dksX5_line_6 15 rfl rfl)
theorem dX5_line_160 : decode cX5_line 160 = .ok (.istore_n 1, 1) := dk_60 (dk_at dksX5_line_6 16 rfl rfl)
theorem dX5_line_161 : decode cX5_line 161 = .ok (.iload_n 1, 1) := dk_27 (dk_at dksX5_line_6 17 rfl rfl)
theorem dX5_line_162 : decode cX5_line 162 = .ok (.bipush 8, 2) := dk_16 8 (dk_at dksX5_line_6 18 rfl rfl)
theorem dX5_line_164 : decode cX5_line 164 = .ok (.if_icmp .ne 9, 3) := dk_160 0 9 (dk_at dksX5_line_6 20 rfl rfl)
theorem dX5_line_167 : decode cX5_line 167 = .ok (.aload_n 0, 1) := dk_42 (dk_at dksX5_line_6 23 rfl rfl)
theorem dX5_line_168 : decode cX5_line 168 = .ok (.iconst 4, 1) := dk_7 (dk_at dksX5_line_7 0 rfl rfl)
theorem dX5_line_169 : decode cX5_line 169 = .ok (.invokevirtual 165, 3) := dk_182 0 165 (dk_at dksX5_line_7 1 rfl rfl)
theorem dX5_line_172 : decode cX5_line 172 = .ok (.ireturn, 1) := dk_172 (dk_at dksX5_line_7 4 rfl rfl)
theorem dX5_line_173 : decode cX5_line 173 = .ok (.aload_n 0, 1) := dk_42 (dk_at dksX5_line_7 5 rfl rfl)
theorem dX5_line_174 : decode cX5_line 174 = .ok (.invokevirtual 168, 3) := dk_182 0 168 (dk_at dksX5_line_7 6 rfl rfl)
theorem dX5_line_177 : decode cX5_line 177 = .ok (.aload_n 0, 1) := dk_42 (dk_at dksX5_line_7 9 rfl rfl)
theorem dX5_line_178 : decode cX5_line 178 = .ok (.bipush 36, 2) := dk_16 36 (dk_at dksX5_line_7 10 rfl rfl)
theorem dX5_line_180 : decode cX5_line 180 = .ok (.iload_n 1, 1) := dk_27 (dk_at dksX5_line_7 12 rfl rfl)
theorem dX5_line_181 : decode cX5_line 181 = .ok (.iadd, 1) := dk_96 (dk_at dksX5_line_7 13 rfl rfl)
theorem dX5_line_182 : decode cX5_line 182 = .ok (.invokevirtual 206, 3) := dk_182 0 206 (dk_at dksX5_line_7 14 rfl rfl)
theorem dX5_line_185 : decode cX5_line 185 = .ok (.ifCond .eq 18, 3) := dk_153 0 18 (dk_at dksX5_line_7 17 rfl rfl)
theorem dX5_line_188 : decode cX5_line 188 = .ok (.aload_n 0, 1) := dk_42 (dk_at dksX5_line_7 20 rfl rfl)
theorem dX5_line_189 : decode cX5_line 189 = .ok (.bipush 30, 2) := dk_16 30 (dk_at dksX5_line_7 21 rfl rfl)
theorem dX5_line_191 : decode cX5_line 191 = .ok (.aload_n 0, 1) := dk_42 (dk_at dksX5_line_7 23 rfl rfl)
theorem dX5_line_192 : decode cX5_line 192 = .ok (.getfield 37, 3) := dk_180 0 37 (dk_at dksX5_line_8 0 rfl rfl)
theorem dX5_line_195 : decode cX5_line 195 = .ok (.iconst 1, 1) := dk_4 (dk_at dksX5_line_8 3 rfl rfl)
theorem dX5_line_196 : decode cX5_line 196 = .ok (.iaload, 1) := dk_46 (dk_at dksX5_line_8 4 rfl rfl)
theorem dX5_line_197 : decode cX5_line 197 = .ok (.invokevirtual 209, 3) := dk_182 0 209 (dk_at dksX5_line_8 5 rfl rfl)
theorem dX5_line_200 : decode cX5_line 200 = .ok (.ifCond .ne 5, 3) := dk_154 0 5 (dk_at dksX5_line_8 8 rfl rfl)
theorem dX5_line_203 : decode cX5_line 203 = .ok (.iconst 0, 1) := dk_3 (dk_at dksX5_line_8 11 rfl rfl)
theorem dX5_line_204 : decode cX5_line 204 = .ok (.ireturn, 1) := dk_172 (dk_at dksX5_line_8 12 rfl rfl)
theorem dX5_line_205 : decode cX5_line 205 = .ok (.aload_n 0, 1) := dk_42 (dk_at dksX5_line_8 13 rfl rfl)
theorem dX5_line_206 : decode cX5_line 206 = .ok (.getfield 37, 3) := dk_180 0 37 (dk_at dksX5_line_8 14 rfl rfl)
theorem dX5_line_209 : decode cX5_line 209 = .ok (.bipush 22, 2) := dk_16 22 (dk_at dksX5_line_8 17 rfl rfl)
theorem dX5_line_211 : decode cX5_line 211 = .ok (.iload_n 1, 1) := dk_27 (dk_at dksX5_line_8 19 rfl rfl)
theorem dX5_line_212 : decode cX5_line 212 = .ok (.iadd, 1) := dk_96 (dk_at dksX5_line_8 20 rfl rfl)
theorem dX5_line_213 : decode cX5_line 213 = .ok (.aload_n 0, 1) := dk_42 (dk_at dksX5_line_8 21 rfl rfl)
theorem dX5_line_214 : decode cX5_line 214 = .ok (.getfield 175, 3) := dk_180 0 175 (dk_at dksX5_line_9 0 rfl rfl)
theorem dX5_line_217 : decode cX5_line 217 = .ok (.iastore, 1) := dk_79 (dk_at dksX5_line_9 3 rfl rfl)
theorem dX5_line_218 : decode cX5_line 218 = .ok (.aload_n 0, 1) := dk_42 (dk_at dksX5_line_9 4 rfl rfl)
theorem dX5_line_219 : decode cX5_line 219 = .ok (.bipush 30, 2) := dk_16 30 (dk_at dksX5_line_9 5 rfl rfl)
theorem dX5_line_221 : decode cX5_line 221 = .ok (.iload_n 1, 1) := dk_27 (dk_at dksX5_line_9 7 rfl rfl)
theorem dX5_line_222 : decode cX5_line 222 = .ok (.iadd, 1) := dk_96 (dk_at dksX5_line_9 8 rfl rfl)
theorem dX5_line_223 : decode cX5_line 223 = .ok (.iconst 0, 1) := dk_3 (dk_at dksX5_line_9 9 rfl rfl)
theorem dX5_line_224 : decode cX5_line 224 = .ok (.bipush 20, 2) := dk_16 20 (dk_at dksX5_line_9 10 rfl rfl)
theorem dX5_line_226 : decode cX5_line 226 = .ok (.invokevirtual 199, 3) := dk_182 0 199 (dk_at dksX5_line_9 12 rfl rfl)
theorem dX5_line_229 : decode cX5_line 229 = .ok (.ifCond .eq 17, 3) := dk_153 0 17 (dk_at dksX5_line_9 15 rfl rfl)
theorem dX5_line_232 : decode cX5_line 232 = .ok (.aload_n 0, 1) := dk_42 (dk_at dksX5_line_9 18 rfl rfl)
theorem dX5_line_233 : decode cX5_line 233 = .ok (.bipush 38, 2) := dk_16 38 (dk_at dksX5_line_9 19 rfl rfl)
theorem dX5_line_235 : decode cX5_line 235 = .ok (.iload_n 1, 1) := dk_27 (dk_at dksX5_line_9 21 rfl rfl)
theorem dX5_line_236 : decode cX5_line 236 = .ok (.iadd, 1) := dk_96 (dk_at dksX5_line_9 22 rfl rfl)
theorem dX5_line_237 : decode cX5_line 237 = .ok (.iconst 1, 1) := dk_4 (dk_at dksX5_line_9 23 rfl rfl)
theorem dX5_line_238 : decode cX5_line 238 = .ok (.bipush 99, 2) := dk_16 99 (dk_at dksX5_line_10 0 rfl rfl)
theorem dX5_line_240 : decode cX5_line 240 = .ok (.invokevirtual 199, 3) := dk_182 0 199 (dk_at dksX5_line_10 2 rfl rfl)
theorem dX5_line_243 : decode cX5_line 243 = .ok (.ifCond .ne 5, 3) := dk_154 0 5 (dk_at dksX5_line_10 5 rfl rfl)
theorem dX5_line_246 : decode cX5_line 246 = .ok (.iconst 0, 1) := dk_3 (dk_at dksX5_line_10 8 rfl rfl)
theorem dX5_line_247 : decode cX5_line 247 = .ok (.ireturn, 1) := dk_172 (dk_at dksX5_line_10 9 rfl rfl)
theorem dX5_line_248 : decode cX5_line 248 = .ok (.aload_n 0, 1) := dk_42 (dk_at dksX5_line_10 10 rfl rfl)
theorem dX5_line_249 : decode cX5_line 249 = .ok (.getfield 37, 3) := dk_180 0 37 (dk_at dksX5_line_10 11 rfl rfl)
theorem dX5_line_252 : decode cX5_line 252 = .ok (.iconst 2, 1) := dk_5 (dk_at dksX5_line_10 14 rfl rfl)
theorem dX5_line_253 : decode cX5_line 253 = .ok (.dup2, 1) := dk_92 (dk_at dksX5_line_10 15 rfl rfl)
theorem dX5_line_254 : decode cX5_line 254 = .ok (.iaload, 1) := dk_46 (dk_at dksX5_line_10 16 rfl rfl)
theorem dX5_line_255 : decode cX5_line 255 = .ok (.iconst 1, 1) := dk_4 (dk_at dksX5_line_10 17 rfl rfl)
theorem dX5_line_256 : decode cX5_line 256 = .ok (.iadd, 1) := dk_96 (dk_at dksX5_line_10 18 rfl rfl)
theorem dX5_line_257 : decode cX5_line 257 = .ok (.iastore, 1) := dk_79 (dk_at dksX5_line_10 19 rfl rfl)
theorem dX5_line_258 : decode cX5_line 258 = .ok (.iconst 1, 1) := dk_4 (dk_at dksX5_line_10 20 rfl rfl)
theorem dX5_line_259 : decode cX5_line 259 = .ok (.ireturn, 1) := dk_172 (dk_at dksX5_line_10 21 rfl rfl)
theorem dX5_line_260 : decode cX5_line 260 = .ok (.aload_n 0, 1) := dk_42 (dk_at dksX5_line_10 22 rfl rfl)
theorem dX5_line_261 : decode cX5_line 261 = .ok (.ldc2_w 84, 3) := dk_20 0 84 (dk_at dksX5_line_11 0 rfl rfl)
theorem dX5_line_264 : decode cX5_line 264 = .ok (.invokevirtual 202, 3) := dk_182 0 202 (dk_at dksX5_line_11 3 rfl rfl)
theorem dX5_line_267 : decode cX5_line 267 = .ok (.ifCond .eq 8, 3) := dk_153 0 8 (dk_at dksX5_line_11 6 rfl rfl)
theorem dX5_line_270 : decode cX5_line 270 = .ok (.aload_n 0, 1) := dk_42 (dk_at dksX5_line_11 9 rfl rfl)
theorem dX5_line_271 : decode cX5_line 271 = .ok (.invokevirtual 212, 3) := dk_182 0 212 (dk_at dksX5_line_11 10 rfl rfl)
theorem dX5_line_274 : decode cX5_line 274 = .ok (.ireturn, 1) := dk_172 (dk_at dksX5_line_11 13 rfl rfl)
theorem dX5_line_275 : decode cX5_line 275 = .ok (.aload_n 0, 1) := dk_42 (dk_at dksX5_line_11 14 rfl rfl)
theorem dX5_line_276 : decode cX5_line 276 = .ok (.ldc2_w 86, 3) := dk_20 0 86 (dk_at dksX5_line_11 15 rfl rfl)
theorem dX5_line_279 : decode cX5_line 279 = .ok (.invokevirtual 202, 3) := dk_182 0 202 (dk_at dksX5_line_11 18 rfl rfl)
theorem dX5_line_282 : decode cX5_line 282 = .ok (.ifCond .eq 13, 3) := dk_153 0 13 (dk_at dksX5_line_11 21 rfl rfl)
theorem dX5_line_285 : decode cX5_line 285 = .ok (.aload_n 0, 1) := dk_42 (dk_at dksX5_line_12 0 rfl rfl)
theorem dX5_line_286 : decode cX5_line 286 = .ok (.iconst 0, 1) := dk_3 (dk_at dksX5_line_12 1 rfl rfl)
theorem dX5_line_287 : decode cX5_line 287 = .ok (.iconst 3, 1) := dk_6 (dk_at dksX5_line_12 2 rfl rfl)
theorem dX5_line_288 : decode cX5_line 288 = .ok (.iconst 0, 1) := dk_3 (dk_at dksX5_line_12 3 rfl rfl)
theorem dX5_line_289 : decode cX5_line 289 = .ok (.bipush 40, 2) := dk_16 40 (dk_at dksX5_line_12 4 rfl rfl)
theorem dX5_line_291 : decode cX5_line 291 = .ok (.invokevirtual 215, 3) := dk_182 0 215 (dk_at dksX5_line_12 6 rfl rfl)
theorem dX5_line_294 : decode cX5_line 294 = .ok (.ireturn, 1) := dk_172 (dk_at dksX5_line_12 9 rfl rfl)
theorem dX5_line_295 : decode cX5_line 295 = .ok (.aload_n 0, 1) := dk_42 (dk_at dksX5_line_12 10 rfl rfl)
theorem dX5_line_296 : decode cX5_line 296 = .ok (.ldc2_w 88, 3) := dk_20 0 88 (dk_at dksX5_line_12 11 rfl rfl)
theorem dX5_line_299 : decode cX5_line 299 = .ok (.invokevirtual 202, 3) := dk_182 0 202 (dk_at dksX5_line_12 14 rfl rfl)
theorem dX5_line_302 : decode cX5_line 302 = .ok (.ifCond .eq 13, 3) := dk_153 0 13 (dk_at dksX5_line_12 17 rfl rfl)
theorem dX5_line_305 : decode cX5_line 305 = .ok (.aload_n 0, 1) := dk_42 (dk_at dksX5_line_12 20 rfl rfl)
theorem dX5_line_306 : decode cX5_line 306 = .ok (.iconst 1, 1) := dk_4 (dk_at dksX5_line_12 21 rfl rfl)
theorem dX5_line_307 : decode cX5_line 307 = .ok (.iconst 4, 1) := dk_7 (dk_at dksX5_line_12 22 rfl rfl)
theorem dX5_line_308 : decode cX5_line 308 = .ok (.iconst 1, 1) := dk_4 (dk_at dksX5_line_12 23 rfl rfl)
theorem dX5_line_309 : decode cX5_line 309 = .ok (.bipush 30, 2) := dk_16 30 (dk_at dksX5_line_13 0 rfl rfl)
theorem dX5_line_311 : decode cX5_line 311 = .ok (.invokevirtual 215, 3) := dk_182 0 215 (dk_at dksX5_line_13 2 rfl rfl)
theorem dX5_line_314 : decode cX5_line 314 = .ok (.ireturn, 1) := dk_172 (dk_at dksX5_line_13 5 rfl rfl)
theorem dX5_line_315 : decode cX5_line 315 = .ok (.aload_n 0, 1) := dk_42 (dk_at dksX5_line_13 6 rfl rfl)
theorem dX5_line_316 : decode cX5_line 316 = .ok (.ldc2_w 90, 3) := dk_20 0 90 (dk_at dksX5_line_13 7 rfl rfl)
theorem dX5_line_319 : decode cX5_line 319 = .ok (.invokevirtual 202, 3) := dk_182 0 202 (dk_at dksX5_line_13 10 rfl rfl)
theorem dX5_line_322 : decode cX5_line 322 = .ok (.ifCond .eq 13, 3) := dk_153 0 13 (dk_at dksX5_line_13 13 rfl rfl)
theorem dX5_line_325 : decode cX5_line 325 = .ok (.aload_n 0, 1) := dk_42 (dk_at dksX5_line_13 16 rfl rfl)
theorem dX5_line_326 : decode cX5_line 326 = .ok (.iconst 2, 1) := dk_5 (dk_at dksX5_line_13 17 rfl rfl)
theorem dX5_line_327 : decode cX5_line 327 = .ok (.iconst 5, 1) := dk_8 (dk_at dksX5_line_13 18 rfl rfl)
theorem dX5_line_328 : decode cX5_line 328 = .ok (.iconst 0, 1) := dk_3 (dk_at dksX5_line_13 19 rfl rfl)
theorem dX5_line_329 : decode cX5_line 329 = .ok (.bipush 9, 2) := dk_16 9 (dk_at dksX5_line_13 20 rfl rfl)
theorem dX5_line_331 : decode cX5_line 331 = .ok (.invokevirtual 215, 3) := dk_182 0 215 (dk_at dksX5_line_14 0 rfl rfl)
theorem dX5_line_334 : decode cX5_line 334 = .ok (.ireturn, 1) := dk_172 (dk_at dksX5_line_14 3 rfl rfl)
theorem dX5_line_335 : decode cX5_line 335 = .ok (.aload_n 0, 1) := dk_42 (dk_at dksX5_line_14 4 rfl rfl)
theorem dX5_line_336 : decode cX5_line 336 = .ok (.ldc2_w 92, 3) := dk_20 0 92 (dk_at dksX5_line_14 5 rfl rfl)
theorem dX5_line_339 : decode cX5_line 339 = .ok (.invokevirtual 202, 3) := dk_182 0 202 (dk_at dksX5_line_14 8 rfl rfl)
theorem dX5_line_342 : decode cX5_line 342 = .ok (.ifCond .eq 17, 3) := dk_153 0 17 (dk_at dksX5_line_14 11 rfl rfl)
theorem dX5_line_345 : decode cX5_line 345 = .ok (.aload_n 0, 1) := dk_42 (dk_at dksX5_line_14 14 rfl rfl)
theorem dX5_line_346 : decode cX5_line 346 = .ok (.iconst 3, 1) := dk_6 (dk_at dksX5_line_14 15 rfl rfl)
theorem dX5_line_347 : decode cX5_line 347 = .ok (.bipush 6, 2) := dk_16 6 (dk_at dksX5_line_14 16 rfl rfl)
theorem dX5_line_349 : decode cX5_line 349 = .ok (.iconst 1, 1) := dk_4 (dk_at dksX5_line_14 18 rfl rfl)
theorem dX5_line_350 : decode cX5_line 350 = .ok (.sipush 999, 3) := dk_17 3 231 (dk_at dksX5_line_14 19 rfl rfl)
theorem dX5_line_353 : decode cX5_line 353 = .ok (.invokevirtual 215, 3) := dk_182 0 215 (dk_at dksX5_line_15 0 rfl rfl)
theorem dX5_line_356 : decode cX5_line 356 = .ok (.goto 8, 3) := dk_167 0 8 (dk_at dksX5_line_15 3 rfl rfl)
theorem dX5_line_359 : decode cX5_line 359 = .ok (.aload_n 0, 1) := dk_42 (dk_at dksX5_line_15 6 rfl rfl)
theorem dX5_line_360 : decode cX5_line 360 = .ok (.iconst 1, 1) := dk_4 (dk_at dksX5_line_15 7 rfl rfl)
theorem dX5_line_361 : decode cX5_line 361 = .ok (.invokevirtual 165, 3) := dk_182 0 165 (dk_at dksX5_line_15 8 rfl rfl)
theorem dX5_line_364 : decode cX5_line 364 = .ok (.ireturn, 1) := dk_172 (dk_at dksX5_line_15 11 rfl rfl)
theorem se_HeldCoatsModel_once__IIII_Z_HeldCoatsModel : ∀ c ∈ ([5] : List Nat), ∃ q : vw_C, cz_cl[c]? = some q ∧ Cond.selects q.1 (⟨"HeldCoatsModel", "once", "(IIII)Z"⟩ : MethodName) (⟨"HeldCoatsModel", "once", "(IIII)Z"⟩ : MethodName) ∈ lw_all := List.forall_mem_cons.mpr ⟨⟨_, cz_cl5, qs60⟩, fun _ h => absurd h List.not_mem_nil⟩
theorem md_X5_once : cz_md yX5_once 5 (ws_ yX5_once cX5_once 5 ((Option.some Jvm.ClassFile.FieldType.boolean))) 4 := ⟨cz_ws_code q2140, q123, ⟨by decide, by decide, by decide +kernel⟩, by decide⟩
theorem se_HeldCoatsModel_readCold___Z_HeldCoatsModel : ∀ c ∈ ([5] : List Nat), ∃ q : vw_C, cz_cl[c]? = some q ∧ Cond.selects q.1 (⟨"HeldCoatsModel", "readCold", "()Z"⟩ : MethodName) (⟨"HeldCoatsModel", "readCold", "()Z"⟩ : MethodName) ∈ lw_all := List.forall_mem_cons.mpr ⟨⟨_, cz_cl5, qs59⟩, fun _ h => absurd h List.not_mem_nil⟩
theorem md_X5_readCold : cz_md yX5_readCold 3 (ws_ yX5_readCold cX5_readCold 3 ((Option.some Jvm.ClassFile.FieldType.boolean))) 0 := ⟨cz_ws_code q2136, q123, ⟨by decide, by decide, by decide +kernel⟩, by decide⟩
theorem se_HeldCoatsModel_fresh__I_Z_HeldCoatsModel : ∀ c ∈ ([5] : List Nat), ∃ q : vw_C, cz_cl[c]? = some q ∧ Cond.selects q.1 (⟨"HeldCoatsModel", "fresh", "(I)Z"⟩ : MethodName) (⟨"HeldCoatsModel", "fresh", "(I)Z"⟩ : MethodName) ∈ lw_all := List.forall_mem_cons.mpr ⟨⟨_, cz_cl5, qs52⟩, fun _ h => absurd h List.not_mem_nil⟩
theorem md_X5_fresh : cz_md yX5_fresh 2 (ws_ yX5_fresh cX5_fresh 2 ((Option.some Jvm.ClassFile.FieldType.boolean))) 1 := ⟨cz_ws_code q2105, q123, ⟨by decide, by decide, by decide +kernel⟩, by decide⟩
theorem kB_99 : (Int8.ofInt (99)).toInt32 = 99 := by decide
theorem kB_38 : (Int8.ofInt (38)).toInt32 = 38 := by decide
set_option maxHeartbeats 4000000 in
set_option maxRecDepth 100000 in
noncomputable def fn_X5_line (l0 : Option Nat) (h : cz_H) : cz_Z := cz_rc h l0 [5] (cz_cI (fn_X5_isWord l0 1936023924 h) (fun x8 h7 => (if x8 = 0 then cz_rc h7 l0 [5] (cz_cI (fn_X5_isWord l0 7168366 h7) (fun x16 h15 => (if x16 = 0 then cz_rc h15 l0 [5] (cz_cI (fn_X5_isWord l0 1668243828 h15) (fun x24 h23 => (if x24 = 0 then cz_rc h23 l0 [5] (cz_cI (fn_X5_isWord l0 1668246628 h23) (fun x32 h31 => (if x32 = 0 then cz_rc h31 l0 [5] (cz_cI (fn_X5_isWord l0 126948184253810 h31) (fun x40 h39 => (if x40 = 0 then cz_rc h39 l0 [5] (cz_cI (fn_X5_isWord l0 448545973363 h39) (fun x48 h47 => (if x48 = 0 then cz_rc h47 l0 [5] (cz_cI (fn_X5_isWord l0 470021335155 h47) (fun x56 h55 => (if x56 = 0 then cz_rc h55 l0 [5] (cz_cI (fn_X5_isWord l0 465625246068 h55) (fun x64 h63 => (if x64 = 0 then cz_rc h63 l0 [5] (cz_cI (fn_X5_bad l0 1 h63) (fun x72 h71 => cz_ckz x72 (some (.inl (some (cz_i x72)), h71)))) else cz_rc h63 l0 [5] (cz_cI (fn_X5_once l0 3 6 1 999 h63) (fun x80 h79 => cz_ckz x80 (some (.inl (some (cz_i x80)), h79))))))) else cz_rc h55 l0 [5] (cz_cI (fn_X5_once l0 2 5 0 9 h55) (fun x88 h87 => cz_ckz x88 (some (.inl (some (cz_i x88)), h87))))))) else cz_rc h47 l0 [5] (cz_cI (fn_X5_once l0 1 4 1 30 h47) (fun x96 h95 => cz_ckz x96 (some (.inl (some (cz_i x96)), h95))))))) else cz_rc h39 l0 [5] (cz_cI (fn_X5_once l0 0 3 0 40 h39) (fun x104 h103 => cz_ckz x104 (some (.inl (some (cz_i x104)), h103))))))) else cz_rc h31 l0 [5] (cz_cI (fn_X5_readCold l0 h31) (fun x112 h111 => cz_ckz x112 (some (.inl (some (cz_i x112)), h111))))))) else cz_getR h23 l0 [(5, 7)] (fun r113 => cz_iald h23 r113 2 (fun x114 => (if x114 = 8 then cz_rc h23 l0 [5] (cz_cI (fn_X5_bad l0 4 h23) (fun x169 h168 => cz_ckz x169 (some (.inl (some (cz_i x169)), h168)))) else cz_rc h23 l0 [5] (cz_cV (fn_X5_next l0 h23) (fun h121 => cz_rc h121 l0 [5] (cz_cI (fn_X5_fresh l0 ((36 : Int32) + x114) h121) (fun x129 h128 => (if x129 = 0 then some (.inl (some (cz_i 0)), h128) else cz_getR h128 l0 [(5, 7)] (fun r130 => cz_iald h128 r130 1 (fun x131 => cz_rc h128 l0 [5] (cz_cI (fn_X5_takesName l0 30 x131 h128) (fun x139 h138 => (if x139 = 0 then some (.inl (some (cz_i 0)), h138) else cz_getR h138 l0 [(5, 7)] (fun r140 => cz_getI h138 l0 [(5, 18)] (fun x141 => cz_iast h138 r140 ((22 : Int32) + x114) x141 (fun h142 => cz_rc h142 l0 [5] (cz_cI (fn_X5_puts l0 ((30 : Int32) + x114) 0 20 h142) (fun x150 h149 => (if x150 = 0 then some (.inl (some (cz_i 0)), h149) else cz_rc h149 l0 [5] (cz_cI (fn_X5_puts l0 ((38 : Int32) + x114) 1 99 h149) (fun x158 h157 => (if x158 = 0 then some (.inl (some (cz_i 0)), h157) else cz_getR h157 l0 [(5, 7)] (fun r159 => cz_iald h157 r159 2 (fun x160 => cz_iast h157 r159 2 (x160 + 1) (fun h161 => some (.inl (some (cz_i 1)), h161))))))))))))))))))))))))))))) else cz_getR h15 l0 [(5, 7)] (fun r170 => cz_iald h15 r170 1 (fun x171 => (if x171 = 6 then cz_rc h15 l0 [5] (cz_cI (fn_X5_bad l0 4 h15) (fun x205 h204 => cz_ckz x205 (some (.inl (some (cz_i x205)), h204)))) else cz_rc h15 l0 [5] (cz_cV (fn_X5_next l0 h15) (fun h178 => cz_rc h178 l0 [5] (cz_cI (fn_X5_fresh l0 ((30 : Int32) + x171) h178) (fun x186 h185 => (if x186 = 0 then some (.inl (some (cz_i 0)), h185) else cz_rc h185 l0 [5] (cz_cI (fn_X5_puts l0 ((16 : Int32) + x171) 0 20 h185) (fun x194 h193 => (if x194 = 0 then some (.inl (some (cz_i 0)), h193) else cz_getR h193 l0 [(5, 7)] (fun r195 => cz_iald h193 r195 1 (fun x196 => cz_iast h193 r195 1 (x196 + 1) (fun h197 => some (.inl (some (cz_i 1)), h197)))))))))))))))))) else cz_getR h7 l0 [(5, 7)] (fun r206 => cz_iald h7 r206 0 (fun x207 => (if x207 = 8 then cz_rc h7 l0 [5] (cz_cI (fn_X5_bad l0 4 h7) (fun x241 h240 => cz_ckz x241 (some (.inl (some (cz_i x241)), h240)))) else cz_rc h7 l0 [5] (cz_cV (fn_X5_next l0 h7) (fun h214 => cz_rc h214 l0 [5] (cz_cI (fn_X5_fresh l0 ((22 : Int32) + x207) h214) (fun x222 h221 => (if x222 = 0 then some (.inl (some (cz_i 0)), h221) else cz_rc h221 l0 [5] (cz_cI (fn_X5_puts l0 ((8 : Int32) + x207) 1 99 h221) (fun x230 h229 => (if x230 = 0 then some (.inl (some (cz_i 0)), h229) else cz_getR h229 l0 [(5, 7)] (fun r231 => cz_iald h229 r231 0 (fun x232 => cz_iast h229 r231 0 (x232 + 1) (fun h233 => some (.inl (some (cz_i 1)), h233))))))))))))))))))
set_option maxHeartbeats 4000000 in
set_option maxRecDepth 100000 in
theorem wk_X5_line {K : cz_K} {D : cz_D} {h0 : cz_H} {oh : cz_O × cz_H} {l0 : Option Nat} {h : cz_H} (S : cz_S K D h0 cX5_line 2 "HeldCoatsModel" ((Option.some Jvm.ClassFile.FieldType.boolean)) "line" ([])) : cz_T K D 7 h0 oh 2 (fn_X5_line l0 h) h 0 [(0, cz_r l0)] [] := by
  unfold fn_X5_line
  refine ct_aload_n (k := 0) S dX5_line_0 rfl rfl ?_
  refine ct_ldc2 S q1890 dX5_line_1 ?_
  refine ct_rc (fun b1 ci2 V3 hb4 hc5 hi6 => ?_)
  refine ct_cI (st := []) (cg_virtual (av := [cz_j 1936023924]) S hb4 hc5 hi6 (fun _ e => mt_X5_isWord e) md_X5_isWord q2094 q2096 se_HeldCoatsModel_isWord__J_Z_HeldCoatsModel (by decide) (Nat.le_of_ble_eq_true rfl) rfl dX5_line_4) (fun x8 h7 => ?_)
  refine ct_if_eq (tgt := 72) S dX5_line_7 (by decide) ?_ ?_
  · refine ct_aload_n (k := 0) S dX5_line_72 rfl rfl ?_
    refine ct_ldc2 S q1891 dX5_line_73 ?_
    refine ct_rc (fun b9 ci10 V11 hb12 hc13 hi14 => ?_)
    refine ct_cI (st := []) (cg_virtual (av := [cz_j 7168366]) S hb12 hc13 hi14 (fun _ e => mt_X5_isWord e) md_X5_isWord q2094 q2096 se_HeldCoatsModel_isWord__J_Z_HeldCoatsModel (by decide) (Nat.le_of_ble_eq_true rfl) rfl dX5_line_76) (fun x16 h15 => ?_)
    refine ct_if_eq (tgt := 144) S dX5_line_79 (by decide) ?_ ?_
    · refine ct_aload_n (k := 0) S dX5_line_144 rfl rfl ?_
      refine ct_ldc2 S q1892 dX5_line_145 ?_
      refine ct_rc (fun b17 ci18 V19 hb20 hc21 hi22 => ?_)
      refine ct_cI (st := []) (cg_virtual (av := [cz_j 1668243828]) S hb20 hc21 hi22 (fun _ e => mt_X5_isWord e) md_X5_isWord q2094 q2096 se_HeldCoatsModel_isWord__J_Z_HeldCoatsModel (by decide) (Nat.le_of_ble_eq_true rfl) rfl dX5_line_148) (fun x24 h23 => ?_)
      refine ct_if_eq (tgt := 260) S dX5_line_151 (by decide) ?_ ?_
      · refine ct_aload_n (k := 0) S dX5_line_260 rfl rfl ?_
        refine ct_ldc2 S q1893 dX5_line_261 ?_
        refine ct_rc (fun b25 ci26 V27 hb28 hc29 hi30 => ?_)
        refine ct_cI (st := []) (cg_virtual (av := [cz_j 1668246628]) S hb28 hc29 hi30 (fun _ e => mt_X5_isWord e) md_X5_isWord q2094 q2096 se_HeldCoatsModel_isWord__J_Z_HeldCoatsModel (by decide) (Nat.le_of_ble_eq_true rfl) rfl dX5_line_264) (fun x32 h31 => ?_)
        refine ct_if_eq (tgt := 275) S dX5_line_267 (by decide) ?_ ?_
        · refine ct_aload_n (k := 0) S dX5_line_275 rfl rfl ?_
          refine ct_ldc2 S q1894 dX5_line_276 ?_
          refine ct_rc (fun b33 ci34 V35 hb36 hc37 hi38 => ?_)
          refine ct_cI (st := []) (cg_virtual (av := [cz_j 126948184253810]) S hb36 hc37 hi38 (fun _ e => mt_X5_isWord e) md_X5_isWord q2094 q2096 se_HeldCoatsModel_isWord__J_Z_HeldCoatsModel (by decide) (Nat.le_of_ble_eq_true rfl) rfl dX5_line_279) (fun x40 h39 => ?_)
          refine ct_if_eq (tgt := 295) S dX5_line_282 (by decide) ?_ ?_
          · refine ct_aload_n (k := 0) S dX5_line_295 rfl rfl ?_
            refine ct_ldc2 S q1895 dX5_line_296 ?_
            refine ct_rc (fun b41 ci42 V43 hb44 hc45 hi46 => ?_)
            refine ct_cI (st := []) (cg_virtual (av := [cz_j 448545973363]) S hb44 hc45 hi46 (fun _ e => mt_X5_isWord e) md_X5_isWord q2094 q2096 se_HeldCoatsModel_isWord__J_Z_HeldCoatsModel (by decide) (Nat.le_of_ble_eq_true rfl) rfl dX5_line_299) (fun x48 h47 => ?_)
            refine ct_if_eq (tgt := 315) S dX5_line_302 (by decide) ?_ ?_
            · refine ct_aload_n (k := 0) S dX5_line_315 rfl rfl ?_
              refine ct_ldc2 S q1896 dX5_line_316 ?_
              refine ct_rc (fun b49 ci50 V51 hb52 hc53 hi54 => ?_)
              refine ct_cI (st := []) (cg_virtual (av := [cz_j 470021335155]) S hb52 hc53 hi54 (fun _ e => mt_X5_isWord e) md_X5_isWord q2094 q2096 se_HeldCoatsModel_isWord__J_Z_HeldCoatsModel (by decide) (Nat.le_of_ble_eq_true rfl) rfl dX5_line_319) (fun x56 h55 => ?_)
              refine ct_if_eq (tgt := 335) S dX5_line_322 (by decide) ?_ ?_
              · refine ct_aload_n (k := 0) S dX5_line_335 rfl rfl ?_
                refine ct_ldc2 S q1897 dX5_line_336 ?_
                refine ct_rc (fun b57 ci58 V59 hb60 hc61 hi62 => ?_)
                refine ct_cI (st := []) (cg_virtual (av := [cz_j 465625246068]) S hb60 hc61 hi62 (fun _ e => mt_X5_isWord e) md_X5_isWord q2094 q2096 se_HeldCoatsModel_isWord__J_Z_HeldCoatsModel (by decide) (Nat.le_of_ble_eq_true rfl) rfl dX5_line_339) (fun x64 h63 => ?_)
                refine ct_if_eq (tgt := 359) S dX5_line_342 (by decide) ?_ ?_
                · refine ct_aload_n (k := 0) S dX5_line_359 rfl rfl ?_
                  refine ct_iconst (v := 1) S dX5_line_360 kI_1 ?_
                  refine ct_rc (fun b65 ci66 V67 hb68 hc69 hi70 => ?_)
                  refine ct_cI (st := []) (cg_virtual (av := [cz_i 1]) S hb68 hc69 hi70 (fun _ e => mt_X5_bad e) md_X5_bad q2098 q2100 se_HeldCoatsModel_bad__I_Z_HeldCoatsModel (by decide) (Nat.le_of_ble_eq_true rfl) rfl dX5_line_361) (fun x72 h71 => ?_)
                  refine ct_ckz (fun hx => ?_)
                  exact ct_zr (ty := .boolean) S rfl (cz_nz hx) dX5_line_364
                · refine ct_aload_n (k := 0) S dX5_line_345 rfl rfl ?_
                  refine ct_iconst (v := 3) S dX5_line_346 kI_3 ?_
                  refine ct_bipush (v := 6) S dX5_line_347 kB_6 ?_
                  refine ct_iconst (v := 1) S dX5_line_349 kI_1 ?_
                  refine ct_sipush (v := 999) S dX5_line_350 kS_999 ?_
                  refine ct_rc (fun b73 ci74 V75 hb76 hc77 hi78 => ?_)
                  refine ct_cI (st := []) (cg_virtual (av := [cz_i 3, cz_i 6, cz_i 1, cz_i 999]) S hb76 hc77 hi78 (fun _ e => mt_X5_once e) md_X5_once q2137 q2139 se_HeldCoatsModel_once__IIII_Z_HeldCoatsModel (by decide) (Nat.le_of_ble_eq_true rfl) rfl dX5_line_353) (fun x80 h79 => ?_)
                  refine ct_goto (tgt := 364) S dX5_line_356 (by decide) ?_
                  refine ct_ckz (fun hx => ?_)
                  exact ct_zr (ty := .boolean) S rfl (cz_nz hx) dX5_line_364
              · refine ct_aload_n (k := 0) S dX5_line_325 rfl rfl ?_
                refine ct_iconst (v := 2) S dX5_line_326 kI_2 ?_
                refine ct_iconst (v := 5) S dX5_line_327 kI_5 ?_
                refine ct_iconst (v := 0) S dX5_line_328 kI_0 ?_
                refine ct_bipush (v := 9) S dX5_line_329 kB_9 ?_
                refine ct_rc (fun b81 ci82 V83 hb84 hc85 hi86 => ?_)
                refine ct_cI (st := []) (cg_virtual (av := [cz_i 2, cz_i 5, cz_i 0, cz_i 9]) S hb84 hc85 hi86 (fun _ e => mt_X5_once e) md_X5_once q2137 q2139 se_HeldCoatsModel_once__IIII_Z_HeldCoatsModel (by decide) (Nat.le_of_ble_eq_true rfl) rfl dX5_line_331) (fun x88 h87 => ?_)
                refine ct_ckz (fun hx => ?_)
                exact ct_zr (ty := .boolean) S rfl (cz_nz hx) dX5_line_334
            · refine ct_aload_n (k := 0) S dX5_line_305 rfl rfl ?_
              refine ct_iconst (v := 1) S dX5_line_306 kI_1 ?_
              refine ct_iconst (v := 4) S dX5_line_307 kI_4 ?_
              refine ct_iconst (v := 1) S dX5_line_308 kI_1 ?_
              refine ct_bipush (v := 30) S dX5_line_309 kB_30 ?_
              refine ct_rc (fun b89 ci90 V91 hb92 hc93 hi94 => ?_)
              refine ct_cI (st := []) (cg_virtual (av := [cz_i 1, cz_i 4, cz_i 1, cz_i 30]) S hb92 hc93 hi94 (fun _ e => mt_X5_once e) md_X5_once q2137 q2139 se_HeldCoatsModel_once__IIII_Z_HeldCoatsModel (by decide) (Nat.le_of_ble_eq_true rfl) rfl dX5_line_311) (fun x96 h95 => ?_)
              refine ct_ckz (fun hx => ?_)
              exact ct_zr (ty := .boolean) S rfl (cz_nz hx) dX5_line_314
          · refine ct_aload_n (k := 0) S dX5_line_285 rfl rfl ?_
            refine ct_iconst (v := 0) S dX5_line_286 kI_0 ?_
            refine ct_iconst (v := 3) S dX5_line_287 kI_3 ?_
            refine ct_iconst (v := 0) S dX5_line_288 kI_0 ?_
            refine ct_bipush (v := 40) S dX5_line_289 kB_40 ?_
            refine ct_rc (fun b97 ci98 V99 hb100 hc101 hi102 => ?_)
            refine ct_cI (st := []) (cg_virtual (av := [cz_i 0, cz_i 3, cz_i 0, cz_i 40]) S hb100 hc101 hi102 (fun _ e => mt_X5_once e) md_X5_once q2137 q2139 se_HeldCoatsModel_once__IIII_Z_HeldCoatsModel (by decide) (Nat.le_of_ble_eq_true rfl) rfl dX5_line_291) (fun x104 h103 => ?_)
            refine ct_ckz (fun hx => ?_)
            exact ct_zr (ty := .boolean) S rfl (cz_nz hx) dX5_line_294
        · refine ct_aload_n (k := 0) S dX5_line_270 rfl rfl ?_
          refine ct_rc (fun b105 ci106 V107 hb108 hc109 hi110 => ?_)
          refine ct_cI (st := []) (cg_virtual (av := []) S hb108 hc109 hi110 (fun _ e => mt_X5_readCold e) md_X5_readCold q2133 q2135 se_HeldCoatsModel_readCold___Z_HeldCoatsModel (by decide) (Nat.le_of_ble_eq_true rfl) rfl dX5_line_271) (fun x112 h111 => ?_)
          refine ct_ckz (fun hx => ?_)
          exact ct_zr (ty := .boolean) S rfl (cz_nz hx) dX5_line_274
      · refine ct_aload_n (k := 0) S dX5_line_154 rfl rfl ?_
        refine ct_getR S fw_X5_37 dX5_line_155 (fun r113 => ?_)
        refine ct_iconst (v := 2) S dX5_line_158 kI_2 ?_
        refine ct_iald S dX5_line_159 (fun x114 => ?_)
        refine ct_istore_n (L' := [(1, cz_i x114), (0, cz_r l0)]) S dX5_line_160 rfl (by decide) rfl ?_
        refine ct_iload_n (k := 0) S dX5_line_161 rfl rfl ?_
        refine ct_bipush (v := 8) S dX5_line_162 kB_8 ?_
        refine ct_icmp_ne (tgt := 173) S dX5_line_164 (by decide) ?_ ?_
        · refine ct_aload_n (k := 1) S dX5_line_173 rfl rfl ?_
          refine ct_rc (fun b115 ci116 V117 hb118 hc119 hi120 => ?_)
          refine ct_cV (st := []) (cg_virtual (av := []) S hb118 hc119 hi120 (fun _ e => mt_X5_next e) md_X5_next q2076 q2078 se_HeldCoatsModel_next___V_HeldCoatsModel (by decide) (Nat.le_of_ble_eq_true rfl) rfl dX5_line_174) (fun h121 => ?_)
          refine ct_aload_n (k := 1) S dX5_line_177 rfl rfl ?_
          refine ct_bipush (v := 36) S dX5_line_178 kB_36 ?_
          refine ct_iload_n (k := 0) S dX5_line_180 rfl rfl ?_
          refine ct_iadd S dX5_line_181 ?_
          refine ct_rc (fun b122 ci123 V124 hb125 hc126 hi127 => ?_)
          refine ct_cI (st := []) (cg_virtual (av := [cz_i ((36 : Int32) + x114)]) S hb125 hc126 hi127 (fun _ e => mt_X5_fresh e) md_X5_fresh q2102 q2104 se_HeldCoatsModel_fresh__I_Z_HeldCoatsModel (by decide) (Nat.le_of_ble_eq_true rfl) rfl dX5_line_182) (fun x129 h128 => ?_)
          refine ct_if_eq (tgt := 203) S dX5_line_185 (by decide) ?_ ?_
          · refine ct_iconst (v := 0) S dX5_line_203 kI_0 ?_
            exact ct_zr (ty := .boolean) S rfl rfl dX5_line_204
          · refine ct_aload_n (k := 1) S dX5_line_188 rfl rfl ?_
            refine ct_bipush (v := 30) S dX5_line_189 kB_30 ?_
            refine ct_aload_n (k := 1) S dX5_line_191 rfl rfl ?_
            refine ct_getR S fw_X5_37 dX5_line_192 (fun r130 => ?_)
            refine ct_iconst (v := 1) S dX5_line_195 kI_1 ?_
            refine ct_iald S dX5_line_196 (fun x131 => ?_)
            refine ct_rc (fun b132 ci133 V134 hb135 hc136 hi137 => ?_)
            refine ct_cI (st := []) (cg_virtual (av := [cz_i 30, cz_i x131]) S hb135 hc136 hi137 (fun _ e => mt_X5_takesName e) md_X5_takesName q2125 q2127 se_HeldCoatsModel_takesName__II_Z_HeldCoatsModel (by decide) (Nat.le_of_ble_eq_true rfl) rfl dX5_line_197) (fun x139 h138 => ?_)
            refine ct_if_ne (tgt := 205) S dX5_line_200 (by decide) ?_ ?_
            · refine ct_aload_n (k := 1) S dX5_line_205 rfl rfl ?_
              refine ct_getR S fw_X5_37 dX5_line_206 (fun r140 => ?_)
              refine ct_bipush (v := 22) S dX5_line_209 kB_22 ?_
              refine ct_iload_n (k := 0) S dX5_line_211 rfl rfl ?_
              refine ct_iadd S dX5_line_212 ?_
              refine ct_aload_n (k := 1) S dX5_line_213 rfl rfl ?_
              refine ct_getI S fw_X5_175 dX5_line_214 (fun x141 => ?_)
              refine ct_iast S dX5_line_217 (fun h142 => ?_)
              refine ct_aload_n (k := 1) S dX5_line_218 rfl rfl ?_
              refine ct_bipush (v := 30) S dX5_line_219 kB_30 ?_
              refine ct_iload_n (k := 0) S dX5_line_221 rfl rfl ?_
              refine ct_iadd S dX5_line_222 ?_
              refine ct_iconst (v := 0) S dX5_line_223 kI_0 ?_
              refine ct_bipush (v := 20) S dX5_line_224 kB_20 ?_
              refine ct_rc (fun b143 ci144 V145 hb146 hc147 hi148 => ?_)
              refine ct_cI (st := []) (cg_virtual (av := [cz_i ((30 : Int32) + x114), cz_i 0, cz_i 20]) S hb146 hc147 hi148 (fun _ e => mt_X5_puts e) md_X5_puts q2114 q2116 se_HeldCoatsModel_puts__III_Z_HeldCoatsModel (by decide) (Nat.le_of_ble_eq_true rfl) rfl dX5_line_226) (fun x150 h149 => ?_)
              refine ct_if_eq (tgt := 246) S dX5_line_229 (by decide) ?_ ?_
              · refine ct_iconst (v := 0) S dX5_line_246 kI_0 ?_
                exact ct_zr (ty := .boolean) S rfl rfl dX5_line_247
              · refine ct_aload_n (k := 1) S dX5_line_232 rfl rfl ?_
                refine ct_bipush (v := 38) S dX5_line_233 kB_38 ?_
                refine ct_iload_n (k := 0) S dX5_line_235 rfl rfl ?_
                refine ct_iadd S dX5_line_236 ?_
                refine ct_iconst (v := 1) S dX5_line_237 kI_1 ?_
                refine ct_bipush (v := 99) S dX5_line_238 kB_99 ?_
                refine ct_rc (fun b151 ci152 V153 hb154 hc155 hi156 => ?_)
                refine ct_cI (st := []) (cg_virtual (av := [cz_i ((38 : Int32) + x114), cz_i 1, cz_i 99]) S hb154 hc155 hi156 (fun _ e => mt_X5_puts e) md_X5_puts q2114 q2116 se_HeldCoatsModel_puts__III_Z_HeldCoatsModel (by decide) (Nat.le_of_ble_eq_true rfl) rfl dX5_line_240) (fun x158 h157 => ?_)
                refine ct_if_ne (tgt := 248) S dX5_line_243 (by decide) ?_ ?_
                · refine ct_aload_n (k := 1) S dX5_line_248 rfl rfl ?_
                  refine ct_getR S fw_X5_37 dX5_line_249 (fun r159 => ?_)
                  refine ct_iconst (v := 2) S dX5_line_252 kI_2 ?_
                  refine ct_dup2 S dX5_line_253 rfl rfl ?_
                  refine ct_iald S dX5_line_254 (fun x160 => ?_)
                  refine ct_iconst (v := 1) S dX5_line_255 kI_1 ?_
                  refine ct_iadd S dX5_line_256 ?_
                  refine ct_iast S dX5_line_257 (fun h161 => ?_)
                  refine ct_iconst (v := 1) S dX5_line_258 kI_1 ?_
                  exact ct_zr (ty := .boolean) S rfl rfl dX5_line_259
                · refine ct_iconst (v := 0) S dX5_line_246 kI_0 ?_
                  exact ct_zr (ty := .boolean) S rfl rfl dX5_line_247
            · refine ct_iconst (v := 0) S dX5_line_203 kI_0 ?_
              exact ct_zr (ty := .boolean) S rfl rfl dX5_line_204
        · refine ct_aload_n (k := 1) S dX5_line_167 rfl rfl ?_
          refine ct_iconst (v := 4) S dX5_line_168 kI_4 ?_
          refine ct_rc (fun b162 ci163 V164 hb165 hc166 hi167 => ?_)
          refine ct_cI (st := []) (cg_virtual (av := [cz_i 4]) S hb165 hc166 hi167 (fun _ e => mt_X5_bad e) md_X5_bad q2098 q2100 se_HeldCoatsModel_bad__I_Z_HeldCoatsModel (by decide) (Nat.le_of_ble_eq_true rfl) rfl dX5_line_169) (fun x169 h168 => ?_)
          refine ct_ckz (fun hx => ?_)
          exact ct_zr (ty := .boolean) S rfl (cz_nz hx) dX5_line_172
    · refine ct_aload_n (k := 0) S dX5_line_82 rfl rfl ?_
      refine ct_getR S fw_X5_37 dX5_line_83 (fun r170 => ?_)
      refine ct_iconst (v := 1) S dX5_line_86 kI_1 ?_
      refine ct_iald S dX5_line_87 (fun x171 => ?_)
      refine ct_istore_n (L' := [(1, cz_i x171), (0, cz_r l0)]) S dX5_line_88 rfl (by decide) rfl ?_
      refine ct_iload_n (k := 0) S dX5_line_89 rfl rfl ?_
      refine ct_bipush (v := 6) S dX5_line_90 kB_6 ?_
      refine ct_icmp_ne (tgt := 101) S dX5_line_92 (by decide) ?_ ?_
      · refine ct_aload_n (k := 1) S dX5_line_101 rfl rfl ?_
        refine ct_rc (fun b172 ci173 V174 hb175 hc176 hi177 => ?_)
        refine ct_cV (st := []) (cg_virtual (av := []) S hb175 hc176 hi177 (fun _ e => mt_X5_next e) md_X5_next q2076 q2078 se_HeldCoatsModel_next___V_HeldCoatsModel (by decide) (Nat.le_of_ble_eq_true rfl) rfl dX5_line_102) (fun h178 => ?_)
        refine ct_aload_n (k := 1) S dX5_line_105 rfl rfl ?_
        refine ct_bipush (v := 30) S dX5_line_106 kB_30 ?_
        refine ct_iload_n (k := 0) S dX5_line_108 rfl rfl ?_
        refine ct_iadd S dX5_line_109 ?_
        refine ct_rc (fun b179 ci180 V181 hb182 hc183 hi184 => ?_)
        refine ct_cI (st := []) (cg_virtual (av := [cz_i ((30 : Int32) + x171)]) S hb182 hc183 hi184 (fun _ e => mt_X5_fresh e) md_X5_fresh q2102 q2104 se_HeldCoatsModel_fresh__I_Z_HeldCoatsModel (by decide) (Nat.le_of_ble_eq_true rfl) rfl dX5_line_110) (fun x186 h185 => ?_)
        refine ct_if_eq (tgt := 130) S dX5_line_113 (by decide) ?_ ?_
        · refine ct_iconst (v := 0) S dX5_line_130 kI_0 ?_
          exact ct_zr (ty := .boolean) S rfl rfl dX5_line_131
        · refine ct_aload_n (k := 1) S dX5_line_116 rfl rfl ?_
          refine ct_bipush (v := 16) S dX5_line_117 kB_16 ?_
          refine ct_iload_n (k := 0) S dX5_line_119 rfl rfl ?_
          refine ct_iadd S dX5_line_120 ?_
          refine ct_iconst (v := 0) S dX5_line_121 kI_0 ?_
          refine ct_bipush (v := 20) S dX5_line_122 kB_20 ?_
          refine ct_rc (fun b187 ci188 V189 hb190 hc191 hi192 => ?_)
          refine ct_cI (st := []) (cg_virtual (av := [cz_i ((16 : Int32) + x171), cz_i 0, cz_i 20]) S hb190 hc191 hi192 (fun _ e => mt_X5_puts e) md_X5_puts q2114 q2116 se_HeldCoatsModel_puts__III_Z_HeldCoatsModel (by decide) (Nat.le_of_ble_eq_true rfl) rfl dX5_line_124) (fun x194 h193 => ?_)
          refine ct_if_ne (tgt := 132) S dX5_line_127 (by decide) ?_ ?_
          · refine ct_aload_n (k := 1) S dX5_line_132 rfl rfl ?_
            refine ct_getR S fw_X5_37 dX5_line_133 (fun r195 => ?_)
            refine ct_iconst (v := 1) S dX5_line_136 kI_1 ?_
            refine ct_dup2 S dX5_line_137 rfl rfl ?_
            refine ct_iald S dX5_line_138 (fun x196 => ?_)
            refine ct_iconst (v := 1) S dX5_line_139 kI_1 ?_
            refine ct_iadd S dX5_line_140 ?_
            refine ct_iast S dX5_line_141 (fun h197 => ?_)
            refine ct_iconst (v := 1) S dX5_line_142 kI_1 ?_
            exact ct_zr (ty := .boolean) S rfl rfl dX5_line_143
          · refine ct_iconst (v := 0) S dX5_line_130 kI_0 ?_
            exact ct_zr (ty := .boolean) S rfl rfl dX5_line_131
      · refine ct_aload_n (k := 1) S dX5_line_95 rfl rfl ?_
        refine ct_iconst (v := 4) S dX5_line_96 kI_4 ?_
        refine ct_rc (fun b198 ci199 V200 hb201 hc202 hi203 => ?_)
        refine ct_cI (st := []) (cg_virtual (av := [cz_i 4]) S hb201 hc202 hi203 (fun _ e => mt_X5_bad e) md_X5_bad q2098 q2100 se_HeldCoatsModel_bad__I_Z_HeldCoatsModel (by decide) (Nat.le_of_ble_eq_true rfl) rfl dX5_line_97) (fun x205 h204 => ?_)
        refine ct_ckz (fun hx => ?_)
        exact ct_zr (ty := .boolean) S rfl (cz_nz hx) dX5_line_100
  · refine ct_aload_n (k := 0) S dX5_line_10 rfl rfl ?_
    refine ct_getR S fw_X5_37 dX5_line_11 (fun r206 => ?_)
    refine ct_iconst (v := 0) S dX5_line_14 kI_0 ?_
    refine ct_iald S dX5_line_15 (fun x207 => ?_)
    refine ct_istore_n (L' := [(1, cz_i x207), (0, cz_r l0)]) S dX5_line_16 rfl (by decide) rfl ?_
    refine ct_iload_n (k := 0) S dX5_line_17 rfl rfl ?_
    refine ct_bipush (v := 8) S dX5_line_18 kB_8 ?_
    refine ct_icmp_ne (tgt := 29) S dX5_line_20 (by decide) ?_ ?_
    · refine ct_aload_n (k := 1) S dX5_line_29 rfl rfl ?_
      refine ct_rc (fun b208 ci209 V210 hb211 hc212 hi213 => ?_)
      refine ct_cV (st := []) (cg_virtual (av := []) S hb211 hc212 hi213 (fun _ e => mt_X5_next e) md_X5_next q2076 q2078 se_HeldCoatsModel_next___V_HeldCoatsModel (by decide) (Nat.le_of_ble_eq_true rfl) rfl dX5_line_30) (fun h214 => ?_)
      refine ct_aload_n (k := 1) S dX5_line_33 rfl rfl ?_
      refine ct_bipush (v := 22) S dX5_line_34 kB_22 ?_
      refine ct_iload_n (k := 0) S dX5_line_36 rfl rfl ?_
      refine ct_iadd S dX5_line_37 ?_
      refine ct_rc (fun b215 ci216 V217 hb218 hc219 hi220 => ?_)
      refine ct_cI (st := []) (cg_virtual (av := [cz_i ((22 : Int32) + x207)]) S hb218 hc219 hi220 (fun _ e => mt_X5_fresh e) md_X5_fresh q2102 q2104 se_HeldCoatsModel_fresh__I_Z_HeldCoatsModel (by decide) (Nat.le_of_ble_eq_true rfl) rfl dX5_line_38) (fun x222 h221 => ?_)
      refine ct_if_eq (tgt := 58) S dX5_line_41 (by decide) ?_ ?_
      · refine ct_iconst (v := 0) S dX5_line_58 kI_0 ?_
        exact ct_zr (ty := .boolean) S rfl rfl dX5_line_59
      · refine ct_aload_n (k := 1) S dX5_line_44 rfl rfl ?_
        refine ct_bipush (v := 8) S dX5_line_45 kB_8 ?_
        refine ct_iload_n (k := 0) S dX5_line_47 rfl rfl ?_
        refine ct_iadd S dX5_line_48 ?_
        refine ct_iconst (v := 1) S dX5_line_49 kI_1 ?_
        refine ct_bipush (v := 99) S dX5_line_50 kB_99 ?_
        refine ct_rc (fun b223 ci224 V225 hb226 hc227 hi228 => ?_)
        refine ct_cI (st := []) (cg_virtual (av := [cz_i ((8 : Int32) + x207), cz_i 1, cz_i 99]) S hb226 hc227 hi228 (fun _ e => mt_X5_puts e) md_X5_puts q2114 q2116 se_HeldCoatsModel_puts__III_Z_HeldCoatsModel (by decide) (Nat.le_of_ble_eq_true rfl) rfl dX5_line_52) (fun x230 h229 => ?_)
        refine ct_if_ne (tgt := 60) S dX5_line_55 (by decide) ?_ ?_
        · refine ct_aload_n (k := 1) S dX5_line_60 rfl rfl ?_
          refine ct_getR S fw_X5_37 dX5_line_61 (fun r231 => ?_)
          refine ct_iconst (v := 0) S dX5_line_64 kI_0 ?_
          refine ct_dup2 S dX5_line_65 rfl rfl ?_
          refine ct_iald S dX5_line_66 (fun x232 => ?_)
          refine ct_iconst (v := 1) S dX5_line_67 kI_1 ?_
          refine ct_iadd S dX5_line_68 ?_
          refine ct_iast S dX5_line_69 (fun h233 => ?_)
          refine ct_iconst (v := 1) S dX5_line_70 kI_1 ?_
          exact ct_zr (ty := .boolean) S rfl rfl dX5_line_71
        · refine ct_iconst (v := 0) S dX5_line_58 kI_0 ?_
          exact ct_zr (ty := .boolean) S rfl rfl dX5_line_59
    · refine ct_aload_n (k := 1) S dX5_line_23 rfl rfl ?_
      refine ct_iconst (v := 4) S dX5_line_24 kI_4 ?_
      refine ct_rc (fun b234 ci235 V236 hb237 hc238 hi239 => ?_)
      refine ct_cI (st := []) (cg_virtual (av := [cz_i 4]) S hb237 hc238 hi239 (fun _ e => mt_X5_bad e) md_X5_bad q2098 q2100 se_HeldCoatsModel_bad__I_Z_HeldCoatsModel (by decide) (Nat.le_of_ble_eq_true rfl) rfl dX5_line_25) (fun x241 h240 => ?_)
      refine ct_ckz (fun hx => ?_)
      exact ct_zr (ty := .boolean) S rfl (cz_nz hx) dX5_line_28
theorem mt_X5_line {l : Launch} {D : cz_D} {l0 : Option Nat} {h : cz_H} {oh : cz_O × cz_H} (hz : fn_X5_line l0 h = some oh) : cz_M l D yX5_line (ws_ yX5_line cX5_line 2 ((Option.some Jvm.ClassFile.FieldType.boolean))) 7 [cz_r l0] h oh := cz_met (plainFor_of_name (by decide)) (Nat.le_of_ble_eq_true rfl) hz (fun K hl S => wk_X5_line S)
