/-! methods of the model, 6 (printed by wip/D-98934w/gen) -/
set_option maxRecDepth 100000
/-! HeldCoatsModel.sentence()I -/
def dkwX5_sentence_7 : List UInt8 := [28, 46, 79, 132, 2, 1, 167, 255, 228, 42, 180, 1, 169, 172]
abbrev dktX5_sentence_7 : List UInt8 := dkwX5_sentence_7 ++ []
def dkwX5_sentence_6 : List UInt8 := [3, 61, 28, 6, 42, 180, 1, 153, 104, 162, 0, 24, 42, 180, 0, 33, 16, 119, 28, 96, 42, 180, 0, 40]
abbrev dktX5_sentence_6 : List UInt8 := dkwX5_sentence_6 ++ dktX5_sentence_7
def dkwX5_sentence_5 : List UInt8 := [182, 1, 184, 154, 255, 182, 2, 42, 180, 0, 159, 100, 172, 42, 180, 0, 33, 16, 118, 42, 180, 1, 153, 79]
abbrev dktX5_sentence_5 : List UInt8 := dkwX5_sentence_5 ++ dktX5_sentence_6
def dkwX5_sentence_4 : List UInt8 := [172, 3, 60, 167, 255, 206, 42, 180, 1, 172, 153, 0, 13, 42, 182, 1, 181, 154, 255, 192, 167, 0, 10, 42]
abbrev dktX5_sentence_4 : List UInt8 := dkwX5_sentence_4 ++ dktX5_sentence_5
def dkwX5_sentence_3 : List UInt8 := [16, 22, 182, 1, 178, 42, 180, 1, 156, 158, 0, 16, 42, 4, 182, 0, 165, 87, 2, 42, 180, 0, 159, 100]
abbrev dktX5_sentence_3 : List UInt8 := dkwX5_sentence_3 ++ dktX5_sentence_4
def dkwX5_sentence_2 : List UInt8 := [27, 153, 0, 83, 42, 180, 1, 172, 153, 0, 45, 42, 180, 0, 139, 154, 0, 38, 42, 182, 1, 175, 42]
abbrev dktX5_sentence_2 : List UInt8 := dkwX5_sentence_2 ++ dktX5_sentence_3
def dkwX5_sentence_1 : List UInt8 := [181, 1, 169, 42, 3, 181, 1, 156, 42, 4, 181, 1, 163, 42, 3, 181, 1, 172, 42, 182, 0, 168, 4, 60]
abbrev dktX5_sentence_1 : List UInt8 := dkwX5_sentence_1 ++ dktX5_sentence_2
def dkwX5_sentence_0 : List UInt8 := [42, 3, 181, 0, 1, 42, 17, 0, 200, 182, 0, 219, 42, 3, 181, 0, 156, 42, 3, 181, 1, 153, 42, 3]
abbrev dktX5_sentence_0 : List UInt8 := dkwX5_sentence_0 ++ dktX5_sentence_1
theorem dksX5_sentence_0 : cX5_sentence.data.toList.drop 0 = dktX5_sentence_0 := by decide +kernel
theorem dksX5_sentence_1 : cX5_sentence.data.toList.drop 24 = dktX5_sentence_1 := dk_seg dksX5_sentence_0 24 rfl rfl
theorem dksX5_sentence_2 : cX5_sentence.data.toList.drop 48 = dktX5_sentence_2 := dk_seg dksX5_sentence_1 24 rfl rfl
theorem dksX5_sentence_3 : cX5_sentence.data.toList.drop 71 = dktX5_sentence_3 := dk_seg dksX5_sentence_2 23 rfl rfl
theorem dksX5_sentence_4 : cX5_sentence.data.toList.drop 95 = dktX5_sentence_4 := dk_seg dksX5_sentence_3 24 rfl rfl
theorem dksX5_sentence_5 : cX5_sentence.data.toList.drop 119 = dktX5_sentence_5 := dk_seg dksX5_sentence_4 24 rfl rfl
theorem dksX5_sentence_6 : cX5_sentence.data.toList.drop 143 = dktX5_sentence_6 := dk_seg dksX5_sentence_5 24 rfl rfl
theorem dksX5_sentence_7 : cX5_sentence.data.toList.drop 167 = dktX5_sentence_7 := dk_seg dksX5_sentence_6 24 rfl rfl
theorem dX5_sentence_0 : decode cX5_sentence 0 = .ok (.aload_n 0, 1) := dk_42 (dk_at dksX5_sentence_0 0 rfl rfl)
theorem dX5_sentence_1 : decode cX5_sentence 1 = .ok (.iconst 0, 1) := dk_3 (dk_at dksX5_sentence_0 1 rfl rfl)
theorem dX5_sentence_2 : decode cX5_sentence 2 = .ok (.putfield 1, 3) := dk_181 0 1 (dk_at dksX5_sentence_0 2 rfl rfl)
theorem dX5_sentence_5 : decode cX5_sentence 5 = .ok (.aload_n 0, 1) := dk_42 (dk_at dksX5_sentence_0 5 rfl rfl)
theorem dX5_sentence_6 : decode cX5_sentence 6 = .ok (.sipush 200, 3) := dk_17 0 200 (dk_at dksX5_sentence_0 6 rfl rfl)
theorem dX5_sentence_9 : decode cX5_sentence 9 = .ok (.invokevirtual 219, 3) := dk_182 0 219 (dk_at dksX5_sentence_0 9 rfl rfl)
theorem dX5_sentence_12 : decode cX5_sentence 12 = .ok (.aload_n 0, 1) := dk_42 (dk_at dksX5_sentence_0 12 rfl rfl)
theorem dX5_sentence_13 : decode cX5_sentence 13 = .ok (.iconst 0, 1) := dk_3 (dk_at dksX5_sentence_0 13 rfl rfl)
theorem dX5_sentence_14 : decode cX5_sentence 14 = .ok (.putfield 156, 3) := dk_181 0 156 (dk_at dksX5_sentence_0 14 rfl rfl)
theorem dX5_sentence_17 : decode cX5_sentence 17 = .ok (.aload_n 0, 1) := dk_42 (dk_at dksX5_sentence_0 17 rfl rfl)
theorem dX5_sentence_18 : decode cX5_sentence 18 = .ok (.iconst 0, 1) := dk_3 (dk_at dksX5_sentence_0 18 rfl rfl)
theorem dX5_sentence_19 : decode cX5_sentence 19 = .ok (.putfield 409, 3) := dk_181 1 153 (dk_at dksX5_sentence_0 19 rfl rfl)
theorem dX5_sentence_22 : decode cX5_sentence 22 = .ok (.aload_n 0, 1) := dk_42 (dk_at dksX5_sentence_0 22 rfl rfl)
theorem dX5_sentence_23 : decode cX5_sentence 23 = .ok (.iconst 0, 1) := dk_3 (dk_at dksX5_sentence_0 23 rfl rfl)
theorem dX5_sentence_24 : decode cX5_sentence 24 = .ok (.putfield 425, 3) := dk_181 1 169 (dk_at dksX5_sentence_1 0 rfl rfl)
theorem dX5_sentence_27 : decode cX5_sentence 27 = .ok (.aload_n 0, 1) := dk_42 (dk_at dksX5_sentence_1 3 rfl rfl)
theorem dX5_sentence_28 : decode cX5_sentence 28 = .ok (.iconst 0, 1) := dk_3 (dk_at dksX5_sentence_1 4 rfl rfl)
theorem dX5_sentence_29 : decode cX5_sentence 29 = .ok (.putfield 412, 3) := dk_181 1 156 (dk_at dksX5_sentence_1 5 rfl rfl)
theorem dX5_sentence_32 : decode cX5_sentence 32 = .ok (.aload_n 0, 1) := dk_42 (dk_at dksX5_sentence_1 8 rfl rfl)
theorem dX5_sentence_33 : decode cX5_sentence 33 = .ok (.iconst 1, 1) := dk_4 (dk_at dksX5_sentence_1 9 rfl rfl)
theorem dX5_sentence_34 : decode cX5_sentence 34 = .ok (.putfield 419, 3) := dk_181 1 163 (dk_at dksX5_sentence_1 10 rfl rfl)
theorem dX5_sentence_37 : decode cX5_sentence 37 = .ok (.aload_n 0, 1) := dk_42 (dk_at dksX5_sentence_1 13 rfl rfl)
theorem dX5_sentence_38 : decode cX5_sentence 38 = .ok (.iconst 0, 1) := dk_3 (dk_at dksX5_sentence_1 14 rfl rfl)
theorem dX5_sentence_39 : decode cX5_sentence 39 = .ok (.putfield 428, 3) := dk_181 1 172 (dk_at dksX5_sentence_1 15 rfl rfl)
theorem dX5_sentence_42 : decode cX5_sentence 42 = .ok (.aload_n 0, 1) := dk_42 (dk_at dksX5_sentence_1 18 rfl rfl)
theorem dX5_sentence_43 : decode cX5_sentence 43 = .ok (.invokevirtual 168, 3) := dk_182 0 168 (dk_at dksX5_sentence_1 19 rfl rfl)
theorem dX5_sentence_46 : decode cX5_sentence 46 = .ok (.iconst 1, 1) := dk_4 (dk_at dksX5_sentence_1 22 rfl rfl)
theorem dX5_sentence_47 : decode cX5_sentence 47 = .ok (.istore_n 1, 1) := dk_60 (dk_at dksX5_sentence_1 23 rfl rfl)
theorem dX5_sentence_48 : decode cX5_sentence 48 = .ok (.iload_n 1, 1) := dk_27 (dk_at dksX5_sentence_2 0 rfl rfl)
theorem dX5_sentence_49 : decode cX5_sentence 49 = .ok (.ifCond .eq 83, 3) := dk_153 0 83 (dk_at dksX5_sentence_2 1 rfl rfl)
theorem dX5_sentence_52 : decode cX5_sentence 52 = .ok (.aload_n 0, 1) := dk_42 (dk_at dksX5_sentence_2 4 rfl rfl)
theorem dX5_sentence_53 : decode cX5_sentence 53 = .ok (.getfield 428, 3) := dk_180 1 172 (dk_at dksX5_sentence_2 5 rfl rfl)
theorem dX5_sentence_56 : decode cX5_sentence 56 = .ok (.ifCond .eq 45, 3) := dk_153 0 45 (dk_at dksX5_sentence_2 8 rfl rfl)
theorem dX5_sentence_59 : decode cX5_sentence 59 = .ok (.aload_n 0, 1) := dk_42 (dk_at dksX5_sentence_2 11 rfl rfl)
theorem dX5_sentence_60 : decode cX5_sentence 60 = .ok (.getfield 139, 3) := dk_180 0 139 (dk_at dksX5_sentence_2 12 rfl rfl)
theorem dX5_sentence_63 : decode cX5_sentence 63 = .ok (.ifCond .ne 38, 3) := dk_154 0 38 (dk_at dksX5_sentence_2 15 rfl rfl)
theorem dX5_sentence_66 : decode cX5_sentence 66 = .ok (.aload_n 0, 1) := dk_42 (dk_at dksX5_sentence_2 18 rfl rfl)
theorem dX5_sentence_67 : decode cX5_sentence 67 = .ok (.invokevirtual 431, 3) := dk_182 1 175 (dk_at dksX5_sentence_2 19 rfl rfl)
theorem dX5_sentence_70 : decode cX5_sentence 70 = .ok (.aload_n 0, 1) := dk_42 (dk_at dksX5_sentence_2 22 rfl rfl)
theorem dX5_sentence_71 : decode cX5_sentence 71 = .ok (.bipush 22, 2) := dk_16 22 (dk_at dksX5_sentence_3 0 rfl rfl)
theorem dX5_sentence_73 : decode cX5_sentence 73 = .ok (.invokevirtual 434, 3) := dk_182 1 178 (dk_at dksX5_sentence_3 2 rfl rfl)
theorem dX5_sentence_76 : decode cX5_sentence 76 = .ok (.aload_n 0, 1) := dk_42 (dk_at dksX5_sentence_3 5 rfl rfl)
theorem dX5_sentence_77 : decode cX5_sentence 77 = .ok (.getfield 412, 3) := dk_180 1 156 (dk_at dksX5_sentence_3 6 rfl rfl)
theorem dX5_sentence_80 : decode cX5_sentence 80 = .ok (.ifCond .le 16, 3) := dk_158 0 16 (dk_at dksX5_sentence_3 9 rfl rfl)
theorem dX5_sentence_83 : decode cX5_sentence 83 = .ok (.aload_n 0, 1) := dk_42 (dk_at dksX5_sentence_3 12 rfl rfl)
theorem dX5_sentence_84 : decode cX5_sentence 84 = .ok (.iconst 1, 1) := dk_4 (dk_at dksX5_sentence_3 13 rfl rfl)
theorem dX5_sentence_85 : decode cX5_sentence 85 = .ok (.invokevirtual 165, 3) := dk_182 0 165 (dk_at dksX5_sentence_3 14 rfl rfl)
theorem dX5_sentence_88 : decode cX5_sentence 88 = .ok (.pop, 1) := dk_87 (dk_at dksX5_sentence_3 17 rfl rfl)
theorem dX5_sentence_89 : decode cX5_sentence 89 = .ok (.iconst (-1), 1) := dk_2 (dk_at dksX5_sentence_3 18 rfl rfl)
theorem dX5_sentence_90 : decode cX5_sentence 90 = .ok (.aload_n 0, 1) := dk_42 (dk_at dksX5_sentence_3 19 rfl rfl)
theorem dX5_sentence_91 : decode cX5_sentence 91 = .ok (.getfield 159, 3) := dk_180 0 159 (dk_at dksX5_sentence_3 20 rfl rfl)
theorem dX5_sentence_94 : decode cX5_sentence 94 = .ok (.isub, 1) := dk_100 (dk_at dksX5_sentence_3 23 rfl rfl)
theorem dX5_sentence_95 : decode cX5_sentence 95 = .ok (.ireturn, 1) := dk_172 (dk_at dksX5_sentence_4 0 rfl rfl)
theorem dX5_sentence_96 : decode cX5_sentence 96 = .ok (.iconst 0, 1) := dk_3 (dk_at dksX5_sentence_4 1 rfl rfl)
theorem dX5_sentence_97 : decode cX5_sentence 97 = .ok (.istore_n 1, 1) := dk_60 (dk_at dksX5_sentence_4 2 rfl rfl)
theorem dX5_sentence_98 : decode cX5_sentence 98 = .ok (.goto (-50), 3) := dk_167 255 206 (dk_at dksX5_sentence_4 3 rfl rfl)
theorem dX5_sentence_101 : decode cX5_sentence 101 = .ok (.aload_n 0, 1) := dk_42 (dk_at dksX5_sentence_4 6 rfl rfl)
theorem dX5_sentence_102 : decode cX5_sentence 102 = .ok (.getfield 428, 3) := dk_180 1 172 (dk_at dksX5_sentence_4 7 rfl rfl)
theorem dX5_sentence_105 : decode cX5_sentence 105 = .ok (.ifCond .eq 13, 3) := dk_153 0 13 (dk_at dksX5_sentence_4 10 rfl rfl)
theorem dX5_sentence_108 : decode cX5_sentence 108 = .ok (.aload_n 0, 1) := dk_42 (dk_at dksX5_sentence_4 13 rfl rfl)
theorem dX5_sentence_109 : decode cX5_sentence 109 = .ok (.invokevirtual 437, 3) := dk_182 1 181 (dk_at dksX5_sentence_4 14 rfl rfl)
theorem dX5_sentence_112 : decode cX5_sentence 112 = .ok (.ifCond .ne (-64), 3) := dk_154 255 192 (dk_at dksX5_sentence_4 17 rfl rfl)
theorem dX5_sentence_115 : decode cX5_sentence 115 = .ok (.goto 10, 3) := dk_167 0 10 (dk_at dksX5_sentence_4 20 rfl rfl)
theorem dX5_sentence_118 : decode cX5_sentence 118 = .ok (.aload_n 0, 1) := dk_42 (dk_at dksX5_sentence_4 23 rfl rfl)
theorem dX5_sentence_119 : decode cX5_sentence 119 = .ok (.invokevirtual 440, 3) := dk_182 1 184 (dk_at dksX5_sentence_5 0 rfl rfl)
theorem dX5_sentence_122 : decode cX5_sentence 122 = .ok (.ifCond .ne (-74), 3) := dk_154 255 182 (dk_at dksX5_sentence_5 3 rfl rfl)
theorem dX5_sentence_125 : decode cX5_sentence 125 = .ok (.iconst (-1), 1) := dk_2 (dk_at dksX5_sentence_5 6 rfl rfl)
theorem dX5_sentence_126 : decode cX5_sentence 126 = .ok (.aload_n 0, 1) := dk_42 (dk_at dksX5_sentence_5 7 rfl rfl)
theorem dX5_sentence_127 : decode cX5_sentence 127 = .ok (.getfield 159, 3) := dk_180 0 159 (dk_at dksX5_sentence_5 8 rfl rfl)
theorem dX5_sentence_130 : decode cX5_sentence 130 = .ok (.isub, 1) := dk_100 (dk_at dksX5_sentence_5 11 rfl rfl)
theorem dX5_sentence_131 : decode cX5_sentence 131 = .ok (.ireturn, 1) := dk_172 (dk_at dksX5_sentence_5 12 rfl rfl)
theorem dX5_sentence_132 : decode cX5_sentence 132 = .ok (.aload_n 0, 1) := dk_42 (dk_at dksX5_sentence_5 13 rfl rfl)
theorem dX5_sentence_133 : decode cX5_sentence 133 = .ok (.getfield 33, 3) := dk_180 0 33 (dk_at dksX5_sentence_5 14 rfl rfl)
theorem dX5_sentence_136 : decode cX5_sentence 136 = .ok (.bipush 118, 2) := dk_16 118 (dk_at dksX5_sentence_5 17 rfl rfl)
theorem dX5_sentence_138 : decode cX5_sentence 138 = .ok (.aload_n 0, 1) := dk_42 (dk_at dksX5_sentence_5 19 rfl rfl)
theorem dX5_sentence_139 : decode cX5_sentence 139 = .ok (.getfield 409, 3) := dk_180 1 153 (dk_at dksX5_sentence_5 20 rfl rfl)
theorem dX5_sentence_142 : decode cX5_sentence 142 = .ok (.iastore, 1) := dk_79 (dk_at dksX5_sentence_5 23 rfl rfl)
theorem dX5_sentence_143 : decode cX5_sentence 143 = .ok (.iconst 0, 1) := dk_3 (dk_at dksX5_sentence_6 0 rfl rfl)
theorem dX5_sentence_144 : decode cX5_sentence 144 = .ok (.istore_n 2, 1) := dk_61 (dk_at dksX5_sentence_6 1 rfl rfl)
theorem dX5_sentence_145 : decode cX5_sentence 145 = .ok (.iload_n 2, 1) := dk_28 (dk_at dksX5_sentence_6 2 rfl rfl)
theorem dX5_sentence_146 : decode cX5_sentence 146 = .ok (.iconst 3, 1) := dk_6 (dk_at dksX5_sentence_6 3 rfl rfl)
theorem dX5_sentence_147 : decode cX5_sentence 147 = .ok (.aload_n 0, 1) := dk_42 (dk_at dksX5_sentence_6 4 rfl rfl)
theorem dX5_sentence_148 : decode cX5_sentence 148 = .ok (.getfield 409, 3) := dk_180 1 153 (dk_at dksX5_sentence_6 5 rfl rfl)
theorem dX5_sentence_151 : decode cX5_sentence 151 = .ok (.imul, 1) := dk_104 (dk_at dksX5_sentence_6 8 rfl rfl)
theorem dX5_sentence_152 : decode cX5_sentence 152 = .ok (.if_icmp .ge 24, 3) := dk_162 0 24 (dk_at dksX5_sentence_6 9 rfl rfl)
theorem dX5_sentence_155 : decode cX5_sentence 155 = .ok (.aload_n 0, 1) := dk_42 (dk_at dksX5_sentence_6 12 rfl rfl)
theorem dX5_sentence_156 : decode cX5_sentence 156 = .ok (.getfield 33, 3) := dk_180 0 33 (dk_at dksX5_sentence_6 13 rfl rfl)
theorem dX5_sentence_159 : decode cX5_sentence 159 = .ok (.bipush 119, 2) := dk_16 119 (dk_at dksX5_sentence_6 16 rfl rfl)
theorem dX5_sentence_161 : decode cX5_sentence 161 = .ok (.iload_n 2, 1) := dk_28 (dk_at dksX5_sentence_6 18 rfl rfl)
theorem dX5_sentence_162 : decode cX5_sentence 162 = .ok (.iadd, 1) := dk_96 (dk_at dksX5_sentence_6 19 rfl rfl)
theorem dX5_sentence_163 : decode cX5_sentence 163 = .ok (.aload_n 0, 1) := dk_42 (dk_at dksX5_sentence_6 20 rfl rfl)
theorem dX5_sentence_164 : decode cX5_sentence 164 = .ok (.getfield 40, 3) := dk_180 0 40 (dk_at dksX5_sentence_6 21 rfl rfl)
theorem dX5_sentence_167 : decode cX5_sentence 167 = .ok (.iload_n 2, 1) := dk_28 (dk_at dksX5_sentence_7 0 rfl rfl)
theorem dX5_sentence_168 : decode cX5_sentence 168 = .ok (.iaload, 1) := dk_46 (dk_at dksX5_sentence_7 1 rfl rfl)
theorem dX5_sentence_169 : decode cX5_sentence 169 = .ok (.iastore, 1) := dk_79 (dk_at dksX5_sentence_7 2 rfl rfl)
theorem dX5_sentence_170 : decode cX5_sentence 170 = .ok (.iinc 2 1, 3) := dk_132 2 1 (dk_at dksX5_sentence_7 3 rfl rfl)
theorem dX5_sentence_173 : decode cX5_sentence 173 = .ok (.goto (-28), 3) := dk_167 255 228 (dk_at dksX5_sentence_7 6 rfl rfl)
theorem dX5_sentence_176 : decode cX5_sentence 176 = .ok (.aload_n 0, 1) := dk_42 (dk_at dksX5_sentence_7 9 rfl rfl)
theorem dX5_sentence_177 : decode cX5_sentence 177 = .ok (.getfield 425, 3) := dk_180 1 169 (dk_at dksX5_sentence_7 10 rfl rfl)
theorem dX5_sentence_180 : decode cX5_sentence 180 = .ok (.ireturn, 1) := dk_172 (dk_at dksX5_sentence_7 13 rfl rfl)
theorem se_HeldCoatsModel_operand___Z_HeldCoatsModel : ∀ c ∈ ([5] : List Nat), ∃ q : vw_C, cz_cl[c]? = some q ∧ Cond.selects q.1 (⟨"HeldCoatsModel", "operand", "()Z"⟩ : MethodName) (⟨"HeldCoatsModel", "operand", "()Z"⟩ : MethodName) ∈ lw_all := List.forall_mem_cons.mpr ⟨⟨_, cz_cl5, qs108⟩, fun _ h => absurd h List.not_mem_nil⟩
theorem md_X5_operand : cz_md yX5_operand 5 (ws_ yX5_operand cX5_operand 5 ((Option.some Jvm.ClassFile.FieldType.boolean))) 0 := ⟨cz_ws_code q2478, q123, ⟨by decide, by decide, by decide +kernel⟩, by decide⟩
theorem se_HeldCoatsModel_behind___Z_HeldCoatsModel : ∀ c ∈ ([5] : List Nat), ∃ q : vw_C, cz_cl[c]? = some q ∧ Cond.selects q.1 (⟨"HeldCoatsModel", "behind", "()Z"⟩ : MethodName) (⟨"HeldCoatsModel", "behind", "()Z"⟩ : MethodName) ∈ lw_all := List.forall_mem_cons.mpr ⟨⟨_, cz_cl5, qs107⟩, fun _ h => absurd h List.not_mem_nil⟩
theorem md_X5_behind : cz_md yX5_behind 1 (ws_ yX5_behind cX5_behind 1 ((Option.some Jvm.ClassFile.FieldType.boolean))) 0 := ⟨cz_ws_code q2474, q123, ⟨by decide, by decide, by decide +kernel⟩, by decide⟩
set_option maxHeartbeats 4000000 in
set_option maxRecDepth 100000 in
noncomputable def fn_X5_sentence_48 (l0 : Option Nat) (k0 : cz_H → cz_Z) (k1 : cz_H → cz_Z) (k2 : cz_H → cz_Z) (k3 : cz_H → cz_Z) : Nat → Int32 → cz_H → cz_Z
  | 0, _, _ => none
  | n + 1, l1, h => (if l1 = 0 then k3 h else cz_getI h l0 [(5, 44)] (fun x22 => cz_jn (fun (h23 : cz_H) => cz_getI h23 l0 [(5, 44)] (fun x24 => (if x24 = 0 then cz_rc h23 l0 [5] (cz_cI (fn_X5_operand l0 h23) (fun x32 h31 => (if x32 = 0 then k2 h31 else fn_X5_sentence_48 l0 k0 k1 k2 k3 n l1 h31))) else cz_rc h23 l0 [5] (cz_cI (fn_X5_behind l0 h23) (fun x40 h39 => (if x40 = 0 then k1 h39 else fn_X5_sentence_48 l0 k0 k1 k2 k3 n l1 h39)))))) (fun j41 => (if x22 = 0 then j41 h else cz_getI h l0 [(5, 11)] (fun x42 => (if x42 = 0 then cz_rc h l0 [5] (cz_cV (fn_X5_nots l0 h) (fun h49 => cz_rc h49 l0 [5] (cz_cV (fn_X5_joins l0 22 h49) (fun h56 => cz_getI h56 l0 [(5, 42)] (fun x57 => (if x57 ≤ 0 then fn_X5_sentence_48 l0 k0 k1 k2 k3 n 0 h56 else k0 h56)))))) else j41 h))))))
set_option maxHeartbeats 4000000 in
set_option maxRecDepth 100000 in
theorem wk_X5_sentence_48 {K : cz_K} {D : cz_D} {h0 : cz_H} {oh : cz_O × cz_H} {l0 : Option Nat} {k0 : cz_H → cz_Z} {k1 : cz_H → cz_Z} {k2 : cz_H → cz_Z} {k3 : cz_H → cz_Z} (S : cz_S K D h0 cX5_sentence 3 "HeldCoatsModel" ((Option.some Jvm.ClassFile.FieldType.int)) "sentence" ([])) (hk0 : ∀ (h : cz_H), cz_T K D 5 h0 oh 3 (k0 h) h 83 [(0, cz_r l0)] []) (hk1 : ∀ (h : cz_H), cz_T K D 5 h0 oh 3 (k1 h) h 115 [(0, cz_r l0)] []) (hk2 : ∀ (h : cz_H), cz_T K D 5 h0 oh 3 (k2 h) h 125 [(0, cz_r l0)] []) (hk3 : ∀ (h : cz_H), cz_T K D 5 h0 oh 3 (k3 h) h 132 [(0, cz_r l0)] []) : ∀ (n : Nat) (l1 : Int32) (h : cz_H), cz_T K D 5 h0 oh 3 (fn_X5_sentence_48 l0 k0 k1 k2 k3 n l1 h) h 48 [(0, cz_r l0), (1, cz_i l1)] [] := by
  intro n
  induction n with
  | zero => intros; exact ct_none
  | succ n ih =>
    intro l1 h
    rw [fn_X5_sentence_48]
    refine ct_iload_n (k := 1) S dX5_sentence_48 rfl rfl ?_
    refine ct_if_eq (tgt := 132) S dX5_sentence_49 (by decide) ?_ ?_
    · exact ct_sub [0] rfl (hk3 h)
    · refine ct_aload_n (k := 0) S dX5_sentence_52 rfl rfl ?_
      refine ct_getI S fw_X5_428 dX5_sentence_53 (fun x22 => ?_)
      refine ct_jnP (fun j41 => ∀ (h23 : cz_H), cz_T K D 5 h0 oh 3 (j41 h23) h23 101 [(0, cz_r l0), (1, cz_i l1)] []) (fun h23 => ?_) (fun j41 Hj41 => ?_)
      · refine ct_aload_n (k := 0) S dX5_sentence_101 rfl rfl ?_
        refine ct_getI S fw_X5_428 dX5_sentence_102 (fun x24 => ?_)
        refine ct_if_eq (tgt := 118) S dX5_sentence_105 (by decide) ?_ ?_
        · refine ct_aload_n (k := 0) S dX5_sentence_118 rfl rfl ?_
          refine ct_rc (fun b25 ci26 V27 hb28 hc29 hi30 => ?_)
          refine ct_cI (st := []) (cg_virtual (av := []) S hb28 hc29 hi30 (fun _ e => mt_X5_operand e) md_X5_operand q2475 q2477 se_HeldCoatsModel_operand___Z_HeldCoatsModel (by decide) (Nat.le_of_ble_eq_true rfl) rfl dX5_sentence_119) (fun x32 h31 => ?_)
          refine ct_if_ne (tgt := 48) S dX5_sentence_122 (by decide) ?_ ?_
          · exact ih l1 h31
          · exact ct_sub [0] rfl (hk2 h31)
        · refine ct_aload_n (k := 0) S dX5_sentence_108 rfl rfl ?_
          refine ct_rc (fun b33 ci34 V35 hb36 hc37 hi38 => ?_)
          refine ct_cI (st := []) (cg_virtual (av := []) S hb36 hc37 hi38 (fun _ e => mt_X5_behind e) md_X5_behind q2471 q2473 se_HeldCoatsModel_behind___Z_HeldCoatsModel (by decide) (Nat.le_of_ble_eq_true rfl) rfl dX5_sentence_109) (fun x40 h39 => ?_)
          refine ct_if_ne (tgt := 48) S dX5_sentence_112 (by decide) ?_ ?_
          · exact ih l1 h39
          · exact ct_sub [0] rfl (hk1 h39)
      · refine ct_if_eq (tgt := 101) S dX5_sentence_56 (by decide) ?_ ?_
        · exact Hj41 h
        · refine ct_aload_n (k := 0) S dX5_sentence_59 rfl rfl ?_
          refine ct_getI S fw_X5_139 dX5_sentence_60 (fun x42 => ?_)
          refine ct_if_ne (tgt := 101) S dX5_sentence_63 (by decide) ?_ ?_
          · exact Hj41 h
          · refine ct_aload_n (k := 0) S dX5_sentence_66 rfl rfl ?_
            refine ct_rc (fun b43 ci44 V45 hb46 hc47 hi48 => ?_)
            refine ct_cV (st := []) (cg_virtual (av := []) S hb46 hc47 hi48 (fun _ e => mt_X5_nots e) md_X5_nots q2459 q2461 se_HeldCoatsModel_nots___V_HeldCoatsModel (by decide) (Nat.le_of_ble_eq_true rfl) rfl dX5_sentence_67) (fun h49 => ?_)
            refine ct_aload_n (k := 0) S dX5_sentence_70 rfl rfl ?_
            refine ct_bipush (v := 22) S dX5_sentence_71 kB_22 ?_
            refine ct_rc (fun b50 ci51 V52 hb53 hc54 hi55 => ?_)
            refine ct_cV (st := []) (cg_virtual (av := [cz_i 22]) S hb53 hc54 hi55 (fun _ e => mt_X5_joins e) md_X5_joins q2467 q2469 se_HeldCoatsModel_joins__I_V_HeldCoatsModel (by decide) (Nat.le_of_ble_eq_true rfl) rfl dX5_sentence_73) (fun h56 => ?_)
            refine ct_aload_n (k := 0) S dX5_sentence_76 rfl rfl ?_
            refine ct_getI S fw_X5_412 dX5_sentence_77 (fun x57 => ?_)
            refine ct_if_le (tgt := 96) S dX5_sentence_80 (by decide) ?_ ?_
            · refine ct_iconst (v := 0) S dX5_sentence_96 kI_0 ?_
              refine ct_istore_n (L' := [(1, cz_i 0), (0, cz_r l0)]) S dX5_sentence_97 rfl (by decide) rfl ?_
              refine ct_goto (tgt := 48) S dX5_sentence_98 (by decide) ?_
              exact ct_sub [1, 0] rfl (ih 0 h56)
            · exact ct_sub [0] rfl (hk0 h56)
set_option maxHeartbeats 4000000 in
set_option maxRecDepth 100000 in
noncomputable def fn_X5_sentence_145 (l0 : Option Nat) (k0 : cz_H → cz_Z) : Nat → Int32 → cz_H → cz_Z
  | 0, _, _ => none
  | n + 1, l2, h => cz_getI h l0 [(5, 40)] (fun x76 => (if ((3 : Int32) * x76) ≤ l2 then k0 h else cz_getR h l0 [(5, 6)] (fun r77 => cz_getR h l0 [(5, 8)] (fun r78 => cz_iald h r78 l2 (fun x79 => cz_iast h r77 ((119 : Int32) + l2) x79 (fun h80 => cz_leti (l2 + 1) (fun x81 => fn_X5_sentence_145 l0 k0 n x81 h80)))))))
set_option maxHeartbeats 4000000 in
set_option maxRecDepth 100000 in
theorem wk_X5_sentence_145 {K : cz_K} {D : cz_D} {h0 : cz_H} {oh : cz_O × cz_H} {l0 : Option Nat} {k0 : cz_H → cz_Z} (S : cz_S K D h0 cX5_sentence 3 "HeldCoatsModel" ((Option.some Jvm.ClassFile.FieldType.int)) "sentence" ([])) (hk0 : ∀ (h : cz_H), cz_T K D 5 h0 oh 3 (k0 h) h 176 [(0, cz_r l0)] []) : ∀ (n : Nat) (l2 : Int32) (h : cz_H), cz_T K D 5 h0 oh 3 (fn_X5_sentence_145 l0 k0 n l2 h) h 145 [(0, cz_r l0), (2, cz_i l2)] [] := by
  intro n
  induction n with
  | zero => intros; exact ct_none
  | succ n ih =>
    intro l2 h
    rw [fn_X5_sentence_145]
    refine ct_iload_n (k := 1) S dX5_sentence_145 rfl rfl ?_
    refine ct_iconst (v := 3) S dX5_sentence_146 kI_3 ?_
    refine ct_aload_n (k := 0) S dX5_sentence_147 rfl rfl ?_
    refine ct_getI S fw_X5_409 dX5_sentence_148 (fun x76 => ?_)
    refine ct_imul S dX5_sentence_151 ?_
    refine ct_icmp_ge (tgt := 176) S dX5_sentence_152 (by decide) ?_ ?_
    · exact ct_sub [0] rfl (hk0 h)
    · refine ct_aload_n (k := 0) S dX5_sentence_155 rfl rfl ?_
      refine ct_getR S fw_X5_33 dX5_sentence_156 (fun r77 => ?_)
      refine ct_bipush (v := 119) S dX5_sentence_159 kB_119 ?_
      refine ct_iload_n (k := 1) S dX5_sentence_161 rfl rfl ?_
      refine ct_iadd S dX5_sentence_162 ?_
      refine ct_aload_n (k := 0) S dX5_sentence_163 rfl rfl ?_
      refine ct_getR S fw_X5_40 dX5_sentence_164 (fun r78 => ?_)
      refine ct_iload_n (k := 1) S dX5_sentence_167 rfl rfl ?_
      refine ct_iald S dX5_sentence_168 (fun x79 => ?_)
      refine ct_iast S dX5_sentence_169 (fun h80 => ?_)
      refine ct_iincL (j := 1) (L2 := fun x81 => [(2, cz_i x81), (0, cz_r l0)]) S dX5_sentence_170 rfl kI_1 (by decide) (fun _ => rfl) (fun x81 => ?_)
      refine ct_goto (tgt := 145) S dX5_sentence_173 (by decide) ?_
      exact ct_sub [1, 0] rfl (ih x81 h80)
set_option maxHeartbeats 4000000 in
set_option maxRecDepth 100000 in
noncomputable def fn_X5_sentence (l0 : Option Nat) (h : cz_H) : cz_Z := cz_put h l0 [(5, 0)] (cz_i 0) (fun h1 => cz_rc h1 l0 [5] (cz_cV (fn_X5_taken l0 200 h1) (fun h8 => cz_put h8 l0 [(5, 15)] (cz_i 0) (fun h9 => cz_put h9 l0 [(5, 40)] (cz_i 0) (fun h10 => cz_put h10 l0 [(5, 41)] (cz_i 0) (fun h11 => cz_put h11 l0 [(5, 42)] (cz_i 0) (fun h12 => cz_put h12 l0 [(5, 43)] (cz_i 1) (fun h13 => cz_put h13 l0 [(5, 44)] (cz_i 0) (fun h14 => cz_rc h14 l0 [5] (cz_cV (fn_X5_next l0 h14) (fun h21 => fn_X5_sentence_48 l0 (fun (h58 : cz_H) => cz_rc h58 l0 [5] (cz_cI (fn_X5_bad l0 1 h58) (fun x66 h65 => cz_getI h65 l0 [(5, 16)] (fun x67 => some (.inl (some (cz_i (((-1) : Int32) - x67))), h65))))) (fun (h68 : cz_H) => cz_getI h68 l0 [(5, 16)] (fun x69 => some (.inl (some (cz_i (((-1) : Int32) - x69))), h68))) (fun (h70 : cz_H) => cz_getI h70 l0 [(5, 16)] (fun x71 => some (.inl (some (cz_i (((-1) : Int32) - x71))), h70))) (fun (h72 : cz_H) => cz_getR h72 l0 [(5, 6)] (fun r73 => cz_getI h72 l0 [(5, 40)] (fun x74 => cz_iast h72 r73 118 x74 (fun h75 => fn_X5_sentence_145 l0 (fun (h82 : cz_H) => cz_getI h82 l0 [(5, 41)] (fun x83 => some (.inl (some (cz_i x83)), h82))) 1000 0 h75)))) 1000 1 h21)))))))))))
set_option maxHeartbeats 4000000 in
set_option maxRecDepth 100000 in
theorem wk_X5_sentence {K : cz_K} {D : cz_D} {h0 : cz_H} {oh : cz_O × cz_H} {l0 : Option Nat} {h : cz_H} (S : cz_S K D h0 cX5_sentence 3 "HeldCoatsModel" ((Option.some Jvm.ClassFile.FieldType.int)) "sentence" ([])) : cz_T K D 5 h0 oh 3 (fn_X5_sentence l0 h) h 0 [(0, cz_r l0)] [] := by
  unfold fn_X5_sentence
  refine ct_aload_n (k := 0) S dX5_sentence_0 rfl rfl ?_
  refine ct_iconst (v := 0) S dX5_sentence_1 kI_0 ?_
  refine ct_put S fw_X5_1 fp_X5_m_5_0 (cz_fits_i pd_I) dX5_sentence_2 (fun h1 => ?_)
  refine ct_aload_n (k := 0) S dX5_sentence_5 rfl rfl ?_
  refine ct_sipush (v := 200) S dX5_sentence_6 kS_200 ?_
  refine ct_rc (fun b2 ci3 V4 hb5 hc6 hi7 => ?_)
  refine ct_cV (st := []) (cg_virtual (av := [cz_i 200]) S hb5 hc6 hi7 (fun _ e => mt_X5_taken e) md_X5_taken q2072 q2074 se_HeldCoatsModel_taken__I_V_HeldCoatsModel (by decide) (Nat.le_of_ble_eq_true rfl) rfl dX5_sentence_9) (fun h8 => ?_)
  refine ct_aload_n (k := 0) S dX5_sentence_12 rfl rfl ?_
  refine ct_iconst (v := 0) S dX5_sentence_13 kI_0 ?_
  refine ct_put S fw_X5_156 fp_X5_m_5_15 (cz_fits_i pd_I) dX5_sentence_14 (fun h9 => ?_)
  refine ct_aload_n (k := 0) S dX5_sentence_17 rfl rfl ?_
  refine ct_iconst (v := 0) S dX5_sentence_18 kI_0 ?_
  refine ct_put S fw_X5_409 fp_X5_m_5_40 (cz_fits_i pd_I) dX5_sentence_19 (fun h10 => ?_)
  refine ct_aload_n (k := 0) S dX5_sentence_22 rfl rfl ?_
  refine ct_iconst (v := 0) S dX5_sentence_23 kI_0 ?_
  refine ct_put S fw_X5_425 fp_X5_m_5_41 (cz_fits_i pd_I) dX5_sentence_24 (fun h11 => ?_)
  refine ct_aload_n (k := 0) S dX5_sentence_27 rfl rfl ?_
  refine ct_iconst (v := 0) S dX5_sentence_28 kI_0 ?_
  refine ct_put S fw_X5_412 fp_X5_m_5_42 (cz_fits_i pd_I) dX5_sentence_29 (fun h12 => ?_)
  refine ct_aload_n (k := 0) S dX5_sentence_32 rfl rfl ?_
  refine ct_iconst (v := 1) S dX5_sentence_33 kI_1 ?_
  refine ct_put S fw_X5_419 fp_X5_m_5_43 (cz_fits_i pd_I) dX5_sentence_34 (fun h13 => ?_)
  refine ct_aload_n (k := 0) S dX5_sentence_37 rfl rfl ?_
  refine ct_iconst (v := 0) S dX5_sentence_38 kI_0 ?_
  refine ct_put S fw_X5_428 fp_X5_m_5_44 (cz_fits_z pd_Z (Or.inl rfl)) dX5_sentence_39 (fun h14 => ?_)
  refine ct_aload_n (k := 0) S dX5_sentence_42 rfl rfl ?_
  refine ct_rc (fun b15 ci16 V17 hb18 hc19 hi20 => ?_)
  refine ct_cV (st := []) (cg_virtual (av := []) S hb18 hc19 hi20 (fun _ e => mt_X5_next e) md_X5_next q2076 q2078 se_HeldCoatsModel_next___V_HeldCoatsModel (by decide) (Nat.le_of_ble_eq_true rfl) rfl dX5_sentence_43) (fun h21 => ?_)
  refine ct_iconst (v := 1) S dX5_sentence_46 kI_1 ?_
  refine ct_istore_n (L' := [(1, cz_i 1), (0, cz_r l0)]) S dX5_sentence_47 rfl (by decide) rfl ?_
  refine ct_sub [1, 0] (L' := [(0, cz_r l0), (1, cz_i 1)]) rfl (wk_X5_sentence_48 S ?_ ?_ ?_ ?_ 1000 1 h21)
  · intro h58
    refine ct_aload_n (k := 0) S dX5_sentence_83 rfl rfl ?_
    refine ct_iconst (v := 1) S dX5_sentence_84 kI_1 ?_
    refine ct_rc (fun b59 ci60 V61 hb62 hc63 hi64 => ?_)
    refine ct_cI (st := []) (cg_virtual (av := [cz_i 1]) S hb62 hc63 hi64 (fun _ e => mt_X5_bad e) md_X5_bad q2098 q2100 se_HeldCoatsModel_bad__I_Z_HeldCoatsModel (by decide) (Nat.le_of_ble_eq_true rfl) rfl dX5_sentence_85) (fun x66 h65 => ?_)
    refine ct_pop S dX5_sentence_88 rfl ?_
    refine ct_iconst (v := (-1)) S dX5_sentence_89 kI_m1 ?_
    refine ct_aload_n (k := 0) S dX5_sentence_90 rfl rfl ?_
    refine ct_getI S fw_X5_159 dX5_sentence_91 (fun x67 => ?_)
    refine ct_isub S dX5_sentence_94 ?_
    exact ct_iret S rfl dX5_sentence_95
  · intro h68
    refine ct_goto (tgt := 125) S dX5_sentence_115 (by decide) ?_
    refine ct_iconst (v := (-1)) S dX5_sentence_125 kI_m1 ?_
    refine ct_aload_n (k := 0) S dX5_sentence_126 rfl rfl ?_
    refine ct_getI S fw_X5_159 dX5_sentence_127 (fun x69 => ?_)
    refine ct_isub S dX5_sentence_130 ?_
    exact ct_iret S rfl dX5_sentence_131
  · intro h70
    refine ct_iconst (v := (-1)) S dX5_sentence_125 kI_m1 ?_
    refine ct_aload_n (k := 0) S dX5_sentence_126 rfl rfl ?_
    refine ct_getI S fw_X5_159 dX5_sentence_127 (fun x71 => ?_)
    refine ct_isub S dX5_sentence_130 ?_
    exact ct_iret S rfl dX5_sentence_131
  · intro h72
    refine ct_aload_n (k := 0) S dX5_sentence_132 rfl rfl ?_
    refine ct_getR S fw_X5_33 dX5_sentence_133 (fun r73 => ?_)
    refine ct_bipush (v := 118) S dX5_sentence_136 kB_118 ?_
    refine ct_aload_n (k := 0) S dX5_sentence_138 rfl rfl ?_
    refine ct_getI S fw_X5_409 dX5_sentence_139 (fun x74 => ?_)
    refine ct_iast S dX5_sentence_142 (fun h75 => ?_)
    refine ct_iconst (v := 0) S dX5_sentence_143 kI_0 ?_
    refine ct_istore_n (L' := [(2, cz_i 0), (0, cz_r l0)]) S dX5_sentence_144 rfl (by decide) rfl ?_
    refine ct_sub [1, 0] (L' := [(0, cz_r l0), (2, cz_i 0)]) rfl (wk_X5_sentence_145 S ?_ 1000 0 h75)
    · intro h82
      refine ct_aload_n (k := 0) S dX5_sentence_176 rfl rfl ?_
      refine ct_getI S fw_X5_425 dX5_sentence_177 (fun x83 => ?_)
      exact ct_iret S rfl dX5_sentence_180
theorem mt_X5_sentence {l : Launch} {D : cz_D} {l0 : Option Nat} {h : cz_H} {oh : cz_O × cz_H} (hz : fn_X5_sentence l0 h = some oh) : cz_M l D yX5_sentence (ws_ yX5_sentence cX5_sentence 3 ((Option.some Jvm.ClassFile.FieldType.int))) 5 [cz_r l0] h oh := cz_met (plainFor_of_name (by decide)) (Nat.le_of_ble_eq_true rfl) hz (fun K hl S => wk_X5_sentence S)
/-! HeldCoatsModel.share(IIII)I -/
def dkwX5_share_9 : List UInt8 := [167, 0, 4, 3, 128, 181, 1, 80, 132, 9, 1, 167, 255, 143, 21, 8, 172]
abbrev dktX5_share_9 : List UInt8 := dkwX5_share_9 ++ []
def dkwX5_share_8 : List UInt8 := [167, 0, 5, 21, 11, 96, 54, 8, 42, 89, 180, 1, 80, 21, 12, 21, 11, 162, 0, 10, 4, 21, 9, 120]
abbrev dktX5_share_8 : List UInt8 := dkwX5_share_8 ++ dktX5_share_9
def dkwX5_share_7 : List UInt8 := [21, 7, 21, 5, 128, 182, 1, 86, 96, 54, 12, 21, 8, 21, 12, 21, 11, 162, 0, 8, 21, 12]
abbrev dktX5_share_7 : List UInt8 := dkwX5_share_7 ++ dktX5_share_8
def dkwX5_share_6 : List UInt8 := [28, 21, 10, 21, 7, 182, 1, 86, 96, 54, 11, 42, 27, 21, 10, 21, 6, 182, 1, 86, 42, 28, 21, 10]
abbrev dktX5_share_6 : List UInt8 := dkwX5_share_6 ++ dktX5_share_7
def dkwX5_share_5 : List UInt8 := [180, 0, 33, 16, 62, 46, 21, 9, 96, 54, 10, 42, 27, 21, 10, 21, 6, 21, 5, 128, 182, 1, 86, 42]
abbrev dktX5_share_5 : List UInt8 := dkwX5_share_5 ++ dktX5_share_6
def dkwX5_share_4 : List UInt8 := [54, 8, 42, 3, 181, 1, 80, 42, 4, 181, 1, 83, 3, 54, 9, 21, 9, 21, 4, 162, 0, 112, 42]
abbrev dktX5_share_4 : List UInt8 := dkwX5_share_4 ++ dktX5_share_5
def dkwX5_share_3 : List UInt8 := [182, 0, 253, 21, 5, 2, 130, 126, 54, 6, 42, 28, 182, 0, 253, 21, 5, 2, 130, 126, 54, 7, 3]
abbrev dktX5_share_3 : List UInt8 := dkwX5_share_3 ++ dktX5_share_4
def dkwX5_share_2 : List UInt8 := [159, 0, 14, 21, 4, 4, 16, 30, 184, 0, 171, 154, 0, 5, 2, 172, 4, 29, 120, 54, 5, 42, 27]
abbrev dktX5_share_2 : List UInt8 := dkwX5_share_2 ++ dktX5_share_3
def dkwX5_share_1 : List UInt8 := [159, 0, 36, 42, 29, 182, 1, 24, 153, 0, 28, 42, 180, 0, 33, 16, 65, 29, 96, 46, 16, 30]
abbrev dktX5_share_1 : List UInt8 := dkwX5_share_1 ++ dktX5_share_2
def dkwX5_share_0 : List UInt8 := [42, 3, 181, 0, 1, 42, 27, 182, 1, 14, 153, 0, 49, 42, 28, 182, 1, 14, 153, 0, 41, 27, 28]
abbrev dktX5_share_0 : List UInt8 := dkwX5_share_0 ++ dktX5_share_1
theorem dksX5_share_0 : cX5_share.data.toList.drop 0 = dktX5_share_0 := by decide +kernel
theorem dksX5_share_1 : cX5_share.data.toList.drop 23 = dktX5_share_1 := dk_seg dksX5_share_0 23 rfl rfl
theorem dksX5_share_2 : cX5_share.data.toList.drop 45 = dktX5_share_2 := dk_seg dksX5_share_1 22 rfl rfl
theorem dksX5_share_3 : cX5_share.data.toList.drop 68 = dktX5_share_3 := dk_seg dksX5_share_2 23 rfl rfl
theorem dksX5_share_4 : cX5_share.data.toList.drop 91 = dktX5_share_4 := dk_seg dksX5_share_3 23 rfl rfl
theorem dksX5_share_5 : cX5_share.data.toList.drop 114 = dktX5_share_5 := dk_seg dksX5_share_4 23 rfl rfl
theorem dksX5_share_6 : cX5_share.data.toList.drop 138 = dktX5_share_6 := dk_seg dksX5_share_5 24 rfl rfl
theorem dksX5_share_7 : cX5_share.data.toList.drop 162 = dktX5_share_7 := dk_seg dksX5_share_6 24 rfl rfl
theorem dksX5_share_8 : cX5_share.data.toList.drop 184 = dktX5_share_8 := dk_seg dksX5_share_7 22 rfl rfl
theorem dksX5_share_9 : cX5_share.data.toList.drop 208 = dktX5_share_9 := dk_seg dksX5_share_8 24 rfl rfl
theorem dX5_share_0 : decode cX5_share 0 = .ok (.aload_n 0, 1) := dk_42 (dk_at dksX5_share_0 0 rfl rfl)
theorem dX5_share_1 : decode cX5_share 1 = .ok (.iconst 0, 1) := dk_3 (dk_at dksX5_share_0 1 rfl rfl)
theorem dX5_share_2 : decode cX5_share 2 = .ok (.putfield 1, 3) := dk_181 0 1 (dk_at dksX5_share_0 2 rfl rfl)
theorem dX5_share_5 : decode cX5_share 5 = .ok (.aload_n 0, 1) := dk_42 (dk_at dksX5_share_0 5 rfl rfl)
theorem dX5_share_6 : decode cX5_share 6 = .ok (.iload_n 1, 1) := dk_27 (dk_at dksX5_share_0 6 rfl rfl)
theorem dX5_share_7 : decode cX5_share 7 = .ok (.invokevirtual 270, 3) := dk_182 1 14 (dk_at dksX5_share_0 7 rfl rfl)
theorem dX5_share_10 : decode cX5_share 10 = .ok (.ifCond .eq 49, 3) := dk_153 0 49 (dk_at dksX5_share_0 10 rfl rfl)
theorem dX5_share_13 : decode cX5_share 13 = .ok (.aload_n 0, 1) := dk_42 (dk_at dksX5_share_0 13 rfl rfl)
theorem dX5_share_14 : decode cX5_share 14 = .ok (.iload_n 2, 1) := dk_28 (dk_at dksX5_share_0 14 rfl rfl)
theorem dX5_share_15 : decode cX5_share 15 = .ok (.invokevirtual 270, 3) := dk_182 1 14 (dk_at dksX5_share_0 15 rfl rfl)
theorem dX5_share_18 : decode cX5_share 18 = .ok (.ifCond .eq 41, 3) := dk_153 0 41 (dk_at dksX5_share_0 18 rfl rfl)
theorem dX5_share_21 : decode cX5_share 21 = .ok (.iload_n 1, 1) := dk_27 (dk_at dksX5_share_0 21 rfl rfl)
theorem dX5_share_22 : decode cX5_share 22 = .ok (.iload_n 2, 1) := dk_28 (dk_at dksX5_share_0 22 rfl rfl)
theorem dX5_share_23 : decode cX5_share 23 = .ok (.if_icmp .eq 36, 3) := dk_159 0 36 (dk_at dksX5_share_1 0 rfl rfl)
theorem dX5_share_26 : decode cX5_share 26 = .ok (.aload_n 0, 1) := dk_42 (dk_at dksX5_share_1 3 rfl rfl)
theorem dX5_share_27 : decode cX5_share 27 = .ok (.iload_n 3, 1) := dk_29 (dk_at dksX5_share_1 4 rfl rfl)
theorem dX5_share_28 : decode cX5_share 28 = .ok (.invokevirtual 280, 3) := dk_182 1 24 (dk_at dksX5_share_1 5 rfl rfl)
theorem dX5_share_31 : decode cX5_share 31 = .ok (.ifCond .eq 28, 3) := dk_153 0 28 (dk_at dksX5_share_1 8 rfl rfl)
theorem dX5_share_34 : decode cX5_share 34 = .ok (.aload_n 0, 1) := dk_42 (dk_at dksX5_share_1 11 rfl rfl)
theorem dX5_share_35 : decode cX5_share 35 = .ok (.getfield 33, 3) := dk_180 0 33 (dk_at dksX5_share_1 12 rfl rfl)
theorem dX5_share_38 : decode cX5_share 38 = .ok (.bipush 65, 2) := dk_16 65 (dk_at dksX5_share_1 15 rfl rfl)
theorem dX5_share_40 : decode cX5_share 40 = .ok (.iload_n 3, 1) := dk_29 (dk_at dksX5_share_1 17 rfl rfl)
theorem dX5_share_41 : decode cX5_share 41 = .ok (.iadd, 1) := dk_96 (dk_at dksX5_share_1 18 rfl rfl)
theorem dX5_share_42 : decode cX5_share 42 = .ok (.iaload, 1) := dk_46 (dk_at dksX5_share_1 19 rfl rfl)
theorem dX5_share_43 : decode cX5_share 43 = .ok (.bipush 30, 2) := dk_16 30 (dk_at dksX5_share_1 20 rfl rfl)
theorem dX5_share_45 : decode cX5_share 45 = .ok (.if_icmp .eq 14, 3) := dk_159 0 14 (dk_at dksX5_share_2 0 rfl rfl)
theorem dX5_share_48 : decode cX5_share 48 = .ok (.iload 4, 2) := dk_21 4 (dk_at dksX5_share_2 3 rfl rfl)
theorem dX5_share_50 : decode cX5_share 50 = .ok (.iconst 1, 1) := dk_4 (dk_at dksX5_share_2 5 rfl rfl)
theorem dX5_share_51 : decode cX5_share 51 = .ok (.bipush 30, 2) := dk_16 30 (dk_at dksX5_share_2 6 rfl rfl)
theorem dX5_share_53 : decode cX5_share 53 = .ok (.invokestatic 171, 3) := dk_184 0 171 (dk_at dksX5_share_2 8 rfl rfl)
theorem dX5_share_56 : decode cX5_share 56 = .ok (.ifCond .ne 5, 3) := dk_154 0 5 (dk_at dksX5_share_2 11 rfl rfl)
theorem dX5_share_59 : decode cX5_share 59 = .ok (.iconst (-1), 1) := dk_2 (dk_at dksX5_share_2 14 rfl rfl)
theorem dX5_share_60 : decode cX5_share 60 = .ok (.ireturn, 1) := dk_172 (dk_at dksX5_share_2 15 rfl rfl)
theorem dX5_share_61 : decode cX5_share 61 = .ok (.iconst 1, 1) := dk_4 (dk_at dksX5_share_2 16 rfl rfl)
theorem dX5_share_62 : decode cX5_share 62 = .ok (.iload_n 3, 1) := dk_29 (dk_at dksX5_share_2 17 rfl rfl)
theorem dX5_share_63 : decode cX5_share 63 = .ok (.ishl, 1) := dk_120 (dk_at dksX5_share_2 18 rfl rfl)
theorem dX5_share_64 : decode cX5_share 64 = .ok (.istore 5, 2) := dk_54 5 (dk_at dksX5_share_2 19 rfl rfl)
theorem dX5_share_66 : decode cX5_share 66 = .ok (.aload_n 0, 1) := dk_42 (dk_at dksX5_share_2 21 rfl rfl)
theorem dX5_share_67 : decode cX5_share 67 = .ok (.iload_n 1, 1) := dk_27 (dk_at dksX5_share_2 22 rfl rfl)
theorem dX5_share_68 : decode cX5_share 68 = .ok (.invokevirtual 253, 3) := dk_182 0 253 (dk_at dksX5_share_3 0 rfl rfl)
theorem dX5_share_71 : decode cX5_share 71 = .ok (.iload 5, 2) := dk_21 5 (dk_at dksX5_share_3 3 rfl rfl)
theorem dX5_share_73 : decode cX5_share 73 = .ok (.iconst (-1), 1) := dk_2 (dk_at dksX5_share_3 5 rfl rfl)
theorem dX5_share_74 : decode cX5_share 74 = .ok (.ixor, 1) := dk_130 (dk_at dksX5_share_3 6 rfl rfl)
theorem dX5_share_75 : decode cX5_share 75 = .ok (.iand, 1) := dk_126 (dk_at dksX5_share_3 7 rfl rfl)
theorem dX5_share_76 : decode cX5_share 76 = .ok (.istore 6, 2) := dk_54 6 (dk_at dksX5_share_3 8 rfl rfl)
theorem dX5_share_78 : decode cX5_share 78 = .ok (.aload_n 0, 1) := dk_42 (dk_at dksX5_share_3 10 rfl rfl)
theorem dX5_share_79 : decode cX5_share 79 = .ok (.iload_n 2, 1) := dk_28 (dk_at dksX5_share_3 11 rfl rfl)
theorem dX5_share_80 : decode cX5_share 80 = .ok (.invokevirtual 253, 3) := dk_182 0 253 (dk_at dksX5_share_3 12 rfl rfl)
theorem dX5_share_83 : decode cX5_share 83 = .ok (.iload 5, 2) := dk_21 5 (dk_at dksX5_share_3 15 rfl rfl)
theorem dX5_share_85 : decode cX5_share 85 = .ok (.iconst (-1), 1) := dk_2 (dk_at dksX5_share_3 17 rfl rfl)
theorem dX5_share_86 : decode cX5_share 86 = .ok (.ixor, 1) := dk_130 (dk_at dksX5_share_3 18 rfl rfl)
theorem dX5_share_87 : decode cX5_share 87 = .ok (.iand, 1) := dk_126 (dk_at dksX5_share_3 19 rfl rfl)
theorem dX5_share_88 : decode cX5_share 88 = .ok (.istore 7, 2) := dk_54 7 (dk_at dksX5_share_3 20 rfl rfl)
theorem dX5_share_90 : decode cX5_share 90 = .ok (.iconst 0, 1) := dk_3 (dk_at dksX5_share_3 22 rfl rfl)
theorem dX5_share_91 : decode cX5_share 91 = .ok (.istore 8, 2) := dk_54 8 (dk_at dksX5_share_4 0 rfl rfl)
theorem dX5_share_93 : decode cX5_share 93 = .ok (.aload_n 0, 1) := dk_42 (dk_at dksX5_share_4 2 rfl rfl)
theorem dX5_share_94 : decode cX5_share 94 = .ok (.iconst 0, 1) := dk_3 (dk_at dksX5_share_4 3 rfl rfl)
theorem dX5_share_95 : decode cX5_share 95 = .ok (.putfield 336, 3) := dk_181 1 80 (dk_at dksX5_share_4 4 rfl rfl)
theorem dX5_share_98 : decode cX5_share 98 = .ok (.aload_n 0, 1) := dk_42 (dk_at dksX5_share_4 7 rfl rfl)
theorem dX5_share_99 : decode cX5_share 99 = .ok (.iconst 1, 1) := dk_4 (dk_at dksX5_share_4 8 rfl rfl)
theorem dX5_share_100 : decode cX5_share 100 = .ok (.putfield 339, 3) := dk_181 1 83 (dk_at dksX5_share_4 9 rfl rfl)
theorem dX5_share_103 : decode cX5_share 103 = .ok (.iconst 0, 1) := dk_3 (dk_at dksX5_share_4 12 rfl rfl)
theorem dX5_share_104 : decode cX5_share 104 = .ok (.istore 9, 2) := dk_54 9 (dk_at dksX5_share_4 13 rfl rfl)
theorem dX5_share_106 : decode cX5_share 106 = .ok (.iload 9, 2) := dk_21 9 (dk_at dksX5_share_4 15 rfl rfl)
theorem dX5_share_108 : decode cX5_share 108 = .ok (.iload 4, 2) := dk_21 4 (dk_at dksX5_share_4 17 rfl rfl)
theorem dX5_share_110 : decode cX5_share 110 = .ok (.if_icmp .ge 112, 3) := dk_162 0 112 (dk_at dksX5_share_4 19 rfl rfl)
theorem dX5_share_113 : decode cX5_share 113 = .ok (.aload_n 0, 1) := dk_42 (dk_at dksX5_share_4 22 rfl rfl)
theorem dX5_share_114 : decode cX5_share 114 = .ok (.getfield 33, 3) := dk_180 0 33 (dk_at dksX5_share_5 0 rfl rfl)
theorem dX5_share_117 : decode cX5_share 117 = .ok (.bipush 62, 2) := dk_16 62 (dk_at dksX5_share_5 3 rfl rfl)
theorem dX5_share_119 : decode cX5_share 119 = .ok (.iaload, 1) := dk_46 (dk_at dksX5_share_5 5 rfl rfl)
theorem dX5_share_120 : decode cX5_share 120 = .ok (.iload 9, 2) := dk_21 9 (dk_at dksX5_share_5 6 rfl rfl)
theorem dX5_share_122 : decode cX5_share 122 = .ok (.iadd, 1) := dk_96 (dk_at dksX5_share_5 8 rfl rfl)
theorem dX5_share_123 : decode cX5_share 123 = .ok (.istore 10, 2) := dk_54 10 (dk_at dksX5_share_5 9 rfl rfl)
theorem dX5_share_125 : decode cX5_share 125 = .ok (.aload_n 0, 1) := dk_42 (dk_at dksX5_share_5 11 rfl rfl)
theorem dX5_share_126 : decode cX5_share 126 = .ok (.iload_n 1, 1) := dk_27 (dk_at dksX5_share_5 12 rfl rfl)
theorem dX5_share_127 : decode cX5_share 127 = .ok (.iload 10, 2) := dk_21 10 (dk_at dksX5_share_5 13 rfl rfl)
theorem dX5_share_129 : decode cX5_share 129 = .ok (.iload 6, 2) := dk_21 6 (dk_at dksX5_share_5 15 rfl rfl)
theorem dX5_share_131 : decode cX5_share 131 = .ok (.iload 5, 2) := dk_21 5 (dk_at dksX5_share_5 17 rfl rfl)
theorem dX5_share_133 : decode cX5_share 133 = .ok (.ior, 1) := dk_128 (dk_at dksX5_share_5 19 rfl rfl)
theorem dX5_share_134 : decode cX5_share 134 = .ok (.invokevirtual 342, 3) := dk_182 1 86 (dk_at dksX5_share_5 20 rfl rfl)
theorem dX5_share_137 : decode cX5_share 137 = .ok (.aload_n 0, 1) := dk_42 (dk_at dksX5_share_5 23 rfl rfl)
theorem dX5_share_138 : decode cX5_share 138 = .ok (.iload_n 2, 1) := dk_28 (dk_at dksX5_share_6 0 rfl rfl)
theorem dX5_share_139 : decode cX5_share 139 = .ok (.iload 10, 2) := dk_21 10 (dk_at dksX5_share_6 1 rfl rfl)
theorem dX5_share_141 : decode cX5_share 141 = .ok (.iload 7, 2) := dk_21 7 (dk_at dksX5_share_6 3 rfl rfl)
theorem dX5_share_143 : decode cX5_share 143 = .ok (.invokevirtual 342, 3) := dk_182 1 86 (dk_at dksX5_share_6 5 rfl rfl)
theorem dX5_share_146 : decode cX5_share 146 = .ok (.iadd, 1) := dk_96 (dk_at dksX5_share_6 8 rfl rfl)
theorem dX5_share_147 : decode cX5_share 147 = .ok (.istore 11, 2) := dk_54 11 (dk_at dksX5_share_6 9 rfl rfl)
theorem dX5_share_149 : decode cX5_share 149 = .ok (.aload_n 0, 1) := dk_42 (dk_at dksX5_share_6 11 rfl rfl)
theorem dX5_share_150 : decode cX5_share 150 = .ok (.iload_n 1, 1) := dk_27 (dk_at dksX5_share_6 12 rfl rfl)
theorem dX5_share_151 : decode cX5_share 151 = .ok (.iload 10, 2) := dk_21 10 (dk_at dksX5_share_6 13 rfl rfl)
theorem dX5_share_153 : decode cX5_share 153 = .ok (.iload 6, 2) := dk_21 6 (dk_at dksX5_share_6 15 rfl rfl)
theorem dX5_share_155 : decode cX5_share 155 = .ok (.invokevirtual 342, 3) := dk_182 1 86 (dk_at dksX5_share_6 17 rfl rfl)
theorem dX5_share_158 : decode cX5_share 158 = .ok (.aload_n 0, 1) := dk_42 (dk_at dksX5_share_6 20 rfl rfl)
theorem dX5_share_159 : decode cX5_share 159 = .ok (.iload_n 2, 1) := dk_28 (dk_at dksX5_share_6 21 rfl rfl)
theorem dX5_share_160 : decode cX5_share 160 = .ok (.iload 10, 2) := dk_21 10 (dk_at dksX5_share_6 22 rfl rfl)
theorem dX5_share_162 : decode cX5_share 162 = .ok (.iload 7, 2) := dk_21 7 (dk_at dksX5_share_7 0 rfl rfl)
theorem dX5_share_164 : decode cX5_share 164 = .ok (.iload 5, 2) := dk_21 5 (dk_at dksX5_share_7 2 rfl rfl)
theorem dX5_share_166 : decode cX5_share 166 = .ok (.ior, 1) := dk_128 (dk_at dksX5_share_7 4 rfl rfl)
theorem dX5_share_167 : decode cX5_share 167 = .ok (.invokevirtual 342, 3) := dk_182 1 86 (dk_at dksX5_share_7 5 rfl rfl)
theorem dX5_share_170 : decode cX5_share 170 = .ok (.iadd, 1) := dk_96 (dk_at dksX5_share_7 8 rfl rfl)
theorem dX5_share_171 : decode cX5_share 171 = .ok (.istore 12, 2) := dk_54 12 (dk_at dksX5_share_7 9 rfl rfl)
theorem dX5_share_173 : decode cX5_share 173 = .ok (.iload 8, 2) := dk_21 8 (dk_at dksX5_share_7 11 rfl rfl)
theorem dX5_share_175 : decode cX5_share 175 = .ok (.iload 12, 2) := dk_21 12 (dk_at dksX5_share_7 13 rfl rfl)
theorem dX5_share_177 : decode cX5_share 177 = .ok (.iload 11, 2) := dk_21 11 (dk_at dksX5_share_7 15 rfl rfl)
theorem dX5_share_179 : decode cX5_share 179 = .ok (.if_icmp .ge 8, 3) := dk_162 0 8 (dk_at dksX5_share_7 17 rfl rfl)
theorem dX5_share_182 : decode cX5_share 182 = .ok (.iload 12, 2) := dk_21 12 (dk_at dksX5_share_7 20 rfl rfl)
theorem dX5_share_184 : decode cX5_share 184 = .ok (.goto 5, 3) := dk_167 0 5 (dk_at dksX5_share_8 0 rfl rfl)
theorem dX5_share_187 : decode cX5_share 187 = .ok (.iload 11, 2) := dk_21 11 (dk_at dksX5_share_8 3 rfl rfl)
theorem dX5_share_189 : decode cX5_share 189 = .ok (.iadd, 1) := dk_96 (dk_at dksX5_share_8 5 rfl rfl)
theorem dX5_share_190 : decode cX5_share 190 = .ok (.istore 8, 2) := dk_54 8 (dk_at dksX5_share_8 6 rfl rfl)
theorem dX5_share_192 : decode cX5_share 192 = .ok (.aload_n 0, 1) := dk_42 (dk_at dksX5_share_8 8 rfl rfl)
theorem dX5_share_193 : decode cX5_share 193 = .ok (.dup, 1) := dk_89 (dk_at dksX5_share_8 9 rfl rfl)
theorem dX5_share_194 : decode cX5_share 194 = .ok (.getfield 336, 3) := dk_180 1 80 (dk_at dksX5_share_8 10 rfl rfl)
theorem dX5_share_197 : decode cX5_share 197 = .ok (.iload 12, 2) := dk_21 12 (dk_at dksX5_share_8 13 rfl rfl)
theorem dX5_share_199 : decode cX5_share 199 = .ok (.iload 11, 2) := dk_21 11 (dk_at dksX5_share_8 15 rfl rfl)
theorem dX5_share_201 : decode cX5_share 201 = .ok (.if_icmp .ge 10, 3) := dk_162 0 10 (dk_at dksX5_share_8 17 rfl rfl)
theorem dX5_share_204 : decode cX5_share 204 = .ok (.iconst 1, 1) := dk_4 (dk_at dksX5_share_8 20 rfl rfl)
theorem dX5_share_205 : decode cX5_share 205 = .ok (.iload 9, 2) := dk_21 9 (dk_at dksX5_share_8 21 rfl rfl)
theorem dX5_share_207 : decode cX5_share 207 = .ok (.ishl, 1) := dk_120 (dk_at dksX5_share_8 23 rfl rfl)
theorem dX5_share_208 : decode cX5_share 208 = .ok (.goto 4, 3) := dk_167 0 4 (dk_at dksX5_share_9 0 rfl rfl)
theorem dX5_share_211 : decode cX5_share 211 = .ok (.iconst 0, 1) := dk_3 (dk_at dksX5_share_9 3 rfl rfl)
theorem dX5_share_212 : decode cX5_share 212 = .ok (.ior, 1) := dk_128 (dk_at dksX5_share_9 4 rfl rfl)
theorem dX5_share_213 : decode cX5_share 213 = .ok (.putfield 336, 3) := dk_181 1 80 (dk_at dksX5_share_9 5 rfl rfl)
theorem dX5_share_216 : decode cX5_share 216 = .ok (.iinc 9 1, 3) := dk_132 9 1 (dk_at dksX5_share_9 8 rfl rfl)
theorem dX5_share_219 : decode cX5_share 219 = .ok (.goto (-113), 3) := dk_167 255 143 (dk_at dksX5_share_9 11 rfl rfl)
theorem dX5_share_222 : decode cX5_share 222 = .ok (.iload 8, 2) := dk_21 8 (dk_at dksX5_share_9 14 rfl rfl)
theorem dX5_share_224 : decode cX5_share 224 = .ok (.ireturn, 1) := dk_172 (dk_at dksX5_share_9 16 rfl rfl)
theorem fw_X5_336 : cz_FW "HeldCoatsModel" 336 [(5, 26)] "I" := ⟨"HeldCoatsModel", "turnSet", Or.inl q1944, List.forall_mem_cons.mpr ⟨⟨RX5, TX5, 49, rfl, by decide, rfl, rfl, Or.inl rfl⟩, fun _ h => absurd h List.not_mem_nil⟩, by decide⟩
theorem fp_X5_m_5_26 {nm : String} : cz_FP "HeldCoatsModel" nm [(5, 26)] := List.forall_mem_cons.mpr ⟨⟨RX5, TX5, 49, rfl, Or.inl rfl⟩, fun _ h => absurd h List.not_mem_nil⟩
theorem fw_X5_339 : cz_FW "HeldCoatsModel" 339 [(5, 27)] "Z" := ⟨"HeldCoatsModel", "hasTurns", Or.inl q1945, List.forall_mem_cons.mpr ⟨⟨RX5, TX5, 49, rfl, by decide, rfl, rfl, Or.inl rfl⟩, fun _ h => absurd h List.not_mem_nil⟩, by decide⟩
theorem fp_X5_m_5_27 {nm : String} : cz_FP "HeldCoatsModel" nm [(5, 27)] := List.forall_mem_cons.mpr ⟨⟨RX5, TX5, 49, rfl, Or.inl rfl⟩, fun _ h => absurd h List.not_mem_nil⟩
set_option maxHeartbeats 4000000 in
set_option maxRecDepth 100000 in
noncomputable def fn_X5_share_106 (l0 : Option Nat) (l1 : Int32) (l2 : Int32) (l4 : Int32) (l5 : Int32) (l6 : Int32) (l7 : Int32) (k0 : Int32 → cz_H → cz_Z) : Nat → Int32 → Int32 → cz_H → cz_Z
  | 0, _, _, _ => none
  | n + 1, l8, l9, h => (if l4 ≤ l9 then k0 l8 h else cz_getR h l0 [(5, 6)] (fun r51 => cz_iald h r51 62 (fun x52 => cz_leti (x52 + l9) (fun x53 => cz_rc h l0 [5] (cz_cI (fn_X5_harmIn l0 l1 x53 (l6 ||| l5) h) (fun x61 h60 => cz_rc h60 l0 [5] (cz_cI (fn_X5_harmIn l0 l2 x53 l7 h60) (fun x69 h68 => cz_leti (x61 + x69) (fun x70 => cz_rc h68 l0 [5] (cz_cI (fn_X5_harmIn l0 l1 x53 l6 h68) (fun x78 h77 => cz_rc h77 l0 [5] (cz_cI (fn_X5_harmIn l0 l2 x53 (l7 ||| l5) h77) (fun x86 h85 => cz_leti (x78 + x86) (fun x87 => cz_jn (fun (v88 : Int32) (h89 : cz_H) => cz_leti (l8 + v88) (fun x90 => cz_getI h89 l0 [(5, 26)] (fun x91 => (if x70 ≤ x87 then cz_put h89 l0 [(5, 26)] (cz_i (x91 ||| 0)) (fun h92 => cz_leti (l9 + 1) (fun x93 => fn_X5_share_106 l0 l1 l2 l4 l5 l6 l7 k0 n x90 x93 h92)) else cz_put h89 l0 [(5, 26)] (cz_i (x91 ||| ((1 : Int32) <<< (l9 &&& 31)))) (fun h94 => cz_leti (l9 + 1) (fun x95 => fn_X5_share_106 l0 l1 l2 l4 l5 l6 l7 k0 n x90 x95 h94)))))) (fun j96 => (if x70 ≤ x87 then j96 x70 h85 else j96 x87 h85))))))))))))))))
set_option maxHeartbeats 4000000 in
set_option maxRecDepth 100000 in
theorem wk_X5_share_106 {K : cz_K} {D : cz_D} {h0 : cz_H} {oh : cz_O × cz_H} {l0 : Option Nat} {l1 : Int32} {l2 : Int32} {l4 : Int32} {l5 : Int32} {l6 : Int32} {l7 : Int32} {k0 : Int32 → cz_H → cz_Z} (S : cz_S K D h0 cX5_share 13 "HeldCoatsModel" ((Option.some Jvm.ClassFile.FieldType.int)) "share" ([])) (hk0 : ∀ (e8 : Int32) (h : cz_H), cz_T K D 6 h0 oh 13 (k0 e8 h) h 222 [(8, cz_i e8)] []) : ∀ (n : Nat) (l8 : Int32) (l9 : Int32) (h : cz_H), cz_T K D 6 h0 oh 13 (fn_X5_share_106 l0 l1 l2 l4 l5 l6 l7 k0 n l8 l9 h) h 106 [(0, cz_r l0), (1, cz_i l1), (2, cz_i l2), (4, cz_i l4), (5, cz_i l5), (6, cz_i l6), (7, cz_i l7), (8, cz_i l8), (9, cz_i l9)] [] := by
  intro n
  induction n with
  | zero => intros; exact ct_none
  | succ n ih =>
    intro l8 l9 h
    rw [fn_X5_share_106]
    refine ct_iload (k := 8) S dX5_share_106 rfl ?_
    refine ct_iload (k := 3) S dX5_share_108 rfl ?_
    refine ct_icmp_ge (tgt := 222) S dX5_share_110 (by decide) ?_ ?_
    · exact ct_sub [7] rfl (hk0 l8 h)
    · refine ct_aload_n (k := 0) S dX5_share_113 rfl rfl ?_
      refine ct_getR S fw_X5_33 dX5_share_114 (fun r51 => ?_)
      refine ct_bipush (v := 62) S dX5_share_117 kB_62 ?_
      refine ct_iald S dX5_share_119 (fun x52 => ?_)
      refine ct_iload (k := 8) S dX5_share_120 rfl ?_
      refine ct_iadd S dX5_share_122 ?_
      refine ct_leti (fun x53 => ?_)
      refine ct_istore (L' := [(10, cz_i x53), (0, cz_r l0), (1, cz_i l1), (2, cz_i l2), (4, cz_i l4), (5, cz_i l5), (6, cz_i l6), (7, cz_i l7), (8, cz_i l8), (9, cz_i l9)]) S dX5_share_123 (by decide) rfl ?_
      refine ct_aload_n (k := 1) S dX5_share_125 rfl rfl ?_
      refine ct_iload_n (k := 2) S dX5_share_126 rfl rfl ?_
      refine ct_iload (k := 0) S dX5_share_127 rfl ?_
      refine ct_iload (k := 6) S dX5_share_129 rfl ?_
      refine ct_iload (k := 5) S dX5_share_131 rfl ?_
      refine ct_ior S dX5_share_133 ?_
      refine ct_rc (fun b54 ci55 V56 hb57 hc58 hi59 => ?_)
      refine ct_cI (st := []) (cg_virtual (av := [cz_i l1, cz_i x53, cz_i (l6 ||| l5)]) S hb57 hc58 hi59 (fun _ e => mt_X5_harmIn e) md_X5_harmIn q2326 q2328 se_HeldCoatsModel_harmIn__III_I_HeldCoatsModel (by decide) (Nat.le_of_ble_eq_true rfl) rfl dX5_share_134) (fun x61 h60 => ?_)
      refine ct_aload_n (k := 1) S dX5_share_137 rfl rfl ?_
      refine ct_iload_n (k := 3) S dX5_share_138 rfl rfl ?_
      refine ct_iload (k := 0) S dX5_share_139 rfl ?_
      refine ct_iload (k := 7) S dX5_share_141 rfl ?_
      refine ct_rc (fun b62 ci63 V64 hb65 hc66 hi67 => ?_)
      refine ct_cI (st := [cz_i x61]) (cg_virtual (av := [cz_i l2, cz_i x53, cz_i l7]) S hb65 hc66 hi67 (fun _ e => mt_X5_harmIn e) md_X5_harmIn q2326 q2328 se_HeldCoatsModel_harmIn__III_I_HeldCoatsModel (by decide) (Nat.le_of_ble_eq_true rfl) rfl dX5_share_143) (fun x69 h68 => ?_)
      refine ct_iadd S dX5_share_146 ?_
      refine ct_leti (fun x70 => ?_)
      refine ct_istore (L' := [(11, cz_i x70), (10, cz_i x53), (0, cz_r l0), (1, cz_i l1), (2, cz_i l2), (4, cz_i l4), (5, cz_i l5), (6, cz_i l6), (7, cz_i l7), (8, cz_i l8), (9, cz_i l9)]) S dX5_share_147 (by decide) rfl ?_
      refine ct_aload_n (k := 2) S dX5_share_149 rfl rfl ?_
      refine ct_iload_n (k := 3) S dX5_share_150 rfl rfl ?_
      refine ct_iload (k := 1) S dX5_share_151 rfl ?_
      refine ct_iload (k := 7) S dX5_share_153 rfl ?_
      refine ct_rc (fun b71 ci72 V73 hb74 hc75 hi76 => ?_)
      refine ct_cI (st := []) (cg_virtual (av := [cz_i l1, cz_i x53, cz_i l6]) S hb74 hc75 hi76 (fun _ e => mt_X5_harmIn e) md_X5_harmIn q2326 q2328 se_HeldCoatsModel_harmIn__III_I_HeldCoatsModel (by decide) (Nat.le_of_ble_eq_true rfl) rfl dX5_share_155) (fun x78 h77 => ?_)
      refine ct_aload_n (k := 2) S dX5_share_158 rfl rfl ?_
      refine ct_iload_n (k := 4) S dX5_share_159 rfl rfl ?_
      refine ct_iload (k := 1) S dX5_share_160 rfl ?_
      refine ct_iload (k := 8) S dX5_share_162 rfl ?_
      refine ct_iload (k := 6) S dX5_share_164 rfl ?_
      refine ct_ior S dX5_share_166 ?_
      refine ct_rc (fun b79 ci80 V81 hb82 hc83 hi84 => ?_)
      refine ct_cI (st := [cz_i x78]) (cg_virtual (av := [cz_i l2, cz_i x53, cz_i (l7 ||| l5)]) S hb82 hc83 hi84 (fun _ e => mt_X5_harmIn e) md_X5_harmIn q2326 q2328 se_HeldCoatsModel_harmIn__III_I_HeldCoatsModel (by decide) (Nat.le_of_ble_eq_true rfl) rfl dX5_share_167) (fun x86 h85 => ?_)
      refine ct_iadd S dX5_share_170 ?_
      refine ct_leti (fun x87 => ?_)
      refine ct_istore (L' := [(12, cz_i x87), (11, cz_i x70), (10, cz_i x53), (0, cz_r l0), (1, cz_i l1), (2, cz_i l2), (4, cz_i l4), (5, cz_i l5), (6, cz_i l6), (7, cz_i l7), (8, cz_i l8), (9, cz_i l9)]) S dX5_share_171 (by decide) rfl ?_
      refine ct_iload (k := 10) S dX5_share_173 rfl ?_
      refine ct_iload (k := 0) S dX5_share_175 rfl ?_
      refine ct_iload (k := 1) S dX5_share_177 rfl ?_
      refine ct_jnP (fun j96 => ∀ (v88 : Int32) (h89 : cz_H), cz_T K D 6 h0 oh 13 (j96 v88 h89) h89 189 [(0, cz_r l0), (1, cz_i l1), (2, cz_i l2), (4, cz_i l4), (5, cz_i l5), (6, cz_i l6), (7, cz_i l7), (9, cz_i l9), (11, cz_i x70), (12, cz_i x87)] [cz_i v88, cz_i l8]) (fun v88 h89 => ?_) (fun j96 Hj96 => ?_)
      · refine ct_iadd S dX5_share_189 ?_
        refine ct_leti (fun x90 => ?_)
        refine ct_istore (L' := [(8, cz_i x90), (0, cz_r l0), (1, cz_i l1), (2, cz_i l2), (4, cz_i l4), (5, cz_i l5), (6, cz_i l6), (7, cz_i l7), (9, cz_i l9), (11, cz_i x70), (12, cz_i x87)]) S dX5_share_190 (by decide) rfl ?_
        refine ct_aload_n (k := 1) S dX5_share_192 rfl rfl ?_
        refine ct_dup S dX5_share_193 rfl ?_
        refine ct_getI S fw_X5_336 dX5_share_194 (fun x91 => ?_)
        refine ct_iload (k := 10) S dX5_share_197 rfl ?_
        refine ct_iload (k := 9) S dX5_share_199 rfl ?_
        refine ct_icmp_ge (tgt := 211) S dX5_share_201 (by decide) ?_ ?_
        · refine ct_iconst (v := 0) S dX5_share_211 kI_0 ?_
          refine ct_ior S dX5_share_212 ?_
          refine ct_put S fw_X5_336 fp_X5_m_5_26 (cz_fits_i pd_I) dX5_share_213 (fun h92 => ?_)
          refine ct_iincL (j := 8) (L2 := fun x93 => [(9, cz_i x93), (8, cz_i x90), (0, cz_r l0), (1, cz_i l1), (2, cz_i l2), (4, cz_i l4), (5, cz_i l5), (6, cz_i l6), (7, cz_i l7), (11, cz_i x70), (12, cz_i x87)]) S dX5_share_216 rfl kI_1 (by decide) (fun _ => rfl) (fun x93 => ?_)
          refine ct_goto (tgt := 106) S dX5_share_219 (by decide) ?_
          exact ct_sub [2, 3, 4, 5, 6, 7, 8, 1, 0] rfl (ih x90 x93 h92)
        · refine ct_iconst (v := 1) S dX5_share_204 kI_1 ?_
          refine ct_iload (k := 8) S dX5_share_205 rfl ?_
          refine ct_ishl S dX5_share_207 ?_
          refine ct_goto (tgt := 212) S dX5_share_208 (by decide) ?_
          refine ct_ior S dX5_share_212 ?_
          refine ct_put S fw_X5_336 fp_X5_m_5_26 (cz_fits_i pd_I) dX5_share_213 (fun h94 => ?_)
          refine ct_iincL (j := 8) (L2 := fun x95 => [(9, cz_i x95), (8, cz_i x90), (0, cz_r l0), (1, cz_i l1), (2, cz_i l2), (4, cz_i l4), (5, cz_i l5), (6, cz_i l6), (7, cz_i l7), (11, cz_i x70), (12, cz_i x87)]) S dX5_share_216 rfl kI_1 (by decide) (fun _ => rfl) (fun x95 => ?_)
          refine ct_goto (tgt := 106) S dX5_share_219 (by decide) ?_
          exact ct_sub [2, 3, 4, 5, 6, 7, 8, 1, 0] rfl (ih x90 x95 h94)
      · refine ct_icmp_ge (tgt := 187) S dX5_share_179 (by decide) ?_ ?_
        · refine ct_iload (k := 1) S dX5_share_187 rfl ?_
          exact ct_sub [3, 4, 5, 6, 7, 8, 9, 11, 1, 0] rfl (Hj96 x70 h85)
        · refine ct_iload (k := 0) S dX5_share_182 rfl ?_
          refine ct_goto (tgt := 189) S dX5_share_184 (by decide) ?_
          exact ct_sub [3, 4, 5, 6, 7, 8, 9, 11, 1, 0] rfl (Hj96 x87 h85)
set_option maxHeartbeats 4000000 in
set_option maxRecDepth 100000 in
noncomputable def fn_X5_share (l0 : Option Nat) (l1 : Int32) (l2 : Int32) (l3 : Int32) (l4 : Int32) (h : cz_H) : cz_Z := cz_put h l0 [(5, 0)] (cz_i 0) (fun h1 => cz_rc h1 l0 [5] (cz_cI (fn_X5_isMan l0 l1 h1) (fun x9 h8 => (if x9 = 0 then some (.inl (some (cz_i (-1))), h8) else cz_rc h8 l0 [5] (cz_cI (fn_X5_isMan l0 l2 h8) (fun x17 h16 => (if x17 = 0 then some (.inl (some (cz_i (-1))), h16) else (if l1 = l2 then some (.inl (some (cz_i (-1))), h16) else cz_rc h16 l0 [5] (cz_cI (fn_X5_isCoat l0 l3 h16) (fun x25 h24 => (if x25 = 0 then some (.inl (some (cz_i (-1))), h24) else cz_getR h24 l0 [(5, 6)] (fun r26 => cz_iald h24 r26 ((65 : Int32) + l3) (fun x27 => (if x27 = 30 then some (.inl (some (cz_i (-1))), h24) else cz_cI (fn_X5_isIn l4 1 30 h24) (fun x29 h28 => (if x29 = 0 then some (.inl (some (cz_i (-1))), h28) else cz_leti ((1 : Int32) <<< (l3 &&& 31)) (fun x30 => cz_rc h28 l0 [5] (cz_cI (fn_X5_coatsAt l0 l1 h28) (fun x38 h37 => cz_leti (x38 &&& (x30 ^^^ (-1))) (fun x39 => cz_rc h37 l0 [5] (cz_cI (fn_X5_coatsAt l0 l2 h37) (fun x47 h46 => cz_leti (x47 &&& (x30 ^^^ (-1))) (fun x48 => cz_put h46 l0 [(5, 26)] (cz_i 0) (fun h49 => cz_put h49 l0 [(5, 27)] (cz_i 1) (fun h50 => fn_X5_share_106 l0 l1 l2 l4 x30 x39 x48 (fun (e97 : Int32) (h98 : cz_H) => some (.inl (some (cz_i e97)), h98)) 1000 0 0 h50)))))))))))))))))))))))))
set_option maxHeartbeats 4000000 in
set_option maxRecDepth 100000 in
theorem wk_X5_share {K : cz_K} {D : cz_D} {h0 : cz_H} {oh : cz_O × cz_H} {l0 : Option Nat} {l1 : Int32} {l2 : Int32} {l3 : Int32} {l4 : Int32} {h : cz_H} (S : cz_S K D h0 cX5_share 13 "HeldCoatsModel" ((Option.some Jvm.ClassFile.FieldType.int)) "share" ([])) : cz_T K D 6 h0 oh 13 (fn_X5_share l0 l1 l2 l3 l4 h) h 0 [(0, cz_r l0), (1, cz_i l1), (2, cz_i l2), (3, cz_i l3), (4, cz_i l4)] [] := by
  unfold fn_X5_share
  refine ct_aload_n (k := 0) S dX5_share_0 rfl rfl ?_
  refine ct_iconst (v := 0) S dX5_share_1 kI_0 ?_
  refine ct_put S fw_X5_1 fp_X5_m_5_0 (cz_fits_i pd_I) dX5_share_2 (fun h1 => ?_)
  refine ct_aload_n (k := 0) S dX5_share_5 rfl rfl ?_
  refine ct_iload_n (k := 1) S dX5_share_6 rfl rfl ?_
  refine ct_rc (fun b2 ci3 V4 hb5 hc6 hi7 => ?_)
  refine ct_cI (st := []) (cg_virtual (av := [cz_i l1]) S hb5 hc6 hi7 (fun _ e => mt_X5_isMan e) md_X5_isMan q2188 q2190 se_HeldCoatsModel_isMan__I_Z_HeldCoatsModel (by decide) (Nat.le_of_ble_eq_true rfl) rfl dX5_share_7) (fun x9 h8 => ?_)
  refine ct_if_eq (tgt := 59) S dX5_share_10 (by decide) ?_ ?_
  · refine ct_iconst (v := (-1)) S dX5_share_59 kI_m1 ?_
    exact ct_iret S rfl dX5_share_60
  · refine ct_aload_n (k := 0) S dX5_share_13 rfl rfl ?_
    refine ct_iload_n (k := 2) S dX5_share_14 rfl rfl ?_
    refine ct_rc (fun b10 ci11 V12 hb13 hc14 hi15 => ?_)
    refine ct_cI (st := []) (cg_virtual (av := [cz_i l2]) S hb13 hc14 hi15 (fun _ e => mt_X5_isMan e) md_X5_isMan q2188 q2190 se_HeldCoatsModel_isMan__I_Z_HeldCoatsModel (by decide) (Nat.le_of_ble_eq_true rfl) rfl dX5_share_15) (fun x17 h16 => ?_)
    refine ct_if_eq (tgt := 59) S dX5_share_18 (by decide) ?_ ?_
    · refine ct_iconst (v := (-1)) S dX5_share_59 kI_m1 ?_
      exact ct_iret S rfl dX5_share_60
    · refine ct_iload_n (k := 1) S dX5_share_21 rfl rfl ?_
      refine ct_iload_n (k := 2) S dX5_share_22 rfl rfl ?_
      refine ct_icmp_eq (tgt := 59) S dX5_share_23 (by decide) ?_ ?_
      · refine ct_iconst (v := (-1)) S dX5_share_59 kI_m1 ?_
        exact ct_iret S rfl dX5_share_60
      · refine ct_aload_n (k := 0) S dX5_share_26 rfl rfl ?_
        refine ct_iload_n (k := 3) S dX5_share_27 rfl rfl ?_
        refine ct_rc (fun b18 ci19 V20 hb21 hc22 hi23 => ?_)
        refine ct_cI (st := []) (cg_virtual (av := [cz_i l3]) S hb21 hc22 hi23 (fun _ e => mt_X5_isCoat e) md_X5_isCoat q2219 q2221 se_HeldCoatsModel_isCoat__I_Z_HeldCoatsModel (by decide) (Nat.le_of_ble_eq_true rfl) rfl dX5_share_28) (fun x25 h24 => ?_)
        refine ct_if_eq (tgt := 59) S dX5_share_31 (by decide) ?_ ?_
        · refine ct_iconst (v := (-1)) S dX5_share_59 kI_m1 ?_
          exact ct_iret S rfl dX5_share_60
        · refine ct_aload_n (k := 0) S dX5_share_34 rfl rfl ?_
          refine ct_getR S fw_X5_33 dX5_share_35 (fun r26 => ?_)
          refine ct_bipush (v := 65) S dX5_share_38 kB_65 ?_
          refine ct_iload_n (k := 3) S dX5_share_40 rfl rfl ?_
          refine ct_iadd S dX5_share_41 ?_
          refine ct_iald S dX5_share_42 (fun x27 => ?_)
          refine ct_bipush (v := 30) S dX5_share_43 kB_30 ?_
          refine ct_icmp_eq (tgt := 59) S dX5_share_45 (by decide) ?_ ?_
          · refine ct_iconst (v := (-1)) S dX5_share_59 kI_m1 ?_
            exact ct_iret S rfl dX5_share_60
          · refine ct_iload (k := 4) S dX5_share_48 rfl ?_
            refine ct_iconst (v := 1) S dX5_share_50 kI_1 ?_
            refine ct_bipush (v := 30) S dX5_share_51 kB_30 ?_
            refine ct_cI (st := []) (cg_static (av := [cz_i l4, cz_i 1, cz_i 30]) S (fun _ e => mt_X5_isIn e) md_X5_isIn (Or.inl q2122) q2123 (by decide) (Nat.le_of_ble_eq_true rfl) rfl dX5_share_53) (fun x29 h28 => ?_)
            refine ct_if_ne (tgt := 61) S dX5_share_56 (by decide) ?_ ?_
            · refine ct_iconst (v := 1) S dX5_share_61 kI_1 ?_
              refine ct_iload_n (k := 3) S dX5_share_62 rfl rfl ?_
              refine ct_ishl S dX5_share_63 ?_
              refine ct_leti (fun x30 => ?_)
              refine ct_istore (L' := [(5, cz_i x30), (0, cz_r l0), (1, cz_i l1), (2, cz_i l2), (3, cz_i l3), (4, cz_i l4)]) S dX5_share_64 (by decide) rfl ?_
              refine ct_aload_n (k := 1) S dX5_share_66 rfl rfl ?_
              refine ct_iload_n (k := 2) S dX5_share_67 rfl rfl ?_
              refine ct_rc (fun b31 ci32 V33 hb34 hc35 hi36 => ?_)
              refine ct_cI (st := []) (cg_virtual (av := [cz_i l1]) S hb34 hc35 hi36 (fun _ e => mt_X5_coatsAt e) md_X5_coatsAt q2200 q2202 se_HeldCoatsModel_coatsAt__I_I_HeldCoatsModel (by decide) (Nat.le_of_ble_eq_true rfl) rfl dX5_share_68) (fun x38 h37 => ?_)
              refine ct_iload (k := 0) S dX5_share_71 rfl ?_
              refine ct_iconst (v := (-1)) S dX5_share_73 kI_m1 ?_
              refine ct_ixor S dX5_share_74 ?_
              refine ct_iand S dX5_share_75 ?_
              refine ct_leti (fun x39 => ?_)
              refine ct_istore (L' := [(6, cz_i x39), (5, cz_i x30), (0, cz_r l0), (1, cz_i l1), (2, cz_i l2), (3, cz_i l3), (4, cz_i l4)]) S dX5_share_76 (by decide) rfl ?_
              refine ct_aload_n (k := 2) S dX5_share_78 rfl rfl ?_
              refine ct_iload_n (k := 4) S dX5_share_79 rfl rfl ?_
              refine ct_rc (fun b40 ci41 V42 hb43 hc44 hi45 => ?_)
              refine ct_cI (st := []) (cg_virtual (av := [cz_i l2]) S hb43 hc44 hi45 (fun _ e => mt_X5_coatsAt e) md_X5_coatsAt q2200 q2202 se_HeldCoatsModel_coatsAt__I_I_HeldCoatsModel (by decide) (Nat.le_of_ble_eq_true rfl) rfl dX5_share_80) (fun x47 h46 => ?_)
              refine ct_iload (k := 1) S dX5_share_83 rfl ?_
              refine ct_iconst (v := (-1)) S dX5_share_85 kI_m1 ?_
              refine ct_ixor S dX5_share_86 ?_
              refine ct_iand S dX5_share_87 ?_
              refine ct_leti (fun x48 => ?_)
              refine ct_istore (L' := [(7, cz_i x48), (6, cz_i x39), (5, cz_i x30), (0, cz_r l0), (1, cz_i l1), (2, cz_i l2), (3, cz_i l3), (4, cz_i l4)]) S dX5_share_88 (by decide) rfl ?_
              refine ct_iconst (v := 0) S dX5_share_90 kI_0 ?_
              refine ct_istore (L' := [(8, cz_i 0), (7, cz_i x48), (6, cz_i x39), (5, cz_i x30), (0, cz_r l0), (1, cz_i l1), (2, cz_i l2), (3, cz_i l3), (4, cz_i l4)]) S dX5_share_91 (by decide) rfl ?_
              refine ct_aload_n (k := 4) S dX5_share_93 rfl rfl ?_
              refine ct_iconst (v := 0) S dX5_share_94 kI_0 ?_
              refine ct_put S fw_X5_336 fp_X5_m_5_26 (cz_fits_i pd_I) dX5_share_95 (fun h49 => ?_)
              refine ct_aload_n (k := 4) S dX5_share_98 rfl rfl ?_
              refine ct_iconst (v := 1) S dX5_share_99 kI_1 ?_
              refine ct_put S fw_X5_339 fp_X5_m_5_27 (cz_fits_z pd_Z (Or.inr rfl)) dX5_share_100 (fun h50 => ?_)
              refine ct_iconst (v := 0) S dX5_share_103 kI_0 ?_
              refine ct_istore (L' := [(9, cz_i 0), (8, cz_i 0), (7, cz_i x48), (6, cz_i x39), (5, cz_i x30), (0, cz_r l0), (1, cz_i l1), (2, cz_i l2), (3, cz_i l3), (4, cz_i l4)]) S dX5_share_104 (by decide) rfl ?_
              refine ct_sub [5, 6, 7, 9, 4, 3, 2, 1, 0] (L' := [(0, cz_r l0), (1, cz_i l1), (2, cz_i l2), (4, cz_i l4), (5, cz_i x30), (6, cz_i x39), (7, cz_i x48), (8, cz_i 0), (9, cz_i 0)]) rfl (wk_X5_share_106 S ?_ 1000 0 0 h50)
              · intro e97 h98
                refine ct_iload (k := 0) S dX5_share_222 rfl ?_
                exact ct_iret S rfl dX5_share_224
            · refine ct_iconst (v := (-1)) S dX5_share_59 kI_m1 ?_
              exact ct_iret S rfl dX5_share_60
theorem mt_X5_share {l : Launch} {D : cz_D} {l0 : Option Nat} {l1 : Int32} {l2 : Int32} {l3 : Int32} {l4 : Int32} {h : cz_H} {oh : cz_O × cz_H} (hz : fn_X5_share l0 l1 l2 l3 l4 h = some oh) : cz_M l D yX5_share (ws_ yX5_share cX5_share 13 ((Option.some Jvm.ClassFile.FieldType.int))) 6 [cz_r l0, cz_i l1, cz_i l2, cz_i l3, cz_i l4] h oh := cz_met (plainFor_of_name (by decide)) (Nat.le_of_ble_eq_true rfl) hz (fun K hl S => wk_X5_share S)
/-! HeldCoatsModel.surely()I -/
def dkwX5_surely_0 : List UInt8 := [42, 3, 181, 0, 1, 42, 180, 1, 113, 153, 0, 10, 42, 180, 1, 116, 167, 0, 4, 2, 172]
abbrev dktX5_surely_0 : List UInt8 := dkwX5_surely_0 ++ []
theorem dksX5_surely_0 : cX5_surely.data.toList.drop 0 = dktX5_surely_0 := by decide +kernel
theorem dX5_surely_0 : decode cX5_surely 0 = .ok (.aload_n 0, 1) := dk_42 (dk_at dksX5_surely_0 0 rfl rfl)
theorem dX5_surely_1 : decode cX5_surely 1 = .ok (.iconst 0, 1) := dk_3 (dk_at dksX5_surely_0 1 rfl rfl)
theorem dX5_surely_2 : decode cX5_surely 2 = .ok (.putfield 1, 3) := dk_181 0 1 (dk_at dksX5_surely_0 2 rfl rfl)
theorem dX5_surely_5 : decode cX5_surely 5 = .ok (.aload_n 0, 1) := dk_42 (dk_at dksX5_surely_0 5 rfl rfl)
theorem dX5_surely_6 : decode cX5_surely 6 = .ok (.getfield 369, 3) := dk_180 1 113 (dk_at dksX5_surely_0 6 rfl rfl)
theorem dX5_surely_9 : decode cX5_surely 9 = .ok (.ifCond .eq 10, 3) := dk_153 0 10 (dk_at dksX5_surely_0 9 rfl rfl)
theorem dX5_surely_12 : decode cX5_surely 12 = .ok (.aload_n 0, 1) := dk_42 (dk_at dksX5_surely_0 12 rfl rfl)
theorem dX5_surely_13 : decode cX5_surely 13 = .ok (.getfield 372, 3) := dk_180 1 116 (dk_at dksX5_surely_0 13 rfl rfl)
theorem dX5_surely_16 : decode cX5_surely 16 = .ok (.goto 4, 3) := dk_167 0 4 (dk_at dksX5_surely_0 16 rfl rfl)
theorem dX5_surely_19 : decode cX5_surely 19 = .ok (.iconst (-1), 1) := dk_2 (dk_at dksX5_surely_0 19 rfl rfl)
theorem dX5_surely_20 : decode cX5_surely 20 = .ok (.ireturn, 1) := dk_172 (dk_at dksX5_surely_0 20 rfl rfl)
set_option maxHeartbeats 4000000 in
set_option maxRecDepth 100000 in
noncomputable def fn_X5_surely (l0 : Option Nat) (h : cz_H) : cz_Z := cz_put h l0 [(5, 0)] (cz_i 0) (fun h1 => cz_getI h1 l0 [(5, 31)] (fun x2 => (if x2 = 0 then some (.inl (some (cz_i (-1))), h1) else cz_getI h1 l0 [(5, 29)] (fun x3 => some (.inl (some (cz_i x3)), h1)))))
set_option maxHeartbeats 4000000 in
set_option maxRecDepth 100000 in
theorem wk_X5_surely {K : cz_K} {D : cz_D} {h0 : cz_H} {oh : cz_O × cz_H} {l0 : Option Nat} {h : cz_H} (S : cz_S K D h0 cX5_surely 1 "HeldCoatsModel" ((Option.some Jvm.ClassFile.FieldType.int)) "surely" ([])) : cz_T K D 2 h0 oh 1 (fn_X5_surely l0 h) h 0 [(0, cz_r l0)] [] := by
  unfold fn_X5_surely
  refine ct_aload_n (k := 0) S dX5_surely_0 rfl rfl ?_
  refine ct_iconst (v := 0) S dX5_surely_1 kI_0 ?_
  refine ct_put S fw_X5_1 fp_X5_m_5_0 (cz_fits_i pd_I) dX5_surely_2 (fun h1 => ?_)
  refine ct_aload_n (k := 0) S dX5_surely_5 rfl rfl ?_
  refine ct_getI S fw_X5_369 dX5_surely_6 (fun x2 => ?_)
  refine ct_if_eq (tgt := 19) S dX5_surely_9 (by decide) ?_ ?_
  · refine ct_iconst (v := (-1)) S dX5_surely_19 kI_m1 ?_
    exact ct_iret S rfl dX5_surely_20
  · refine ct_aload_n (k := 0) S dX5_surely_12 rfl rfl ?_
    refine ct_getI S fw_X5_372 dX5_surely_13 (fun x3 => ?_)
    refine ct_goto (tgt := 20) S dX5_surely_16 (by decide) ?_
    exact ct_iret S rfl dX5_surely_20
theorem mt_X5_surely {l : Launch} {D : cz_D} {l0 : Option Nat} {h : cz_H} {oh : cz_O × cz_H} (hz : fn_X5_surely l0 h = some oh) : cz_M l D yX5_surely (ws_ yX5_surely cX5_surely 1 ((Option.some Jvm.ClassFile.FieldType.int))) 2 [cz_r l0] h oh := cz_met (plainFor_of_name (by decide)) (Nat.le_of_ble_eq_true rfl) hz (fun K hl S => wk_X5_surely S)
/-! HeldCoatsModel.thrown()I -/
theorem dX5_thrown_0 : decode cX5_thrown 0 = .ok (.aload_n 0, 1) := by decide +kernel
theorem dX5_thrown_1 : decode cX5_thrown 1 = .ok (.getfield 1, 3) := by decide +kernel
theorem dX5_thrown_4 : decode cX5_thrown 4 = .ok (.ireturn, 1) := by decide +kernel
set_option maxHeartbeats 4000000 in
set_option maxRecDepth 100000 in
noncomputable def fn_X5_thrown (l0 : Option Nat) (h : cz_H) : cz_Z := cz_getI h l0 [(5, 0)] (fun x1 => some (.inl (some (cz_i x1)), h))
set_option maxHeartbeats 4000000 in
set_option maxRecDepth 100000 in
theorem wk_X5_thrown {K : cz_K} {D : cz_D} {h0 : cz_H} {oh : cz_O × cz_H} {l0 : Option Nat} {h : cz_H} (S : cz_S K D h0 cX5_thrown 1 "HeldCoatsModel" ((Option.some Jvm.ClassFile.FieldType.int)) "thrown" ([])) : cz_T K D 2 h0 oh 1 (fn_X5_thrown l0 h) h 0 [(0, cz_r l0)] [] := by
  unfold fn_X5_thrown
  refine ct_aload_n (k := 0) S dX5_thrown_0 rfl rfl ?_
  refine ct_getI S fw_X5_1 dX5_thrown_1 (fun x1 => ?_)
  exact ct_iret S rfl dX5_thrown_4
theorem mt_X5_thrown {l : Launch} {D : cz_D} {l0 : Option Nat} {h : cz_H} {oh : cz_O × cz_H} (hz : fn_X5_thrown l0 h = some oh) : cz_M l D yX5_thrown (ws_ yX5_thrown cX5_thrown 1 ((Option.some Jvm.ClassFile.FieldType.int))) 2 [cz_r l0] h oh := cz_met (plainFor_of_name (by decide)) (Nat.le_of_ble_eq_true rfl) hz (fun K hl S => wk_X5_thrown S)
/-! HeldCoatsModel.told(I)I -/
def dkwX5_told_1 : List UInt8 := [180, 0, 59, 27, 46, 167, 0, 4, 2, 172]
abbrev dktX5_told_1 : List UInt8 := dkwX5_told_1 ++ []
def dkwX5_told_0 : List UInt8 := [42, 3, 181, 0, 1, 42, 180, 1, 150, 153, 0, 21, 27, 3, 6, 184, 0, 171, 153, 0, 12, 42]
abbrev dktX5_told_0 : List UInt8 := dkwX5_told_0 ++ dktX5_told_1
theorem dksX5_told_0 : cX5_told.data.toList.drop 0 = dktX5_told_0 := by decide +kernel
theorem dksX5_told_1 : cX5_told.data.toList.drop 22 = dktX5_told_1 := dk_seg dksX5_told_0 22 rfl rfl
theorem dX5_told_0 : decode cX5_told 0 = .ok (.aload_n 0, 1) := dk_42 (dk_at dksX5_told_0 0 rfl rfl)
theorem dX5_told_1 : decode cX5_told 1 = .ok (.iconst 0, 1) := dk_3 (dk_at dksX5_told_0 1 rfl rfl)
theorem dX5_told_2 : decode cX5_told 2 = .ok (.putfield 1, 3) := dk_181 0 1 (dk_at dksX5_told_0 2 rfl rfl)
theorem dX5_told_5 : decode cX5_told 5 = .ok (.aload_n 0, 1) := dk_42 (dk_at dksX5_told_0 5 rfl rfl)
theorem dX5_told_6 : decode cX5_told 6 = .ok (.getfield 406, 3) := dk_180 1 150 (dk_at dksX5_told_0 6 rfl rfl)
theorem dX5_told_9 : decode cX5_told 9 = .ok (.ifCond .eq 21, 3) := dk_153 0 21 (dk_at dksX5_told_0 9 rfl rfl)
theorem dX5_told_12 : decode cX5_told 12 = .ok (.iload_n 1, 1) := dk_27 (dk_at dksX5_told_0 12 rfl rfl)
theorem dX5_told_13 : decode cX5_told 13 = .ok (.iconst 0, 1) := dk_3 (dk_at dksX5_told_0 13 rfl rfl)
theorem dX5_told_14 : decode cX5_told 14 = .ok (.iconst 3, 1) := dk_6 (dk_at dksX5_told_0 14 rfl rfl)
theorem dX5_told_15 : decode cX5_told 15 = .ok (.invokestatic 171, 3) := dk_184 0 171 (dk_at dksX5_told_0 15 rfl rfl)
theorem dX5_told_18 : decode cX5_told 18 = .ok (.ifCond .eq 12, 3) := dk_153 0 12 (dk_at dksX5_told_0 18 rfl rfl)
theorem dX5_told_21 : decode cX5_told 21 = .ok (.aload_n 0, 1) := dk_42 (dk_at dksX5_told_0 21 rfl rfl)
theorem dX5_told_22 : decode cX5_told 22 = .ok (.getfield 59, 3) := dk_180 0 59 (dk_at dksX5_told_1 0 rfl rfl)
theorem dX5_told_25 : decode cX5_told 25 = .ok (.iload_n 1, 1) := dk_27 (dk_at dksX5_told_1 3 rfl rfl)
theorem dX5_told_26 : decode cX5_told 26 = .ok (.iaload, 1) := dk_46 (dk_at dksX5_told_1 4 rfl rfl)
theorem dX5_told_27 : decode cX5_told 27 = .ok (.goto 4, 3) := dk_167 0 4 (dk_at dksX5_told_1 5 rfl rfl)
theorem dX5_told_30 : decode cX5_told 30 = .ok (.iconst (-1), 1) := dk_2 (dk_at dksX5_told_1 8 rfl rfl)
theorem dX5_told_31 : decode cX5_told 31 = .ok (.ireturn, 1) := dk_172 (dk_at dksX5_told_1 9 rfl rfl)
set_option maxHeartbeats 4000000 in
set_option maxRecDepth 100000 in
noncomputable def fn_X5_told (l0 : Option Nat) (l1 : Int32) (h : cz_H) : cz_Z := cz_put h l0 [(5, 0)] (cz_i 0) (fun h1 => cz_getI h1 l0 [(5, 38)] (fun x2 => (if x2 = 0 then some (.inl (some (cz_i (-1))), h1) else cz_cI (fn_X5_isIn l1 0 3 h1) (fun x4 h3 => (if x4 = 0 then some (.inl (some (cz_i (-1))), h3) else cz_getR h3 l0 [(5, 37)] (fun r5 => cz_iald h3 r5 l1 (fun x6 => some (.inl (some (cz_i x6)), h3))))))))
set_option maxHeartbeats 4000000 in
set_option maxRecDepth 100000 in
theorem wk_X5_told {K : cz_K} {D : cz_D} {h0 : cz_H} {oh : cz_O × cz_H} {l0 : Option Nat} {l1 : Int32} {h : cz_H} (S : cz_S K D h0 cX5_told 2 "HeldCoatsModel" ((Option.some Jvm.ClassFile.FieldType.int)) "told" ([])) : cz_T K D 3 h0 oh 2 (fn_X5_told l0 l1 h) h 0 [(0, cz_r l0), (1, cz_i l1)] [] := by
  unfold fn_X5_told
  refine ct_aload_n (k := 0) S dX5_told_0 rfl rfl ?_
  refine ct_iconst (v := 0) S dX5_told_1 kI_0 ?_
  refine ct_put S fw_X5_1 fp_X5_m_5_0 (cz_fits_i pd_I) dX5_told_2 (fun h1 => ?_)
  refine ct_aload_n (k := 0) S dX5_told_5 rfl rfl ?_
  refine ct_getI S fw_X5_406 dX5_told_6 (fun x2 => ?_)
  refine ct_if_eq (tgt := 30) S dX5_told_9 (by decide) ?_ ?_
  · refine ct_iconst (v := (-1)) S dX5_told_30 kI_m1 ?_
    exact ct_iret S rfl dX5_told_31
  · refine ct_iload_n (k := 1) S dX5_told_12 rfl rfl ?_
    refine ct_iconst (v := 0) S dX5_told_13 kI_0 ?_
    refine ct_iconst (v := 3) S dX5_told_14 kI_3 ?_
    refine ct_cI (st := []) (cg_static (av := [cz_i l1, cz_i 0, cz_i 3]) S (fun _ e => mt_X5_isIn e) md_X5_isIn (Or.inl q2122) q2123 (by decide) (Nat.le_of_ble_eq_true rfl) rfl dX5_told_15) (fun x4 h3 => ?_)
    refine ct_if_eq (tgt := 30) S dX5_told_18 (by decide) ?_ ?_
    · refine ct_iconst (v := (-1)) S dX5_told_30 kI_m1 ?_
      exact ct_iret S rfl dX5_told_31
    · refine ct_aload_n (k := 0) S dX5_told_21 rfl rfl ?_
      refine ct_getR S fw_X5_59 dX5_told_22 (fun r5 => ?_)
      refine ct_iload_n (k := 1) S dX5_told_25 rfl rfl ?_
      refine ct_iald S dX5_told_26 (fun x6 => ?_)
      refine ct_goto (tgt := 31) S dX5_told_27 (by decide) ?_
      exact ct_iret S rfl dX5_told_31
theorem mt_X5_told {l : Launch} {D : cz_D} {l0 : Option Nat} {l1 : Int32} {h : cz_H} {oh : cz_O × cz_H} (hz : fn_X5_told l0 l1 h = some oh) : cz_M l D yX5_told (ws_ yX5_told cX5_told 2 ((Option.some Jvm.ClassFile.FieldType.int))) 3 [cz_r l0, cz_i l1] h oh := cz_met (plainFor_of_name (by decide)) (Nat.le_of_ble_eq_true rfl) hz (fun K hl S => wk_X5_told S)
/-! HeldCoatsModel.turns()I -/
def dkwX5_turns_0 : List UInt8 := [42, 3, 181, 0, 1, 42, 180, 1, 83, 153, 0, 10, 42, 180, 1, 80, 167, 0, 4, 2, 172]
abbrev dktX5_turns_0 : List UInt8 := dkwX5_turns_0 ++ []
theorem dksX5_turns_0 : cX5_turns.data.toList.drop 0 = dktX5_turns_0 := by decide +kernel
theorem dX5_turns_0 : decode cX5_turns 0 = .ok (.aload_n 0, 1) := dk_42 (dk_at dksX5_turns_0 0 rfl rfl)
theorem dX5_turns_1 : decode cX5_turns 1 = .ok (.iconst 0, 1) := dk_3 (dk_at dksX5_turns_0 1 rfl rfl)
theorem dX5_turns_2 : decode cX5_turns 2 = .ok (.putfield 1, 3) := dk_181 0 1 (dk_at dksX5_turns_0 2 rfl rfl)
theorem dX5_turns_5 : decode cX5_turns 5 = .ok (.aload_n 0, 1) := dk_42 (dk_at dksX5_turns_0 5 rfl rfl)
theorem dX5_turns_6 : decode cX5_turns 6 = .ok (.getfield 339, 3) := dk_180 1 83 (dk_at dksX5_turns_0 6 rfl rfl)
theorem dX5_turns_9 : decode cX5_turns 9 = .ok (.ifCond .eq 10, 3) := dk_153 0 10 (dk_at dksX5_turns_0 9 rfl rfl)
theorem dX5_turns_12 : decode cX5_turns 12 = .ok (.aload_n 0, 1) := dk_42 (dk_at dksX5_turns_0 12 rfl rfl)
theorem dX5_turns_13 : decode cX5_turns 13 = .ok (.getfield 336, 3) := dk_180 1 80 (dk_at dksX5_turns_0 13 rfl rfl)
theorem dX5_turns_16 : decode cX5_turns 16 = .ok (.goto 4, 3) := dk_167 0 4 (dk_at dksX5_turns_0 16 rfl rfl)
theorem dX5_turns_19 : decode cX5_turns 19 = .ok (.iconst (-1), 1) := dk_2 (dk_at dksX5_turns_0 19 rfl rfl)
theorem dX5_turns_20 : decode cX5_turns 20 = .ok (.ireturn, 1) := dk_172 (dk_at dksX5_turns_0 20 rfl rfl)
set_option maxHeartbeats 4000000 in
set_option maxRecDepth 100000 in
noncomputable def fn_X5_turns (l0 : Option Nat) (h : cz_H) : cz_Z := cz_put h l0 [(5, 0)] (cz_i 0) (fun h1 => cz_getI h1 l0 [(5, 27)] (fun x2 => (if x2 = 0 then some (.inl (some (cz_i (-1))), h1) else cz_getI h1 l0 [(5, 26)] (fun x3 => some (.inl (some (cz_i x3)), h1)))))
set_option maxHeartbeats 4000000 in
set_option maxRecDepth 100000 in
theorem wk_X5_turns {K : cz_K} {D : cz_D} {h0 : cz_H} {oh : cz_O × cz_H} {l0 : Option Nat} {h : cz_H} (S : cz_S K D h0 cX5_turns 1 "HeldCoatsModel" ((Option.some Jvm.ClassFile.FieldType.int)) "turns" ([])) : cz_T K D 2 h0 oh 1 (fn_X5_turns l0 h) h 0 [(0, cz_r l0)] [] := by
  unfold fn_X5_turns
  refine ct_aload_n (k := 0) S dX5_turns_0 rfl rfl ?_
  refine ct_iconst (v := 0) S dX5_turns_1 kI_0 ?_
  refine ct_put S fw_X5_1 fp_X5_m_5_0 (cz_fits_i pd_I) dX5_turns_2 (fun h1 => ?_)
  refine ct_aload_n (k := 0) S dX5_turns_5 rfl rfl ?_
  refine ct_getI S fw_X5_339 dX5_turns_6 (fun x2 => ?_)
  refine ct_if_eq (tgt := 19) S dX5_turns_9 (by decide) ?_ ?_
  · refine ct_iconst (v := (-1)) S dX5_turns_19 kI_m1 ?_
    exact ct_iret S rfl dX5_turns_20
  · refine ct_aload_n (k := 0) S dX5_turns_12 rfl rfl ?_
    refine ct_getI S fw_X5_336 dX5_turns_13 (fun x3 => ?_)
    refine ct_goto (tgt := 20) S dX5_turns_16 (by decide) ?_
    exact ct_iret S rfl dX5_turns_20
theorem mt_X5_turns {l : Launch} {D : cz_D} {l0 : Option Nat} {h : cz_H} {oh : cz_O × cz_H} (hz : fn_X5_turns l0 h = some oh) : cz_M l D yX5_turns (ws_ yX5_turns cX5_turns 1 ((Option.some Jvm.ClassFile.FieldType.int))) 2 [cz_r l0] h oh := cz_met (plainFor_of_name (by decide)) (Nat.le_of_ble_eq_true rfl) hz (fun K hl S => wk_X5_turns S)
/-! HeldCoatsModel.undo()I -/
def dkwX5_undo_2 : List UInt8 := [180, 0, 231, 104, 27, 96, 46, 79, 132, 1, 1, 167, 255, 224, 42, 180, 0, 231, 172]
abbrev dktX5_undo_2 : List UInt8 := dkwX5_undo_2 ++ []
def dkwX5_undo_1 : List UInt8 := [3, 60, 27, 16, 56, 162, 0, 32, 42, 180, 0, 33, 16, 62, 27, 96, 42, 180, 0, 50, 16, 56, 42]
abbrev dktX5_undo_1 : List UInt8 := dkwX5_undo_1 ++ dktX5_undo_2
def dkwX5_undo_0 : List UInt8 := [42, 3, 181, 0, 1, 42, 180, 0, 231, 154, 0, 5, 2, 172, 42, 89, 180, 0, 231, 4, 100, 181, 0, 231]
abbrev dktX5_undo_0 : List UInt8 := dkwX5_undo_0 ++ dktX5_undo_1
theorem dksX5_undo_0 : cX5_undo.data.toList.drop 0 = dktX5_undo_0 := by decide +kernel
theorem dksX5_undo_1 : cX5_undo.data.toList.drop 24 = dktX5_undo_1 := dk_seg dksX5_undo_0 24 rfl rfl
theorem dksX5_undo_2 : cX5_undo.data.toList.drop 47 = dktX5_undo_2 := dk_seg dksX5_undo_1 23 rfl rfl
theorem dX5_undo_0 : decode cX5_undo 0 = .ok (.aload_n 0, 1) := dk_42 (dk_at dksX5_undo_0 0 rfl rfl)
theorem dX5_undo_1 : decode cX5_undo 1 = .ok (.iconst 0, 1) := dk_3 (dk_at dksX5_undo_0 1 rfl rfl)
theorem dX5_undo_2 : decode cX5_undo 2 = .ok (.putfield 1, 3) := dk_181 0 1 (dk_at dksX5_undo_0 2 rfl rfl)
theorem dX5_undo_5 : decode cX5_undo 5 = .ok (.aload_n 0, 1) := dk_42 (dk_at dksX5_undo_0 5 rfl rfl)
theorem dX5_undo_6 : decode cX5_undo 6 = .ok (.getfield 231, 3) := dk_180 0 231 (dk_at dksX5_undo_0 6 rfl rfl)
theorem dX5_undo_9 : decode cX5_undo 9 = .ok (.ifCond .ne 5, 3) := dk_154 0 5 (dk_at dksX5_undo_0 9 rfl rfl)
theorem dX5_undo_12 : decode cX5_undo 12 = .ok (.iconst (-1), 1) := dk_2 (dk_at dksX5_undo_0 12 rfl rfl)
theorem dX5_undo_13 : decode cX5_undo 13 = .ok (.ireturn, 1) := dk_172 (dk_at dksX5_undo_0 13 rfl rfl)
theorem dX5_undo_14 : decode cX5_undo 14 = .ok (.aload_n 0, 1) := dk_42 (dk_at dksX5_undo_0 14 rfl rfl)
theorem dX5_undo_15 : decode cX5_undo 15 = .ok (.dup, 1) := dk_89 (dk_at dksX5_undo_0 15 rfl rfl)
theorem dX5_undo_16 : decode cX5_undo 16 = .ok (.getfield 231, 3) := dk_180 0 231 (dk_at dksX5_undo_0 16 rfl rfl)
theorem dX5_undo_19 : decode cX5_undo 19 = .ok (.iconst 1, 1) := dk_4 (dk_at dksX5_undo_0 19 rfl rfl)
theorem dX5_undo_20 : decode cX5_undo 20 = .ok (.isub, 1) := dk_100 (dk_at dksX5_undo_0 20 rfl rfl)
theorem dX5_undo_21 : decode cX5_undo 21 = .ok (.putfield 231, 3) := dk_181 0 231 (dk_at dksX5_undo_0 21 rfl rfl)
theorem dX5_undo_24 : decode cX5_undo 24 = .ok (.iconst 0, 1) := dk_3 (dk_at dksX5_undo_1 0 rfl rfl)
theorem dX5_undo_25 : decode cX5_undo 25 = .ok (.istore_n 1, 1) := dk_60 (dk_at dksX5_undo_1 1 rfl rfl)
theorem dX5_undo_26 : decode cX5_undo 26 = .ok (.iload_n 1, 1) := dk_27 (dk_at dksX5_undo_1 2 rfl rfl)
theorem dX5_undo_27 : decode cX5_undo 27 = .ok (.bipush 56, 2) := dk_16 56 (dk_at dksX5_undo_1 3 rfl rfl)
theorem dX5_undo_29 : decode cX5_undo 29 = .ok (.if_icmp .ge 32, 3) := dk_162 0 32 (dk_at dksX5_undo_1 5 rfl rfl)
theorem dX5_undo_32 : decode cX5_undo 32 = .ok (.aload_n 0, 1) := dk_42 (dk_at dksX5_undo_1 8 rfl rfl)
theorem dX5_undo_33 : decode cX5_undo 33 = .ok (.getfield 33, 3) := dk_180 0 33 (dk_at dksX5_undo_1 9 rfl rfl)
theorem dX5_undo_36 : decode cX5_undo 36 = .ok (.bipush 62, 2) := dk_16 62 (dk_at dksX5_undo_1 12 rfl rfl)
theorem dX5_undo_38 : decode cX5_undo 38 = .ok (.iload_n 1, 1) := dk_27 (dk_at dksX5_undo_1 14 rfl rfl)
theorem dX5_undo_39 : decode cX5_undo 39 = .ok (.iadd, 1) := dk_96 (dk_at dksX5_undo_1 15 rfl rfl)
theorem dX5_undo_40 : decode cX5_undo 40 = .ok (.aload_n 0, 1) := dk_42 (dk_at dksX5_undo_1 16 rfl rfl)
theorem dX5_undo_41 : decode cX5_undo 41 = .ok (.getfield 50, 3) := dk_180 0 50 (dk_at dksX5_undo_1 17 rfl rfl)
theorem dX5_undo_44 : decode cX5_undo 44 = .ok (.bipush 56, 2) := dk_16 56 (dk_at dksX5_undo_1 20 rfl rfl)
theorem dX5_undo_46 : decode cX5_undo 46 = .ok (.aload_n 0, 1) := dk_42 (dk_at dksX5_undo_1 22 rfl rfl)
theorem dX5_undo_47 : decode cX5_undo 47 = .ok (.getfield 231, 3) := dk_180 0 231 (dk_at dksX5_undo_2 0 rfl rfl)
theorem dX5_undo_50 : decode cX5_undo 50 = .ok (.imul, 1) := dk_104 (dk_at dksX5_undo_2 3 rfl rfl)
theorem dX5_undo_51 : decode cX5_undo 51 = .ok (.iload_n 1, 1) := dk_27 (dk_at dksX5_undo_2 4 rfl rfl)
theorem dX5_undo_52 : decode cX5_undo 52 = .ok (.iadd, 1) := dk_96 (dk_at dksX5_undo_2 5 rfl rfl)
theorem dX5_undo_53 : decode cX5_undo 53 = .ok (.iaload, 1) := dk_46 (dk_at dksX5_undo_2 6 rfl rfl)
theorem dX5_undo_54 : decode cX5_undo 54 = .ok (.iastore, 1) := dk_79 (dk_at dksX5_undo_2 7 rfl rfl)
theorem dX5_undo_55 : decode cX5_undo 55 = .ok (.iinc 1 1, 3) := dk_132 1 1 (dk_at dksX5_undo_2 8 rfl rfl)
theorem dX5_undo_58 : decode cX5_undo 58 = .ok (.goto (-32), 3) := dk_167 255 224 (dk_at dksX5_undo_2 11 rfl rfl)
theorem dX5_undo_61 : decode cX5_undo 61 = .ok (.aload_n 0, 1) := dk_42 (dk_at dksX5_undo_2 14 rfl rfl)
theorem dX5_undo_62 : decode cX5_undo 62 = .ok (.getfield 231, 3) := dk_180 0 231 (dk_at dksX5_undo_2 15 rfl rfl)
theorem dX5_undo_65 : decode cX5_undo 65 = .ok (.ireturn, 1) := dk_172 (dk_at dksX5_undo_2 18 rfl rfl)
set_option maxHeartbeats 4000000 in
set_option maxRecDepth 100000 in
noncomputable def fn_X5_undo_26 (l0 : Option Nat) (k0 : cz_H → cz_Z) : Nat → Int32 → cz_H → cz_Z
  | 0, _, _ => none
  | n + 1, l1, h => (if (56 : Int32) ≤ l1 then k0 h else cz_getR h l0 [(5, 6)] (fun r5 => cz_getR h l0 [(5, 21)] (fun r6 => cz_getI h l0 [(5, 23)] (fun x7 => cz_iald h r6 (((56 : Int32) * x7) + l1) (fun x8 => cz_iast h r5 ((62 : Int32) + l1) x8 (fun h9 => cz_leti (l1 + 1) (fun x10 => fn_X5_undo_26 l0 k0 n x10 h9)))))))
set_option maxHeartbeats 4000000 in
set_option maxRecDepth 100000 in
theorem wk_X5_undo_26 {K : cz_K} {D : cz_D} {h0 : cz_H} {oh : cz_O × cz_H} {l0 : Option Nat} {k0 : cz_H → cz_Z} (S : cz_S K D h0 cX5_undo 2 "HeldCoatsModel" ((Option.some Jvm.ClassFile.FieldType.int)) "undo" ([])) (hk0 : ∀ (h : cz_H), cz_T K D 2 h0 oh 2 (k0 h) h 61 [(0, cz_r l0)] []) : ∀ (n : Nat) (l1 : Int32) (h : cz_H), cz_T K D 2 h0 oh 2 (fn_X5_undo_26 l0 k0 n l1 h) h 26 [(0, cz_r l0), (1, cz_i l1)] [] := by
  intro n
  induction n with
  | zero => intros; exact ct_none
  | succ n ih =>
    intro l1 h
    rw [fn_X5_undo_26]
    refine ct_iload_n (k := 1) S dX5_undo_26 rfl rfl ?_
    refine ct_bipush (v := 56) S dX5_undo_27 kB_56 ?_
    refine ct_icmp_ge (tgt := 61) S dX5_undo_29 (by decide) ?_ ?_
    · exact ct_sub [0] rfl (hk0 h)
    · refine ct_aload_n (k := 0) S dX5_undo_32 rfl rfl ?_
      refine ct_getR S fw_X5_33 dX5_undo_33 (fun r5 => ?_)
      refine ct_bipush (v := 62) S dX5_undo_36 kB_62 ?_
      refine ct_iload_n (k := 1) S dX5_undo_38 rfl rfl ?_
      refine ct_iadd S dX5_undo_39 ?_
      refine ct_aload_n (k := 0) S dX5_undo_40 rfl rfl ?_
      refine ct_getR S fw_X5_50 dX5_undo_41 (fun r6 => ?_)
      refine ct_bipush (v := 56) S dX5_undo_44 kB_56 ?_
      refine ct_aload_n (k := 0) S dX5_undo_46 rfl rfl ?_
      refine ct_getI S fw_X5_231 dX5_undo_47 (fun x7 => ?_)
      refine ct_imul S dX5_undo_50 ?_
      refine ct_iload_n (k := 1) S dX5_undo_51 rfl rfl ?_
      refine ct_iadd S dX5_undo_52 ?_
      refine ct_iald S dX5_undo_53 (fun x8 => ?_)
      refine ct_iast S dX5_undo_54 (fun h9 => ?_)
      refine ct_iincL (j := 1) (L2 := fun x10 => [(1, cz_i x10), (0, cz_r l0)]) S dX5_undo_55 rfl kI_1 (by decide) (fun _ => rfl) (fun x10 => ?_)
      refine ct_goto (tgt := 26) S dX5_undo_58 (by decide) ?_
      exact ct_sub [1, 0] rfl (ih x10 h9)
set_option maxHeartbeats 4000000 in
set_option maxRecDepth 100000 in
noncomputable def fn_X5_undo (l0 : Option Nat) (h : cz_H) : cz_Z := cz_put h l0 [(5, 0)] (cz_i 0) (fun h1 => cz_getI h1 l0 [(5, 23)] (fun x2 => (if x2 = 0 then some (.inl (some (cz_i (-1))), h1) else cz_getI h1 l0 [(5, 23)] (fun x3 => cz_put h1 l0 [(5, 23)] (cz_i (x3 - 1)) (fun h4 => fn_X5_undo_26 l0 (fun (h11 : cz_H) => cz_getI h11 l0 [(5, 23)] (fun x12 => some (.inl (some (cz_i x12)), h11))) 1000 0 h4)))))
set_option maxHeartbeats 4000000 in
set_option maxRecDepth 100000 in
theorem wk_X5_undo {K : cz_K} {D : cz_D} {h0 : cz_H} {oh : cz_O × cz_H} {l0 : Option Nat} {h : cz_H} (S : cz_S K D h0 cX5_undo 2 "HeldCoatsModel" ((Option.some Jvm.ClassFile.FieldType.int)) "undo" ([])) : cz_T K D 2 h0 oh 2 (fn_X5_undo l0 h) h 0 [(0, cz_r l0)] [] := by
  unfold fn_X5_undo
  refine ct_aload_n (k := 0) S dX5_undo_0 rfl rfl ?_
  refine ct_iconst (v := 0) S dX5_undo_1 kI_0 ?_
  refine ct_put S fw_X5_1 fp_X5_m_5_0 (cz_fits_i pd_I) dX5_undo_2 (fun h1 => ?_)
  refine ct_aload_n (k := 0) S dX5_undo_5 rfl rfl ?_
  refine ct_getI S fw_X5_231 dX5_undo_6 (fun x2 => ?_)
  refine ct_if_ne (tgt := 14) S dX5_undo_9 (by decide) ?_ ?_
  · refine ct_aload_n (k := 0) S dX5_undo_14 rfl rfl ?_
    refine ct_dup S dX5_undo_15 rfl ?_
    refine ct_getI S fw_X5_231 dX5_undo_16 (fun x3 => ?_)
    refine ct_iconst (v := 1) S dX5_undo_19 kI_1 ?_
    refine ct_isub S dX5_undo_20 ?_
    refine ct_put S fw_X5_231 fp_X5_m_5_23 (cz_fits_i pd_I) dX5_undo_21 (fun h4 => ?_)
    refine ct_iconst (v := 0) S dX5_undo_24 kI_0 ?_
    refine ct_istore_n (L' := [(1, cz_i 0), (0, cz_r l0)]) S dX5_undo_25 rfl (by decide) rfl ?_
    refine ct_sub [1, 0] (L' := [(0, cz_r l0), (1, cz_i 0)]) rfl (wk_X5_undo_26 S ?_ 1000 0 h4)
    · intro h11
      refine ct_aload_n (k := 0) S dX5_undo_61 rfl rfl ?_
      refine ct_getI S fw_X5_231 dX5_undo_62 (fun x12 => ?_)
      exact ct_iret S rfl dX5_undo_65
  · refine ct_iconst (v := (-1)) S dX5_undo_12 kI_m1 ?_
    exact ct_iret S rfl dX5_undo_13
theorem mt_X5_undo {l : Launch} {D : cz_D} {l0 : Option Nat} {h : cz_H} {oh : cz_O × cz_H} (hz : fn_X5_undo l0 h = some oh) : cz_M l D yX5_undo (ws_ yX5_undo cX5_undo 2 ((Option.some Jvm.ClassFile.FieldType.int))) 2 [cz_r l0] h oh := cz_met (plainFor_of_name (by decide)) (Nat.le_of_ble_eq_true rfl) hz (fun K hl S => wk_X5_undo S)
/-! HeldCoatsModel.wear(II)I -/
def dkwX5_wear_1 : List UInt8 := [27, 28, 182, 1, 55, 62, 29, 158, 0, 5, 29, 172, 42, 182, 1, 48, 42, 27, 28, 182, 1, 58, 3, 172]
abbrev dktX5_wear_1 : List UInt8 := dkwX5_wear_1 ++ []
def dkwX5_wear_0 : List UInt8 := [42, 3, 181, 0, 1, 42, 27, 182, 1, 14, 153, 0, 11, 42, 28, 182, 1, 24, 154, 0, 5, 2, 172, 42]
abbrev dktX5_wear_0 : List UInt8 := dkwX5_wear_0 ++ dktX5_wear_1
theorem dksX5_wear_0 : cX5_wear.data.toList.drop 0 = dktX5_wear_0 := by decide +kernel
theorem dksX5_wear_1 : cX5_wear.data.toList.drop 24 = dktX5_wear_1 := dk_seg dksX5_wear_0 24 rfl rfl
theorem dX5_wear_0 : decode cX5_wear 0 = .ok (.aload_n 0, 1) := dk_42 (dk_at dksX5_wear_0 0 rfl rfl)
theorem dX5_wear_1 : decode cX5_wear 1 = .ok (.iconst 0, 1) := dk_3 (dk_at dksX5_wear_0 1 rfl rfl)
theorem dX5_wear_2 : decode cX5_wear 2 = .ok (.putfield 1, 3) := dk_181 0 1 (dk_at dksX5_wear_0 2 rfl rfl)
theorem dX5_wear_5 : decode cX5_wear 5 = .ok (.aload_n 0, 1) := dk_42 (dk_at dksX5_wear_0 5 rfl rfl)
theorem dX5_wear_6 : decode cX5_wear 6 = .ok (.iload_n 1, 1) := dk_27 (dk_at dksX5_wear_0 6 rfl rfl)
theorem dX5_wear_7 : decode cX5_wear 7 = .ok (.invokevirtual 270, 3) := dk_182 1 14 (dk_at dksX5_wear_0 7 rfl rfl)
theorem dX5_wear_10 : decode cX5_wear 10 = .ok (.ifCond .eq 11, 3) := dk_153 0 11 (dk_at dksX5_wear_0 10 rfl rfl)
theorem dX5_wear_13 : decode cX5_wear 13 = .ok (.aload_n 0, 1) := dk_42 (dk_at dksX5_wear_0 13 rfl rfl)
theorem dX5_wear_14 : decode cX5_wear 14 = .ok (.iload_n 2, 1) := dk_28 (dk_at dksX5_wear_0 14 rfl rfl)
theorem dX5_wear_15 : decode cX5_wear 15 = .ok (.invokevirtual 280, 3) := dk_182 1 24 (dk_at dksX5_wear_0 15 rfl rfl)
theorem dX5_wear_18 : decode cX5_wear 18 = .ok (.ifCond .ne 5, 3) := dk_154 0 5 (dk_at dksX5_wear_0 18 rfl rfl)
theorem dX5_wear_21 : decode cX5_wear 21 = .ok (.iconst (-1), 1) := dk_2 (dk_at dksX5_wear_0 21 rfl rfl)
theorem dX5_wear_22 : decode cX5_wear 22 = .ok (.ireturn, 1) := dk_172 (dk_at dksX5_wear_0 22 rfl rfl)
theorem dX5_wear_23 : decode cX5_wear 23 = .ok (.aload_n 0, 1) := dk_42 (dk_at dksX5_wear_0 23 rfl rfl)
theorem dX5_wear_24 : decode cX5_wear 24 = .ok (.iload_n 1, 1) := dk_27 (dk_at dksX5_wear_1 0 rfl rfl)
theorem dX5_wear_25 : decode cX5_wear 25 = .ok (.iload_n 2, 1) := dk_28 (dk_at dksX5_wear_1 1 rfl rfl)
theorem dX5_wear_26 : decode cX5_wear 26 = .ok (.invokevirtual 311, 3) := dk_182 1 55 (dk_at dksX5_wear_1 2 rfl rfl)
theorem dX5_wear_29 : decode cX5_wear 29 = .ok (.istore_n 3, 1) := dk_62 (dk_at dksX5_wear_1 5 rfl rfl)
theorem dX5_wear_30 : decode cX5_wear 30 = .ok (.iload_n 3, 1) := dk_29 (dk_at dksX5_wear_1 6 rfl rfl)
theorem dX5_wear_31 : decode cX5_wear 31 = .ok (.ifCond .le 5, 3) := dk_158 0 5 (dk_at dksX5_wear_1 7 rfl rfl)
theorem dX5_wear_34 : decode cX5_wear 34 = .ok (.iload_n 3, 1) := dk_29 (dk_at dksX5_wear_1 10 rfl rfl)
theorem dX5_wear_35 : decode cX5_wear 35 = .ok (.ireturn, 1) := dk_172 (dk_at dksX5_wear_1 11 rfl rfl)
theorem dX5_wear_36 : decode cX5_wear 36 = .ok (.aload_n 0, 1) := dk_42 (dk_at dksX5_wear_1 12 rfl rfl)
theorem dX5_wear_37 : decode cX5_wear 37 = .ok (.invokevirtual 304, 3) := dk_182 1 48 (dk_at dksX5_wear_1 13 rfl rfl)
theorem dX5_wear_40 : decode cX5_wear 40 = .ok (.aload_n 0, 1) := dk_42 (dk_at dksX5_wear_1 16 rfl rfl)
theorem dX5_wear_41 : decode cX5_wear 41 = .ok (.iload_n 1, 1) := dk_27 (dk_at dksX5_wear_1 17 rfl rfl)
theorem dX5_wear_42 : decode cX5_wear 42 = .ok (.iload_n 2, 1) := dk_28 (dk_at dksX5_wear_1 18 rfl rfl)
theorem dX5_wear_43 : decode cX5_wear 43 = .ok (.invokevirtual 314, 3) := dk_182 1 58 (dk_at dksX5_wear_1 19 rfl rfl)
theorem dX5_wear_46 : decode cX5_wear 46 = .ok (.iconst 0, 1) := dk_3 (dk_at dksX5_wear_1 22 rfl rfl)
theorem dX5_wear_47 : decode cX5_wear 47 = .ok (.ireturn, 1) := dk_172 (dk_at dksX5_wear_1 23 rfl rfl)
set_option maxHeartbeats 4000000 in
set_option maxRecDepth 100000 in
noncomputable def fn_X5_wear (l0 : Option Nat) (l1 : Int32) (l2 : Int32) (h : cz_H) : cz_Z := cz_put h l0 [(5, 0)] (cz_i 0) (fun h1 => cz_rc h1 l0 [5] (cz_cI (fn_X5_isMan l0 l1 h1) (fun x9 h8 => (if x9 = 0 then some (.inl (some (cz_i (-1))), h8) else cz_rc h8 l0 [5] (cz_cI (fn_X5_isCoat l0 l2 h8) (fun x17 h16 => (if x17 = 0 then some (.inl (some (cz_i (-1))), h16) else cz_rc h16 l0 [5] (cz_cI (fn_X5_whyWear l0 l1 l2 h16) (fun x25 h24 => (if x25 ≤ 0 then cz_rc h24 l0 [5] (cz_cV (fn_X5_keepsAll l0 h24) (fun h32 => cz_rc h32 l0 [5] (cz_cV (fn_X5_wears l0 l1 l2 h32) (fun h39 => some (.inl (some (cz_i 0)), h39))))) else some (.inl (some (cz_i x25)), h24)))))))))))
set_option maxHeartbeats 4000000 in
set_option maxRecDepth 100000 in
theorem wk_X5_wear {K : cz_K} {D : cz_D} {h0 : cz_H} {oh : cz_O × cz_H} {l0 : Option Nat} {l1 : Int32} {l2 : Int32} {h : cz_H} (S : cz_S K D h0 cX5_wear 4 "HeldCoatsModel" ((Option.some Jvm.ClassFile.FieldType.int)) "wear" ([])) : cz_T K D 4 h0 oh 4 (fn_X5_wear l0 l1 l2 h) h 0 [(0, cz_r l0), (1, cz_i l1), (2, cz_i l2)] [] := by
  unfold fn_X5_wear
  refine ct_aload_n (k := 0) S dX5_wear_0 rfl rfl ?_
  refine ct_iconst (v := 0) S dX5_wear_1 kI_0 ?_
  refine ct_put S fw_X5_1 fp_X5_m_5_0 (cz_fits_i pd_I) dX5_wear_2 (fun h1 => ?_)
  refine ct_aload_n (k := 0) S dX5_wear_5 rfl rfl ?_
  refine ct_iload_n (k := 1) S dX5_wear_6 rfl rfl ?_
  refine ct_rc (fun b2 ci3 V4 hb5 hc6 hi7 => ?_)
  refine ct_cI (st := []) (cg_virtual (av := [cz_i l1]) S hb5 hc6 hi7 (fun _ e => mt_X5_isMan e) md_X5_isMan q2188 q2190 se_HeldCoatsModel_isMan__I_Z_HeldCoatsModel (by decide) (Nat.le_of_ble_eq_true rfl) rfl dX5_wear_7) (fun x9 h8 => ?_)
  refine ct_if_eq (tgt := 21) S dX5_wear_10 (by decide) ?_ ?_
  · refine ct_iconst (v := (-1)) S dX5_wear_21 kI_m1 ?_
    exact ct_iret S rfl dX5_wear_22
  · refine ct_aload_n (k := 0) S dX5_wear_13 rfl rfl ?_
    refine ct_iload_n (k := 2) S dX5_wear_14 rfl rfl ?_
    refine ct_rc (fun b10 ci11 V12 hb13 hc14 hi15 => ?_)
    refine ct_cI (st := []) (cg_virtual (av := [cz_i l2]) S hb13 hc14 hi15 (fun _ e => mt_X5_isCoat e) md_X5_isCoat q2219 q2221 se_HeldCoatsModel_isCoat__I_Z_HeldCoatsModel (by decide) (Nat.le_of_ble_eq_true rfl) rfl dX5_wear_15) (fun x17 h16 => ?_)
    refine ct_if_ne (tgt := 23) S dX5_wear_18 (by decide) ?_ ?_
    · refine ct_aload_n (k := 0) S dX5_wear_23 rfl rfl ?_
      refine ct_iload_n (k := 1) S dX5_wear_24 rfl rfl ?_
      refine ct_iload_n (k := 2) S dX5_wear_25 rfl rfl ?_
      refine ct_rc (fun b18 ci19 V20 hb21 hc22 hi23 => ?_)
      refine ct_cI (st := []) (cg_virtual (av := [cz_i l1, cz_i l2]) S hb21 hc22 hi23 (fun _ e => mt_X5_whyWear e) md_X5_whyWear q2259 q2261 se_HeldCoatsModel_whyWear__II_I_HeldCoatsModel (by decide) (Nat.le_of_ble_eq_true rfl) rfl dX5_wear_26) (fun x25 h24 => ?_)
      refine ct_istore_n (L' := [(3, cz_i x25), (0, cz_r l0), (1, cz_i l1), (2, cz_i l2)]) S dX5_wear_29 rfl (by decide) rfl ?_
      refine ct_iload_n (k := 0) S dX5_wear_30 rfl rfl ?_
      refine ct_if_le (tgt := 36) S dX5_wear_31 (by decide) ?_ ?_
      · refine ct_aload_n (k := 1) S dX5_wear_36 rfl rfl ?_
        refine ct_rc (fun b26 ci27 V28 hb29 hc30 hi31 => ?_)
        refine ct_cV (st := []) (cg_virtual (av := []) S hb29 hc30 hi31 (fun _ e => mt_X5_keepsAll e) md_X5_keepsAll q2247 q2249 se_HeldCoatsModel_keepsAll___V_HeldCoatsModel (by decide) (Nat.le_of_ble_eq_true rfl) rfl dX5_wear_37) (fun h32 => ?_)
        refine ct_aload_n (k := 1) S dX5_wear_40 rfl rfl ?_
        refine ct_iload_n (k := 2) S dX5_wear_41 rfl rfl ?_
        refine ct_iload_n (k := 3) S dX5_wear_42 rfl rfl ?_
        refine ct_rc (fun b33 ci34 V35 hb36 hc37 hi38 => ?_)
        refine ct_cV (st := []) (cg_virtual (av := [cz_i l1, cz_i l2]) S hb36 hc37 hi38 (fun _ e => mt_X5_wears e) md_X5_wears q2263 q2265 se_HeldCoatsModel_wears__II_V_HeldCoatsModel (by decide) (Nat.le_of_ble_eq_true rfl) rfl dX5_wear_43) (fun h39 => ?_)
        refine ct_iconst (v := 0) S dX5_wear_46 kI_0 ?_
        exact ct_iret S rfl dX5_wear_47
      · refine ct_iload_n (k := 0) S dX5_wear_34 rfl rfl ?_
        exact ct_iret S rfl dX5_wear_35
    · refine ct_iconst (v := (-1)) S dX5_wear_21 kI_m1 ?_
      exact ct_iret S rfl dX5_wear_22
theorem mt_X5_wear {l : Launch} {D : cz_D} {l0 : Option Nat} {l1 : Int32} {l2 : Int32} {h : cz_H} {oh : cz_O × cz_H} (hz : fn_X5_wear l0 l1 l2 h = some oh) : cz_M l D yX5_wear (ws_ yX5_wear cX5_wear 4 ((Option.some Jvm.ClassFile.FieldType.int))) 4 [cz_r l0, cz_i l1, cz_i l2] h oh := cz_met (plainFor_of_name (by decide)) (Nat.le_of_ble_eq_true rfl) hz (fun K hl S => wk_X5_wear S)
/-! HeldCoatsModel.word(I)I -/
def dkwX5_word_3 : List UInt8 := [167, 255, 211, 42, 182, 1, 104, 28, 172]
abbrev dktX5_word_3 : List UInt8 := dkwX5_word_3 ++ []
def dkwX5_word_2 : List UInt8 := [42, 4, 182, 1, 4, 159, 0, 7, 4, 167, 0, 4, 3, 96, 61, 42, 182, 1, 42, 132, 3, 1]
abbrev dktX5_word_2 : List UInt8 := dkwX5_word_2 ++ dktX5_word_3
def dkwX5_word_1 : List UInt8 := [62, 29, 27, 162, 0, 46, 42, 180, 0, 33, 16, 62, 46, 17, 1, 144, 162, 0, 33, 28, 42, 182, 1, 27]
abbrev dktX5_word_1 : List UInt8 := dkwX5_word_1 ++ dktX5_word_2
def dkwX5_word_0 : List UInt8 := [42, 3, 181, 0, 1, 27, 4, 16, 60, 184, 0, 171, 154, 0, 5, 2, 172, 42, 182, 1, 101, 3, 61, 3]
abbrev dktX5_word_0 : List UInt8 := dkwX5_word_0 ++ dktX5_word_1
theorem dksX5_word_0 : cX5_word.data.toList.drop 0 = dktX5_word_0 := by decide +kernel
theorem dksX5_word_1 : cX5_word.data.toList.drop 24 = dktX5_word_1 := dk_seg dksX5_word_0 24 rfl rfl
theorem dksX5_word_2 : cX5_word.data.toList.drop 48 = dktX5_word_2 := dk_seg dksX5_word_1 24 rfl rfl
theorem dksX5_word_3 : cX5_word.data.toList.drop 70 = dktX5_word_3 := dk_seg dksX5_word_2 22 rfl rfl
theorem dX5_word_0 : decode cX5_word 0 = .ok (.aload_n 0, 1) := dk_42 (dk_at dksX5_word_0 0 rfl rfl)
theorem dX5_word_1 : decode cX5_word 1 = .ok (.iconst 0, 1) := dk_3 (dk_at dksX5_word_0 1 rfl rfl)
theorem dX5_word_2 : decode cX5_word 2 = .ok (.putfield 1, 3) := dk_181 0 1 (dk_at dksX5_word_0 2 rfl rfl)
theorem dX5_word_5 : decode cX5_word 5 = .ok (.iload_n 1, 1) := dk_27 (dk_at dksX5_word_0 5 rfl rfl)
theorem dX5_word_6 : decode cX5_word 6 = .ok (.iconst 1, 1) := dk_4 (dk_at dksX5_word_0 6 rfl rfl)
theorem dX5_word_7 : decode cX5_word 7 = .ok (.bipush 60, 2) := dk_16 60 (dk_at dksX5_word_0 7 rfl rfl)
theorem dX5_word_9 : decode cX5_word 9 = .ok (.invokestatic 171, 3) := dk_184 0 171 (dk_at dksX5_word_0 9 rfl rfl)
theorem dX5_word_12 : decode cX5_word 12 = .ok (.ifCond .ne 5, 3) := dk_154 0 5 (dk_at dksX5_word_0 12 rfl rfl)
theorem dX5_word_15 : decode cX5_word 15 = .ok (.iconst (-1), 1) := dk_2 (dk_at dksX5_word_0 15 rfl rfl)
theorem dX5_word_16 : decode cX5_word 16 = .ok (.ireturn, 1) := dk_172 (dk_at dksX5_word_0 16 rfl rfl)
theorem dX5_word_17 : decode cX5_word 17 = .ok (.aload_n 0, 1) := dk_42 (dk_at dksX5_word_0 17 rfl rfl)
theorem dX5_word_18 : decode cX5_word 18 = .ok (.invokevirtual 357, 3) := dk_182 1 101 (dk_at dksX5_word_0 18 rfl rfl)
theorem dX5_word_21 : decode cX5_word 21 = .ok (.iconst 0, 1) := dk_3 (dk_at dksX5_word_0 21 rfl rfl)
theorem dX5_word_22 : decode cX5_word 22 = .ok (.istore_n 2, 1) := dk_61 (dk_at dksX5_word_0 22 rfl rfl)
theorem dX5_word_23 : decode cX5_word 23 = .ok (.iconst 0, 1) := dk_3 (dk_at dksX5_word_0 23 rfl rfl)
theorem dX5_word_24 : decode cX5_word 24 = .ok (.istore_n 3, 1) := dk_62 (dk_at dksX5_word_1 0 rfl rfl)
theorem dX5_word_25 : decode cX5_word 25 = .ok (.iload_n 3, 1) := dk_29 (dk_at dksX5_word_1 1 rfl rfl)
theorem dX5_word_26 : decode cX5_word 26 = .ok (.iload_n 1, 1) := dk_27 (dk_at dksX5_word_1 2 rfl rfl)
theorem dX5_word_27 : decode cX5_word 27 = .ok (.if_icmp .ge 46, 3) := dk_162 0 46 (dk_at dksX5_word_1 3 rfl rfl)
theorem dX5_word_30 : decode cX5_word 30 = .ok (.aload_n 0, 1) := dk_42 (dk_at dksX5_word_1 6 rfl rfl)
theorem dX5_word_31 : decode cX5_word 31 = .ok (.getfield 33, 3) := dk_180 0 33 (dk_at dksX5_word_1 7 rfl rfl)
theorem dX5_word_34 : decode cX5_word 34 = .ok (.bipush 62, 2) := dk_16 62 (dk_at dksX5_word_1 10 rfl rfl)
theorem dX5_word_36 : decode cX5_word 36 = .ok (.iaload, 1) := dk_46 (dk_at dksX5_word_1 12 rfl rfl)
theorem dX5_word_37 : decode cX5_word 37 = .ok (.sipush 400, 3) := dk_17 1 144 (dk_at dksX5_word_1 13 rfl rfl)
theorem dX5_word_40 : decode cX5_word 40 = .ok (.if_icmp .ge 33, 3) := dk_162 0 33 (dk_at dksX5_word_1 16 rfl rfl)
theorem dX5_word_43 : decode cX5_word 43 = .ok (.iload_n 2, 1) := dk_28 (dk_at dksX5_word_1 19 rfl rfl)
theorem dX5_word_44 : decode cX5_word 44 = .ok (.aload_n 0, 1) := dk_42 (dk_at dksX5_word_1 20 rfl rfl)
theorem dX5_word_45 : decode cX5_word 45 = .ok (.invokevirtual 283, 3) := dk_182 1 27 (dk_at dksX5_word_1 21 rfl rfl)
theorem dX5_word_48 : decode cX5_word 48 = .ok (.aload_n 0, 1) := dk_42 (dk_at dksX5_word_2 0 rfl rfl)
theorem dX5_word_49 : decode cX5_word 49 = .ok (.iconst 1, 1) := dk_4 (dk_at dksX5_word_2 1 rfl rfl)
theorem dX5_word_50 : decode cX5_word 50 = .ok (.invokevirtual 260, 3) := dk_182 1 4 (dk_at dksX5_word_2 2 rfl rfl)
theorem dX5_word_53 : decode cX5_word 53 = .ok (.if_icmp .eq 7, 3) := dk_159 0 7 (dk_at dksX5_word_2 5 rfl rfl)
theorem dX5_word_56 : decode cX5_word 56 = .ok (.iconst 1, 1) := dk_4 (dk_at dksX5_word_2 8 rfl rfl)
theorem dX5_word_57 : decode cX5_word 57 = .ok (.goto 4, 3) := dk_167 0 4 (dk_at dksX5_word_2 9 rfl rfl)
theorem dX5_word_60 : decode cX5_word 60 = .ok (.iconst 0, 1) := dk_3 (dk_at dksX5_word_2 12 rfl rfl)
theorem dX5_word_61 : decode cX5_word 61 = .ok (.iadd, 1) := dk_96 (dk_at dksX5_word_2 13 rfl rfl)
theorem dX5_word_62 : decode cX5_word 62 = .ok (.istore_n 2, 1) := dk_61 (dk_at dksX5_word_2 14 rfl rfl)
theorem dX5_word_63 : decode cX5_word 63 = .ok (.aload_n 0, 1) := dk_42 (dk_at dksX5_word_2 15 rfl rfl)
theorem dX5_word_64 : decode cX5_word 64 = .ok (.invokevirtual 298, 3) := dk_182 1 42 (dk_at dksX5_word_2 16 rfl rfl)
theorem dX5_word_67 : decode cX5_word 67 = .ok (.iinc 3 1, 3) := dk_132 3 1 (dk_at dksX5_word_2 19 rfl rfl)
theorem dX5_word_70 : decode cX5_word 70 = .ok (.goto (-45), 3) := dk_167 255 211 (dk_at dksX5_word_3 0 rfl rfl)
theorem dX5_word_73 : decode cX5_word 73 = .ok (.aload_n 0, 1) := dk_42 (dk_at dksX5_word_3 3 rfl rfl)
theorem dX5_word_74 : decode cX5_word 74 = .ok (.invokevirtual 360, 3) := dk_182 1 104 (dk_at dksX5_word_3 4 rfl rfl)
theorem dX5_word_77 : decode cX5_word 77 = .ok (.iload_n 2, 1) := dk_28 (dk_at dksX5_word_3 7 rfl rfl)
theorem dX5_word_78 : decode cX5_word 78 = .ok (.ireturn, 1) := dk_172 (dk_at dksX5_word_3 8 rfl rfl)
set_option maxHeartbeats 4000000 in
set_option maxRecDepth 100000 in
noncomputable def fn_X5_word_25 (l0 : Option Nat) (l1 : Int32) (k0 : Int32 → cz_H → cz_Z) : Nat → Int32 → Int32 → cz_H → cz_Z
  | 0, _, _, _ => none
  | n + 1, l2, l3, h => (if l1 ≤ l3 then k0 l2 h else cz_getR h l0 [(5, 6)] (fun r11 => cz_iald h r11 62 (fun x12 => (if (400 : Int32) ≤ x12 then k0 l2 h else cz_rc h l0 [5] (cz_cI (fn_X5_ruler l0 h) (fun x20 h19 => cz_rc h19 l0 [5] (cz_cI (fn_X5_rulerBy l0 1 h19) (fun x28 h27 => (if x20 = x28 then cz_leti (l2 + 0) (fun x29 => cz_rc h27 l0 [5] (cz_cV (fn_X5_day l0 h27) (fun h36 => cz_leti (l3 + 1) (fun x37 => fn_X5_word_25 l0 l1 k0 n x29 x37 h36)))) else cz_leti (l2 + 1) (fun x38 => cz_rc h27 l0 [5] (cz_cV (fn_X5_day l0 h27) (fun h45 => cz_leti (l3 + 1) (fun x46 => fn_X5_word_25 l0 l1 k0 n x38 x46 h45)))))))))))))
set_option maxHeartbeats 4000000 in
set_option maxRecDepth 100000 in
theorem wk_X5_word_25 {K : cz_K} {D : cz_D} {h0 : cz_H} {oh : cz_O × cz_H} {l0 : Option Nat} {l1 : Int32} {k0 : Int32 → cz_H → cz_Z} (S : cz_S K D h0 cX5_word 4 "HeldCoatsModel" ((Option.some Jvm.ClassFile.FieldType.int)) "word" ([])) (hk0 : ∀ (e2 : Int32) (h : cz_H), cz_T K D 7 h0 oh 4 (k0 e2 h) h 73 [(0, cz_r l0), (2, cz_i e2)] []) : ∀ (n : Nat) (l2 : Int32) (l3 : Int32) (h : cz_H), cz_T K D 7 h0 oh 4 (fn_X5_word_25 l0 l1 k0 n l2 l3 h) h 25 [(0, cz_r l0), (1, cz_i l1), (2, cz_i l2), (3, cz_i l3)] [] := by
  intro n
  induction n with
  | zero => intros; exact ct_none
  | succ n ih =>
    intro l2 l3 h
    rw [fn_X5_word_25]
    refine ct_iload_n (k := 3) S dX5_word_25 rfl rfl ?_
    refine ct_iload_n (k := 1) S dX5_word_26 rfl rfl ?_
    refine ct_icmp_ge (tgt := 73) S dX5_word_27 (by decide) ?_ ?_
    · exact ct_sub [0, 2] rfl (hk0 l2 h)
    · refine ct_aload_n (k := 0) S dX5_word_30 rfl rfl ?_
      refine ct_getR S fw_X5_33 dX5_word_31 (fun r11 => ?_)
      refine ct_bipush (v := 62) S dX5_word_34 kB_62 ?_
      refine ct_iald S dX5_word_36 (fun x12 => ?_)
      refine ct_sipush (v := 400) S dX5_word_37 kS_400 ?_
      refine ct_icmp_ge (tgt := 73) S dX5_word_40 (by decide) ?_ ?_
      · exact ct_sub [0, 2] rfl (hk0 l2 h)
      · refine ct_iload_n (k := 2) S dX5_word_43 rfl rfl ?_
        refine ct_aload_n (k := 0) S dX5_word_44 rfl rfl ?_
        refine ct_rc (fun b13 ci14 V15 hb16 hc17 hi18 => ?_)
        refine ct_cI (st := [cz_i l2]) (cg_virtual (av := []) S hb16 hc17 hi18 (fun _ e => mt_X5_ruler e) md_X5_ruler q2227 q2229 se_HeldCoatsModel_ruler___I_HeldCoatsModel (by decide) (Nat.le_of_ble_eq_true rfl) rfl dX5_word_45) (fun x20 h19 => ?_)
        refine ct_aload_n (k := 0) S dX5_word_48 rfl rfl ?_
        refine ct_iconst (v := 1) S dX5_word_49 kI_1 ?_
        refine ct_rc (fun b21 ci22 V23 hb24 hc25 hi26 => ?_)
        refine ct_cI (st := [cz_i x20, cz_i l2]) (cg_virtual (av := [cz_i 1]) S hb24 hc25 hi26 (fun _ e => mt_X5_rulerBy e) md_X5_rulerBy q2231 q2233 se_HeldCoatsModel_rulerBy__Z_I_HeldCoatsModel (by decide) (Nat.le_of_ble_eq_true rfl) rfl dX5_word_50) (fun x28 h27 => ?_)
        refine ct_icmp_eq (tgt := 60) S dX5_word_53 (by decide) ?_ ?_
        · refine ct_iconst (v := 0) S dX5_word_60 kI_0 ?_
          refine ct_iadd S dX5_word_61 ?_
          refine ct_leti (fun x29 => ?_)
          refine ct_istore_n (L' := [(2, cz_i x29), (0, cz_r l0), (1, cz_i l1), (3, cz_i l3)]) S dX5_word_62 rfl (by decide) rfl ?_
          refine ct_aload_n (k := 1) S dX5_word_63 rfl rfl ?_
          refine ct_rc (fun b30 ci31 V32 hb33 hc34 hi35 => ?_)
          refine ct_cV (st := []) (cg_virtual (av := []) S hb33 hc34 hi35 (fun _ e => mt_X5_day e) md_X5_day q2295 q2297 se_HeldCoatsModel_day___V_HeldCoatsModel (by decide) (Nat.le_of_ble_eq_true rfl) rfl dX5_word_64) (fun h36 => ?_)
          refine ct_iincL (j := 3) (L2 := fun x37 => [(3, cz_i x37), (2, cz_i x29), (0, cz_r l0), (1, cz_i l1)]) S dX5_word_67 rfl kI_1 (by decide) (fun _ => rfl) (fun x37 => ?_)
          refine ct_goto (tgt := 25) S dX5_word_70 (by decide) ?_
          exact ct_sub [2, 3, 1, 0] rfl (ih x29 x37 h36)
        · refine ct_iconst (v := 1) S dX5_word_56 kI_1 ?_
          refine ct_goto (tgt := 61) S dX5_word_57 (by decide) ?_
          refine ct_iadd S dX5_word_61 ?_
          refine ct_leti (fun x38 => ?_)
          refine ct_istore_n (L' := [(2, cz_i x38), (0, cz_r l0), (1, cz_i l1), (3, cz_i l3)]) S dX5_word_62 rfl (by decide) rfl ?_
          refine ct_aload_n (k := 1) S dX5_word_63 rfl rfl ?_
          refine ct_rc (fun b39 ci40 V41 hb42 hc43 hi44 => ?_)
          refine ct_cV (st := []) (cg_virtual (av := []) S hb42 hc43 hi44 (fun _ e => mt_X5_day e) md_X5_day q2295 q2297 se_HeldCoatsModel_day___V_HeldCoatsModel (by decide) (Nat.le_of_ble_eq_true rfl) rfl dX5_word_64) (fun h45 => ?_)
          refine ct_iincL (j := 3) (L2 := fun x46 => [(3, cz_i x46), (2, cz_i x38), (0, cz_r l0), (1, cz_i l1)]) S dX5_word_67 rfl kI_1 (by decide) (fun _ => rfl) (fun x46 => ?_)
          refine ct_goto (tgt := 25) S dX5_word_70 (by decide) ?_
          exact ct_sub [2, 3, 1, 0] rfl (ih x38 x46 h45)
set_option maxHeartbeats 4000000 in
set_option maxRecDepth 100000 in
noncomputable def fn_X5_word (l0 : Option Nat) (l1 : Int32) (h : cz_H) : cz_Z := cz_put h l0 [(5, 0)] (cz_i 0) (fun h1 => cz_cI (fn_X5_isIn l1 1 60 h1) (fun x3 h2 => (if x3 = 0 then some (.inl (some (cz_i (-1))), h2) else cz_rc h2 l0 [5] (cz_cV (fn_X5_tries l0 h2) (fun h10 => fn_X5_word_25 l0 l1 (fun (e47 : Int32) (h48 : cz_H) => cz_rc h48 l0 [5] (cz_cV (fn_X5_back l0 h48) (fun h55 => some (.inl (some (cz_i e47)), h55)))) 1000 0 0 h10)))))
set_option maxHeartbeats 4000000 in
set_option maxRecDepth 100000 in
theorem wk_X5_word {K : cz_K} {D : cz_D} {h0 : cz_H} {oh : cz_O × cz_H} {l0 : Option Nat} {l1 : Int32} {h : cz_H} (S : cz_S K D h0 cX5_word 4 "HeldCoatsModel" ((Option.some Jvm.ClassFile.FieldType.int)) "word" ([])) : cz_T K D 7 h0 oh 4 (fn_X5_word l0 l1 h) h 0 [(0, cz_r l0), (1, cz_i l1)] [] := by
  unfold fn_X5_word
  refine ct_aload_n (k := 0) S dX5_word_0 rfl rfl ?_
  refine ct_iconst (v := 0) S dX5_word_1 kI_0 ?_
  refine ct_put S fw_X5_1 fp_X5_m_5_0 (cz_fits_i pd_I) dX5_word_2 (fun h1 => ?_)
  refine ct_iload_n (k := 1) S dX5_word_5 rfl rfl ?_
  refine ct_iconst (v := 1) S dX5_word_6 kI_1 ?_
  refine ct_bipush (v := 60) S dX5_word_7 kB_60 ?_
  refine ct_cI (st := []) (cg_static (av := [cz_i l1, cz_i 1, cz_i 60]) S (fun _ e => mt_X5_isIn e) md_X5_isIn (Or.inl q2122) q2123 (by decide) (Nat.le_of_ble_eq_true rfl) rfl dX5_word_9) (fun x3 h2 => ?_)
  refine ct_if_ne (tgt := 17) S dX5_word_12 (by decide) ?_ ?_
  · refine ct_aload_n (k := 0) S dX5_word_17 rfl rfl ?_
    refine ct_rc (fun b4 ci5 V6 hb7 hc8 hi9 => ?_)
    refine ct_cV (st := []) (cg_virtual (av := []) S hb7 hc8 hi9 (fun _ e => mt_X5_tries e) md_X5_tries q2370 q2372 se_HeldCoatsModel_tries___V_HeldCoatsModel (by decide) (Nat.le_of_ble_eq_true rfl) rfl dX5_word_18) (fun h10 => ?_)
    refine ct_iconst (v := 0) S dX5_word_21 kI_0 ?_
    refine ct_istore_n (L' := [(2, cz_i 0), (0, cz_r l0), (1, cz_i l1)]) S dX5_word_22 rfl (by decide) rfl ?_
    refine ct_iconst (v := 0) S dX5_word_23 kI_0 ?_
    refine ct_istore_n (L' := [(3, cz_i 0), (2, cz_i 0), (0, cz_r l0), (1, cz_i l1)]) S dX5_word_24 rfl (by decide) rfl ?_
    refine ct_sub [2, 3, 1, 0] (L' := [(0, cz_r l0), (1, cz_i l1), (2, cz_i 0), (3, cz_i 0)]) rfl (wk_X5_word_25 S ?_ 1000 0 0 h10)
    · intro e47 h48
      refine ct_aload_n (k := 0) S dX5_word_73 rfl rfl ?_
      refine ct_rc (fun b49 ci50 V51 hb52 hc53 hi54 => ?_)
      refine ct_cV (st := []) (cg_virtual (av := []) S hb52 hc53 hi54 (fun _ e => mt_X5_back e) md_X5_back q2374 q2376 se_HeldCoatsModel_back___V_HeldCoatsModel (by decide) (Nat.le_of_ble_eq_true rfl) rfl dX5_word_74) (fun h55 => ?_)
      refine ct_iload_n (k := 1) S dX5_word_77 rfl rfl ?_
      exact ct_iret S rfl dX5_word_78
  · refine ct_iconst (v := (-1)) S dX5_word_15 kI_m1 ?_
    exact ct_iret S rfl dX5_word_16
theorem mt_X5_word {l : Launch} {D : cz_D} {l0 : Option Nat} {l1 : Int32} {h : cz_H} {oh : cz_O × cz_H} (hz : fn_X5_word l0 l1 h = some oh) : cz_M l D yX5_word (ws_ yX5_word cX5_word 4 ((Option.some Jvm.ClassFile.FieldType.int))) 7 [cz_r l0, cz_i l1] h oh := cz_met (plainFor_of_name (by decide)) (Nat.le_of_ble_eq_true rfl) hz (fun K hl S => wk_X5_word S)
