/-! methods of the model, 3 (printed by wip/D-98934w/gen) -/
set_option maxRecDepth 100000
/-! HeldCoatsModel.capital()I -/
def dkwX5_capital_9 : List UInt8 := [42, 3, 181, 0, 231, 42, 180, 0, 222, 172]
abbrev dktX5_capital_9 : List UInt8 := dkwX5_capital_9 ++ []
def dkwX5_capital_8 : List UInt8 := [42, 180, 0, 33, 16, 81, 27, 96, 42, 180, 0, 33, 16, 38, 27, 96, 46, 79, 132, 1, 1, 167, 255, 193]
abbrev dktX5_capital_8 : List UInt8 := dkwX5_capital_8 ++ dktX5_capital_9
def dkwX5_capital_7 : List UInt8 := [16, 22, 27, 96, 46, 79, 42, 180, 0, 33, 16, 73, 27, 96, 42, 180, 0, 33, 16, 22, 27, 96, 46, 79]
abbrev dktX5_capital_7 : List UInt8 := dkwX5_capital_7 ++ dktX5_capital_8
def dkwX5_capital_6 : List UInt8 := [167, 255, 232, 3, 60, 27, 16, 8, 162, 0, 63, 42, 180, 0, 33, 16, 65, 27, 96, 42, 180, 0, 33]
abbrev dktX5_capital_6 : List UInt8 := dkwX5_capital_6 ++ dktX5_capital_7
def dkwX5_capital_5 : List UInt8 := [27, 16, 22, 162, 0, 24, 42, 180, 0, 43, 27, 42, 180, 0, 43, 16, 22, 27, 96, 47, 80, 132, 1, 1]
abbrev dktX5_capital_5 : List UInt8 := dkwX5_capital_5 ++ dktX5_capital_6
def dkwX5_capital_4 : List UInt8 := [16, 62, 162, 0, 12, 42, 180, 0, 37, 27, 46, 167, 0, 4, 3, 79, 132, 1, 1, 167, 255, 224, 3, 60]
abbrev dktX5_capital_4 : List UInt8 := dkwX5_capital_4 ++ dktX5_capital_5
def dkwX5_capital_3 : List UInt8 := [4, 96, 181, 0, 222, 167, 255, 216, 3, 60, 27, 17, 1, 43, 162, 0, 31, 42, 180, 0, 33, 27, 27]
abbrev dktX5_capital_3 : List UInt8 := dkwX5_capital_3 ++ dktX5_capital_4
def dkwX5_capital_2 : List UInt8 := [153, 0, 12, 42, 16, 59, 182, 0, 228, 154, 0, 10, 2, 42, 180, 0, 159, 100, 172, 42, 89, 180, 0, 222]
abbrev dktX5_capital_2 : List UInt8 := dkwX5_capital_2 ++ dktX5_capital_3
def dkwX5_capital_1 : List UInt8 := [181, 0, 193, 42, 182, 0, 126, 42, 182, 0, 168, 42, 180, 0, 139, 153, 0, 39, 42, 182, 0, 225]
abbrev dktX5_capital_1 : List UInt8 := dkwX5_capital_1 ++ dktX5_capital_2
def dkwX5_capital_0 : List UInt8 := [42, 3, 181, 0, 1, 42, 17, 3, 132, 182, 0, 219, 42, 3, 181, 0, 156, 42, 3, 181, 0, 222, 42, 3]
abbrev dktX5_capital_0 : List UInt8 := dkwX5_capital_0 ++ dktX5_capital_1
theorem dksX5_capital_0 : cX5_capital.data.toList.drop 0 = dktX5_capital_0 := by decide +kernel
theorem dksX5_capital_1 : cX5_capital.data.toList.drop 24 = dktX5_capital_1 := dk_seg dksX5_capital_0 24 rfl rfl
theorem dksX5_capital_2 : cX5_capital.data.toList.drop 46 = dktX5_capital_2 := dk_seg dksX5_capital_1 22 rfl rfl
theorem dksX5_capital_3 : cX5_capital.data.toList.drop 70 = dktX5_capital_3 := dk_seg dksX5_capital_2 24 rfl rfl
theorem dksX5_capital_4 : cX5_capital.data.toList.drop 93 = dktX5_capital_4 := dk_seg dksX5_capital_3 23 rfl rfl
theorem dksX5_capital_5 : cX5_capital.data.toList.drop 117 = dktX5_capital_5 := dk_seg dksX5_capital_4 24 rfl rfl
theorem dksX5_capital_6 : cX5_capital.data.toList.drop 141 = dktX5_capital_6 := dk_seg dksX5_capital_5 24 rfl rfl
theorem dksX5_capital_7 : cX5_capital.data.toList.drop 164 = dktX5_capital_7 := dk_seg dksX5_capital_6 23 rfl rfl
theorem dksX5_capital_8 : cX5_capital.data.toList.drop 188 = dktX5_capital_8 := dk_seg dksX5_capital_7 24 rfl rfl
theorem dksX5_capital_9 : cX5_capital.data.toList.drop 212 = dktX5_capital_9 := dk_seg dksX5_capital_8 24 rfl rfl
theorem dX5_capital_0 : decode cX5_capital 0 = .ok (.aload_n 0, 1) := dk_42 (dk_at dksX5_capital_0 0 rfl rfl)
theorem dX5_capital_1 : decode cX5_capital 1 = .ok (.iconst 0, 1) := dk_3 (dk_at dksX5_capital_0 1 rfl rfl)
theorem dX5_capital_2 : decode cX5_capital 2 = .ok (.putfield 1, 3) := dk_181 0 1 (dk_at dksX5_capital_0 2 rfl rfl)
theorem dX5_capital_5 : decode cX5_capital 5 = .ok (.aload_n 0, 1) := dk_42 (dk_at dksX5_capital_0 5 rfl rfl)
theorem dX5_capital_6 : decode cX5_capital 6 = .ok (.sipush 900, 3) := dk_17 3 132 (dk_at dksX5_capital_0 6 rfl rfl)
theorem dX5_capital_9 : decode cX5_capital 9 = .ok (.invokevirtual 219, 3) := dk_182 0 219 (dk_at dksX5_capital_0 9 rfl rfl)
theorem dX5_capital_12 : decode cX5_capital 12 = .ok (.aload_n 0, 1) := dk_42 (dk_at dksX5_capital_0 12 rfl rfl)
theorem dX5_capital_13 : decode cX5_capital 13 = .ok (.iconst 0, 1) := dk_3 (dk_at dksX5_capital_0 13 rfl rfl)
theorem dX5_capital_14 : decode cX5_capital 14 = .ok (.putfield 156, 3) := dk_181 0 156 (dk_at dksX5_capital_0 14 rfl rfl)
theorem dX5_capital_17 : decode cX5_capital 17 = .ok (.aload_n 0, 1) := dk_42 (dk_at dksX5_capital_0 17 rfl rfl)
theorem dX5_capital_18 : decode cX5_capital 18 = .ok (.iconst 0, 1) := dk_3 (dk_at dksX5_capital_0 18 rfl rfl)
theorem dX5_capital_19 : decode cX5_capital 19 = .ok (.putfield 222, 3) := dk_181 0 222 (dk_at dksX5_capital_0 19 rfl rfl)
theorem dX5_capital_22 : decode cX5_capital 22 = .ok (.aload_n 0, 1) := dk_42 (dk_at dksX5_capital_0 22 rfl rfl)
theorem dX5_capital_23 : decode cX5_capital 23 = .ok (.iconst 0, 1) := dk_3 (dk_at dksX5_capital_0 23 rfl rfl)
theorem dX5_capital_24 : decode cX5_capital 24 = .ok (.putfield 193, 3) := dk_181 0 193 (dk_at dksX5_capital_1 0 rfl rfl)
theorem dX5_capital_27 : decode cX5_capital 27 = .ok (.aload_n 0, 1) := dk_42 (dk_at dksX5_capital_1 3 rfl rfl)
theorem dX5_capital_28 : decode cX5_capital 28 = .ok (.invokevirtual 126, 3) := dk_182 0 126 (dk_at dksX5_capital_1 4 rfl rfl)
theorem dX5_capital_31 : decode cX5_capital 31 = .ok (.aload_n 0, 1) := dk_42 (dk_at dksX5_capital_1 7 rfl rfl)
theorem dX5_capital_32 : decode cX5_capital 32 = .ok (.invokevirtual 168, 3) := dk_182 0 168 (dk_at dksX5_capital_1 8 rfl rfl)
theorem dX5_capital_35 : decode cX5_capital 35 = .ok (.aload_n 0, 1) := dk_42 (dk_at dksX5_capital_1 11 rfl rfl)
theorem dX5_capital_36 : decode cX5_capital 36 = .ok (.getfield 139, 3) := dk_180 0 139 (dk_at dksX5_capital_1 12 rfl rfl)
theorem dX5_capital_39 : decode cX5_capital 39 = .ok (.ifCond .eq 39, 3) := dk_153 0 39 (dk_at dksX5_capital_1 15 rfl rfl)
theorem dX5_capital_42 : decode cX5_capital 42 = .ok (.aload_n 0, 1) := dk_42 (dk_at dksX5_capital_1 18 rfl rfl)
theorem dX5_capital_43 : decode cX5_capital 43 = .ok (.invokevirtual 225, 3) := dk_182 0 225 (dk_at dksX5_capital_1 19 rfl rfl)
theorem dX5_capital_46 : decode cX5_capital 46 = .ok (.ifCond .eq 12, 3) := dk_153 0 12 (dk_at dksX5_capital_2 0 rfl rfl)
theorem dX5_capital_49 : decode cX5_capital 49 = .ok (.aload_n 0, 1) := dk_42 (dk_at dksX5_capital_2 3 rfl rfl)
theorem dX5_capital_50 : decode cX5_capital 50 = .ok (.bipush 59, 2) := dk_16 59 (dk_at dksX5_capital_2 4 rfl rfl)
theorem dX5_capital_52 : decode cX5_capital 52 = .ok (.invokevirtual 228, 3) := dk_182 0 228 (dk_at dksX5_capital_2 6 rfl rfl)
theorem dX5_capital_55 : decode cX5_capital 55 = .ok (.ifCond .ne 10, 3) := dk_154 0 10 (dk_at dksX5_capital_2 9 rfl rfl)
theorem dX5_capital_58 : decode cX5_capital 58 = .ok (.iconst (-1), 1) := dk_2 (dk_at dksX5_capital_2 12 rfl rfl)
theorem dX5_capital_59 : decode cX5_capital 59 = .ok (.aload_n 0, 1) := dk_42 (dk_at dksX5_capital_2 13 rfl rfl)
theorem dX5_capital_60 : decode cX5_capital 60 = .ok (.getfield 159, 3) := dk_180 0 159 (dk_at dksX5_capital_2 14 rfl rfl)
theorem dX5_capital_63 : decode cX5_capital 63 = .ok (.isub, 1) := dk_100 (dk_at dksX5_capital_2 17 rfl rfl)
theorem dX5_capital_64 : decode cX5_capital 64 = .ok (.ireturn, 1) := dk_172 (dk_at dksX5_capital_2 18 rfl rfl)
theorem dX5_capital_65 : decode cX5_capital 65 = .ok (.aload_n 0, 1) := dk_42 (dk_at dksX5_capital_2 19 rfl rfl)
theorem dX5_capital_66 : decode cX5_capital 66 = .ok (.dup, 1) := dk_89 (dk_at dksX5_capital_2 20 rfl rfl)
theorem dX5_capital_67 : decode cX5_capital 67 = .ok (.getfield 222, 3) := dk_180 0 222 (dk_at dksX5_capital_2 21 rfl rfl)
theorem dX5_capital_70 : decode cX5_capital 70 = .ok (.iconst 1, 1) := dk_4 (dk_at dksX5_capital_3 0 rfl rfl)
theorem dX5_capital_71 : decode cX5_capital 71 = .ok (.iadd, 1) := dk_96 (dk_at dksX5_capital_3 1 rfl rfl)
theorem dX5_capital_72 : decode cX5_capital 72 = .ok (.putfield 222, 3) := dk_181 0 222 (dk_at dksX5_capital_3 2 rfl rfl)
theorem dX5_capital_75 : decode cX5_capital 75 = .ok (.goto (-40), 3) := dk_167 255 216 (dk_at dksX5_capital_3 5 rfl rfl)
theorem dX5_capital_78 : decode cX5_capital 78 = .ok (.iconst 0, 1) := dk_3 (dk_at dksX5_capital_3 8 rfl rfl)
theorem dX5_capital_79 : decode cX5_capital 79 = .ok (.istore_n 1, 1) := dk_60 (dk_at dksX5_capital_3 9 rfl rfl)
theorem dX5_capital_80 : decode cX5_capital 80 = .ok (.iload_n 1, 1) := dk_27 (dk_at dksX5_capital_3 10 rfl rfl)
theorem dX5_capital_81 : decode cX5_capital 81 = .ok (.sipush 299, 3) := dk_17 1 43 (dk_at dksX5_capital_3 11 rfl rfl)
theorem dX5_capital_84 : decode cX5_capital 84 = .ok (.if_icmp .ge 31, 3) := dk_162 0 31 (dk_at dksX5_capital_3 14 rfl rfl)
theorem dX5_capital_87 : decode cX5_capital 87 = .ok (.aload_n 0, 1) := dk_42 (dk_at dksX5_capital_3 17 rfl rfl)
theorem dX5_capital_88 : decode cX5_capital 88 = .ok (.getfield 33, 3) := dk_180 0 33 (dk_at dksX5_capital_3 18 rfl rfl)
theorem dX5_capital_91 : decode cX5_capital 91 = .ok (.iload_n 1, 1) := dk_27 (dk_at dksX5_capital_3 21 rfl rfl)
theorem dX5_capital_92 : decode cX5_capital 92 = .ok (.iload_n 1, 1) := dk_27 (dk_at dksX5_capital_3 22 rfl rfl)
theorem dX5_capital_93 : decode cX5_capital 93 = .ok (.bipush 62, 2) := dk_16 62 (dk_at dksX5_capital_4 0 rfl rfl)
theorem dX5_capital_95 : decode cX5_capital 95 = .ok (.if_icmp .ge 12, 3) := dk_162 0 12 (dk_at dksX5_capital_4 2 rfl rfl)
theorem dX5_capital_98 : decode cX5_capital 98 = .ok (.aload_n 0, 1) := dk_42 (dk_at dksX5_capital_4 5 rfl rfl)
theorem dX5_capital_99 : decode cX5_capital 99 = .ok (.getfield 37, 3) := dk_180 0 37 (dk_at dksX5_capital_4 6 rfl rfl)
theorem dX5_capital_102 : decode cX5_capital 102 = .ok (.iload_n 1, 1) := dk_27 (dk_at dksX5_capital_4 9 rfl rfl)
theorem dX5_capital_103 : decode cX5_capital 103 = .ok (.iaload, 1) := dk_46 (dk_at dksX5_capital_4 10 rfl rfl)
theorem dX5_capital_104 : decode cX5_capital 104 = .ok (.goto 4, 3) := dk_167 0 4 (dk_at dksX5_capital_4 11 rfl rfl)
theorem dX5_capital_107 : decode cX5_capital 107 = .ok (.iconst 0, 1) := dk_3 (dk_at dksX5_capital_4 14 rfl rfl)
theorem dX5_capital_108 : decode cX5_capital 108 = .ok (.iastore, 1) := dk_79 (dk_at dksX5_capital_4 15 rfl rfl)
theorem dX5_capital_109 : decode cX5_capital 109 = .ok (.iinc 1 1, 3) := dk_132 1 1 (dk_at dksX5_capital_4 16 rfl rfl)
theorem dX5_capital_112 : decode cX5_capital 112 = .ok (.goto (-32), 3) := dk_167 255 224 (dk_at dksX5_capital_4 19 rfl rfl)
theorem dX5_capital_115 : decode cX5_capital 115 = .ok (.iconst 0, 1) := dk_3 (dk_at dksX5_capital_4 22 rfl rfl)
theorem dX5_capital_116 : decode cX5_capital 116 = .ok (.istore_n 1, 1) := dk_60 (dk_at dksX5_capital_4 23 rfl rfl)
theorem dX5_capital_117 : decode cX5_capital 117 = .ok (.iload_n 1, 1) := dk_27 (dk_at dksX5_capital_5 0 rfl rfl)
theorem dX5_capital_118 : decode cX5_capital 118 = .ok (.bipush 22, 2) := dk_16 22 (dk_at dksX5_capital_5 1 rfl rfl)
theorem dX5_capital_120 : decode cX5_capital 120 = .ok (.if_icmp .ge 24, 3) := dk_162 0 24 (dk_at dksX5_capital_5 3 rfl rfl)
theorem dX5_capital_123 : decode cX5_capital 123 = .ok (.aload_n 0, 1) := dk_42 (dk_at dksX5_capital_5 6 rfl rfl)
theorem dX5_capital_124 : decode cX5_capital 124 = .ok (.getfield 43, 3) := dk_180 0 43 (dk_at dksX5_capital_5 7 rfl rfl)
theorem dX5_capital_127 : decode cX5_capital 127 = .ok (.iload_n 1, 1) := dk_27 (dk_at dksX5_capital_5 10 rfl rfl)
theorem dX5_capital_128 : decode cX5_capital 128 = .ok (.aload_n 0, 1) := dk_42 (dk_at dksX5_capital_5 11 rfl rfl)
theorem dX5_capital_129 : decode cX5_capital 129 = .ok (.getfield 43, 3) := dk_180 0 43 (dk_at dksX5_capital_5 12 rfl rfl)
theorem dX5_capital_132 : decode cX5_capital 132 = .ok (.bipush 22, 2) := dk_16 22 (dk_at dksX5_capital_5 15 rfl rfl)
theorem dX5_capital_134 : decode cX5_capital 134 = .ok (.iload_n 1, 1) := dk_27 (dk_at dksX5_capital_5 17 rfl rfl)
theorem dX5_capital_135 : decode cX5_capital 135 = .ok (.iadd, 1) := dk_96 (dk_at dksX5_capital_5 18 rfl rfl)
theorem dX5_capital_136 : decode cX5_capital 136 = .ok (.laload, 1) := dk_47 (dk_at dksX5_capital_5 19 rfl rfl)
theorem dX5_capital_137 : decode cX5_capital 137 = .ok (.lastore, 1) := dk_80 (dk_at dksX5_capital_5 20 rfl rfl)
theorem dX5_capital_138 : decode cX5_capital 138 = .ok (.iinc 1 1, 3) := dk_132 1 1 (dk_at dksX5_capital_5 21 rfl rfl)
theorem dX5_capital_141 : decode cX5_capital 141 = .ok (.goto (-24), 3) := dk_167 255 232 (dk_at dksX5_capital_6 0 rfl rfl)
theorem dX5_capital_144 : decode cX5_capital 144 = .ok (.iconst 0, 1) := dk_3 (dk_at dksX5_capital_6 3 rfl rfl)
theorem dX5_capital_145 : decode cX5_capital 145 = .ok (.istore_n 1, 1) := dk_60 (dk_at dksX5_capital_6 4 rfl rfl)
theorem dX5_capital_146 : decode cX5_capital 146 = .ok (.iload_n 1, 1) := dk_27 (dk_at dksX5_capital_6 5 rfl rfl)
theorem dX5_capital_147 : decode cX5_capital 147 = .ok (.bipush 8, 2) := dk_16 8 (dk_at dksX5_capital_6 6 rfl rfl)
theorem dX5_capital_149 : decode cX5_capital 149 = .ok (.if_icmp .ge 63, 3) := dk_162 0 63 (dk_at dksX5_capital_6 8 rfl rfl)
theorem dX5_capital_152 : decode cX5_capital 152 = .ok (.aload_n 0, 1) := dk_42 (dk_at dksX5_capital_6 11 rfl rfl)
theorem dX5_capital_153 : decode cX5_capital 153 = .ok (.getfield 33, 3) := dk_180 0 33 (dk_at dksX5_capital_6 12 rfl rfl)
theorem dX5_capital_156 : decode cX5_capital 156 = .ok (.bipush 65, 2) := dk_16 65 (dk_at dksX5_capital_6 15 rfl rfl)
theorem dX5_capital_158 : decode cX5_capital 158 = .ok (.iload_n 1, 1) := dk_27 (dk_at dksX5_capital_6 17 rfl rfl)
theorem dX5_capital_159 : decode cX5_capital 159 = .ok (.iadd, 1) := dk_96 (dk_at dksX5_capital_6 18 rfl rfl)
theorem dX5_capital_160 : decode cX5_capital 160 = .ok (.aload_n 0, 1) := dk_42 (dk_at dksX5_capital_6 19 rfl rfl)
theorem dX5_capital_161 : decode cX5_capital 161 = .ok (.getfield 33, 3) := dk_180 0 33 (dk_at dksX5_capital_6 20 rfl rfl)
theorem dX5_capital_164 : decode cX5_capital 164 = .ok (.bipush 22, 2) := dk_16 22 (dk_at dksX5_capital_7 0 rfl rfl)
theorem dX5_capital_166 : decode cX5_capital 166 = .ok (.iload_n 1, 1) := dk_27 (dk_at dksX5_capital_7 2 rfl rfl)
theorem dX5_capital_167 : decode cX5_capital 167 = .ok (.iadd, 1) := dk_96 (dk_at dksX5_capital_7 3 rfl rfl)
theorem dX5_capital_168 : decode cX5_capital 168 = .ok (.iaload, 1) := dk_46 (dk_at dksX5_capital_7 4 rfl rfl)
theorem dX5_capital_169 : decode cX5_capital 169 = .ok (.iastore, 1) := dk_79 (dk_at dksX5_capital_7 5 rfl rfl)
theorem dX5_capital_170 : decode cX5_capital 170 = .ok (.aload_n 0, 1) := dk_42 (dk_at dksX5_capital_7 6 rfl rfl)
theorem dX5_capital_171 : decode cX5_capital 171 = .ok (.getfield 33, 3) := dk_180 0 33 (dk_at dksX5_capital_7 7 rfl rfl)
theorem dX5_capital_174 : decode cX5_capital 174 = .ok (.bipush 73, 2) := dk_16 73 (dk_at dksX5_capital_7 10 rfl rfl)
theorem dX5_capital_176 : decode cX5_capital 176 = .ok (.iload_n 1, 1) := dk_27 (dk_at dksX5_capital_7 12 rfl rfl)
theorem dX5_capital_177 : decode cX5_capital 177 = .ok (.iadd, 1) := dk_96 (dk_at dksX5_capital_7 13 rfl rfl)
theorem dX5_capital_178 : decode cX5_capital 178 = .ok (.aload_n 0, 1) := dk_42 (dk_at dksX5_capital_7 14 rfl rfl)
theorem dX5_capital_179 : decode cX5_capital 179 = .ok (.getfield 33, 3) := dk_180 0 33 (dk_at dksX5_capital_7 15 rfl rfl)
theorem dX5_capital_182 : decode cX5_capital 182 = .ok (.bipush 22, 2) := dk_16 22 (dk_at dksX5_capital_7 18 rfl rfl)
theorem dX5_capital_184 : decode cX5_capital 184 = .ok (.iload_n 1, 1) := dk_27 (dk_at dksX5_capital_7 20 rfl rfl)
theorem dX5_capital_185 : decode cX5_capital 185 = .ok (.iadd, 1) := dk_96 (dk_at dksX5_capital_7 21 rfl rfl)
theorem dX5_capital_186 : decode cX5_capital 186 = .ok (.iaload, 1) := dk_46 (dk_at dksX5_capital_7 22 rfl rfl)
theorem dX5_capital_187 : decode cX5_capital 187 = .ok (.iastore, 1) := dk_79 (dk_at dksX5_capital_7 23 rfl rfl)
theorem dX5_capital_188 : decode cX5_capital 188 = .ok (.aload_n 0, 1) := dk_42 (dk_at dksX5_capital_8 0 rfl rfl)
theorem dX5_capital_189 : decode cX5_capital 189 = .ok (.getfield 33, 3) := dk_180 0 33 (dk_at dksX5_capital_8 1 rfl rfl)
theorem dX5_capital_192 : decode cX5_capital 192 = .ok (.bipush 81, 2) := dk_16 81 (dk_at dksX5_capital_8 4 rfl rfl)
theorem dX5_capital_194 : decode cX5_capital 194 = .ok (.iload_n 1, 1) := dk_27 (dk_at dksX5_capital_8 6 rfl rfl)
theorem dX5_capital_195 : decode cX5_capital 195 = .ok (.iadd, 1) := dk_96 (dk_at dksX5_capital_8 7 rfl rfl)
theorem dX5_capital_196 : decode cX5_capital 196 = .ok (.aload_n 0, 1) := dk_42 (dk_at dksX5_capital_8 8 rfl rfl)
theorem dX5_capital_197 : decode cX5_capital 197 = .ok (.getfield 33, 3) := dk_180 0 33 (dk_at dksX5_capital_8 9 rfl rfl)
theorem dX5_capital_200 : decode cX5_capital 200 = .ok (.bipush 38, 2) := dk_16 38 (dk_at dksX5_capital_8 12 rfl rfl)
theorem dX5_capital_202 : decode cX5_capital 202 = .ok (.iload_n 1, 1) := dk_27 (dk_at dksX5_capital_8 14 rfl rfl)
theorem dX5_capital_203 : decode cX5_capital 203 = .ok (.iadd, 1) := dk_96 (dk_at dksX5_capital_8 15 rfl rfl)
theorem dX5_capital_204 : decode cX5_capital 204 = .ok (.iaload, 1) := dk_46 (dk_at dksX5_capital_8 16 rfl rfl)
theorem dX5_capital_205 : decode cX5_capital 205 = .ok (.iastore, 1) := dk_79 (dk_at dksX5_capital_8 17 rfl rfl)
theorem dX5_capital_206 : decode cX5_capital 206 = .ok (.iinc 1 1, 3) := dk_132 1 1 (dk_at dksX5_capital_8 18 rfl rfl)
theorem dX5_capital_209 : decode cX5_capital 209 = .ok (.goto (-63), 3) := dk_167 255 193 (dk_at dksX5_capital_8 21 rfl rfl)
theorem dX5_capital_212 : decode cX5_capital 212 = .ok (.aload_n 0, 1) := dk_42 (dk_at dksX5_capital_9 0 rfl rfl)
theorem dX5_capital_213 : decode cX5_capital 213 = .ok (.iconst 0, 1) := dk_3 (dk_at dksX5_capital_9 1 rfl rfl)
theorem dX5_capital_214 : decode cX5_capital 214 = .ok (.putfield 231, 3) := dk_181 0 231 (dk_at dksX5_capital_9 2 rfl rfl)
theorem dX5_capital_217 : decode cX5_capital 217 = .ok (.aload_n 0, 1) := dk_42 (dk_at dksX5_capital_9 5 rfl rfl)
theorem dX5_capital_218 : decode cX5_capital 218 = .ok (.getfield 222, 3) := dk_180 0 222 (dk_at dksX5_capital_9 6 rfl rfl)
theorem dX5_capital_221 : decode cX5_capital 221 = .ok (.ireturn, 1) := dk_172 (dk_at dksX5_capital_9 9 rfl rfl)
theorem fw_X5_222 : cz_FW "HeldCoatsModel" 222 [(5, 19)] "I" := ⟨"HeldCoatsModel", "lines", Or.inl q1937, List.forall_mem_cons.mpr ⟨⟨RX5, TX5, 49, rfl, by decide, rfl, rfl, Or.inl rfl⟩, fun _ h => absurd h List.not_mem_nil⟩, by decide⟩
theorem fp_X5_m_5_19 {nm : String} : cz_FP "HeldCoatsModel" nm [(5, 19)] := List.forall_mem_cons.mpr ⟨⟨RX5, TX5, 49, rfl, Or.inl rfl⟩, fun _ h => absurd h List.not_mem_nil⟩
theorem se_HeldCoatsModel_clears___V_HeldCoatsModel : ∀ c ∈ ([5] : List Nat), ∃ q : vw_C, cz_cl[c]? = some q ∧ Cond.selects q.1 (⟨"HeldCoatsModel", "clears", "()V"⟩ : MethodName) (⟨"HeldCoatsModel", "clears", "()V"⟩ : MethodName) ∈ lw_all := List.forall_mem_cons.mpr ⟨⟨_, cz_cl5, qs45⟩, fun _ h => absurd h List.not_mem_nil⟩
theorem md_X5_clears : cz_md yX5_clears 2 (ws_ yX5_clears cX5_clears 2 ((Option.none : Option Jvm.ClassFile.FieldType))) 0 := ⟨cz_ws_code q1917, q123, ⟨by decide, by decide, by decide +kernel⟩, by decide⟩
theorem se_HeldCoatsModel_line___Z_HeldCoatsModel : ∀ c ∈ ([5] : List Nat), ∃ q : vw_C, cz_cl[c]? = some q ∧ Cond.selects q.1 (⟨"HeldCoatsModel", "line", "()Z"⟩ : MethodName) (⟨"HeldCoatsModel", "line", "()Z"⟩ : MethodName) ∈ lw_all := List.forall_mem_cons.mpr ⟨⟨_, cz_cl5, qs49⟩, fun _ h => absurd h List.not_mem_nil⟩
theorem md_X5_line : cz_md yX5_line 2 (ws_ yX5_line cX5_line 2 ((Option.some Jvm.ClassFile.FieldType.boolean))) 0 := ⟨cz_ws_code q2093, q123, ⟨by decide, by decide, by decide +kernel⟩, by decide⟩
theorem kS_299 : (Int16.ofInt (299)).toInt32 = 299 := by decide
theorem kS_900 : (Int16.ofInt (900)).toInt32 = 900 := by decide
set_option maxHeartbeats 4000000 in
set_option maxRecDepth 100000 in
noncomputable def fn_X5_capital_35 (l0 : Option Nat) (k0 : cz_H → cz_Z) (k1 : cz_H → cz_Z) : Nat → cz_H → cz_Z
  | 0, _ => none
  | n + 1, h => cz_getI h l0 [(5, 11)] (fun x26 => (if x26 = 0 then k1 h else cz_rc h l0 [5] (cz_cI (fn_X5_line l0 h) (fun x34 h33 => (if x34 = 0 then k0 h33 else cz_rc h33 l0 [5] (cz_cI (fn_X5_sign l0 59 h33) (fun x42 h41 => (if x42 = 0 then k0 h41 else cz_getI h41 l0 [(5, 19)] (fun x43 => cz_put h41 l0 [(5, 19)] (cz_i (x43 + 1)) (fun h44 => fn_X5_capital_35 l0 k0 k1 n h44))))))))))
set_option maxHeartbeats 4000000 in
set_option maxRecDepth 100000 in
theorem wk_X5_capital_35 {K : cz_K} {D : cz_D} {h0 : cz_H} {oh : cz_O × cz_H} {l0 : Option Nat} {k0 : cz_H → cz_Z} {k1 : cz_H → cz_Z} (S : cz_S K D h0 cX5_capital 2 "HeldCoatsModel" ((Option.some Jvm.ClassFile.FieldType.int)) "capital" ([])) (hk0 : ∀ (h : cz_H), cz_T K D 8 h0 oh 2 (k0 h) h 58 [(0, cz_r l0)] []) (hk1 : ∀ (h : cz_H), cz_T K D 8 h0 oh 2 (k1 h) h 78 [(0, cz_r l0)] []) : ∀ (n : Nat) (h : cz_H), cz_T K D 8 h0 oh 2 (fn_X5_capital_35 l0 k0 k1 n h) h 35 [(0, cz_r l0)] [] := by
  intro n
  induction n with
  | zero => intros; exact ct_none
  | succ n ih =>
    intro h
    rw [fn_X5_capital_35]
    refine ct_aload_n (k := 0) S dX5_capital_35 rfl rfl ?_
    refine ct_getI S fw_X5_139 dX5_capital_36 (fun x26 => ?_)
    refine ct_if_eq (tgt := 78) S dX5_capital_39 (by decide) ?_ ?_
    · exact hk1 h
    · refine ct_aload_n (k := 0) S dX5_capital_42 rfl rfl ?_
      refine ct_rc (fun b27 ci28 V29 hb30 hc31 hi32 => ?_)
      refine ct_cI (st := []) (cg_virtual (av := []) S hb30 hc31 hi32 (fun _ e => mt_X5_line e) md_X5_line q2090 q2092 se_HeldCoatsModel_line___Z_HeldCoatsModel (by decide) (Nat.le_of_ble_eq_true rfl) rfl dX5_capital_43) (fun x34 h33 => ?_)
      refine ct_if_eq (tgt := 58) S dX5_capital_46 (by decide) ?_ ?_
      · exact hk0 h33
      · refine ct_aload_n (k := 0) S dX5_capital_49 rfl rfl ?_
        refine ct_bipush (v := 59) S dX5_capital_50 kB_59 ?_
        refine ct_rc (fun b35 ci36 V37 hb38 hc39 hi40 => ?_)
        refine ct_cI (st := []) (cg_virtual (av := [cz_i 59]) S hb38 hc39 hi40 (fun _ e => mt_X5_sign e) md_X5_sign q2144 q2146 se_HeldCoatsModel_sign__I_Z_HeldCoatsModel (by decide) (Nat.le_of_ble_eq_true rfl) rfl dX5_capital_52) (fun x42 h41 => ?_)
        refine ct_if_ne (tgt := 65) S dX5_capital_55 (by decide) ?_ ?_
        · refine ct_aload_n (k := 0) S dX5_capital_65 rfl rfl ?_
          refine ct_dup S dX5_capital_66 rfl ?_
          refine ct_getI S fw_X5_222 dX5_capital_67 (fun x43 => ?_)
          refine ct_iconst (v := 1) S dX5_capital_70 kI_1 ?_
          refine ct_iadd S dX5_capital_71 ?_
          refine ct_put S fw_X5_222 fp_X5_m_5_19 (cz_fits_i pd_I) dX5_capital_72 (fun h44 => ?_)
          refine ct_goto (tgt := 35) S dX5_capital_75 (by decide) ?_
          exact ih h44
        · exact hk0 h41
set_option maxHeartbeats 4000000 in
set_option maxRecDepth 100000 in
noncomputable def fn_X5_capital_80 (l0 : Option Nat) (k0 : cz_H → cz_Z) : Nat → Int32 → cz_H → cz_Z
  | 0, _, _ => none
  | n + 1, l1, h => (if (299 : Int32) ≤ l1 then k0 h else cz_getR h l0 [(5, 6)] (fun r48 => (if (62 : Int32) ≤ l1 then cz_iast h r48 l1 0 (fun h49 => cz_leti (l1 + 1) (fun x50 => fn_X5_capital_80 l0 k0 n x50 h49)) else cz_getR h l0 [(5, 7)] (fun r51 => cz_iald h r51 l1 (fun x52 => cz_iast h r48 l1 x52 (fun h53 => cz_leti (l1 + 1) (fun x54 => fn_X5_capital_80 l0 k0 n x54 h53)))))))
set_option maxHeartbeats 4000000 in
set_option maxRecDepth 100000 in
theorem wk_X5_capital_80 {K : cz_K} {D : cz_D} {h0 : cz_H} {oh : cz_O × cz_H} {l0 : Option Nat} {k0 : cz_H → cz_Z} (S : cz_S K D h0 cX5_capital 2 "HeldCoatsModel" ((Option.some Jvm.ClassFile.FieldType.int)) "capital" ([])) (hk0 : ∀ (h : cz_H), cz_T K D 8 h0 oh 2 (k0 h) h 115 [(0, cz_r l0)] []) : ∀ (n : Nat) (l1 : Int32) (h : cz_H), cz_T K D 8 h0 oh 2 (fn_X5_capital_80 l0 k0 n l1 h) h 80 [(0, cz_r l0), (1, cz_i l1)] [] := by
  intro n
  induction n with
  | zero => intros; exact ct_none
  | succ n ih =>
    intro l1 h
    rw [fn_X5_capital_80]
    refine ct_iload_n (k := 1) S dX5_capital_80 rfl rfl ?_
    refine ct_sipush (v := 299) S dX5_capital_81 kS_299 ?_
    refine ct_icmp_ge (tgt := 115) S dX5_capital_84 (by decide) ?_ ?_
    · exact ct_sub [0] rfl (hk0 h)
    · refine ct_aload_n (k := 0) S dX5_capital_87 rfl rfl ?_
      refine ct_getR S fw_X5_33 dX5_capital_88 (fun r48 => ?_)
      refine ct_iload_n (k := 1) S dX5_capital_91 rfl rfl ?_
      refine ct_iload_n (k := 1) S dX5_capital_92 rfl rfl ?_
      refine ct_bipush (v := 62) S dX5_capital_93 kB_62 ?_
      refine ct_icmp_ge (tgt := 107) S dX5_capital_95 (by decide) ?_ ?_
      · refine ct_iconst (v := 0) S dX5_capital_107 kI_0 ?_
        refine ct_iast S dX5_capital_108 (fun h49 => ?_)
        refine ct_iincL (j := 1) (L2 := fun x50 => [(1, cz_i x50), (0, cz_r l0)]) S dX5_capital_109 rfl kI_1 (by decide) (fun _ => rfl) (fun x50 => ?_)
        refine ct_goto (tgt := 80) S dX5_capital_112 (by decide) ?_
        exact ct_sub [1, 0] rfl (ih x50 h49)
      · refine ct_aload_n (k := 0) S dX5_capital_98 rfl rfl ?_
        refine ct_getR S fw_X5_37 dX5_capital_99 (fun r51 => ?_)
        refine ct_iload_n (k := 1) S dX5_capital_102 rfl rfl ?_
        refine ct_iald S dX5_capital_103 (fun x52 => ?_)
        refine ct_goto (tgt := 108) S dX5_capital_104 (by decide) ?_
        refine ct_iast S dX5_capital_108 (fun h53 => ?_)
        refine ct_iincL (j := 1) (L2 := fun x54 => [(1, cz_i x54), (0, cz_r l0)]) S dX5_capital_109 rfl kI_1 (by decide) (fun _ => rfl) (fun x54 => ?_)
        refine ct_goto (tgt := 80) S dX5_capital_112 (by decide) ?_
        exact ct_sub [1, 0] rfl (ih x54 h53)
set_option maxHeartbeats 4000000 in
set_option maxRecDepth 100000 in
noncomputable def fn_X5_capital_117 (l0 : Option Nat) (k0 : cz_H → cz_Z) : Nat → Int32 → cz_H → cz_Z
  | 0, _, _ => none
  | n + 1, l1, h => (if (22 : Int32) ≤ l1 then k0 h else cz_getR h l0 [(5, 9)] (fun r56 => cz_getR h l0 [(5, 9)] (fun r57 => cz_lald h r57 ((22 : Int32) + l1) (fun y58 => cz_last h r56 l1 y58 (fun h59 => cz_leti (l1 + 1) (fun x60 => fn_X5_capital_117 l0 k0 n x60 h59))))))
set_option maxHeartbeats 4000000 in
set_option maxRecDepth 100000 in
theorem wk_X5_capital_117 {K : cz_K} {D : cz_D} {h0 : cz_H} {oh : cz_O × cz_H} {l0 : Option Nat} {k0 : cz_H → cz_Z} (S : cz_S K D h0 cX5_capital 2 "HeldCoatsModel" ((Option.some Jvm.ClassFile.FieldType.int)) "capital" ([])) (hk0 : ∀ (h : cz_H), cz_T K D 8 h0 oh 2 (k0 h) h 144 [(0, cz_r l0)] []) : ∀ (n : Nat) (l1 : Int32) (h : cz_H), cz_T K D 8 h0 oh 2 (fn_X5_capital_117 l0 k0 n l1 h) h 117 [(0, cz_r l0), (1, cz_i l1)] [] := by
  intro n
  induction n with
  | zero => intros; exact ct_none
  | succ n ih =>
    intro l1 h
    rw [fn_X5_capital_117]
    refine ct_iload_n (k := 1) S dX5_capital_117 rfl rfl ?_
    refine ct_bipush (v := 22) S dX5_capital_118 kB_22 ?_
    refine ct_icmp_ge (tgt := 144) S dX5_capital_120 (by decide) ?_ ?_
    · exact ct_sub [0] rfl (hk0 h)
    · refine ct_aload_n (k := 0) S dX5_capital_123 rfl rfl ?_
      refine ct_getR S fw_X5_43 dX5_capital_124 (fun r56 => ?_)
      refine ct_iload_n (k := 1) S dX5_capital_127 rfl rfl ?_
      refine ct_aload_n (k := 0) S dX5_capital_128 rfl rfl ?_
      refine ct_getR S fw_X5_43 dX5_capital_129 (fun r57 => ?_)
      refine ct_bipush (v := 22) S dX5_capital_132 kB_22 ?_
      refine ct_iload_n (k := 1) S dX5_capital_134 rfl rfl ?_
      refine ct_iadd S dX5_capital_135 ?_
      refine ct_lald S dX5_capital_136 (fun y58 => ?_)
      refine ct_last S dX5_capital_137 (fun h59 => ?_)
      refine ct_iincL (j := 1) (L2 := fun x60 => [(1, cz_i x60), (0, cz_r l0)]) S dX5_capital_138 rfl kI_1 (by decide) (fun _ => rfl) (fun x60 => ?_)
      refine ct_goto (tgt := 117) S dX5_capital_141 (by decide) ?_
      exact ct_sub [1, 0] rfl (ih x60 h59)
set_option maxHeartbeats 4000000 in
set_option maxRecDepth 100000 in
noncomputable def fn_X5_capital_146 (l0 : Option Nat) (k0 : cz_H → cz_Z) : Nat → Int32 → cz_H → cz_Z
  | 0, _, _ => none
  | n + 1, l1, h => (if (8 : Int32) ≤ l1 then k0 h else cz_getR h l0 [(5, 6)] (fun r62 => cz_getR h l0 [(5, 6)] (fun r63 => cz_iald h r63 ((22 : Int32) + l1) (fun x64 => cz_iast h r62 ((65 : Int32) + l1) x64 (fun h65 => cz_getR h65 l0 [(5, 6)] (fun r66 => cz_getR h65 l0 [(5, 6)] (fun r67 => cz_iald h65 r67 ((22 : Int32) + l1) (fun x68 => cz_iast h65 r66 ((73 : Int32) + l1) x68 (fun h69 => cz_getR h69 l0 [(5, 6)] (fun r70 => cz_getR h69 l0 [(5, 6)] (fun r71 => cz_iald h69 r71 ((38 : Int32) + l1) (fun x72 => cz_iast h69 r70 ((81 : Int32) + l1) x72 (fun h73 => cz_leti (l1 + 1) (fun x74 => fn_X5_capital_146 l0 k0 n x74 h73))))))))))))))
set_option maxHeartbeats 4000000 in
set_option maxRecDepth 100000 in
theorem wk_X5_capital_146 {K : cz_K} {D : cz_D} {h0 : cz_H} {oh : cz_O × cz_H} {l0 : Option Nat} {k0 : cz_H → cz_Z} (S : cz_S K D h0 cX5_capital 2 "HeldCoatsModel" ((Option.some Jvm.ClassFile.FieldType.int)) "capital" ([])) (hk0 : ∀ (h : cz_H), cz_T K D 8 h0 oh 2 (k0 h) h 212 [(0, cz_r l0)] []) : ∀ (n : Nat) (l1 : Int32) (h : cz_H), cz_T K D 8 h0 oh 2 (fn_X5_capital_146 l0 k0 n l1 h) h 146 [(0, cz_r l0), (1, cz_i l1)] [] := by
  intro n
  induction n with
  | zero => intros; exact ct_none
  | succ n ih =>
    intro l1 h
    rw [fn_X5_capital_146]
    refine ct_iload_n (k := 1) S dX5_capital_146 rfl rfl ?_
    refine ct_bipush (v := 8) S dX5_capital_147 kB_8 ?_
    refine ct_icmp_ge (tgt := 212) S dX5_capital_149 (by decide) ?_ ?_
    · exact ct_sub [0] rfl (hk0 h)
    · refine ct_aload_n (k := 0) S dX5_capital_152 rfl rfl ?_
      refine ct_getR S fw_X5_33 dX5_capital_153 (fun r62 => ?_)
      refine ct_bipush (v := 65) S dX5_capital_156 kB_65 ?_
      refine ct_iload_n (k := 1) S dX5_capital_158 rfl rfl ?_
      refine ct_iadd S dX5_capital_159 ?_
      refine ct_aload_n (k := 0) S dX5_capital_160 rfl rfl ?_
      refine ct_getR S fw_X5_33 dX5_capital_161 (fun r63 => ?_)
      refine ct_bipush (v := 22) S dX5_capital_164 kB_22 ?_
      refine ct_iload_n (k := 1) S dX5_capital_166 rfl rfl ?_
      refine ct_iadd S dX5_capital_167 ?_
      refine ct_iald S dX5_capital_168 (fun x64 => ?_)
      refine ct_iast S dX5_capital_169 (fun h65 => ?_)
      refine ct_aload_n (k := 0) S dX5_capital_170 rfl rfl ?_
      refine ct_getR S fw_X5_33 dX5_capital_171 (fun r66 => ?_)
      refine ct_bipush (v := 73) S dX5_capital_174 kB_73 ?_
      refine ct_iload_n (k := 1) S dX5_capital_176 rfl rfl ?_
      refine ct_iadd S dX5_capital_177 ?_
      refine ct_aload_n (k := 0) S dX5_capital_178 rfl rfl ?_
      refine ct_getR S fw_X5_33 dX5_capital_179 (fun r67 => ?_)
      refine ct_bipush (v := 22) S dX5_capital_182 kB_22 ?_
      refine ct_iload_n (k := 1) S dX5_capital_184 rfl rfl ?_
      refine ct_iadd S dX5_capital_185 ?_
      refine ct_iald S dX5_capital_186 (fun x68 => ?_)
      refine ct_iast S dX5_capital_187 (fun h69 => ?_)
      refine ct_aload_n (k := 0) S dX5_capital_188 rfl rfl ?_
      refine ct_getR S fw_X5_33 dX5_capital_189 (fun r70 => ?_)
      refine ct_bipush (v := 81) S dX5_capital_192 kB_81 ?_
      refine ct_iload_n (k := 1) S dX5_capital_194 rfl rfl ?_
      refine ct_iadd S dX5_capital_195 ?_
      refine ct_aload_n (k := 0) S dX5_capital_196 rfl rfl ?_
      refine ct_getR S fw_X5_33 dX5_capital_197 (fun r71 => ?_)
      refine ct_bipush (v := 38) S dX5_capital_200 kB_38 ?_
      refine ct_iload_n (k := 1) S dX5_capital_202 rfl rfl ?_
      refine ct_iadd S dX5_capital_203 ?_
      refine ct_iald S dX5_capital_204 (fun x72 => ?_)
      refine ct_iast S dX5_capital_205 (fun h73 => ?_)
      refine ct_iincL (j := 1) (L2 := fun x74 => [(1, cz_i x74), (0, cz_r l0)]) S dX5_capital_206 rfl kI_1 (by decide) (fun _ => rfl) (fun x74 => ?_)
      refine ct_goto (tgt := 146) S dX5_capital_209 (by decide) ?_
      exact ct_sub [1, 0] rfl (ih x74 h73)
set_option maxHeartbeats 4000000 in
set_option maxRecDepth 100000 in
noncomputable def fn_X5_capital (l0 : Option Nat) (h : cz_H) : cz_Z := cz_put h l0 [(5, 0)] (cz_i 0) (fun h1 => cz_rc h1 l0 [5] (cz_cV (fn_X5_taken l0 900 h1) (fun h8 => cz_put h8 l0 [(5, 15)] (cz_i 0) (fun h9 => cz_put h9 l0 [(5, 19)] (cz_i 0) (fun h10 => cz_put h10 l0 [(5, 20)] (cz_i 0) (fun h11 => cz_rc h11 l0 [5] (cz_cV (fn_X5_clears l0 h11) (fun h18 => cz_rc h18 l0 [5] (cz_cV (fn_X5_next l0 h18) (fun h25 => fn_X5_capital_35 l0 (fun (h45 : cz_H) => cz_getI h45 l0 [(5, 16)] (fun x46 => some (.inl (some (cz_i (((-1) : Int32) - x46))), h45))) (fun (h47 : cz_H) => fn_X5_capital_80 l0 (fun (h55 : cz_H) => fn_X5_capital_117 l0 (fun (h61 : cz_H) => fn_X5_capital_146 l0 (fun (h75 : cz_H) => cz_put h75 l0 [(5, 23)] (cz_i 0) (fun h76 => cz_getI h76 l0 [(5, 19)] (fun x77 => some (.inl (some (cz_i x77)), h76)))) 1000 0 h61) 1000 0 h55) 1000 0 h47) 1000 h25))))))))))
set_option maxHeartbeats 4000000 in
set_option maxRecDepth 100000 in
theorem wk_X5_capital {K : cz_K} {D : cz_D} {h0 : cz_H} {oh : cz_O × cz_H} {l0 : Option Nat} {h : cz_H} (S : cz_S K D h0 cX5_capital 2 "HeldCoatsModel" ((Option.some Jvm.ClassFile.FieldType.int)) "capital" ([])) : cz_T K D 8 h0 oh 2 (fn_X5_capital l0 h) h 0 [(0, cz_r l0)] [] := by
  unfold fn_X5_capital
  refine ct_aload_n (k := 0) S dX5_capital_0 rfl rfl ?_
  refine ct_iconst (v := 0) S dX5_capital_1 kI_0 ?_
  refine ct_put S fw_X5_1 fp_X5_m_5_0 (cz_fits_i pd_I) dX5_capital_2 (fun h1 => ?_)
  refine ct_aload_n (k := 0) S dX5_capital_5 rfl rfl ?_
  refine ct_sipush (v := 900) S dX5_capital_6 kS_900 ?_
  refine ct_rc (fun b2 ci3 V4 hb5 hc6 hi7 => ?_)
  refine ct_cV (st := []) (cg_virtual (av := [cz_i 900]) S hb5 hc6 hi7 (fun _ e => mt_X5_taken e) md_X5_taken q2072 q2074 se_HeldCoatsModel_taken__I_V_HeldCoatsModel (by decide) (Nat.le_of_ble_eq_true rfl) rfl dX5_capital_9) (fun h8 => ?_)
  refine ct_aload_n (k := 0) S dX5_capital_12 rfl rfl ?_
  refine ct_iconst (v := 0) S dX5_capital_13 kI_0 ?_
  refine ct_put S fw_X5_156 fp_X5_m_5_15 (cz_fits_i pd_I) dX5_capital_14 (fun h9 => ?_)
  refine ct_aload_n (k := 0) S dX5_capital_17 rfl rfl ?_
  refine ct_iconst (v := 0) S dX5_capital_18 kI_0 ?_
  refine ct_put S fw_X5_222 fp_X5_m_5_19 (cz_fits_i pd_I) dX5_capital_19 (fun h10 => ?_)
  refine ct_aload_n (k := 0) S dX5_capital_22 rfl rfl ?_
  refine ct_iconst (v := 0) S dX5_capital_23 kI_0 ?_
  refine ct_put S fw_X5_193 fp_X5_m_5_20 (cz_fits_i pd_I) dX5_capital_24 (fun h11 => ?_)
  refine ct_aload_n (k := 0) S dX5_capital_27 rfl rfl ?_
  refine ct_rc (fun b12 ci13 V14 hb15 hc16 hi17 => ?_)
  refine ct_cV (st := []) (cg_virtual (av := []) S hb15 hc16 hi17 (fun _ e => mt_X5_clears e) md_X5_clears q1914 q1916 se_HeldCoatsModel_clears___V_HeldCoatsModel (by decide) (Nat.le_of_ble_eq_true rfl) rfl dX5_capital_28) (fun h18 => ?_)
  refine ct_aload_n (k := 0) S dX5_capital_31 rfl rfl ?_
  refine ct_rc (fun b19 ci20 V21 hb22 hc23 hi24 => ?_)
  refine ct_cV (st := []) (cg_virtual (av := []) S hb22 hc23 hi24 (fun _ e => mt_X5_next e) md_X5_next q2076 q2078 se_HeldCoatsModel_next___V_HeldCoatsModel (by decide) (Nat.le_of_ble_eq_true rfl) rfl dX5_capital_32) (fun h25 => ?_)
  refine ct_sub [0] (L' := [(0, cz_r l0)]) rfl (wk_X5_capital_35 S ?_ ?_ 1000 h25)
  · intro h45
    refine ct_iconst (v := (-1)) S dX5_capital_58 kI_m1 ?_
    refine ct_aload_n (k := 0) S dX5_capital_59 rfl rfl ?_
    refine ct_getI S fw_X5_159 dX5_capital_60 (fun x46 => ?_)
    refine ct_isub S dX5_capital_63 ?_
    exact ct_iret S rfl dX5_capital_64
  · intro h47
    refine ct_iconst (v := 0) S dX5_capital_78 kI_0 ?_
    refine ct_istore_n (L' := [(1, cz_i 0), (0, cz_r l0)]) S dX5_capital_79 rfl (by decide) rfl ?_
    refine ct_sub [1, 0] (L' := [(0, cz_r l0), (1, cz_i 0)]) rfl (wk_X5_capital_80 S ?_ 1000 0 h47)
    · intro h55
      refine ct_iconst (v := 0) S dX5_capital_115 kI_0 ?_
      refine ct_istore_n (L' := [(1, cz_i 0), (0, cz_r l0)]) S dX5_capital_116 rfl (by decide) rfl ?_
      refine ct_sub [1, 0] (L' := [(0, cz_r l0), (1, cz_i 0)]) rfl (wk_X5_capital_117 S ?_ 1000 0 h55)
      · intro h61
        refine ct_iconst (v := 0) S dX5_capital_144 kI_0 ?_
        refine ct_istore_n (L' := [(1, cz_i 0), (0, cz_r l0)]) S dX5_capital_145 rfl (by decide) rfl ?_
        refine ct_sub [1, 0] (L' := [(0, cz_r l0), (1, cz_i 0)]) rfl (wk_X5_capital_146 S ?_ 1000 0 h61)
        · intro h75
          refine ct_aload_n (k := 0) S dX5_capital_212 rfl rfl ?_
          refine ct_iconst (v := 0) S dX5_capital_213 kI_0 ?_
          refine ct_put S fw_X5_231 fp_X5_m_5_23 (cz_fits_i pd_I) dX5_capital_214 (fun h76 => ?_)
          refine ct_aload_n (k := 0) S dX5_capital_217 rfl rfl ?_
          refine ct_getI S fw_X5_222 dX5_capital_218 (fun x77 => ?_)
          exact ct_iret S rfl dX5_capital_221
theorem mt_X5_capital {l : Launch} {D : cz_D} {l0 : Option Nat} {h : cz_H} {oh : cz_O × cz_H} (hz : fn_X5_capital l0 h = some oh) : cz_M l D yX5_capital (ws_ yX5_capital cX5_capital 2 ((Option.some Jvm.ClassFile.FieldType.int))) 8 [cz_r l0] h oh := cz_met (plainFor_of_name (by decide)) (Nat.le_of_ble_eq_true rfl) hz (fun K hl S => wk_X5_capital S)
/-! HeldCoatsModel.throwsIf(Z)Z -/
def dkwX5_throwsIf_0 : List UInt8 := [42, 27, 153, 0, 7, 4, 167, 0, 4, 3, 181, 0, 1, 27, 172]
abbrev dktX5_throwsIf_0 : List UInt8 := dkwX5_throwsIf_0 ++ []
theorem dksX5_throwsIf_0 : cX5_throwsIf.data.toList.drop 0 = dktX5_throwsIf_0 := by decide +kernel
theorem dX5_throwsIf_0 : decode cX5_throwsIf 0 = .ok (.aload_n 0, 1) := dk_42 (dk_at dksX5_throwsIf_0 0 rfl rfl)
theorem dX5_throwsIf_1 : decode cX5_throwsIf 1 = .ok (.iload_n 1, 1) := dk_27 (dk_at dksX5_throwsIf_0 1 rfl rfl)
theorem dX5_throwsIf_2 : decode cX5_throwsIf 2 = .ok (.ifCond .eq 7, 3) := dk_153 0 7 (dk_at dksX5_throwsIf_0 2 rfl rfl)
theorem dX5_throwsIf_5 : decode cX5_throwsIf 5 = .ok (.iconst 1, 1) := dk_4 (dk_at dksX5_throwsIf_0 5 rfl rfl)
theorem dX5_throwsIf_6 : decode cX5_throwsIf 6 = .ok (.goto 4, 3) := dk_167 0 4 (dk_at dksX5_throwsIf_0 6 rfl rfl)
theorem dX5_throwsIf_9 : decode cX5_throwsIf 9 = .ok (.iconst 0, 1) := dk_3 (dk_at dksX5_throwsIf_0 9 rfl rfl)
theorem dX5_throwsIf_10 : decode cX5_throwsIf 10 = .ok (.putfield 1, 3) := dk_181 0 1 (dk_at dksX5_throwsIf_0 10 rfl rfl)
theorem dX5_throwsIf_13 : decode cX5_throwsIf 13 = .ok (.iload_n 1, 1) := dk_27 (dk_at dksX5_throwsIf_0 13 rfl rfl)
theorem dX5_throwsIf_14 : decode cX5_throwsIf 14 = .ok (.ireturn, 1) := dk_172 (dk_at dksX5_throwsIf_0 14 rfl rfl)
set_option maxHeartbeats 4000000 in
set_option maxRecDepth 100000 in
noncomputable def fn_X5_throwsIf (l0 : Option Nat) (l1 : Int32) (h : cz_H) : cz_Z := (if l1 = 0 then cz_put h l0 [(5, 0)] (cz_i 0) (fun h1 => cz_ckz l1 (some (.inl (some (cz_i l1)), h1))) else cz_put h l0 [(5, 0)] (cz_i 1) (fun h2 => cz_ckz l1 (some (.inl (some (cz_i l1)), h2))))
set_option maxHeartbeats 4000000 in
set_option maxRecDepth 100000 in
theorem wk_X5_throwsIf {K : cz_K} {D : cz_D} {h0 : cz_H} {oh : cz_O × cz_H} {l0 : Option Nat} {l1 : Int32} {h : cz_H} (S : cz_S K D h0 cX5_throwsIf 2 "HeldCoatsModel" ((Option.some Jvm.ClassFile.FieldType.boolean)) "throwsIf" ([])) : cz_T K D 2 h0 oh 2 (fn_X5_throwsIf l0 l1 h) h 0 [(0, cz_r l0), (1, cz_i l1)] [] := by
  unfold fn_X5_throwsIf
  refine ct_aload_n (k := 0) S dX5_throwsIf_0 rfl rfl ?_
  refine ct_iload_n (k := 1) S dX5_throwsIf_1 rfl rfl ?_
  refine ct_if_eq (tgt := 9) S dX5_throwsIf_2 (by decide) ?_ ?_
  · refine ct_iconst (v := 0) S dX5_throwsIf_9 kI_0 ?_
    refine ct_put S fw_X5_1 fp_X5_m_5_0 (cz_fits_i pd_I) dX5_throwsIf_10 (fun h1 => ?_)
    refine ct_iload_n (k := 1) S dX5_throwsIf_13 rfl rfl ?_
    refine ct_ckz (fun hx => ?_)
    exact ct_zr (ty := .boolean) S rfl (cz_nz hx) dX5_throwsIf_14
  · refine ct_iconst (v := 1) S dX5_throwsIf_5 kI_1 ?_
    refine ct_goto (tgt := 10) S dX5_throwsIf_6 (by decide) ?_
    refine ct_put S fw_X5_1 fp_X5_m_5_0 (cz_fits_i pd_I) dX5_throwsIf_10 (fun h2 => ?_)
    refine ct_iload_n (k := 1) S dX5_throwsIf_13 rfl rfl ?_
    refine ct_ckz (fun hx => ?_)
    exact ct_zr (ty := .boolean) S rfl (cz_nz hx) dX5_throwsIf_14
theorem mt_X5_throwsIf {l : Launch} {D : cz_D} {l0 : Option Nat} {l1 : Int32} {h : cz_H} {oh : cz_O × cz_H} (hz : fn_X5_throwsIf l0 l1 h = some oh) : cz_M l D yX5_throwsIf (ws_ yX5_throwsIf cX5_throwsIf 2 ((Option.some Jvm.ClassFile.FieldType.boolean))) 2 [cz_r l0, cz_i l1] h oh := cz_met (plainFor_of_name (by decide)) (Nat.le_of_ble_eq_true rfl) hz (fun K hl S => wk_X5_throwsIf S)
/-! HeldCoatsModel.coat(II)I -/
def dkwX5_coat_5 : List UInt8 := [46, 172]
abbrev dktX5_coat_5 : List UInt8 := dkwX5_coat_5 ++ []
def dkwX5_coat_4 : List UInt8 := [16, 81, 27, 96, 46, 172, 42, 180, 0, 33, 16, 65, 27, 96, 46, 172, 42, 180, 0, 33, 16, 73, 27, 96]
abbrev dktX5_coat_4 : List UInt8 := dkwX5_coat_4 ++ dktX5_coat_5
def dkwX5_coat_3 : List UInt8 := [42, 180, 0, 33, 16, 22, 27, 96, 46, 172, 42, 180, 0, 33, 16, 30, 27, 96, 46, 172, 42, 180, 0, 33]
abbrev dktX5_coat_3 : List UInt8 := dkwX5_coat_3 ++ dktX5_coat_4
def dkwX5_coat_2 : List UInt8 := [170, 0, 0, 0, 0, 0, 0, 72, 0, 0, 0, 0, 0, 0, 0, 3, 0, 0, 0, 32, 0, 0, 0, 42, 0, 0, 0, 52, 0, 0, 0, 62]
abbrev dktX5_coat_2 : List UInt8 := dkwX5_coat_2 ++ dktX5_coat_3
def dkwX5_coat_1 : List UInt8 := [182, 1, 17, 153, 0, 5, 3, 172, 28]
abbrev dktX5_coat_1 : List UInt8 := dkwX5_coat_1 ++ dktX5_coat_2
def dkwX5_coat_0 : List UInt8 := [42, 42, 27, 182, 1, 24, 153, 0, 12, 28, 3, 7, 184, 0, 171, 154, 0, 7, 4, 167, 0, 4, 3]
abbrev dktX5_coat_0 : List UInt8 := dkwX5_coat_0 ++ dktX5_coat_1
theorem dksX5_coat_0 : cX5_coat.data.toList.drop 0 = dktX5_coat_0 := by decide +kernel
theorem dksX5_coat_1 : cX5_coat.data.toList.drop 23 = dktX5_coat_1 := dk_seg dksX5_coat_0 23 rfl rfl
theorem dksX5_coat_2 : cX5_coat.data.toList.drop 32 = dktX5_coat_2 := dk_seg dksX5_coat_1 9 rfl rfl
theorem dksX5_coat_3 : cX5_coat.data.toList.drop 64 = dktX5_coat_3 := dk_seg dksX5_coat_2 32 rfl rfl
theorem dksX5_coat_4 : cX5_coat.data.toList.drop 88 = dktX5_coat_4 := dk_seg dksX5_coat_3 24 rfl rfl
theorem dksX5_coat_5 : cX5_coat.data.toList.drop 112 = dktX5_coat_5 := dk_seg dksX5_coat_4 24 rfl rfl
theorem dX5_coat_0 : decode cX5_coat 0 = .ok (.aload_n 0, 1) := dk_42 (dk_at dksX5_coat_0 0 rfl rfl)
theorem dX5_coat_1 : decode cX5_coat 1 = .ok (.aload_n 0, 1) := dk_42 (dk_at dksX5_coat_0 1 rfl rfl)
theorem dX5_coat_2 : decode cX5_coat 2 = .ok (.iload_n 1, 1) := dk_27 (dk_at dksX5_coat_0 2 rfl rfl)
theorem dX5_coat_3 : decode cX5_coat 3 = .ok (.invokevirtual 280, 3) := dk_182 1 24 (dk_at dksX5_coat_0 3 rfl rfl)
theorem dX5_coat_6 : decode cX5_coat 6 = .ok (.ifCond .eq 12, 3) := dk_153 0 12 (dk_at dksX5_coat_0 6 rfl rfl)
theorem dX5_coat_9 : decode cX5_coat 9 = .ok (.iload_n 2, 1) := dk_28 (dk_at dksX5_coat_0 9 rfl rfl)
theorem dX5_coat_10 : decode cX5_coat 10 = .ok (.iconst 0, 1) := dk_3 (dk_at dksX5_coat_0 10 rfl rfl)
theorem dX5_coat_11 : decode cX5_coat 11 = .ok (.iconst 4, 1) := dk_7 (dk_at dksX5_coat_0 11 rfl rfl)
theorem dX5_coat_12 : decode cX5_coat 12 = .ok (.invokestatic 171, 3) := dk_184 0 171 (dk_at dksX5_coat_0 12 rfl rfl)
theorem dX5_coat_15 : decode cX5_coat 15 = .ok (.ifCond .ne 7, 3) := dk_154 0 7 (dk_at dksX5_coat_0 15 rfl rfl)
theorem dX5_coat_18 : decode cX5_coat 18 = .ok (.iconst 1, 1) := dk_4 (dk_at dksX5_coat_0 18 rfl rfl)
theorem dX5_coat_19 : decode cX5_coat 19 = .ok (.goto 4, 3) := dk_167 0 4 (dk_at dksX5_coat_0 19 rfl rfl)
theorem dX5_coat_22 : decode cX5_coat 22 = .ok (.iconst 0, 1) := dk_3 (dk_at dksX5_coat_0 22 rfl rfl)
theorem dX5_coat_23 : decode cX5_coat 23 = .ok (.invokevirtual 273, 3) := dk_182 1 17 (dk_at dksX5_coat_1 0 rfl rfl)
theorem dX5_coat_26 : decode cX5_coat 26 = .ok (.ifCond .eq 5, 3) := dk_153 0 5 (dk_at dksX5_coat_1 3 rfl rfl)
theorem dX5_coat_29 : decode cX5_coat 29 = .ok (.iconst 0, 1) := dk_3 (dk_at dksX5_coat_1 6 rfl rfl)
theorem dX5_coat_30 : decode cX5_coat 30 = .ok (.ireturn, 1) := dk_172 (dk_at dksX5_coat_1 7 rfl rfl)
theorem dX5_coat_31 : decode cX5_coat 31 = .ok (.iload_n 2, 1) := dk_28 (dk_at dksX5_coat_1 8 rfl rfl)
theorem dX5_coat_32 : decode cX5_coat 32 = .ok (.tableswitch 72 0 3 #[32, 42, 52, 62], 32) := by decide +kernel
theorem dX5_coat_64 : decode cX5_coat 64 = .ok (.aload_n 0, 1) := dk_42 (dk_at dksX5_coat_3 0 rfl rfl)
theorem dX5_coat_65 : decode cX5_coat 65 = .ok (.getfield 33, 3) := dk_180 0 33 (dk_at dksX5_coat_3 1 rfl rfl)
theorem dX5_coat_68 : decode cX5_coat 68 = .ok (.bipush 22, 2) := dk_16 22 (dk_at dksX5_coat_3 4 rfl rfl)
theorem dX5_coat_70 : decode cX5_coat 70 = .ok (.iload_n 1, 1) := dk_27 (dk_at dksX5_coat_3 6 rfl rfl)
theorem dX5_coat_71 : decode cX5_coat 71 = .ok (.iadd, 1) := dk_96 (dk_at dksX5_coat_3 7 rfl rfl)
theorem dX5_coat_72 : decode cX5_coat 72 = .ok (.iaload, 1) := dk_46 (dk_at dksX5_coat_3 8 rfl rfl)
theorem dX5_coat_73 : decode cX5_coat 73 = .ok (.ireturn, 1) := dk_172 (dk_at dksX5_coat_3 9 rfl rfl)
theorem dX5_coat_74 : decode cX5_coat 74 = .ok (.aload_n 0, 1) := dk_42 (dk_at dksX5_coat_3 10 rfl rfl)
theorem dX5_coat_75 : decode cX5_coat 75 = .ok (.getfield 33, 3) := dk_180 0 33 (dk_at dksX5_coat_3 11 rfl rfl)
theorem dX5_coat_78 : decode cX5_coat 78 = .ok (.bipush 30, 2) := dk_16 30 (dk_at dksX5_coat_3 14 rfl rfl)
theorem dX5_coat_80 : decode cX5_coat 80 = .ok (.iload_n 1, 1) := dk_27 (dk_at dksX5_coat_3 16 rfl rfl)
theorem dX5_coat_81 : decode cX5_coat 81 = .ok (.iadd, 1) := dk_96 (dk_at dksX5_coat_3 17 rfl rfl)
theorem dX5_coat_82 : decode cX5_coat 82 = .ok (.iaload, 1) := dk_46 (dk_at dksX5_coat_3 18 rfl rfl)
theorem dX5_coat_83 : decode cX5_coat 83 = .ok (.ireturn, 1) := dk_172 (dk_at dksX5_coat_3 19 rfl rfl)
theorem dX5_coat_84 : decode cX5_coat 84 = .ok (.aload_n 0, 1) := dk_42 (dk_at dksX5_coat_3 20 rfl rfl)
theorem dX5_coat_85 : decode cX5_coat 85 = .ok (.getfield 33, 3) := dk_180 0 33 (dk_at dksX5_coat_3 21 rfl rfl)
theorem dX5_coat_88 : decode cX5_coat 88 = .ok (.bipush 81, 2) := dk_16 81 (dk_at dksX5_coat_4 0 rfl rfl)
theorem dX5_coat_90 : decode cX5_coat 90 = .ok (.iload_n 1, 1) := dk_27 (dk_at dksX5_coat_4 2 rfl rfl)
theorem dX5_coat_91 : decode cX5_coat 91 = .ok (.iadd, 1) := dk_96 (dk_at dksX5_coat_4 3 rfl rfl)
theorem dX5_coat_92 : decode cX5_coat 92 = .ok (.iaload, 1) := dk_46 (dk_at dksX5_coat_4 4 rfl rfl)
theorem dX5_coat_93 : decode cX5_coat 93 = .ok (.ireturn, 1) := dk_172 (dk_at dksX5_coat_4 5 rfl rfl)
theorem dX5_coat_94 : decode cX5_coat 94 = .ok (.aload_n 0, 1) := dk_42 (dk_at dksX5_coat_4 6 rfl rfl)
theorem dX5_coat_95 : decode cX5_coat 95 = .ok (.getfield 33, 3) := dk_180 0 33 (dk_at dksX5_coat_4 7 rfl rfl)
theorem dX5_coat_98 : decode cX5_coat 98 = .ok (.bipush 65, 2) := dk_16 65 (dk_at dksX5_coat_4 10 rfl rfl)
theorem dX5_coat_100 : decode cX5_coat 100 = .ok (.iload_n 1, 1) := dk_27 (dk_at dksX5_coat_4 12 rfl rfl)
theorem dX5_coat_101 : decode cX5_coat 101 = .ok (.iadd, 1) := dk_96 (dk_at dksX5_coat_4 13 rfl rfl)
theorem dX5_coat_102 : decode cX5_coat 102 = .ok (.iaload, 1) := dk_46 (dk_at dksX5_coat_4 14 rfl rfl)
theorem dX5_coat_103 : decode cX5_coat 103 = .ok (.ireturn, 1) := dk_172 (dk_at dksX5_coat_4 15 rfl rfl)
theorem dX5_coat_104 : decode cX5_coat 104 = .ok (.aload_n 0, 1) := dk_42 (dk_at dksX5_coat_4 16 rfl rfl)
theorem dX5_coat_105 : decode cX5_coat 105 = .ok (.getfield 33, 3) := dk_180 0 33 (dk_at dksX5_coat_4 17 rfl rfl)
theorem dX5_coat_108 : decode cX5_coat 108 = .ok (.bipush 73, 2) := dk_16 73 (dk_at dksX5_coat_4 20 rfl rfl)
theorem dX5_coat_110 : decode cX5_coat 110 = .ok (.iload_n 1, 1) := dk_27 (dk_at dksX5_coat_4 22 rfl rfl)
theorem dX5_coat_111 : decode cX5_coat 111 = .ok (.iadd, 1) := dk_96 (dk_at dksX5_coat_4 23 rfl rfl)
theorem dX5_coat_112 : decode cX5_coat 112 = .ok (.iaload, 1) := dk_46 (dk_at dksX5_coat_5 0 rfl rfl)
theorem dX5_coat_113 : decode cX5_coat 113 = .ok (.ireturn, 1) := dk_172 (dk_at dksX5_coat_5 1 rfl rfl)
theorem se_HeldCoatsModel_throwsIf__Z_Z_HeldCoatsModel : ∀ c ∈ ([5] : List Nat), ∃ q : vw_C, cz_cl[c]? = some q ∧ Cond.selects q.1 (⟨"HeldCoatsModel", "throwsIf", "(Z)Z"⟩ : MethodName) (⟨"HeldCoatsModel", "throwsIf", "(Z)Z"⟩ : MethodName) ∈ lw_all := List.forall_mem_cons.mpr ⟨⟨_, cz_cl5, qs70⟩, fun _ h => absurd h List.not_mem_nil⟩
theorem md_X5_throwsIf : cz_md yX5_throwsIf 2 (ws_ yX5_throwsIf cX5_throwsIf 2 ((Option.some Jvm.ClassFile.FieldType.boolean))) 1 := ⟨cz_ws_code q2195, q123, ⟨by decide, by decide, by decide +kernel⟩, by decide⟩
set_option maxHeartbeats 4000000 in
set_option maxRecDepth 100000 in
noncomputable def fn_X5_coat (l0 : Option Nat) (l1 : Int32) (l2 : Int32) (h : cz_H) : cz_Z := cz_rc h l0 [5] (cz_cI (fn_X5_isCoat l0 l1 h) (fun x8 h7 => cz_jn (fun (v9 : Int32) (h10 : cz_H) => cz_rc h10 l0 [5] (cz_cI (fn_X5_throwsIf l0 v9 h10) (fun x18 h17 => (if x18 = 0 then (if l2 = 0 then cz_getR h17 l0 [(5, 6)] (fun r27 => cz_iald h17 r27 ((22 : Int32) + l1) (fun x28 => some (.inl (some (cz_i x28)), h17))) else if l2 = 1 then cz_getR h17 l0 [(5, 6)] (fun r25 => cz_iald h17 r25 ((30 : Int32) + l1) (fun x26 => some (.inl (some (cz_i x26)), h17))) else if l2 = 2 then cz_getR h17 l0 [(5, 6)] (fun r23 => cz_iald h17 r23 ((81 : Int32) + l1) (fun x24 => some (.inl (some (cz_i x24)), h17))) else if l2 = 3 then cz_getR h17 l0 [(5, 6)] (fun r21 => cz_iald h17 r21 ((65 : Int32) + l1) (fun x22 => some (.inl (some (cz_i x22)), h17))) else cz_getR h17 l0 [(5, 6)] (fun r19 => cz_iald h17 r19 ((73 : Int32) + l1) (fun x20 => some (.inl (some (cz_i x20)), h17)))) else some (.inl (some (cz_i 0)), h17))))) (fun j29 => cz_jn (fun (h30 : cz_H) => j29 1 h30) (fun j31 => (if x8 = 0 then j31 h7 else cz_cI (fn_X5_isIn l2 0 4 h7) (fun x33 h32 => (if x33 = 0 then j31 h32 else j29 0 h32)))))))
set_option maxHeartbeats 4000000 in
set_option maxRecDepth 100000 in
theorem wk_X5_coat {K : cz_K} {D : cz_D} {h0 : cz_H} {oh : cz_O × cz_H} {l0 : Option Nat} {l1 : Int32} {l2 : Int32} {h : cz_H} (S : cz_S K D h0 cX5_coat 3 "HeldCoatsModel" ((Option.some Jvm.ClassFile.FieldType.int)) "coat" ([])) : cz_T K D 4 h0 oh 3 (fn_X5_coat l0 l1 l2 h) h 0 [(0, cz_r l0), (1, cz_i l1), (2, cz_i l2)] [] := by
  unfold fn_X5_coat
  refine ct_aload_n (k := 0) S dX5_coat_0 rfl rfl ?_
  refine ct_aload_n (k := 0) S dX5_coat_1 rfl rfl ?_
  refine ct_iload_n (k := 1) S dX5_coat_2 rfl rfl ?_
  refine ct_rc (fun b1 ci2 V3 hb4 hc5 hi6 => ?_)
  refine ct_cI (st := [cz_r l0]) (cg_virtual (av := [cz_i l1]) S hb4 hc5 hi6 (fun _ e => mt_X5_isCoat e) md_X5_isCoat q2219 q2221 se_HeldCoatsModel_isCoat__I_Z_HeldCoatsModel (by decide) (Nat.le_of_ble_eq_true rfl) rfl dX5_coat_3) (fun x8 h7 => ?_)
  refine ct_jnP (fun j29 => ∀ (v9 : Int32) (h10 : cz_H), cz_T K D 4 h0 oh 3 (j29 v9 h10) h10 23 [(0, cz_r l0), (1, cz_i l1), (2, cz_i l2)] [cz_i v9, cz_r l0]) (fun v9 h10 => ?_) (fun j29 Hj29 => ?_)
  · refine ct_rc (fun b11 ci12 V13 hb14 hc15 hi16 => ?_)
    refine ct_cI (st := []) (cg_virtual (av := [cz_i v9]) S hb14 hc15 hi16 (fun _ e => mt_X5_throwsIf e) md_X5_throwsIf q2192 q2194 se_HeldCoatsModel_throwsIf__Z_Z_HeldCoatsModel (by decide) (Nat.le_of_ble_eq_true rfl) rfl dX5_coat_23) (fun x18 h17 => ?_)
    refine ct_if_eq (tgt := 31) S dX5_coat_26 (by decide) ?_ ?_
    · refine ct_iload_n (k := 2) S dX5_coat_31 rfl rfl ?_
      refine ct_case ?_ (fun c0_ => ?_)
      · refine ct_tableIn (tgt := 64) S dX5_coat_32 (by decide) (by decide) rfl (by decide) ?_
        refine ct_aload_n (k := 0) S dX5_coat_64 rfl rfl ?_
        refine ct_getR S fw_X5_33 dX5_coat_65 (fun r27 => ?_)
        refine ct_bipush (v := 22) S dX5_coat_68 kB_22 ?_
        refine ct_iload_n (k := 1) S dX5_coat_70 rfl rfl ?_
        refine ct_iadd S dX5_coat_71 ?_
        refine ct_iald S dX5_coat_72 (fun x28 => ?_)
        exact ct_iret S rfl dX5_coat_73
      · refine ct_case ?_ (fun c1_ => ?_)
        · refine ct_tableIn (tgt := 74) S dX5_coat_32 (by decide) (by decide) rfl (by decide) ?_
          refine ct_aload_n (k := 0) S dX5_coat_74 rfl rfl ?_
          refine ct_getR S fw_X5_33 dX5_coat_75 (fun r25 => ?_)
          refine ct_bipush (v := 30) S dX5_coat_78 kB_30 ?_
          refine ct_iload_n (k := 1) S dX5_coat_80 rfl rfl ?_
          refine ct_iadd S dX5_coat_81 ?_
          refine ct_iald S dX5_coat_82 (fun x26 => ?_)
          exact ct_iret S rfl dX5_coat_83
        · refine ct_case ?_ (fun c2_ => ?_)
          · refine ct_tableIn (tgt := 84) S dX5_coat_32 (by decide) (by decide) rfl (by decide) ?_
            refine ct_aload_n (k := 0) S dX5_coat_84 rfl rfl ?_
            refine ct_getR S fw_X5_33 dX5_coat_85 (fun r23 => ?_)
            refine ct_bipush (v := 81) S dX5_coat_88 kB_81 ?_
            refine ct_iload_n (k := 1) S dX5_coat_90 rfl rfl ?_
            refine ct_iadd S dX5_coat_91 ?_
            refine ct_iald S dX5_coat_92 (fun x24 => ?_)
            exact ct_iret S rfl dX5_coat_93
          · refine ct_case ?_ (fun c3_ => ?_)
            · refine ct_tableIn (tgt := 94) S dX5_coat_32 (by decide) (by decide) rfl (by decide) ?_
              refine ct_aload_n (k := 0) S dX5_coat_94 rfl rfl ?_
              refine ct_getR S fw_X5_33 dX5_coat_95 (fun r21 => ?_)
              refine ct_bipush (v := 65) S dX5_coat_98 kB_65 ?_
              refine ct_iload_n (k := 1) S dX5_coat_100 rfl rfl ?_
              refine ct_iadd S dX5_coat_101 ?_
              refine ct_iald S dX5_coat_102 (fun x22 => ?_)
              exact ct_iret S rfl dX5_coat_103
            · refine ct_tableOut (tgt := 104) S dX5_coat_32 (by have := lv_neT c0_ (show (0 : Int32).toInt = 0 by decide); have := lv_neT c1_ (show (1 : Int32).toInt = 1 by decide); have := lv_neT c2_ (show (2 : Int32).toInt = 2 by decide); have := lv_neT c3_ (show (3 : Int32).toInt = 3 by decide); omega) (by decide) ?_
              refine ct_aload_n (k := 0) S dX5_coat_104 rfl rfl ?_
              refine ct_getR S fw_X5_33 dX5_coat_105 (fun r19 => ?_)
              refine ct_bipush (v := 73) S dX5_coat_108 kB_73 ?_
              refine ct_iload_n (k := 1) S dX5_coat_110 rfl rfl ?_
              refine ct_iadd S dX5_coat_111 ?_
              refine ct_iald S dX5_coat_112 (fun x20 => ?_)
              exact ct_iret S rfl dX5_coat_113
    · refine ct_iconst (v := 0) S dX5_coat_29 kI_0 ?_
      exact ct_iret S rfl dX5_coat_30
  · refine ct_jnP (fun j31 => ∀ (h30 : cz_H), cz_T K D 4 h0 oh 3 (j31 h30) h30 18 [(0, cz_r l0), (1, cz_i l1), (2, cz_i l2)] [cz_r l0]) (fun h30 => ?_) (fun j31 Hj31 => ?_)
    · refine ct_iconst (v := 1) S dX5_coat_18 kI_1 ?_
      refine ct_goto (tgt := 23) S dX5_coat_19 (by decide) ?_
      exact Hj29 1 h30
    · refine ct_if_eq (tgt := 18) S dX5_coat_6 (by decide) ?_ ?_
      · exact Hj31 h7
      · refine ct_iload_n (k := 2) S dX5_coat_9 rfl rfl ?_
        refine ct_iconst (v := 0) S dX5_coat_10 kI_0 ?_
        refine ct_iconst (v := 4) S dX5_coat_11 kI_4 ?_
        refine ct_cI (st := [cz_r l0]) (cg_static (av := [cz_i l2, cz_i 0, cz_i 4]) S (fun _ e => mt_X5_isIn e) md_X5_isIn (Or.inl q2122) q2123 (by decide) (Nat.le_of_ble_eq_true rfl) rfl dX5_coat_12) (fun x33 h32 => ?_)
        refine ct_if_ne (tgt := 22) S dX5_coat_15 (by decide) ?_ ?_
        · refine ct_iconst (v := 0) S dX5_coat_22 kI_0 ?_
          exact Hj29 0 h32
        · exact Hj31 h32
theorem mt_X5_coat {l : Launch} {D : cz_D} {l0 : Option Nat} {l1 : Int32} {l2 : Int32} {h : cz_H} {oh : cz_O × cz_H} (hz : fn_X5_coat l0 l1 l2 h = some oh) : cz_M l D yX5_coat (ws_ yX5_coat cX5_coat 3 ((Option.some Jvm.ClassFile.FieldType.int))) 4 [cz_r l0, cz_i l1, cz_i l2] h oh := cz_met (plainFor_of_name (by decide)) (Nat.le_of_ble_eq_true rfl) hz (fun K hl S => wk_X5_coat S)
/-! HeldCoatsModel.count(I)I -/
def dkwX5_count_1 : List UInt8 := [184, 0, 171, 153, 0, 12, 42, 180, 0, 33, 27, 46, 167, 0, 4, 2, 172]
abbrev dktX5_count_1 : List UInt8 := dkwX5_count_1 ++ []
def dkwX5_count_0 : List UInt8 := [42, 3, 181, 0, 1, 27, 16, 7, 160, 0, 10, 42, 180, 0, 7, 167, 0, 23, 27, 3, 16, 6]
abbrev dktX5_count_0 : List UInt8 := dkwX5_count_0 ++ dktX5_count_1
theorem dksX5_count_0 : cX5_count.data.toList.drop 0 = dktX5_count_0 := by decide +kernel
theorem dksX5_count_1 : cX5_count.data.toList.drop 22 = dktX5_count_1 := dk_seg dksX5_count_0 22 rfl rfl
theorem dX5_count_0 : decode cX5_count 0 = .ok (.aload_n 0, 1) := dk_42 (dk_at dksX5_count_0 0 rfl rfl)
theorem dX5_count_1 : decode cX5_count 1 = .ok (.iconst 0, 1) := dk_3 (dk_at dksX5_count_0 1 rfl rfl)
theorem dX5_count_2 : decode cX5_count 2 = .ok (.putfield 1, 3) := dk_181 0 1 (dk_at dksX5_count_0 2 rfl rfl)
theorem dX5_count_5 : decode cX5_count 5 = .ok (.iload_n 1, 1) := dk_27 (dk_at dksX5_count_0 5 rfl rfl)
theorem dX5_count_6 : decode cX5_count 6 = .ok (.bipush 7, 2) := dk_16 7 (dk_at dksX5_count_0 6 rfl rfl)
theorem dX5_count_8 : decode cX5_count 8 = .ok (.if_icmp .ne 10, 3) := dk_160 0 10 (dk_at dksX5_count_0 8 rfl rfl)
theorem dX5_count_11 : decode cX5_count 11 = .ok (.aload_n 0, 1) := dk_42 (dk_at dksX5_count_0 11 rfl rfl)
theorem dX5_count_12 : decode cX5_count 12 = .ok (.getfield 7, 3) := dk_180 0 7 (dk_at dksX5_count_0 12 rfl rfl)
theorem dX5_count_15 : decode cX5_count 15 = .ok (.goto 23, 3) := dk_167 0 23 (dk_at dksX5_count_0 15 rfl rfl)
theorem dX5_count_18 : decode cX5_count 18 = .ok (.iload_n 1, 1) := dk_27 (dk_at dksX5_count_0 18 rfl rfl)
theorem dX5_count_19 : decode cX5_count 19 = .ok (.iconst 0, 1) := dk_3 (dk_at dksX5_count_0 19 rfl rfl)
theorem dX5_count_20 : decode cX5_count 20 = .ok (.bipush 6, 2) := dk_16 6 (dk_at dksX5_count_0 20 rfl rfl)
theorem dX5_count_22 : decode cX5_count 22 = .ok (.invokestatic 171, 3) := dk_184 0 171 (dk_at dksX5_count_1 0 rfl rfl)
theorem dX5_count_25 : decode cX5_count 25 = .ok (.ifCond .eq 12, 3) := dk_153 0 12 (dk_at dksX5_count_1 3 rfl rfl)
theorem dX5_count_28 : decode cX5_count 28 = .ok (.aload_n 0, 1) := dk_42 (dk_at dksX5_count_1 6 rfl rfl)
theorem dX5_count_29 : decode cX5_count 29 = .ok (.getfield 33, 3) := dk_180 0 33 (dk_at dksX5_count_1 7 rfl rfl)
theorem dX5_count_32 : decode cX5_count 32 = .ok (.iload_n 1, 1) := dk_27 (dk_at dksX5_count_1 10 rfl rfl)
theorem dX5_count_33 : decode cX5_count 33 = .ok (.iaload, 1) := dk_46 (dk_at dksX5_count_1 11 rfl rfl)
theorem dX5_count_34 : decode cX5_count 34 = .ok (.goto 4, 3) := dk_167 0 4 (dk_at dksX5_count_1 12 rfl rfl)
theorem dX5_count_37 : decode cX5_count 37 = .ok (.iconst (-1), 1) := dk_2 (dk_at dksX5_count_1 15 rfl rfl)
theorem dX5_count_38 : decode cX5_count 38 = .ok (.ireturn, 1) := dk_172 (dk_at dksX5_count_1 16 rfl rfl)
set_option maxHeartbeats 4000000 in
set_option maxRecDepth 100000 in
noncomputable def fn_X5_count (l0 : Option Nat) (l1 : Int32) (h : cz_H) : cz_Z := cz_put h l0 [(5, 0)] (cz_i 0) (fun h1 => (if l1 = 7 then cz_getI h1 l0 [(5, 2)] (fun x6 => some (.inl (some (cz_i x6)), h1)) else cz_cI (fn_X5_isIn l1 0 6 h1) (fun x3 h2 => (if x3 = 0 then some (.inl (some (cz_i (-1))), h2) else cz_getR h2 l0 [(5, 6)] (fun r4 => cz_iald h2 r4 l1 (fun x5 => some (.inl (some (cz_i x5)), h2)))))))
set_option maxHeartbeats 4000000 in
set_option maxRecDepth 100000 in
theorem wk_X5_count {K : cz_K} {D : cz_D} {h0 : cz_H} {oh : cz_O × cz_H} {l0 : Option Nat} {l1 : Int32} {h : cz_H} (S : cz_S K D h0 cX5_count 2 "HeldCoatsModel" ((Option.some Jvm.ClassFile.FieldType.int)) "count" ([])) : cz_T K D 3 h0 oh 2 (fn_X5_count l0 l1 h) h 0 [(0, cz_r l0), (1, cz_i l1)] [] := by
  unfold fn_X5_count
  refine ct_aload_n (k := 0) S dX5_count_0 rfl rfl ?_
  refine ct_iconst (v := 0) S dX5_count_1 kI_0 ?_
  refine ct_put S fw_X5_1 fp_X5_m_5_0 (cz_fits_i pd_I) dX5_count_2 (fun h1 => ?_)
  refine ct_iload_n (k := 1) S dX5_count_5 rfl rfl ?_
  refine ct_bipush (v := 7) S dX5_count_6 kB_7 ?_
  refine ct_icmp_ne (tgt := 18) S dX5_count_8 (by decide) ?_ ?_
  · refine ct_iload_n (k := 1) S dX5_count_18 rfl rfl ?_
    refine ct_iconst (v := 0) S dX5_count_19 kI_0 ?_
    refine ct_bipush (v := 6) S dX5_count_20 kB_6 ?_
    refine ct_cI (st := []) (cg_static (av := [cz_i l1, cz_i 0, cz_i 6]) S (fun _ e => mt_X5_isIn e) md_X5_isIn (Or.inl q2122) q2123 (by decide) (Nat.le_of_ble_eq_true rfl) rfl dX5_count_22) (fun x3 h2 => ?_)
    refine ct_if_eq (tgt := 37) S dX5_count_25 (by decide) ?_ ?_
    · refine ct_iconst (v := (-1)) S dX5_count_37 kI_m1 ?_
      exact ct_iret S rfl dX5_count_38
    · refine ct_aload_n (k := 0) S dX5_count_28 rfl rfl ?_
      refine ct_getR S fw_X5_33 dX5_count_29 (fun r4 => ?_)
      refine ct_iload_n (k := 1) S dX5_count_32 rfl rfl ?_
      refine ct_iald S dX5_count_33 (fun x5 => ?_)
      refine ct_goto (tgt := 38) S dX5_count_34 (by decide) ?_
      exact ct_iret S rfl dX5_count_38
  · refine ct_aload_n (k := 0) S dX5_count_11 rfl rfl ?_
    refine ct_getI S fw_X5_7 dX5_count_12 (fun x6 => ?_)
    refine ct_goto (tgt := 38) S dX5_count_15 (by decide) ?_
    exact ct_iret S rfl dX5_count_38
theorem mt_X5_count {l : Launch} {D : cz_D} {l0 : Option Nat} {l1 : Int32} {h : cz_H} {oh : cz_O × cz_H} (hz : fn_X5_count l0 l1 h = some oh) : cz_M l D yX5_count (ws_ yX5_count cX5_count 2 ((Option.some Jvm.ClassFile.FieldType.int))) 3 [cz_r l0, cz_i l1] h oh := cz_met (plainFor_of_name (by decide)) (Nat.le_of_ble_eq_true rfl) hz (fun K hl S => wk_X5_count S)
/-! HeldCoatsModel.days(I)I -/
def dkwX5_days_1 : List UInt8 := [17, 1, 144, 160, 0, 5, 3, 172, 42, 182, 1, 48, 42, 27, 182, 1, 64, 172]
abbrev dktX5_days_1 : List UInt8 := dkwX5_days_1 ++ []
def dkwX5_days_0 : List UInt8 := [42, 3, 181, 0, 1, 27, 4, 16, 60, 184, 0, 171, 154, 0, 5, 2, 172, 42, 180, 0, 33, 16, 62, 46]
abbrev dktX5_days_0 : List UInt8 := dkwX5_days_0 ++ dktX5_days_1
theorem dksX5_days_0 : cX5_days.data.toList.drop 0 = dktX5_days_0 := by decide +kernel
theorem dksX5_days_1 : cX5_days.data.toList.drop 24 = dktX5_days_1 := dk_seg dksX5_days_0 24 rfl rfl
theorem dX5_days_0 : decode cX5_days 0 = .ok (.aload_n 0, 1) := dk_42 (dk_at dksX5_days_0 0 rfl rfl)
theorem dX5_days_1 : decode cX5_days 1 = .ok (.iconst 0, 1) := dk_3 (dk_at dksX5_days_0 1 rfl rfl)
theorem dX5_days_2 : decode cX5_days 2 = .ok (.putfield 1, 3) := dk_181 0 1 (dk_at dksX5_days_0 2 rfl rfl)
theorem dX5_days_5 : decode cX5_days 5 = .ok (.iload_n 1, 1) := dk_27 (dk_at dksX5_days_0 5 rfl rfl)
theorem dX5_days_6 : decode cX5_days 6 = .ok (.iconst 1, 1) := dk_4 (dk_at dksX5_days_0 6 rfl rfl)
theorem dX5_days_7 : decode cX5_days 7 = .ok (.bipush 60, 2) := dk_16 60 (dk_at dksX5_days_0 7 rfl rfl)
theorem dX5_days_9 : decode cX5_days 9 = .ok (.invokestatic 171, 3) := dk_184 0 171 (dk_at dksX5_days_0 9 rfl rfl)
theorem dX5_days_12 : decode cX5_days 12 = .ok (.ifCond .ne 5, 3) := dk_154 0 5 (dk_at dksX5_days_0 12 rfl rfl)
theorem dX5_days_15 : decode cX5_days 15 = .ok (.iconst (-1), 1) := dk_2 (dk_at dksX5_days_0 15 rfl rfl)
theorem dX5_days_16 : decode cX5_days 16 = .ok (.ireturn, 1) := dk_172 (dk_at dksX5_days_0 16 rfl rfl)
theorem dX5_days_17 : decode cX5_days 17 = .ok (.aload_n 0, 1) := dk_42 (dk_at dksX5_days_0 17 rfl rfl)
theorem dX5_days_18 : decode cX5_days 18 = .ok (.getfield 33, 3) := dk_180 0 33 (dk_at dksX5_days_0 18 rfl rfl)
theorem dX5_days_21 : decode cX5_days 21 = .ok (.bipush 62, 2) := dk_16 62 (dk_at dksX5_days_0 21 rfl rfl)
theorem dX5_days_23 : decode cX5_days 23 = .ok (.iaload, 1) := dk_46 (dk_at dksX5_days_0 23 rfl rfl)
theorem dX5_days_24 : decode cX5_days 24 = .ok (.sipush 400, 3) := dk_17 1 144 (dk_at dksX5_days_1 0 rfl rfl)
theorem dX5_days_27 : decode cX5_days 27 = .ok (.if_icmp .ne 5, 3) := dk_160 0 5 (dk_at dksX5_days_1 3 rfl rfl)
theorem dX5_days_30 : decode cX5_days 30 = .ok (.iconst 0, 1) := dk_3 (dk_at dksX5_days_1 6 rfl rfl)
theorem dX5_days_31 : decode cX5_days 31 = .ok (.ireturn, 1) := dk_172 (dk_at dksX5_days_1 7 rfl rfl)
theorem dX5_days_32 : decode cX5_days 32 = .ok (.aload_n 0, 1) := dk_42 (dk_at dksX5_days_1 8 rfl rfl)
theorem dX5_days_33 : decode cX5_days 33 = .ok (.invokevirtual 304, 3) := dk_182 1 48 (dk_at dksX5_days_1 9 rfl rfl)
theorem dX5_days_36 : decode cX5_days 36 = .ok (.aload_n 0, 1) := dk_42 (dk_at dksX5_days_1 12 rfl rfl)
theorem dX5_days_37 : decode cX5_days 37 = .ok (.iload_n 1, 1) := dk_27 (dk_at dksX5_days_1 13 rfl rfl)
theorem dX5_days_38 : decode cX5_days 38 = .ok (.invokevirtual 320, 3) := dk_182 1 64 (dk_at dksX5_days_1 14 rfl rfl)
theorem dX5_days_41 : decode cX5_days 41 = .ok (.ireturn, 1) := dk_172 (dk_at dksX5_days_1 17 rfl rfl)
set_option maxHeartbeats 4000000 in
set_option maxRecDepth 100000 in
noncomputable def fn_X5_days (l0 : Option Nat) (l1 : Int32) (h : cz_H) : cz_Z := cz_put h l0 [(5, 0)] (cz_i 0) (fun h1 => cz_cI (fn_X5_isIn l1 1 60 h1) (fun x3 h2 => (if x3 = 0 then some (.inl (some (cz_i (-1))), h2) else cz_getR h2 l0 [(5, 6)] (fun r4 => cz_iald h2 r4 62 (fun x5 => (if x5 = 400 then some (.inl (some (cz_i 0)), h2) else cz_rc h2 l0 [5] (cz_cV (fn_X5_keepsAll l0 h2) (fun h12 => cz_rc h12 l0 [5] (cz_cI (fn_X5_goesOn l0 l1 h12) (fun x20 h19 => some (.inl (some (cz_i x20)), h19)))))))))))
set_option maxHeartbeats 4000000 in
set_option maxRecDepth 100000 in
theorem wk_X5_days {K : cz_K} {D : cz_D} {h0 : cz_H} {oh : cz_O × cz_H} {l0 : Option Nat} {l1 : Int32} {h : cz_H} (S : cz_S K D h0 cX5_days 2 "HeldCoatsModel" ((Option.some Jvm.ClassFile.FieldType.int)) "days" ([])) : cz_T K D 8 h0 oh 2 (fn_X5_days l0 l1 h) h 0 [(0, cz_r l0), (1, cz_i l1)] [] := by
  unfold fn_X5_days
  refine ct_aload_n (k := 0) S dX5_days_0 rfl rfl ?_
  refine ct_iconst (v := 0) S dX5_days_1 kI_0 ?_
  refine ct_put S fw_X5_1 fp_X5_m_5_0 (cz_fits_i pd_I) dX5_days_2 (fun h1 => ?_)
  refine ct_iload_n (k := 1) S dX5_days_5 rfl rfl ?_
  refine ct_iconst (v := 1) S dX5_days_6 kI_1 ?_
  refine ct_bipush (v := 60) S dX5_days_7 kB_60 ?_
  refine ct_cI (st := []) (cg_static (av := [cz_i l1, cz_i 1, cz_i 60]) S (fun _ e => mt_X5_isIn e) md_X5_isIn (Or.inl q2122) q2123 (by decide) (Nat.le_of_ble_eq_true rfl) rfl dX5_days_9) (fun x3 h2 => ?_)
  refine ct_if_ne (tgt := 17) S dX5_days_12 (by decide) ?_ ?_
  · refine ct_aload_n (k := 0) S dX5_days_17 rfl rfl ?_
    refine ct_getR S fw_X5_33 dX5_days_18 (fun r4 => ?_)
    refine ct_bipush (v := 62) S dX5_days_21 kB_62 ?_
    refine ct_iald S dX5_days_23 (fun x5 => ?_)
    refine ct_sipush (v := 400) S dX5_days_24 kS_400 ?_
    refine ct_icmp_ne (tgt := 32) S dX5_days_27 (by decide) ?_ ?_
    · refine ct_aload_n (k := 0) S dX5_days_32 rfl rfl ?_
      refine ct_rc (fun b6 ci7 V8 hb9 hc10 hi11 => ?_)
      refine ct_cV (st := []) (cg_virtual (av := []) S hb9 hc10 hi11 (fun _ e => mt_X5_keepsAll e) md_X5_keepsAll q2247 q2249 se_HeldCoatsModel_keepsAll___V_HeldCoatsModel (by decide) (Nat.le_of_ble_eq_true rfl) rfl dX5_days_33) (fun h12 => ?_)
      refine ct_aload_n (k := 0) S dX5_days_36 rfl rfl ?_
      refine ct_iload_n (k := 1) S dX5_days_37 rfl rfl ?_
      refine ct_rc (fun b13 ci14 V15 hb16 hc17 hi18 => ?_)
      refine ct_cI (st := []) (cg_virtual (av := [cz_i l1]) S hb16 hc17 hi18 (fun _ e => mt_X5_goesOn e) md_X5_goesOn q2291 q2293 se_HeldCoatsModel_goesOn__I_I_HeldCoatsModel (by decide) (Nat.le_of_ble_eq_true rfl) rfl dX5_days_38) (fun x20 h19 => ?_)
      exact ct_iret S rfl dX5_days_41
    · refine ct_iconst (v := 0) S dX5_days_30 kI_0 ?_
      exact ct_iret S rfl dX5_days_31
  · refine ct_iconst (v := (-1)) S dX5_days_15 kI_m1 ?_
    exact ct_iret S rfl dX5_days_16
theorem mt_X5_days {l : Launch} {D : cz_D} {l0 : Option Nat} {l1 : Int32} {h : cz_H} {oh : cz_O × cz_H} (hz : fn_X5_days l0 l1 h = some oh) : cz_M l D yX5_days (ws_ yX5_days cX5_days 2 ((Option.some Jvm.ClassFile.FieldType.int))) 8 [cz_r l0, cz_i l1] h oh := cz_met (plainFor_of_name (by decide)) (Nat.le_of_ble_eq_true rfl) hz (fun K hl S => wk_X5_days S)
/-! HeldCoatsModel.draw(I)I -/
def dkwX5_draw_1 : List UInt8 := [112, 172]
abbrev dktX5_draw_1 : List UInt8 := dkwX5_draw_1 ++ []
def dkwX5_draw_0 : List UInt8 := [42, 42, 180, 1, 128, 19, 1, 131, 104, 17, 48, 57, 96, 181, 1, 128, 42, 180, 1, 128, 16, 8, 124, 27]
abbrev dktX5_draw_0 : List UInt8 := dkwX5_draw_0 ++ dktX5_draw_1
theorem dksX5_draw_0 : cX5_draw.data.toList.drop 0 = dktX5_draw_0 := by decide +kernel
theorem dksX5_draw_1 : cX5_draw.data.toList.drop 24 = dktX5_draw_1 := dk_seg dksX5_draw_0 24 rfl rfl
theorem dX5_draw_0 : decode cX5_draw 0 = .ok (.aload_n 0, 1) := dk_42 (dk_at dksX5_draw_0 0 rfl rfl)
theorem dX5_draw_1 : decode cX5_draw 1 = .ok (.aload_n 0, 1) := dk_42 (dk_at dksX5_draw_0 1 rfl rfl)
theorem dX5_draw_2 : decode cX5_draw 2 = .ok (.getfield 384, 3) := dk_180 1 128 (dk_at dksX5_draw_0 2 rfl rfl)
theorem dX5_draw_5 : decode cX5_draw 5 = .ok (.ldc_w 387, 3) := dk_19 1 131 (dk_at dksX5_draw_0 5 rfl rfl)
theorem dX5_draw_8 : decode cX5_draw 8 = .ok (.imul, 1) := dk_104 (dk_at dksX5_draw_0 8 rfl rfl)
theorem dX5_draw_9 : decode cX5_draw 9 = .ok (.sipush 12345, 3) := dk_17 48 57 (dk_at dksX5_draw_0 9 rfl rfl)
theorem dX5_draw_12 : decode cX5_draw 12 = .ok (.iadd, 1) := dk_96 (dk_at dksX5_draw_0 12 rfl rfl)
theorem dX5_draw_13 : decode cX5_draw 13 = .ok (.putfield 384, 3) := dk_181 1 128 (dk_at dksX5_draw_0 13 rfl rfl)
theorem dX5_draw_16 : decode cX5_draw 16 = .ok (.aload_n 0, 1) := dk_42 (dk_at dksX5_draw_0 16 rfl rfl)
theorem dX5_draw_17 : decode cX5_draw 17 = .ok (.getfield 384, 3) := dk_180 1 128 (dk_at dksX5_draw_0 17 rfl rfl)
theorem dX5_draw_20 : decode cX5_draw 20 = .ok (.bipush 8, 2) := dk_16 8 (dk_at dksX5_draw_0 20 rfl rfl)
theorem dX5_draw_22 : decode cX5_draw 22 = .ok (.iushr, 1) := dk_124 (dk_at dksX5_draw_0 22 rfl rfl)
theorem dX5_draw_23 : decode cX5_draw 23 = .ok (.iload_n 1, 1) := dk_27 (dk_at dksX5_draw_0 23 rfl rfl)
theorem dX5_draw_24 : decode cX5_draw 24 = .ok (.irem, 1) := dk_112 (dk_at dksX5_draw_1 0 rfl rfl)
theorem dX5_draw_25 : decode cX5_draw 25 = .ok (.ireturn, 1) := dk_172 (dk_at dksX5_draw_1 1 rfl rfl)
theorem fw_X5_384 : cz_FW "HeldCoatsModel" 384 [(5, 35)] "I" := ⟨"HeldCoatsModel", "seed", Or.inl q1953, List.forall_mem_cons.mpr ⟨⟨RX5, TX5, 49, rfl, by decide, rfl, rfl, Or.inl rfl⟩, fun _ h => absurd h List.not_mem_nil⟩, by decide⟩
theorem fp_X5_m_5_35 {nm : String} : cz_FP "HeldCoatsModel" nm [(5, 35)] := List.forall_mem_cons.mpr ⟨⟨RX5, TX5, 49, rfl, Or.inl rfl⟩, fun _ h => absurd h List.not_mem_nil⟩
theorem kS_12345 : (Int16.ofInt (12345)).toInt32 = 12345 := by decide
set_option maxHeartbeats 4000000 in
set_option maxRecDepth 100000 in
noncomputable def fn_X5_draw (l0 : Option Nat) (l1 : Int32) (h : cz_H) : cz_Z := cz_getI h l0 [(5, 35)] (fun x1 => cz_put h l0 [(5, 35)] (cz_i ((x1 * 1103515245) + 12345)) (fun h2 => cz_getI h2 l0 [(5, 35)] (fun x3 => if l1 = 0 then none else some (.inl (some (cz_i ((((x3).toUInt32 >>> (((8 : Int32)).toUInt32 &&& Int32.toUInt32 31)).toInt32) - (((x3).toUInt32 >>> (((8 : Int32)).toUInt32 &&& Int32.toUInt32 31)).toInt32) / l1 * l1))), h2))))
set_option maxHeartbeats 4000000 in
set_option maxRecDepth 100000 in
theorem wk_X5_draw {K : cz_K} {D : cz_D} {h0 : cz_H} {oh : cz_O × cz_H} {l0 : Option Nat} {l1 : Int32} {h : cz_H} (S : cz_S K D h0 cX5_draw 2 "HeldCoatsModel" ((Option.some Jvm.ClassFile.FieldType.int)) "draw" ([])) : cz_T K D 2 h0 oh 2 (fn_X5_draw l0 l1 h) h 0 [(0, cz_r l0), (1, cz_i l1)] [] := by
  unfold fn_X5_draw
  refine ct_aload_n (k := 0) S dX5_draw_0 rfl rfl ?_
  refine ct_aload_n (k := 0) S dX5_draw_1 rfl rfl ?_
  refine ct_getI S fw_X5_384 dX5_draw_2 (fun x1 => ?_)
  refine ct_ldcw S q2434 dX5_draw_5 ?_
  refine ct_imul S dX5_draw_8 ?_
  refine ct_sipush (v := 12345) S dX5_draw_9 kS_12345 ?_
  refine ct_iadd S dX5_draw_12 ?_
  refine ct_put S fw_X5_384 fp_X5_m_5_35 (cz_fits_i pd_I) dX5_draw_13 (fun h2 => ?_)
  refine ct_aload_n (k := 0) S dX5_draw_16 rfl rfl ?_
  refine ct_getI S fw_X5_384 dX5_draw_17 (fun x3 => ?_)
  refine ct_bipush (v := 8) S dX5_draw_20 kB_8 ?_
  refine ct_iushr S dX5_draw_22 ?_
  refine ct_iload_n (k := 1) S dX5_draw_23 rfl rfl ?_
  refine ct_irem S dX5_draw_24 ?_
  exact ct_iret S rfl dX5_draw_25
theorem mt_X5_draw {l : Launch} {D : cz_D} {l0 : Option Nat} {l1 : Int32} {h : cz_H} {oh : cz_O × cz_H} (hz : fn_X5_draw l0 l1 h = some oh) : cz_M l D yX5_draw (ws_ yX5_draw cX5_draw 2 ((Option.some Jvm.ClassFile.FieldType.int))) 2 [cz_r l0, cz_i l1] h oh := cz_met (plainFor_of_name (by decide)) (Nat.le_of_ble_eq_true rfl) hz (fun K hl S => wk_X5_draw S)
/-! HeldCoatsModel.drawsCoat(I)V -/
def dkwX5_drawsCoat_5 : List UInt8 := [182, 1, 30, 153, 0, 8, 42, 27, 182, 1, 36, 177, 177]
abbrev dktX5_drawsCoat_5 : List UInt8 := dkwX5_drawsCoat_5 ++ []
def dkwX5_drawsCoat_4 : List UInt8 := [182, 1, 55, 154, 0, 17, 42, 42, 180, 0, 33, 16, 22, 27, 96, 46, 27, 182, 1, 58, 177, 42, 27]
abbrev dktX5_drawsCoat_4 : List UInt8 := dkwX5_drawsCoat_4 ++ dktX5_drawsCoat_5
def dkwX5_drawsCoat_3 : List UInt8 := [182, 1, 45, 154, 0, 9, 42, 27, 28, 182, 1, 51, 177, 42, 42, 180, 0, 33, 16, 22, 27, 96, 46, 27]
abbrev dktX5_drawsCoat_3 : List UInt8 := dkwX5_drawsCoat_3 ++ dktX5_drawsCoat_4
def dkwX5_drawsCoat_2 : List UInt8 := [42, 180, 0, 33, 3, 46, 154, 0, 4, 177, 42, 42, 180, 0, 33, 3, 46, 182, 1, 132, 61, 42, 27, 28]
abbrev dktX5_drawsCoat_2 : List UInt8 := dkwX5_drawsCoat_2 ++ dktX5_drawsCoat_3
def dkwX5_drawsCoat_1 : List UInt8 := [170, 0, 0, 0, 0, 109, 0, 0, 0, 0, 0, 0, 0, 2, 0, 0, 0, 26, 0, 0, 0, 63, 0, 0, 0, 95]
abbrev dktX5_drawsCoat_1 : List UInt8 := dkwX5_drawsCoat_1 ++ dktX5_drawsCoat_2
def dkwX5_drawsCoat_0 : List UInt8 := [42, 16, 6, 182, 1, 132]
abbrev dktX5_drawsCoat_0 : List UInt8 := dkwX5_drawsCoat_0 ++ dktX5_drawsCoat_1
theorem dksX5_drawsCoat_0 : cX5_drawsCoat.data.toList.drop 0 = dktX5_drawsCoat_0 := by decide +kernel
theorem dksX5_drawsCoat_1 : cX5_drawsCoat.data.toList.drop 6 = dktX5_drawsCoat_1 := dk_seg dksX5_drawsCoat_0 6 rfl rfl
theorem dksX5_drawsCoat_2 : cX5_drawsCoat.data.toList.drop 32 = dktX5_drawsCoat_2 := dk_seg dksX5_drawsCoat_1 26 rfl rfl
theorem dksX5_drawsCoat_3 : cX5_drawsCoat.data.toList.drop 56 = dktX5_drawsCoat_3 := dk_seg dksX5_drawsCoat_2 24 rfl rfl
theorem dksX5_drawsCoat_4 : cX5_drawsCoat.data.toList.drop 80 = dktX5_drawsCoat_4 := dk_seg dksX5_drawsCoat_3 24 rfl rfl
theorem dksX5_drawsCoat_5 : cX5_drawsCoat.data.toList.drop 103 = dktX5_drawsCoat_5 := dk_seg dksX5_drawsCoat_4 23 rfl rfl
theorem dX5_drawsCoat_0 : decode cX5_drawsCoat 0 = .ok (.aload_n 0, 1) := dk_42 (dk_at dksX5_drawsCoat_0 0 rfl rfl)
theorem dX5_drawsCoat_1 : decode cX5_drawsCoat 1 = .ok (.bipush 6, 2) := dk_16 6 (dk_at dksX5_drawsCoat_0 1 rfl rfl)
theorem dX5_drawsCoat_3 : decode cX5_drawsCoat 3 = .ok (.invokevirtual 388, 3) := dk_182 1 132 (dk_at dksX5_drawsCoat_0 3 rfl rfl)
theorem dX5_drawsCoat_6 : decode cX5_drawsCoat 6 = .ok (.tableswitch 109 0 2 #[26, 63, 95], 26) := by decide +kernel
theorem dX5_drawsCoat_32 : decode cX5_drawsCoat 32 = .ok (.aload_n 0, 1) := dk_42 (dk_at dksX5_drawsCoat_2 0 rfl rfl)
theorem dX5_drawsCoat_33 : decode cX5_drawsCoat 33 = .ok (.getfield 33, 3) := dk_180 0 33 (dk_at dksX5_drawsCoat_2 1 rfl rfl)
theorem dX5_drawsCoat_36 : decode cX5_drawsCoat 36 = .ok (.iconst 0, 1) := dk_3 (dk_at dksX5_drawsCoat_2 4 rfl rfl)
theorem dX5_drawsCoat_37 : decode cX5_drawsCoat 37 = .ok (.iaload, 1) := dk_46 (dk_at dksX5_drawsCoat_2 5 rfl rfl)
theorem dX5_drawsCoat_38 : decode cX5_drawsCoat 38 = .ok (.ifCond .ne 4, 3) := dk_154 0 4 (dk_at dksX5_drawsCoat_2 6 rfl rfl)
theorem dX5_drawsCoat_41 : decode cX5_drawsCoat 41 = .ok (.return_, 1) := dk_177 (dk_at dksX5_drawsCoat_2 9 rfl rfl)
theorem dX5_drawsCoat_42 : decode cX5_drawsCoat 42 = .ok (.aload_n 0, 1) := dk_42 (dk_at dksX5_drawsCoat_2 10 rfl rfl)
theorem dX5_drawsCoat_43 : decode cX5_drawsCoat 43 = .ok (.aload_n 0, 1) := dk_42 (dk_at dksX5_drawsCoat_2 11 rfl rfl)
theorem dX5_drawsCoat_44 : decode cX5_drawsCoat 44 = .ok (.getfield 33, 3) := dk_180 0 33 (dk_at dksX5_drawsCoat_2 12 rfl rfl)
theorem dX5_drawsCoat_47 : decode cX5_drawsCoat 47 = .ok (.iconst 0, 1) := dk_3 (dk_at dksX5_drawsCoat_2 15 rfl rfl)
theorem dX5_drawsCoat_48 : decode cX5_drawsCoat 48 = .ok (.iaload, 1) := dk_46 (dk_at dksX5_drawsCoat_2 16 rfl rfl)
theorem dX5_drawsCoat_49 : decode cX5_drawsCoat 49 = .ok (.invokevirtual 388, 3) := dk_182 1 132 (dk_at dksX5_drawsCoat_2 17 rfl rfl)
theorem dX5_drawsCoat_52 : decode cX5_drawsCoat 52 = .ok (.istore_n 2, 1) := dk_61 (dk_at dksX5_drawsCoat_2 20 rfl rfl)
theorem dX5_drawsCoat_53 : decode cX5_drawsCoat 53 = .ok (.aload_n 0, 1) := dk_42 (dk_at dksX5_drawsCoat_2 21 rfl rfl)
theorem dX5_drawsCoat_54 : decode cX5_drawsCoat 54 = .ok (.iload_n 1, 1) := dk_27 (dk_at dksX5_drawsCoat_2 22 rfl rfl)
theorem dX5_drawsCoat_55 : decode cX5_drawsCoat 55 = .ok (.iload_n 2, 1) := dk_28 (dk_at dksX5_drawsCoat_2 23 rfl rfl)
theorem dX5_drawsCoat_56 : decode cX5_drawsCoat 56 = .ok (.invokevirtual 301, 3) := dk_182 1 45 (dk_at dksX5_drawsCoat_3 0 rfl rfl)
theorem dX5_drawsCoat_59 : decode cX5_drawsCoat 59 = .ok (.ifCond .ne 9, 3) := dk_154 0 9 (dk_at dksX5_drawsCoat_3 3 rfl rfl)
theorem dX5_drawsCoat_62 : decode cX5_drawsCoat 62 = .ok (.aload_n 0, 1) := dk_42 (dk_at dksX5_drawsCoat_3 6 rfl rfl)
theorem dX5_drawsCoat_63 : decode cX5_drawsCoat 63 = .ok (.iload_n 1, 1) := dk_27 (dk_at dksX5_drawsCoat_3 7 rfl rfl)
theorem dX5_drawsCoat_64 : decode cX5_drawsCoat 64 = .ok (.iload_n 2, 1) := dk_28 (dk_at dksX5_drawsCoat_3 8 rfl rfl)
theorem dX5_drawsCoat_65 : decode cX5_drawsCoat 65 = .ok (.invokevirtual 307, 3) := dk_182 1 51 (dk_at dksX5_drawsCoat_3 9 rfl rfl)
theorem dX5_drawsCoat_68 : decode cX5_drawsCoat 68 = .ok (.return_, 1) := dk_177 (dk_at dksX5_drawsCoat_3 12 rfl rfl)
theorem dX5_drawsCoat_69 : decode cX5_drawsCoat 69 = .ok (.aload_n 0, 1) := dk_42 (dk_at dksX5_drawsCoat_3 13 rfl rfl)
theorem dX5_drawsCoat_70 : decode cX5_drawsCoat 70 = .ok (.aload_n 0, 1) := dk_42 (dk_at dksX5_drawsCoat_3 14 rfl rfl)
theorem dX5_drawsCoat_71 : decode cX5_drawsCoat 71 = .ok (.getfield 33, 3) := dk_180 0 33 (dk_at dksX5_drawsCoat_3 15 rfl rfl)
theorem dX5_drawsCoat_74 : decode cX5_drawsCoat 74 = .ok (.bipush 22, 2) := dk_16 22 (dk_at dksX5_drawsCoat_3 18 rfl rfl)
theorem dX5_drawsCoat_76 : decode cX5_drawsCoat 76 = .ok (.iload_n 1, 1) := dk_27 (dk_at dksX5_drawsCoat_3 20 rfl rfl)
theorem dX5_drawsCoat_77 : decode cX5_drawsCoat 77 = .ok (.iadd, 1) := dk_96 (dk_at dksX5_drawsCoat_3 21 rfl rfl)
theorem dX5_drawsCoat_78 : decode cX5_drawsCoat 78 = .ok (.iaload, 1) := dk_46 (dk_at dksX5_drawsCoat_3 22 rfl rfl)
theorem dX5_drawsCoat_79 : decode cX5_drawsCoat 79 = .ok (.iload_n 1, 1) := dk_27 (dk_at dksX5_drawsCoat_3 23 rfl rfl)
theorem dX5_drawsCoat_80 : decode cX5_drawsCoat 80 = .ok (.invokevirtual 311, 3) := dk_182 1 55 (dk_at dksX5_drawsCoat_4 0 rfl rfl)
theorem dX5_drawsCoat_83 : decode cX5_drawsCoat 83 = .ok (.ifCond .ne 17, 3) := dk_154 0 17 (dk_at dksX5_drawsCoat_4 3 rfl rfl)
theorem dX5_drawsCoat_86 : decode cX5_drawsCoat 86 = .ok (.aload_n 0, 1) := dk_42 (dk_at dksX5_drawsCoat_4 6 rfl rfl)
theorem dX5_drawsCoat_87 : decode cX5_drawsCoat 87 = .ok (.aload_n 0, 1) := dk_42 (dk_at dksX5_drawsCoat_4 7 rfl rfl)
theorem dX5_drawsCoat_88 : decode cX5_drawsCoat 88 = .ok (.getfield 33, 3) := dk_180 0 33 (dk_at dksX5_drawsCoat_4 8 rfl rfl)
theorem dX5_drawsCoat_91 : decode cX5_drawsCoat 91 = .ok (.bipush 22, 2) := dk_16 22 (dk_at dksX5_drawsCoat_4 11 rfl rfl)
theorem dX5_drawsCoat_93 : decode cX5_drawsCoat 93 = .ok (.iload_n 1, 1) := dk_27 (dk_at dksX5_drawsCoat_4 13 rfl rfl)
theorem dX5_drawsCoat_94 : decode cX5_drawsCoat 94 = .ok (.iadd, 1) := dk_96 (dk_at dksX5_drawsCoat_4 14 rfl rfl)
theorem dX5_drawsCoat_95 : decode cX5_drawsCoat 95 = .ok (.iaload, 1) := dk_46 (dk_at dksX5_drawsCoat_4 15 rfl rfl)
theorem dX5_drawsCoat_96 : decode cX5_drawsCoat 96 = .ok (.iload_n 1, 1) := dk_27 (dk_at dksX5_drawsCoat_4 16 rfl rfl)
theorem dX5_drawsCoat_97 : decode cX5_drawsCoat 97 = .ok (.invokevirtual 314, 3) := dk_182 1 58 (dk_at dksX5_drawsCoat_4 17 rfl rfl)
theorem dX5_drawsCoat_100 : decode cX5_drawsCoat 100 = .ok (.return_, 1) := dk_177 (dk_at dksX5_drawsCoat_4 20 rfl rfl)
theorem dX5_drawsCoat_101 : decode cX5_drawsCoat 101 = .ok (.aload_n 0, 1) := dk_42 (dk_at dksX5_drawsCoat_4 21 rfl rfl)
theorem dX5_drawsCoat_102 : decode cX5_drawsCoat 102 = .ok (.iload_n 1, 1) := dk_27 (dk_at dksX5_drawsCoat_4 22 rfl rfl)
theorem dX5_drawsCoat_103 : decode cX5_drawsCoat 103 = .ok (.invokevirtual 286, 3) := dk_182 1 30 (dk_at dksX5_drawsCoat_5 0 rfl rfl)
theorem dX5_drawsCoat_106 : decode cX5_drawsCoat 106 = .ok (.ifCond .eq 8, 3) := dk_153 0 8 (dk_at dksX5_drawsCoat_5 3 rfl rfl)
theorem dX5_drawsCoat_109 : decode cX5_drawsCoat 109 = .ok (.aload_n 0, 1) := dk_42 (dk_at dksX5_drawsCoat_5 6 rfl rfl)
theorem dX5_drawsCoat_110 : decode cX5_drawsCoat 110 = .ok (.iload_n 1, 1) := dk_27 (dk_at dksX5_drawsCoat_5 7 rfl rfl)
theorem dX5_drawsCoat_111 : decode cX5_drawsCoat 111 = .ok (.invokevirtual 292, 3) := dk_182 1 36 (dk_at dksX5_drawsCoat_5 8 rfl rfl)
theorem dX5_drawsCoat_114 : decode cX5_drawsCoat 114 = .ok (.return_, 1) := dk_177 (dk_at dksX5_drawsCoat_5 11 rfl rfl)
theorem dX5_drawsCoat_115 : decode cX5_drawsCoat 115 = .ok (.return_, 1) := dk_177 (dk_at dksX5_drawsCoat_5 12 rfl rfl)
theorem se_HeldCoatsModel_draw__I_I_HeldCoatsModel : ∀ c ∈ ([5] : List Nat), ∃ q : vw_C, cz_cl[c]? = some q ∧ Cond.selects q.1 (⟨"HeldCoatsModel", "draw", "(I)I"⟩ : MethodName) (⟨"HeldCoatsModel", "draw", "(I)I"⟩ : MethodName) ∈ lw_all := List.forall_mem_cons.mpr ⟨⟨_, cz_cl5, qs101⟩, fun _ h => absurd h List.not_mem_nil⟩
theorem md_X5_draw : cz_md yX5_draw 2 (ws_ yX5_draw cX5_draw 2 ((Option.some Jvm.ClassFile.FieldType.int))) 1 := ⟨cz_ws_code q2433, q123, ⟨by decide, by decide, by decide +kernel⟩, by decide⟩
set_option maxHeartbeats 4000000 in
set_option maxRecDepth 100000 in
noncomputable def fn_X5_drawsCoat (l0 : Option Nat) (l1 : Int32) (h : cz_H) : cz_Z := cz_rc h l0 [5] (cz_cI (fn_X5_draw l0 6 h) (fun x8 h7 => (if x8 = 0 then cz_getR h7 l0 [(5, 6)] (fun r43 => cz_iald h7 r43 0 (fun x44 => (if x44 = 0 then some (.inl none, h7) else cz_getR h7 l0 [(5, 6)] (fun r45 => cz_iald h7 r45 0 (fun x46 => cz_rc h7 l0 [5] (cz_cI (fn_X5_draw l0 x46 h7) (fun x54 h53 => cz_rc h53 l0 [5] (cz_cI (fn_X5_whyLay l0 l1 x54 h53) (fun x62 h61 => (if x62 = 0 then cz_rc h61 l0 [5] (cz_cV (fn_X5_lays l0 l1 x54 h61) (fun h69 => some (.inl none, h69))) else some (.inl none, h61))))))))))) else if x8 = 1 then cz_getR h7 l0 [(5, 6)] (fun r24 => cz_iald h7 r24 ((22 : Int32) + l1) (fun x25 => cz_rc h7 l0 [5] (cz_cI (fn_X5_whyWear l0 x25 l1 h7) (fun x33 h32 => (if x33 = 0 then cz_getR h32 l0 [(5, 6)] (fun r34 => cz_iald h32 r34 ((22 : Int32) + l1) (fun x35 => cz_rc h32 l0 [5] (cz_cV (fn_X5_wears l0 x35 l1 h32) (fun h42 => some (.inl none, h42))))) else some (.inl none, h32)))))) else if x8 = 2 then cz_rc h7 l0 [5] (cz_cI (fn_X5_isWorn l0 l1 h7) (fun x16 h15 => (if x16 = 0 then some (.inl none, h15) else cz_rc h15 l0 [5] (cz_cV (fn_X5_keeps l0 l1 h15) (fun h23 => some (.inl none, h23)))))) else some (.inl none, h7))))
set_option maxHeartbeats 4000000 in
set_option maxRecDepth 100000 in
theorem wk_X5_drawsCoat {K : cz_K} {D : cz_D} {h0 : cz_H} {oh : cz_O × cz_H} {l0 : Option Nat} {l1 : Int32} {h : cz_H} (S : cz_S K D h0 cX5_drawsCoat 3 "HeldCoatsModel" ((Option.none : Option Jvm.ClassFile.FieldType)) "drawsCoat" ([])) : cz_T K D 4 h0 oh 3 (fn_X5_drawsCoat l0 l1 h) h 0 [(0, cz_r l0), (1, cz_i l1)] [] := by
  unfold fn_X5_drawsCoat
  refine ct_aload_n (k := 0) S dX5_drawsCoat_0 rfl rfl ?_
  refine ct_bipush (v := 6) S dX5_drawsCoat_1 kB_6 ?_
  refine ct_rc (fun b1 ci2 V3 hb4 hc5 hi6 => ?_)
  refine ct_cI (st := []) (cg_virtual (av := [cz_i 6]) S hb4 hc5 hi6 (fun _ e => mt_X5_draw e) md_X5_draw q2430 q2432 se_HeldCoatsModel_draw__I_I_HeldCoatsModel (by decide) (Nat.le_of_ble_eq_true rfl) rfl dX5_drawsCoat_3) (fun x8 h7 => ?_)
  refine ct_case ?_ (fun c0_ => ?_)
  · refine ct_tableIn (tgt := 32) S dX5_drawsCoat_6 (by decide) (by decide) rfl (by decide) ?_
    refine ct_aload_n (k := 0) S dX5_drawsCoat_32 rfl rfl ?_
    refine ct_getR S fw_X5_33 dX5_drawsCoat_33 (fun r43 => ?_)
    refine ct_iconst (v := 0) S dX5_drawsCoat_36 kI_0 ?_
    refine ct_iald S dX5_drawsCoat_37 (fun x44 => ?_)
    refine ct_if_ne (tgt := 42) S dX5_drawsCoat_38 (by decide) ?_ ?_
    · refine ct_aload_n (k := 0) S dX5_drawsCoat_42 rfl rfl ?_
      refine ct_aload_n (k := 0) S dX5_drawsCoat_43 rfl rfl ?_
      refine ct_getR S fw_X5_33 dX5_drawsCoat_44 (fun r45 => ?_)
      refine ct_iconst (v := 0) S dX5_drawsCoat_47 kI_0 ?_
      refine ct_iald S dX5_drawsCoat_48 (fun x46 => ?_)
      refine ct_rc (fun b47 ci48 V49 hb50 hc51 hi52 => ?_)
      refine ct_cI (st := []) (cg_virtual (av := [cz_i x46]) S hb50 hc51 hi52 (fun _ e => mt_X5_draw e) md_X5_draw q2430 q2432 se_HeldCoatsModel_draw__I_I_HeldCoatsModel (by decide) (Nat.le_of_ble_eq_true rfl) rfl dX5_drawsCoat_49) (fun x54 h53 => ?_)
      refine ct_istore_n (L' := [(2, cz_i x54), (0, cz_r l0), (1, cz_i l1)]) S dX5_drawsCoat_52 rfl (by decide) rfl ?_
      refine ct_aload_n (k := 1) S dX5_drawsCoat_53 rfl rfl ?_
      refine ct_iload_n (k := 2) S dX5_drawsCoat_54 rfl rfl ?_
      refine ct_iload_n (k := 0) S dX5_drawsCoat_55 rfl rfl ?_
      refine ct_rc (fun b55 ci56 V57 hb58 hc59 hi60 => ?_)
      refine ct_cI (st := []) (cg_virtual (av := [cz_i l1, cz_i x54]) S hb58 hc59 hi60 (fun _ e => mt_X5_whyLay e) md_X5_whyLay q2239 q2241 se_HeldCoatsModel_whyLay__II_I_HeldCoatsModel (by decide) (Nat.le_of_ble_eq_true rfl) rfl dX5_drawsCoat_56) (fun x62 h61 => ?_)
      refine ct_if_ne (tgt := 68) S dX5_drawsCoat_59 (by decide) ?_ ?_
      · exact ct_vret S rfl dX5_drawsCoat_68
      · refine ct_aload_n (k := 1) S dX5_drawsCoat_62 rfl rfl ?_
        refine ct_iload_n (k := 2) S dX5_drawsCoat_63 rfl rfl ?_
        refine ct_iload_n (k := 0) S dX5_drawsCoat_64 rfl rfl ?_
        refine ct_rc (fun b63 ci64 V65 hb66 hc67 hi68 => ?_)
        refine ct_cV (st := []) (cg_virtual (av := [cz_i l1, cz_i x54]) S hb66 hc67 hi68 (fun _ e => mt_X5_lays e) md_X5_lays q2251 q2253 se_HeldCoatsModel_lays__II_V_HeldCoatsModel (by decide) (Nat.le_of_ble_eq_true rfl) rfl dX5_drawsCoat_65) (fun h69 => ?_)
        exact ct_vret S rfl dX5_drawsCoat_68
    · exact ct_vret S rfl dX5_drawsCoat_41
  · refine ct_case ?_ (fun c1_ => ?_)
    · refine ct_tableIn (tgt := 69) S dX5_drawsCoat_6 (by decide) (by decide) rfl (by decide) ?_
      refine ct_aload_n (k := 0) S dX5_drawsCoat_69 rfl rfl ?_
      refine ct_aload_n (k := 0) S dX5_drawsCoat_70 rfl rfl ?_
      refine ct_getR S fw_X5_33 dX5_drawsCoat_71 (fun r24 => ?_)
      refine ct_bipush (v := 22) S dX5_drawsCoat_74 kB_22 ?_
      refine ct_iload_n (k := 1) S dX5_drawsCoat_76 rfl rfl ?_
      refine ct_iadd S dX5_drawsCoat_77 ?_
      refine ct_iald S dX5_drawsCoat_78 (fun x25 => ?_)
      refine ct_iload_n (k := 1) S dX5_drawsCoat_79 rfl rfl ?_
      refine ct_rc (fun b26 ci27 V28 hb29 hc30 hi31 => ?_)
      refine ct_cI (st := []) (cg_virtual (av := [cz_i x25, cz_i l1]) S hb29 hc30 hi31 (fun _ e => mt_X5_whyWear e) md_X5_whyWear q2259 q2261 se_HeldCoatsModel_whyWear__II_I_HeldCoatsModel (by decide) (Nat.le_of_ble_eq_true rfl) rfl dX5_drawsCoat_80) (fun x33 h32 => ?_)
      refine ct_if_ne (tgt := 100) S dX5_drawsCoat_83 (by decide) ?_ ?_
      · exact ct_vret S rfl dX5_drawsCoat_100
      · refine ct_aload_n (k := 0) S dX5_drawsCoat_86 rfl rfl ?_
        refine ct_aload_n (k := 0) S dX5_drawsCoat_87 rfl rfl ?_
        refine ct_getR S fw_X5_33 dX5_drawsCoat_88 (fun r34 => ?_)
        refine ct_bipush (v := 22) S dX5_drawsCoat_91 kB_22 ?_
        refine ct_iload_n (k := 1) S dX5_drawsCoat_93 rfl rfl ?_
        refine ct_iadd S dX5_drawsCoat_94 ?_
        refine ct_iald S dX5_drawsCoat_95 (fun x35 => ?_)
        refine ct_iload_n (k := 1) S dX5_drawsCoat_96 rfl rfl ?_
        refine ct_rc (fun b36 ci37 V38 hb39 hc40 hi41 => ?_)
        refine ct_cV (st := []) (cg_virtual (av := [cz_i x35, cz_i l1]) S hb39 hc40 hi41 (fun _ e => mt_X5_wears e) md_X5_wears q2263 q2265 se_HeldCoatsModel_wears__II_V_HeldCoatsModel (by decide) (Nat.le_of_ble_eq_true rfl) rfl dX5_drawsCoat_97) (fun h42 => ?_)
        exact ct_vret S rfl dX5_drawsCoat_100
    · refine ct_case ?_ (fun c2_ => ?_)
      · refine ct_tableIn (tgt := 101) S dX5_drawsCoat_6 (by decide) (by decide) rfl (by decide) ?_
        refine ct_aload_n (k := 0) S dX5_drawsCoat_101 rfl rfl ?_
        refine ct_iload_n (k := 1) S dX5_drawsCoat_102 rfl rfl ?_
        refine ct_rc (fun b9 ci10 V11 hb12 hc13 hi14 => ?_)
        refine ct_cI (st := []) (cg_virtual (av := [cz_i l1]) S hb12 hc13 hi14 (fun _ e => mt_X5_isWorn e) md_X5_isWorn q2243 q2245 se_HeldCoatsModel_isWorn__I_Z_HeldCoatsModel (by decide) (Nat.le_of_ble_eq_true rfl) rfl dX5_drawsCoat_103) (fun x16 h15 => ?_)
        refine ct_if_eq (tgt := 114) S dX5_drawsCoat_106 (by decide) ?_ ?_
        · exact ct_vret S rfl dX5_drawsCoat_114
        · refine ct_aload_n (k := 0) S dX5_drawsCoat_109 rfl rfl ?_
          refine ct_iload_n (k := 1) S dX5_drawsCoat_110 rfl rfl ?_
          refine ct_rc (fun b17 ci18 V19 hb20 hc21 hi22 => ?_)
          refine ct_cV (st := []) (cg_virtual (av := [cz_i l1]) S hb20 hc21 hi22 (fun _ e => mt_X5_keeps e) md_X5_keeps q2283 q2285 se_HeldCoatsModel_keeps__I_V_HeldCoatsModel (by decide) (Nat.le_of_ble_eq_true rfl) rfl dX5_drawsCoat_111) (fun h23 => ?_)
          exact ct_vret S rfl dX5_drawsCoat_114
      · refine ct_tableOut (tgt := 115) S dX5_drawsCoat_6 (by have := lv_neT c0_ (show (0 : Int32).toInt = 0 by decide); have := lv_neT c1_ (show (1 : Int32).toInt = 1 by decide); have := lv_neT c2_ (show (2 : Int32).toInt = 2 by decide); omega) (by decide) ?_
        exact ct_vret S rfl dX5_drawsCoat_115
theorem mt_X5_drawsCoat {l : Launch} {D : cz_D} {l0 : Option Nat} {l1 : Int32} {h : cz_H} {oh : cz_O × cz_H} (hz : fn_X5_drawsCoat l0 l1 h = some oh) : cz_M l D yX5_drawsCoat (ws_ yX5_drawsCoat cX5_drawsCoat 3 ((Option.none : Option Jvm.ClassFile.FieldType))) 4 [cz_r l0, cz_i l1] h oh := cz_met (plainFor_of_name (by decide)) (Nat.le_of_ble_eq_true rfl) hz (fun K hl S => wk_X5_drawsCoat S)
/-! HeldCoatsModel.draws(II)I -/
def dkwX5_draws_2 : List UInt8 := [132, 4, 1, 167, 255, 236, 42, 182, 1, 42, 132, 3, 1, 167, 255, 205, 29, 172]
abbrev dktX5_draws_2 : List UInt8 := dkwX5_draws_2 ++ []
def dkwX5_draws_1 : List UInt8 := [162, 0, 39, 3, 54, 4, 21, 4, 42, 180, 0, 33, 5, 46, 162, 0, 15, 42, 21, 4, 182, 1, 135]
abbrev dktX5_draws_1 : List UInt8 := dkwX5_draws_1 ++ dktX5_draws_2
def dkwX5_draws_0 : List UInt8 := [42, 28, 181, 1, 128, 3, 62, 29, 27, 162, 0, 52, 42, 180, 0, 33, 16, 62, 46, 17, 1, 144]
abbrev dktX5_draws_0 : List UInt8 := dkwX5_draws_0 ++ dktX5_draws_1
theorem dksX5_draws_0 : cX5_draws.data.toList.drop 0 = dktX5_draws_0 := by decide +kernel
theorem dksX5_draws_1 : cX5_draws.data.toList.drop 22 = dktX5_draws_1 := dk_seg dksX5_draws_0 22 rfl rfl
theorem dksX5_draws_2 : cX5_draws.data.toList.drop 45 = dktX5_draws_2 := dk_seg dksX5_draws_1 23 rfl rfl
theorem dX5_draws_0 : decode cX5_draws 0 = .ok (.aload_n 0, 1) := dk_42 (dk_at dksX5_draws_0 0 rfl rfl)
theorem dX5_draws_1 : decode cX5_draws 1 = .ok (.iload_n 2, 1) := dk_28 (dk_at dksX5_draws_0 1 rfl rfl)
theorem dX5_draws_2 : decode cX5_draws 2 = .ok (.putfield 384, 3) := dk_181 1 128 (dk_at dksX5_draws_0 2 rfl rfl)
theorem dX5_draws_5 : decode cX5_draws 5 = .ok (.iconst 0, 1) := dk_3 (dk_at dksX5_draws_0 5 rfl rfl)
theorem dX5_draws_6 : decode cX5_draws 6 = .ok (.istore_n 3, 1) := dk_62 (dk_at dksX5_draws_0 6 rfl rfl)
theorem dX5_draws_7 : decode cX5_draws 7 = .ok (.iload_n 3, 1) := dk_29 (dk_at dksX5_draws_0 7 rfl rfl)
theorem dX5_draws_8 : decode cX5_draws 8 = .ok (.iload_n 1, 1) := dk_27 (dk_at dksX5_draws_0 8 rfl rfl)
theorem dX5_draws_9 : decode cX5_draws 9 = .ok (.if_icmp .ge 52, 3) := dk_162 0 52 (dk_at dksX5_draws_0 9 rfl rfl)
theorem dX5_draws_12 : decode cX5_draws 12 = .ok (.aload_n 0, 1) := dk_42 (dk_at dksX5_draws_0 12 rfl rfl)
theorem dX5_draws_13 : decode cX5_draws 13 = .ok (.getfield 33, 3) := dk_180 0 33 (dk_at dksX5_draws_0 13 rfl rfl)
theorem dX5_draws_16 : decode cX5_draws 16 = .ok (.bipush 62, 2) := dk_16 62 (dk_at dksX5_draws_0 16 rfl rfl)
theorem dX5_draws_18 : decode cX5_draws 18 = .ok (.iaload, 1) := dk_46 (dk_at dksX5_draws_0 18 rfl rfl)
theorem dX5_draws_19 : decode cX5_draws 19 = .ok (.sipush 400, 3) := dk_17 1 144 (dk_at dksX5_draws_0 19 rfl rfl)
theorem dX5_draws_22 : decode cX5_draws 22 = .ok (.if_icmp .ge 39, 3) := dk_162 0 39 (dk_at dksX5_draws_1 0 rfl rfl)
theorem dX5_draws_25 : decode cX5_draws 25 = .ok (.iconst 0, 1) := dk_3 (dk_at dksX5_draws_1 3 rfl rfl)
theorem dX5_draws_26 : decode cX5_draws 26 = .ok (.istore 4, 2) := dk_54 4 (dk_at dksX5_draws_1 4 rfl rfl)
theorem dX5_draws_28 : decode cX5_draws 28 = .ok (.iload 4, 2) := dk_21 4 (dk_at dksX5_draws_1 6 rfl rfl)
theorem dX5_draws_30 : decode cX5_draws 30 = .ok (.aload_n 0, 1) := dk_42 (dk_at dksX5_draws_1 8 rfl rfl)
theorem dX5_draws_31 : decode cX5_draws 31 = .ok (.getfield 33, 3) := dk_180 0 33 (dk_at dksX5_draws_1 9 rfl rfl)
theorem dX5_draws_34 : decode cX5_draws 34 = .ok (.iconst 2, 1) := dk_5 (dk_at dksX5_draws_1 12 rfl rfl)
theorem dX5_draws_35 : decode cX5_draws 35 = .ok (.iaload, 1) := dk_46 (dk_at dksX5_draws_1 13 rfl rfl)
theorem dX5_draws_36 : decode cX5_draws 36 = .ok (.if_icmp .ge 15, 3) := dk_162 0 15 (dk_at dksX5_draws_1 14 rfl rfl)
theorem dX5_draws_39 : decode cX5_draws 39 = .ok (.aload_n 0, 1) := dk_42 (dk_at dksX5_draws_1 17 rfl rfl)
theorem dX5_draws_40 : decode cX5_draws 40 = .ok (.iload 4, 2) := dk_21 4 (dk_at dksX5_draws_1 18 rfl rfl)
theorem dX5_draws_42 : decode cX5_draws 42 = .ok (.invokevirtual 391, 3) := dk_182 1 135 (dk_at dksX5_draws_1 20 rfl rfl)
theorem dX5_draws_45 : decode cX5_draws 45 = .ok (.iinc 4 1, 3) := dk_132 4 1 (dk_at dksX5_draws_2 0 rfl rfl)
theorem dX5_draws_48 : decode cX5_draws 48 = .ok (.goto (-20), 3) := dk_167 255 236 (dk_at dksX5_draws_2 3 rfl rfl)
theorem dX5_draws_51 : decode cX5_draws 51 = .ok (.aload_n 0, 1) := dk_42 (dk_at dksX5_draws_2 6 rfl rfl)
theorem dX5_draws_52 : decode cX5_draws 52 = .ok (.invokevirtual 298, 3) := dk_182 1 42 (dk_at dksX5_draws_2 7 rfl rfl)
theorem dX5_draws_55 : decode cX5_draws 55 = .ok (.iinc 3 1, 3) := dk_132 3 1 (dk_at dksX5_draws_2 10 rfl rfl)
theorem dX5_draws_58 : decode cX5_draws 58 = .ok (.goto (-51), 3) := dk_167 255 205 (dk_at dksX5_draws_2 13 rfl rfl)
theorem dX5_draws_61 : decode cX5_draws 61 = .ok (.iload_n 3, 1) := dk_29 (dk_at dksX5_draws_2 16 rfl rfl)
theorem dX5_draws_62 : decode cX5_draws 62 = .ok (.ireturn, 1) := dk_172 (dk_at dksX5_draws_2 17 rfl rfl)
theorem se_HeldCoatsModel_drawsCoat__I_V_HeldCoatsModel : ∀ c ∈ ([5] : List Nat), ∃ q : vw_C, cz_cl[c]? = some q ∧ Cond.selects q.1 (⟨"HeldCoatsModel", "drawsCoat", "(I)V"⟩ : MethodName) (⟨"HeldCoatsModel", "drawsCoat", "(I)V"⟩ : MethodName) ∈ lw_all := List.forall_mem_cons.mpr ⟨⟨_, cz_cl5, qs100⟩, fun _ h => absurd h List.not_mem_nil⟩
theorem md_X5_drawsCoat : cz_md yX5_drawsCoat 3 (ws_ yX5_drawsCoat cX5_drawsCoat 3 ((Option.none : Option Jvm.ClassFile.FieldType))) 1 := ⟨cz_ws_code q2429, q123, ⟨by decide, by decide, by decide +kernel⟩, by decide⟩
set_option maxHeartbeats 4000000 in
set_option maxRecDepth 100000 in
noncomputable def fn_X5_draws_28 (l0 : Option Nat) (k0 : cz_H → cz_Z) : Nat → Int32 → cz_H → cz_Z
  | 0, _, _ => none
  | n + 1, l4, h => cz_getR h l0 [(5, 6)] (fun r4 => cz_iald h r4 2 (fun x5 => (if x5 ≤ l4 then k0 h else cz_rc h l0 [5] (cz_cV (fn_X5_drawsCoat l0 l4 h) (fun h12 => cz_leti (l4 + 1) (fun x13 => fn_X5_draws_28 l0 k0 n x13 h12))))))
set_option maxHeartbeats 4000000 in
set_option maxRecDepth 100000 in
theorem wk_X5_draws_28 {K : cz_K} {D : cz_D} {h0 : cz_H} {oh : cz_O × cz_H} {l0 : Option Nat} {l1 : Int32} {l3 : Int32} {k0 : cz_H → cz_Z} (S : cz_S K D h0 cX5_draws 5 "HeldCoatsModel" ((Option.some Jvm.ClassFile.FieldType.int)) "draws" ([])) (hk0 : ∀ (h : cz_H), cz_T K D 7 h0 oh 5 (k0 h) h 51 [(0, cz_r l0), (1, cz_i l1), (3, cz_i l3)] []) : ∀ (n : Nat) (l4 : Int32) (h : cz_H), cz_T K D 7 h0 oh 5 (fn_X5_draws_28 l0 k0 n l4 h) h 28 [(0, cz_r l0), (1, cz_i l1), (3, cz_i l3), (4, cz_i l4)] [] := by
  intro n
  induction n with
  | zero => intros; exact ct_none
  | succ n ih =>
    intro l4 h
    rw [fn_X5_draws_28]
    refine ct_iload (k := 3) S dX5_draws_28 rfl ?_
    refine ct_aload_n (k := 0) S dX5_draws_30 rfl rfl ?_
    refine ct_getR S fw_X5_33 dX5_draws_31 (fun r4 => ?_)
    refine ct_iconst (v := 2) S dX5_draws_34 kI_2 ?_
    refine ct_iald S dX5_draws_35 (fun x5 => ?_)
    refine ct_icmp_ge (tgt := 51) S dX5_draws_36 (by decide) ?_ ?_
    · exact ct_sub [0, 1, 2] rfl (hk0 h)
    · refine ct_aload_n (k := 0) S dX5_draws_39 rfl rfl ?_
      refine ct_iload (k := 3) S dX5_draws_40 rfl ?_
      refine ct_rc (fun b6 ci7 V8 hb9 hc10 hi11 => ?_)
      refine ct_cV (st := []) (cg_virtual (av := [cz_i l4]) S hb9 hc10 hi11 (fun _ e => mt_X5_drawsCoat e) md_X5_drawsCoat q2426 q2428 se_HeldCoatsModel_drawsCoat__I_V_HeldCoatsModel (by decide) (Nat.le_of_ble_eq_true rfl) rfl dX5_draws_42) (fun h12 => ?_)
      refine ct_iincL (j := 3) (L2 := fun x13 => [(4, cz_i x13), (0, cz_r l0), (1, cz_i l1), (3, cz_i l3)]) S dX5_draws_45 rfl kI_1 (by decide) (fun _ => rfl) (fun x13 => ?_)
      refine ct_goto (tgt := 28) S dX5_draws_48 (by decide) ?_
      exact ct_sub [1, 2, 3, 0] rfl (ih x13 h12)
set_option maxHeartbeats 4000000 in
set_option maxRecDepth 100000 in
noncomputable def fn_X5_draws_7 (l0 : Option Nat) (l1 : Int32) (k0 : Int32 → cz_H → cz_Z) : Nat → Int32 → cz_H → cz_Z
  | 0, _, _ => none
  | n + 1, l3, h => (if l1 ≤ l3 then k0 l3 h else cz_getR h l0 [(5, 6)] (fun r2 => cz_iald h r2 62 (fun x3 => (if (400 : Int32) ≤ x3 then k0 l3 h else fn_X5_draws_28 l0 (fun (h14 : cz_H) => cz_rc h14 l0 [5] (cz_cV (fn_X5_day l0 h14) (fun h21 => cz_leti (l3 + 1) (fun x22 => fn_X5_draws_7 l0 l1 k0 n x22 h21)))) 1000 0 h))))
set_option maxHeartbeats 4000000 in
set_option maxRecDepth 100000 in
theorem wk_X5_draws_7 {K : cz_K} {D : cz_D} {h0 : cz_H} {oh : cz_O × cz_H} {l0 : Option Nat} {l1 : Int32} {k0 : Int32 → cz_H → cz_Z} (S : cz_S K D h0 cX5_draws 5 "HeldCoatsModel" ((Option.some Jvm.ClassFile.FieldType.int)) "draws" ([])) (hk0 : ∀ (e3 : Int32) (h : cz_H), cz_T K D 7 h0 oh 5 (k0 e3 h) h 61 [(3, cz_i e3)] []) : ∀ (n : Nat) (l3 : Int32) (h : cz_H), cz_T K D 7 h0 oh 5 (fn_X5_draws_7 l0 l1 k0 n l3 h) h 7 [(0, cz_r l0), (1, cz_i l1), (3, cz_i l3)] [] := by
  intro n
  induction n with
  | zero => intros; exact ct_none
  | succ n ih =>
    intro l3 h
    rw [fn_X5_draws_7]
    refine ct_iload_n (k := 2) S dX5_draws_7 rfl rfl ?_
    refine ct_iload_n (k := 1) S dX5_draws_8 rfl rfl ?_
    refine ct_icmp_ge (tgt := 61) S dX5_draws_9 (by decide) ?_ ?_
    · exact ct_sub [2] rfl (hk0 l3 h)
    · refine ct_aload_n (k := 0) S dX5_draws_12 rfl rfl ?_
      refine ct_getR S fw_X5_33 dX5_draws_13 (fun r2 => ?_)
      refine ct_bipush (v := 62) S dX5_draws_16 kB_62 ?_
      refine ct_iald S dX5_draws_18 (fun x3 => ?_)
      refine ct_sipush (v := 400) S dX5_draws_19 kS_400 ?_
      refine ct_icmp_ge (tgt := 61) S dX5_draws_22 (by decide) ?_ ?_
      · exact ct_sub [2] rfl (hk0 l3 h)
      · refine ct_iconst (v := 0) S dX5_draws_25 kI_0 ?_
        refine ct_istore (L' := [(4, cz_i 0), (0, cz_r l0), (1, cz_i l1), (3, cz_i l3)]) S dX5_draws_26 (by decide) rfl ?_
        refine ct_sub [1, 2, 3, 0] (L' := [(0, cz_r l0), (1, cz_i l1), (3, cz_i l3), (4, cz_i 0)]) rfl (wk_X5_draws_28 S ?_ 1000 0 h)
        · intro h14
          refine ct_aload_n (k := 0) S dX5_draws_51 rfl rfl ?_
          refine ct_rc (fun b15 ci16 V17 hb18 hc19 hi20 => ?_)
          refine ct_cV (st := []) (cg_virtual (av := []) S hb18 hc19 hi20 (fun _ e => mt_X5_day e) md_X5_day q2295 q2297 se_HeldCoatsModel_day___V_HeldCoatsModel (by decide) (Nat.le_of_ble_eq_true rfl) rfl dX5_draws_52) (fun h21 => ?_)
          refine ct_iincL (j := 2) (L2 := fun x22 => [(3, cz_i x22), (0, cz_r l0), (1, cz_i l1)]) S dX5_draws_55 rfl kI_1 (by decide) (fun _ => rfl) (fun x22 => ?_)
          refine ct_goto (tgt := 7) S dX5_draws_58 (by decide) ?_
          exact ct_sub [1, 2, 0] rfl (ih x22 h21)
set_option maxHeartbeats 4000000 in
set_option maxRecDepth 100000 in
noncomputable def fn_X5_draws (l0 : Option Nat) (l1 : Int32) (l2 : Int32) (h : cz_H) : cz_Z := cz_put h l0 [(5, 35)] (cz_i l2) (fun h1 => fn_X5_draws_7 l0 l1 (fun (e23 : Int32) (h24 : cz_H) => some (.inl (some (cz_i e23)), h24)) 1000 0 h1)
set_option maxHeartbeats 4000000 in
set_option maxRecDepth 100000 in
theorem wk_X5_draws {K : cz_K} {D : cz_D} {h0 : cz_H} {oh : cz_O × cz_H} {l0 : Option Nat} {l1 : Int32} {l2 : Int32} {h : cz_H} (S : cz_S K D h0 cX5_draws 5 "HeldCoatsModel" ((Option.some Jvm.ClassFile.FieldType.int)) "draws" ([])) : cz_T K D 7 h0 oh 5 (fn_X5_draws l0 l1 l2 h) h 0 [(0, cz_r l0), (1, cz_i l1), (2, cz_i l2)] [] := by
  unfold fn_X5_draws
  refine ct_aload_n (k := 0) S dX5_draws_0 rfl rfl ?_
  refine ct_iload_n (k := 2) S dX5_draws_1 rfl rfl ?_
  refine ct_put S fw_X5_384 fp_X5_m_5_35 (cz_fits_i pd_I) dX5_draws_2 (fun h1 => ?_)
  refine ct_iconst (v := 0) S dX5_draws_5 kI_0 ?_
  refine ct_istore_n (L' := [(3, cz_i 0), (0, cz_r l0), (1, cz_i l1), (2, cz_i l2)]) S dX5_draws_6 rfl (by decide) rfl ?_
  refine ct_sub [1, 2, 0] (L' := [(0, cz_r l0), (1, cz_i l1), (3, cz_i 0)]) rfl (wk_X5_draws_7 S ?_ 1000 0 h1)
  · intro e23 h24
    refine ct_iload_n (k := 0) S dX5_draws_61 rfl rfl ?_
    exact ct_iret S rfl dX5_draws_62
theorem mt_X5_draws {l : Launch} {D : cz_D} {l0 : Option Nat} {l1 : Int32} {l2 : Int32} {h : cz_H} {oh : cz_O × cz_H} (hz : fn_X5_draws l0 l1 l2 h = some oh) : cz_M l D yX5_draws (ws_ yX5_draws cX5_draws 5 ((Option.some Jvm.ClassFile.FieldType.int))) 7 [cz_r l0, cz_i l1, cz_i l2] h oh := cz_met (plainFor_of_name (by decide)) (Nat.le_of_ble_eq_true rfl) hz (fun K hl S => wk_X5_draws S)
/-! HeldCoatsModel.drawn(II)I -/
def dkwX5_drawn_2 : List UInt8 := [182, 1, 138, 172]
abbrev dktX5_drawn_2 : List UInt8 := dkwX5_drawn_2 ++ []
def dkwX5_drawn_1 : List UInt8 := [2, 172, 42, 180, 0, 33, 16, 62, 46, 17, 1, 144, 162, 0, 7, 42, 182, 1, 48, 42, 27, 28]
abbrev dktX5_drawn_1 : List UInt8 := dkwX5_drawn_1 ++ dktX5_drawn_2
def dkwX5_drawn_0 : List UInt8 := [42, 3, 181, 0, 1, 27, 4, 16, 60, 184, 0, 171, 153, 0, 12, 42, 180, 0, 33, 5, 46, 154, 0, 5]
abbrev dktX5_drawn_0 : List UInt8 := dkwX5_drawn_0 ++ dktX5_drawn_1
theorem dksX5_drawn_0 : cX5_drawn.data.toList.drop 0 = dktX5_drawn_0 := by decide +kernel
theorem dksX5_drawn_1 : cX5_drawn.data.toList.drop 24 = dktX5_drawn_1 := dk_seg dksX5_drawn_0 24 rfl rfl
theorem dksX5_drawn_2 : cX5_drawn.data.toList.drop 46 = dktX5_drawn_2 := dk_seg dksX5_drawn_1 22 rfl rfl
theorem dX5_drawn_0 : decode cX5_drawn 0 = .ok (.aload_n 0, 1) := dk_42 (dk_at dksX5_drawn_0 0 rfl rfl)
theorem dX5_drawn_1 : decode cX5_drawn 1 = .ok (.iconst 0, 1) := dk_3 (dk_at dksX5_drawn_0 1 rfl rfl)
theorem dX5_drawn_2 : decode cX5_drawn 2 = .ok (.putfield 1, 3) := dk_181 0 1 (dk_at dksX5_drawn_0 2 rfl rfl)
theorem dX5_drawn_5 : decode cX5_drawn 5 = .ok (.iload_n 1, 1) := dk_27 (dk_at dksX5_drawn_0 5 rfl rfl)
theorem dX5_drawn_6 : decode cX5_drawn 6 = .ok (.iconst 1, 1) := dk_4 (dk_at dksX5_drawn_0 6 rfl rfl)
theorem dX5_drawn_7 : decode cX5_drawn 7 = .ok (.bipush 60, 2) := dk_16 60 (dk_at dksX5_drawn_0 7 rfl rfl)
theorem dX5_drawn_9 : decode cX5_drawn 9 = .ok (.invokestatic 171, 3) := dk_184 0 171 (dk_at dksX5_drawn_0 9 rfl rfl)
theorem dX5_drawn_12 : decode cX5_drawn 12 = .ok (.ifCond .eq 12, 3) := dk_153 0 12 (dk_at dksX5_drawn_0 12 rfl rfl)
theorem dX5_drawn_15 : decode cX5_drawn 15 = .ok (.aload_n 0, 1) := dk_42 (dk_at dksX5_drawn_0 15 rfl rfl)
theorem dX5_drawn_16 : decode cX5_drawn 16 = .ok (.getfield 33, 3) := dk_180 0 33 (dk_at dksX5_drawn_0 16 rfl rfl)
theorem dX5_drawn_19 : decode cX5_drawn 19 = .ok (.iconst 2, 1) := dk_5 (dk_at dksX5_drawn_0 19 rfl rfl)
theorem dX5_drawn_20 : decode cX5_drawn 20 = .ok (.iaload, 1) := dk_46 (dk_at dksX5_drawn_0 20 rfl rfl)
theorem dX5_drawn_21 : decode cX5_drawn 21 = .ok (.ifCond .ne 5, 3) := dk_154 0 5 (dk_at dksX5_drawn_0 21 rfl rfl)
theorem dX5_drawn_24 : decode cX5_drawn 24 = .ok (.iconst (-1), 1) := dk_2 (dk_at dksX5_drawn_1 0 rfl rfl)
theorem dX5_drawn_25 : decode cX5_drawn 25 = .ok (.ireturn, 1) := dk_172 (dk_at dksX5_drawn_1 1 rfl rfl)
theorem dX5_drawn_26 : decode cX5_drawn 26 = .ok (.aload_n 0, 1) := dk_42 (dk_at dksX5_drawn_1 2 rfl rfl)
theorem dX5_drawn_27 : decode cX5_drawn 27 = .ok (.getfield 33, 3) := dk_180 0 33 (dk_at dksX5_drawn_1 3 rfl rfl)
theorem dX5_drawn_30 : decode cX5_drawn 30 = .ok (.bipush 62, 2) := dk_16 62 (dk_at dksX5_drawn_1 6 rfl rfl)
theorem dX5_drawn_32 : decode cX5_drawn 32 = .ok (.iaload, 1) := dk_46 (dk_at dksX5_drawn_1 8 rfl rfl)
theorem dX5_drawn_33 : decode cX5_drawn 33 = .ok (.sipush 400, 3) := dk_17 1 144 (dk_at dksX5_drawn_1 9 rfl rfl)
theorem dX5_drawn_36 : decode cX5_drawn 36 = .ok (.if_icmp .ge 7, 3) := dk_162 0 7 (dk_at dksX5_drawn_1 12 rfl rfl)
theorem dX5_drawn_39 : decode cX5_drawn 39 = .ok (.aload_n 0, 1) := dk_42 (dk_at dksX5_drawn_1 15 rfl rfl)
theorem dX5_drawn_40 : decode cX5_drawn 40 = .ok (.invokevirtual 304, 3) := dk_182 1 48 (dk_at dksX5_drawn_1 16 rfl rfl)
theorem dX5_drawn_43 : decode cX5_drawn 43 = .ok (.aload_n 0, 1) := dk_42 (dk_at dksX5_drawn_1 19 rfl rfl)
theorem dX5_drawn_44 : decode cX5_drawn 44 = .ok (.iload_n 1, 1) := dk_27 (dk_at dksX5_drawn_1 20 rfl rfl)
theorem dX5_drawn_45 : decode cX5_drawn 45 = .ok (.iload_n 2, 1) := dk_28 (dk_at dksX5_drawn_1 21 rfl rfl)
theorem dX5_drawn_46 : decode cX5_drawn 46 = .ok (.invokevirtual 394, 3) := dk_182 1 138 (dk_at dksX5_drawn_2 0 rfl rfl)
theorem dX5_drawn_49 : decode cX5_drawn 49 = .ok (.ireturn, 1) := dk_172 (dk_at dksX5_drawn_2 3 rfl rfl)
theorem se_HeldCoatsModel_draws__II_I_HeldCoatsModel : ∀ c ∈ ([5] : List Nat), ∃ q : vw_C, cz_cl[c]? = some q ∧ Cond.selects q.1 (⟨"HeldCoatsModel", "draws", "(II)I"⟩ : MethodName) (⟨"HeldCoatsModel", "draws", "(II)I"⟩ : MethodName) ∈ lw_all := List.forall_mem_cons.mpr ⟨⟨_, cz_cl5, qs99⟩, fun _ h => absurd h List.not_mem_nil⟩
theorem md_X5_draws : cz_md yX5_draws 5 (ws_ yX5_draws cX5_draws 5 ((Option.some Jvm.ClassFile.FieldType.int))) 2 := ⟨cz_ws_code q2425, q123, ⟨by decide, by decide, by decide +kernel⟩, by decide⟩
set_option maxHeartbeats 4000000 in
set_option maxRecDepth 100000 in
noncomputable def fn_X5_drawn (l0 : Option Nat) (l1 : Int32) (l2 : Int32) (h : cz_H) : cz_Z := cz_put h l0 [(5, 0)] (cz_i 0) (fun h1 => cz_cI (fn_X5_isIn l1 1 60 h1) (fun x3 h2 => (if x3 = 0 then some (.inl (some (cz_i (-1))), h2) else cz_getR h2 l0 [(5, 6)] (fun r4 => cz_iald h2 r4 2 (fun x5 => (if x5 = 0 then some (.inl (some (cz_i (-1))), h2) else cz_getR h2 l0 [(5, 6)] (fun r6 => cz_iald h2 r6 62 (fun x7 => (if (400 : Int32) ≤ x7 then cz_rc h2 l0 [5] (cz_cI (fn_X5_draws l0 l1 l2 h2) (fun x15 h14 => some (.inl (some (cz_i x15)), h14))) else cz_rc h2 l0 [5] (cz_cV (fn_X5_keepsAll l0 h2) (fun h22 => cz_rc h22 l0 [5] (cz_cI (fn_X5_draws l0 l1 l2 h22) (fun x30 h29 => some (.inl (some (cz_i x30)), h29))))))))))))))
set_option maxHeartbeats 4000000 in
set_option maxRecDepth 100000 in
theorem wk_X5_drawn {K : cz_K} {D : cz_D} {h0 : cz_H} {oh : cz_O × cz_H} {l0 : Option Nat} {l1 : Int32} {l2 : Int32} {h : cz_H} (S : cz_S K D h0 cX5_drawn 3 "HeldCoatsModel" ((Option.some Jvm.ClassFile.FieldType.int)) "drawn" ([])) : cz_T K D 8 h0 oh 3 (fn_X5_drawn l0 l1 l2 h) h 0 [(0, cz_r l0), (1, cz_i l1), (2, cz_i l2)] [] := by
  unfold fn_X5_drawn
  refine ct_aload_n (k := 0) S dX5_drawn_0 rfl rfl ?_
  refine ct_iconst (v := 0) S dX5_drawn_1 kI_0 ?_
  refine ct_put S fw_X5_1 fp_X5_m_5_0 (cz_fits_i pd_I) dX5_drawn_2 (fun h1 => ?_)
  refine ct_iload_n (k := 1) S dX5_drawn_5 rfl rfl ?_
  refine ct_iconst (v := 1) S dX5_drawn_6 kI_1 ?_
  refine ct_bipush (v := 60) S dX5_drawn_7 kB_60 ?_
  refine ct_cI (st := []) (cg_static (av := [cz_i l1, cz_i 1, cz_i 60]) S (fun _ e => mt_X5_isIn e) md_X5_isIn (Or.inl q2122) q2123 (by decide) (Nat.le_of_ble_eq_true rfl) rfl dX5_drawn_9) (fun x3 h2 => ?_)
  refine ct_if_eq (tgt := 24) S dX5_drawn_12 (by decide) ?_ ?_
  · refine ct_iconst (v := (-1)) S dX5_drawn_24 kI_m1 ?_
    exact ct_iret S rfl dX5_drawn_25
  · refine ct_aload_n (k := 0) S dX5_drawn_15 rfl rfl ?_
    refine ct_getR S fw_X5_33 dX5_drawn_16 (fun r4 => ?_)
    refine ct_iconst (v := 2) S dX5_drawn_19 kI_2 ?_
    refine ct_iald S dX5_drawn_20 (fun x5 => ?_)
    refine ct_if_ne (tgt := 26) S dX5_drawn_21 (by decide) ?_ ?_
    · refine ct_aload_n (k := 0) S dX5_drawn_26 rfl rfl ?_
      refine ct_getR S fw_X5_33 dX5_drawn_27 (fun r6 => ?_)
      refine ct_bipush (v := 62) S dX5_drawn_30 kB_62 ?_
      refine ct_iald S dX5_drawn_32 (fun x7 => ?_)
      refine ct_sipush (v := 400) S dX5_drawn_33 kS_400 ?_
      refine ct_icmp_ge (tgt := 43) S dX5_drawn_36 (by decide) ?_ ?_
      · refine ct_aload_n (k := 0) S dX5_drawn_43 rfl rfl ?_
        refine ct_iload_n (k := 1) S dX5_drawn_44 rfl rfl ?_
        refine ct_iload_n (k := 2) S dX5_drawn_45 rfl rfl ?_
        refine ct_rc (fun b8 ci9 V10 hb11 hc12 hi13 => ?_)
        refine ct_cI (st := []) (cg_virtual (av := [cz_i l1, cz_i l2]) S hb11 hc12 hi13 (fun _ e => mt_X5_draws e) md_X5_draws q2422 q2424 se_HeldCoatsModel_draws__II_I_HeldCoatsModel (by decide) (Nat.le_of_ble_eq_true rfl) rfl dX5_drawn_46) (fun x15 h14 => ?_)
        exact ct_iret S rfl dX5_drawn_49
      · refine ct_aload_n (k := 0) S dX5_drawn_39 rfl rfl ?_
        refine ct_rc (fun b16 ci17 V18 hb19 hc20 hi21 => ?_)
        refine ct_cV (st := []) (cg_virtual (av := []) S hb19 hc20 hi21 (fun _ e => mt_X5_keepsAll e) md_X5_keepsAll q2247 q2249 se_HeldCoatsModel_keepsAll___V_HeldCoatsModel (by decide) (Nat.le_of_ble_eq_true rfl) rfl dX5_drawn_40) (fun h22 => ?_)
        refine ct_aload_n (k := 0) S dX5_drawn_43 rfl rfl ?_
        refine ct_iload_n (k := 1) S dX5_drawn_44 rfl rfl ?_
        refine ct_iload_n (k := 2) S dX5_drawn_45 rfl rfl ?_
        refine ct_rc (fun b23 ci24 V25 hb26 hc27 hi28 => ?_)
        refine ct_cI (st := []) (cg_virtual (av := [cz_i l1, cz_i l2]) S hb26 hc27 hi28 (fun _ e => mt_X5_draws e) md_X5_draws q2422 q2424 se_HeldCoatsModel_draws__II_I_HeldCoatsModel (by decide) (Nat.le_of_ble_eq_true rfl) rfl dX5_drawn_46) (fun x30 h29 => ?_)
        exact ct_iret S rfl dX5_drawn_49
    · refine ct_iconst (v := (-1)) S dX5_drawn_24 kI_m1 ?_
      exact ct_iret S rfl dX5_drawn_25
theorem mt_X5_drawn {l : Launch} {D : cz_D} {l0 : Option Nat} {l1 : Int32} {l2 : Int32} {h : cz_H} {oh : cz_O × cz_H} (hz : fn_X5_drawn l0 l1 l2 h = some oh) : cz_M l D yX5_drawn (ws_ yX5_drawn cX5_drawn 3 ((Option.some Jvm.ClassFile.FieldType.int))) 8 [cz_r l0, cz_i l1, cz_i l2] h oh := cz_met (plainFor_of_name (by decide)) (Nat.le_of_ble_eq_true rfl) hz (fun K hl S => wk_X5_drawn S)
/-! HeldCoatsModel.end(I)Z -/
def dkwX5_end_1 : List UInt8 := [4, 172]
abbrev dktX5_end_1 : List UInt8 := dkwX5_end_1 ++ []
def dkwX5_end_0 : List UInt8 := [42, 3, 181, 0, 1, 27, 155, 0, 11, 27, 42, 180, 0, 7, 164, 0, 5, 3, 172, 42, 27, 181, 0, 7]
abbrev dktX5_end_0 : List UInt8 := dkwX5_end_0 ++ dktX5_end_1
theorem dksX5_end_0 : cX5_end.data.toList.drop 0 = dktX5_end_0 := by decide +kernel
theorem dksX5_end_1 : cX5_end.data.toList.drop 24 = dktX5_end_1 := dk_seg dksX5_end_0 24 rfl rfl
theorem dX5_end_0 : decode cX5_end 0 = .ok (.aload_n 0, 1) := dk_42 (dk_at dksX5_end_0 0 rfl rfl)
theorem dX5_end_1 : decode cX5_end 1 = .ok (.iconst 0, 1) := dk_3 (dk_at dksX5_end_0 1 rfl rfl)
theorem dX5_end_2 : decode cX5_end 2 = .ok (.putfield 1, 3) := dk_181 0 1 (dk_at dksX5_end_0 2 rfl rfl)
theorem dX5_end_5 : decode cX5_end 5 = .ok (.iload_n 1, 1) := dk_27 (dk_at dksX5_end_0 5 rfl rfl)
theorem dX5_end_6 : decode cX5_end 6 = .ok (.ifCond .lt 11, 3) := dk_155 0 11 (dk_at dksX5_end_0 6 rfl rfl)
theorem dX5_end_9 : decode cX5_end 9 = .ok (.iload_n 1, 1) := dk_27 (dk_at dksX5_end_0 9 rfl rfl)
theorem dX5_end_10 : decode cX5_end 10 = .ok (.aload_n 0, 1) := dk_42 (dk_at dksX5_end_0 10 rfl rfl)
theorem dX5_end_11 : decode cX5_end 11 = .ok (.getfield 7, 3) := dk_180 0 7 (dk_at dksX5_end_0 11 rfl rfl)
theorem dX5_end_14 : decode cX5_end 14 = .ok (.if_icmp .le 5, 3) := dk_164 0 5 (dk_at dksX5_end_0 14 rfl rfl)
theorem dX5_end_17 : decode cX5_end 17 = .ok (.iconst 0, 1) := dk_3 (dk_at dksX5_end_0 17 rfl rfl)
theorem dX5_end_18 : decode cX5_end 18 = .ok (.ireturn, 1) := dk_172 (dk_at dksX5_end_0 18 rfl rfl)
theorem dX5_end_19 : decode cX5_end 19 = .ok (.aload_n 0, 1) := dk_42 (dk_at dksX5_end_0 19 rfl rfl)
theorem dX5_end_20 : decode cX5_end 20 = .ok (.iload_n 1, 1) := dk_27 (dk_at dksX5_end_0 20 rfl rfl)
theorem dX5_end_21 : decode cX5_end 21 = .ok (.putfield 7, 3) := dk_181 0 7 (dk_at dksX5_end_0 21 rfl rfl)
theorem dX5_end_24 : decode cX5_end 24 = .ok (.iconst 1, 1) := dk_4 (dk_at dksX5_end_1 0 rfl rfl)
theorem dX5_end_25 : decode cX5_end 25 = .ok (.ireturn, 1) := dk_172 (dk_at dksX5_end_1 1 rfl rfl)
set_option maxHeartbeats 4000000 in
set_option maxRecDepth 100000 in
noncomputable def fn_X5_end (l0 : Option Nat) (l1 : Int32) (h : cz_H) : cz_Z := cz_put h l0 [(5, 0)] (cz_i 0) (fun h1 => (if l1 < 0 then some (.inl (some (cz_i 0)), h1) else cz_getI h1 l0 [(5, 2)] (fun x2 => (if l1 ≤ x2 then cz_put h1 l0 [(5, 2)] (cz_i l1) (fun h3 => some (.inl (some (cz_i 1)), h3)) else some (.inl (some (cz_i 0)), h1)))))
set_option maxHeartbeats 4000000 in
set_option maxRecDepth 100000 in
theorem wk_X5_end {K : cz_K} {D : cz_D} {h0 : cz_H} {oh : cz_O × cz_H} {l0 : Option Nat} {l1 : Int32} {h : cz_H} (S : cz_S K D h0 cX5_end 2 "HeldCoatsModel" ((Option.some Jvm.ClassFile.FieldType.boolean)) "end" ([])) : cz_T K D 2 h0 oh 2 (fn_X5_end l0 l1 h) h 0 [(0, cz_r l0), (1, cz_i l1)] [] := by
  unfold fn_X5_end
  refine ct_aload_n (k := 0) S dX5_end_0 rfl rfl ?_
  refine ct_iconst (v := 0) S dX5_end_1 kI_0 ?_
  refine ct_put S fw_X5_1 fp_X5_m_5_0 (cz_fits_i pd_I) dX5_end_2 (fun h1 => ?_)
  refine ct_iload_n (k := 1) S dX5_end_5 rfl rfl ?_
  refine ct_if_lt (tgt := 17) S dX5_end_6 (by decide) ?_ ?_
  · refine ct_iconst (v := 0) S dX5_end_17 kI_0 ?_
    exact ct_zr (ty := .boolean) S rfl rfl dX5_end_18
  · refine ct_iload_n (k := 1) S dX5_end_9 rfl rfl ?_
    refine ct_aload_n (k := 0) S dX5_end_10 rfl rfl ?_
    refine ct_getI S fw_X5_7 dX5_end_11 (fun x2 => ?_)
    refine ct_icmp_le (tgt := 19) S dX5_end_14 (by decide) ?_ ?_
    · refine ct_aload_n (k := 0) S dX5_end_19 rfl rfl ?_
      refine ct_iload_n (k := 1) S dX5_end_20 rfl rfl ?_
      refine ct_put S fw_X5_7 fp_X5_m_5_2 (cz_fits_i pd_I) dX5_end_21 (fun h3 => ?_)
      refine ct_iconst (v := 1) S dX5_end_24 kI_1 ?_
      exact ct_zr (ty := .boolean) S rfl rfl dX5_end_25
    · refine ct_iconst (v := 0) S dX5_end_17 kI_0 ?_
      exact ct_zr (ty := .boolean) S rfl rfl dX5_end_18
theorem mt_X5_end {l : Launch} {D : cz_D} {l0 : Option Nat} {l1 : Int32} {h : cz_H} {oh : cz_O × cz_H} (hz : fn_X5_end l0 l1 h = some oh) : cz_M l D yX5_end (ws_ yX5_end cX5_end 2 ((Option.some Jvm.ClassFile.FieldType.boolean))) 2 [cz_r l0, cz_i l1] h oh := cz_met (plainFor_of_name (by decide)) (Nat.le_of_ble_eq_true rfl) hz (fun K hl S => wk_X5_end S)
/-! HeldCoatsModel.fault()I -/
def dkwX5_fault_0 : List UInt8 := [42, 3, 181, 0, 1, 42, 180, 0, 156, 172]
abbrev dktX5_fault_0 : List UInt8 := dkwX5_fault_0 ++ []
theorem dksX5_fault_0 : cX5_fault.data.toList.drop 0 = dktX5_fault_0 := by decide +kernel
theorem dX5_fault_0 : decode cX5_fault 0 = .ok (.aload_n 0, 1) := dk_42 (dk_at dksX5_fault_0 0 rfl rfl)
theorem dX5_fault_1 : decode cX5_fault 1 = .ok (.iconst 0, 1) := dk_3 (dk_at dksX5_fault_0 1 rfl rfl)
theorem dX5_fault_2 : decode cX5_fault 2 = .ok (.putfield 1, 3) := dk_181 0 1 (dk_at dksX5_fault_0 2 rfl rfl)
theorem dX5_fault_5 : decode cX5_fault 5 = .ok (.aload_n 0, 1) := dk_42 (dk_at dksX5_fault_0 5 rfl rfl)
theorem dX5_fault_6 : decode cX5_fault 6 = .ok (.getfield 156, 3) := dk_180 0 156 (dk_at dksX5_fault_0 6 rfl rfl)
theorem dX5_fault_9 : decode cX5_fault 9 = .ok (.ireturn, 1) := dk_172 (dk_at dksX5_fault_0 9 rfl rfl)
set_option maxHeartbeats 4000000 in
set_option maxRecDepth 100000 in
noncomputable def fn_X5_fault (l0 : Option Nat) (h : cz_H) : cz_Z := cz_put h l0 [(5, 0)] (cz_i 0) (fun h1 => cz_getI h1 l0 [(5, 15)] (fun x2 => some (.inl (some (cz_i x2)), h1)))
set_option maxHeartbeats 4000000 in
set_option maxRecDepth 100000 in
theorem wk_X5_fault {K : cz_K} {D : cz_D} {h0 : cz_H} {oh : cz_O × cz_H} {l0 : Option Nat} {h : cz_H} (S : cz_S K D h0 cX5_fault 1 "HeldCoatsModel" ((Option.some Jvm.ClassFile.FieldType.int)) "fault" ([])) : cz_T K D 2 h0 oh 1 (fn_X5_fault l0 h) h 0 [(0, cz_r l0)] [] := by
  unfold fn_X5_fault
  refine ct_aload_n (k := 0) S dX5_fault_0 rfl rfl ?_
  refine ct_iconst (v := 0) S dX5_fault_1 kI_0 ?_
  refine ct_put S fw_X5_1 fp_X5_m_5_0 (cz_fits_i pd_I) dX5_fault_2 (fun h1 => ?_)
  refine ct_aload_n (k := 0) S dX5_fault_5 rfl rfl ?_
  refine ct_getI S fw_X5_156 dX5_fault_6 (fun x2 => ?_)
  exact ct_iret S rfl dX5_fault_9
theorem mt_X5_fault {l : Launch} {D : cz_D} {l0 : Option Nat} {h : cz_H} {oh : cz_O × cz_H} (hz : fn_X5_fault l0 h = some oh) : cz_M l D yX5_fault (ws_ yX5_fault cX5_fault 1 ((Option.some Jvm.ClassFile.FieldType.int))) 2 [cz_r l0] h oh := cz_met (plainFor_of_name (by decide)) (Nat.le_of_ble_eq_true rfl) hz (fun K hl S => wk_X5_fault S)
/-! HeldCoatsModel.four(I)V -/
def dkwX5_four_1 : List UInt8 := [180, 0, 7, 4, 96, 181, 0, 7, 132, 2, 248, 167, 255, 226, 177]
abbrev dktX5_four_1 : List UInt8 := dkwX5_four_1 ++ []
def dkwX5_four_0 : List UInt8 := [16, 24, 61, 28, 155, 0, 32, 42, 180, 0, 14, 42, 180, 0, 7, 27, 28, 122, 145, 84, 42, 89]
abbrev dktX5_four_0 : List UInt8 := dkwX5_four_0 ++ dktX5_four_1
theorem dksX5_four_0 : cX5_four.data.toList.drop 0 = dktX5_four_0 := by decide +kernel
theorem dksX5_four_1 : cX5_four.data.toList.drop 22 = dktX5_four_1 := dk_seg dksX5_four_0 22 rfl rfl
theorem dX5_four_0 : decode cX5_four 0 = .ok (.bipush 24, 2) := dk_16 24 (dk_at dksX5_four_0 0 rfl rfl)
theorem dX5_four_2 : decode cX5_four 2 = .ok (.istore_n 2, 1) := dk_61 (dk_at dksX5_four_0 2 rfl rfl)
theorem dX5_four_3 : decode cX5_four 3 = .ok (.iload_n 2, 1) := dk_28 (dk_at dksX5_four_0 3 rfl rfl)
theorem dX5_four_4 : decode cX5_four 4 = .ok (.ifCond .lt 32, 3) := dk_155 0 32 (dk_at dksX5_four_0 4 rfl rfl)
theorem dX5_four_7 : decode cX5_four 7 = .ok (.aload_n 0, 1) := dk_42 (dk_at dksX5_four_0 7 rfl rfl)
theorem dX5_four_8 : decode cX5_four 8 = .ok (.getfield 14, 3) := dk_180 0 14 (dk_at dksX5_four_0 8 rfl rfl)
theorem dX5_four_11 : decode cX5_four 11 = .ok (.aload_n 0, 1) := dk_42 (dk_at dksX5_four_0 11 rfl rfl)
theorem dX5_four_12 : decode cX5_four 12 = .ok (.getfield 7, 3) := dk_180 0 7 (dk_at dksX5_four_0 12 rfl rfl)
theorem dX5_four_15 : decode cX5_four 15 = .ok (.iload_n 1, 1) := dk_27 (dk_at dksX5_four_0 15 rfl rfl)
theorem dX5_four_16 : decode cX5_four 16 = .ok (.iload_n 2, 1) := dk_28 (dk_at dksX5_four_0 16 rfl rfl)
theorem dX5_four_17 : decode cX5_four 17 = .ok (.ishr, 1) := dk_122 (dk_at dksX5_four_0 17 rfl rfl)
theorem dX5_four_18 : decode cX5_four 18 = .ok (.i2b, 1) := dk_145 (dk_at dksX5_four_0 18 rfl rfl)
theorem dX5_four_19 : decode cX5_four 19 = .ok (.bastore, 1) := dk_84 (dk_at dksX5_four_0 19 rfl rfl)
theorem dX5_four_20 : decode cX5_four 20 = .ok (.aload_n 0, 1) := dk_42 (dk_at dksX5_four_0 20 rfl rfl)
theorem dX5_four_21 : decode cX5_four 21 = .ok (.dup, 1) := dk_89 (dk_at dksX5_four_0 21 rfl rfl)
theorem dX5_four_22 : decode cX5_four 22 = .ok (.getfield 7, 3) := dk_180 0 7 (dk_at dksX5_four_1 0 rfl rfl)
theorem dX5_four_25 : decode cX5_four 25 = .ok (.iconst 1, 1) := dk_4 (dk_at dksX5_four_1 3 rfl rfl)
theorem dX5_four_26 : decode cX5_four 26 = .ok (.iadd, 1) := dk_96 (dk_at dksX5_four_1 4 rfl rfl)
theorem dX5_four_27 : decode cX5_four 27 = .ok (.putfield 7, 3) := dk_181 0 7 (dk_at dksX5_four_1 5 rfl rfl)
theorem dX5_four_30 : decode cX5_four 30 = .ok (.iinc 2 (-8), 3) := dk_132 2 248 (dk_at dksX5_four_1 8 rfl rfl)
theorem dX5_four_33 : decode cX5_four 33 = .ok (.goto (-30), 3) := dk_167 255 226 (dk_at dksX5_four_1 11 rfl rfl)
theorem dX5_four_36 : decode cX5_four 36 = .ok (.return_, 1) := dk_177 (dk_at dksX5_four_1 14 rfl rfl)
theorem kI_m8 : Int32.ofInt (-8) = (-8) := by decide
set_option maxHeartbeats 4000000 in
set_option maxRecDepth 100000 in
noncomputable def fn_X5_four_3 (l0 : Option Nat) (l1 : Int32) (k0 : cz_H → cz_Z) : Nat → Int32 → cz_H → cz_Z
  | 0, _, _ => none
  | n + 1, l2, h => (if l2 < 0 then k0 h else cz_getR h l0 [(5, 1)] (fun r1 => cz_getI h l0 [(5, 2)] (fun x2 => cz_bast h r1 x2 (((l1 >>> (l2 &&& 31))).toInt8.toInt32) (fun h3 => cz_getI h3 l0 [(5, 2)] (fun x4 => cz_put h3 l0 [(5, 2)] (cz_i (x4 + 1)) (fun h5 => cz_leti (l2 + (-8)) (fun x6 => fn_X5_four_3 l0 l1 k0 n x6 h5)))))))
set_option maxHeartbeats 4000000 in
set_option maxRecDepth 100000 in
theorem wk_X5_four_3 {K : cz_K} {D : cz_D} {h0 : cz_H} {oh : cz_O × cz_H} {l0 : Option Nat} {l1 : Int32} {k0 : cz_H → cz_Z} (S : cz_S K D h0 cX5_four 3 "HeldCoatsModel" ((Option.none : Option Jvm.ClassFile.FieldType)) "four" ([])) (hk0 : ∀ (h : cz_H), cz_T K D 2 h0 oh 3 (k0 h) h 36 [] []) : ∀ (n : Nat) (l2 : Int32) (h : cz_H), cz_T K D 2 h0 oh 3 (fn_X5_four_3 l0 l1 k0 n l2 h) h 3 [(0, cz_r l0), (1, cz_i l1), (2, cz_i l2)] [] := by
  intro n
  induction n with
  | zero => intros; exact ct_none
  | succ n ih =>
    intro l2 h
    rw [fn_X5_four_3]
    refine ct_iload_n (k := 2) S dX5_four_3 rfl rfl ?_
    refine ct_if_lt (tgt := 36) S dX5_four_4 (by decide) ?_ ?_
    · exact ct_sub [] rfl (hk0 h)
    · refine ct_aload_n (k := 0) S dX5_four_7 rfl rfl ?_
      refine ct_getR S fw_X5_14 dX5_four_8 (fun r1 => ?_)
      refine ct_aload_n (k := 0) S dX5_four_11 rfl rfl ?_
      refine ct_getI S fw_X5_7 dX5_four_12 (fun x2 => ?_)
      refine ct_iload_n (k := 1) S dX5_four_15 rfl rfl ?_
      refine ct_iload_n (k := 2) S dX5_four_16 rfl rfl ?_
      refine ct_ishr S dX5_four_17 ?_
      refine ct_i2b S dX5_four_18 ?_
      refine ct_bast S dX5_four_19 (fun h3 => ?_)
      refine ct_aload_n (k := 0) S dX5_four_20 rfl rfl ?_
      refine ct_dup S dX5_four_21 rfl ?_
      refine ct_getI S fw_X5_7 dX5_four_22 (fun x4 => ?_)
      refine ct_iconst (v := 1) S dX5_four_25 kI_1 ?_
      refine ct_iadd S dX5_four_26 ?_
      refine ct_put S fw_X5_7 fp_X5_m_5_2 (cz_fits_i pd_I) dX5_four_27 (fun h5 => ?_)
      refine ct_iincL (j := 2) (L2 := fun x6 => [(2, cz_i x6), (0, cz_r l0), (1, cz_i l1)]) S dX5_four_30 rfl kI_m8 (by decide) (fun _ => rfl) (fun x6 => ?_)
      refine ct_goto (tgt := 3) S dX5_four_33 (by decide) ?_
      exact ct_sub [1, 2, 0] rfl (ih x6 h5)
set_option maxHeartbeats 4000000 in
set_option maxRecDepth 100000 in
noncomputable def fn_X5_four (l0 : Option Nat) (l1 : Int32) (h : cz_H) : cz_Z := fn_X5_four_3 l0 l1 (fun (h7 : cz_H) => some (.inl none, h7)) 1000 24 h
set_option maxHeartbeats 4000000 in
set_option maxRecDepth 100000 in
theorem wk_X5_four {K : cz_K} {D : cz_D} {h0 : cz_H} {oh : cz_O × cz_H} {l0 : Option Nat} {l1 : Int32} {h : cz_H} (S : cz_S K D h0 cX5_four 3 "HeldCoatsModel" ((Option.none : Option Jvm.ClassFile.FieldType)) "four" ([])) : cz_T K D 2 h0 oh 3 (fn_X5_four l0 l1 h) h 0 [(0, cz_r l0), (1, cz_i l1)] [] := by
  unfold fn_X5_four
  refine ct_bipush (v := 24) S dX5_four_0 kB_24 ?_
  refine ct_istore_n (L' := [(2, cz_i 24), (0, cz_r l0), (1, cz_i l1)]) S dX5_four_2 rfl (by decide) rfl ?_
  refine ct_sub [1, 2, 0] (L' := [(0, cz_r l0), (1, cz_i l1), (2, cz_i 24)]) rfl (wk_X5_four_3 S ?_ 1000 24 h)
  · intro h7
    exact ct_vret S rfl dX5_four_36
theorem mt_X5_four {l : Launch} {D : cz_D} {l0 : Option Nat} {l1 : Int32} {h : cz_H} {oh : cz_O × cz_H} (hz : fn_X5_four l0 l1 h = some oh) : cz_M l D yX5_four (ws_ yX5_four cX5_four 3 ((Option.none : Option Jvm.ClassFile.FieldType))) 2 [cz_r l0, cz_i l1] h oh := cz_met (plainFor_of_name (by decide)) (Nat.le_of_ble_eq_true rfl) hz (fun K hl S => wk_X5_four S)
/-! HeldCoatsModel.feed(IIIII)I -/
def dkwX5_feed_2 : List UInt8 := [182, 0, 10, 42, 180, 0, 7, 172]
abbrev dktX5_feed_2 : List UInt8 := dkwX5_feed_2 ++ []
def dkwX5_feed_1 : List UInt8 := [182, 0, 10, 42, 28, 182, 0, 10, 42, 29, 182, 0, 10, 42, 21, 4, 182, 0, 10, 42, 21, 5]
abbrev dktX5_feed_1 : List UInt8 := dkwX5_feed_1 ++ dktX5_feed_2
def dkwX5_feed_0 : List UInt8 := [42, 3, 181, 0, 1, 42, 180, 0, 7, 16, 20, 96, 17, 3, 172, 164, 0, 5, 2, 172, 42, 27]
abbrev dktX5_feed_0 : List UInt8 := dkwX5_feed_0 ++ dktX5_feed_1
theorem dksX5_feed_0 : cX5_feed.data.toList.drop 0 = dktX5_feed_0 := by decide +kernel
theorem dksX5_feed_1 : cX5_feed.data.toList.drop 22 = dktX5_feed_1 := dk_seg dksX5_feed_0 22 rfl rfl
theorem dksX5_feed_2 : cX5_feed.data.toList.drop 44 = dktX5_feed_2 := dk_seg dksX5_feed_1 22 rfl rfl
theorem dX5_feed_0 : decode cX5_feed 0 = .ok (.aload_n 0, 1) := dk_42 (dk_at dksX5_feed_0 0 rfl rfl)
theorem dX5_feed_1 : decode cX5_feed 1 = .ok (.iconst 0, 1) := dk_3 (dk_at dksX5_feed_0 1 rfl rfl)
theorem dX5_feed_2 : decode cX5_feed 2 = .ok (.putfield 1, 3) := dk_181 0 1 (dk_at dksX5_feed_0 2 rfl rfl)
theorem dX5_feed_5 : decode cX5_feed 5 = .ok (.aload_n 0, 1) := dk_42 (dk_at dksX5_feed_0 5 rfl rfl)
theorem dX5_feed_6 : decode cX5_feed 6 = .ok (.getfield 7, 3) := dk_180 0 7 (dk_at dksX5_feed_0 6 rfl rfl)
theorem dX5_feed_9 : decode cX5_feed 9 = .ok (.bipush 20, 2) := dk_16 20 (dk_at dksX5_feed_0 9 rfl rfl)
theorem dX5_feed_11 : decode cX5_feed 11 = .ok (.iadd, 1) := dk_96 (dk_at dksX5_feed_0 11 rfl rfl)
theorem dX5_feed_12 : decode cX5_feed 12 = .ok (.sipush 940, 3) := dk_17 3 172 (dk_at dksX5_feed_0 12 rfl rfl)
theorem dX5_feed_15 : decode cX5_feed 15 = .ok (.if_icmp .le 5, 3) := dk_164 0 5 (dk_at dksX5_feed_0 15 rfl rfl)
theorem dX5_feed_18 : decode cX5_feed 18 = .ok (.iconst (-1), 1) := dk_2 (dk_at dksX5_feed_0 18 rfl rfl)
theorem dX5_feed_19 : decode cX5_feed 19 = .ok (.ireturn, 1) := dk_172 (dk_at dksX5_feed_0 19 rfl rfl)
theorem dX5_feed_20 : decode cX5_feed 20 = .ok (.aload_n 0, 1) := dk_42 (dk_at dksX5_feed_0 20 rfl rfl)
theorem dX5_feed_21 : decode cX5_feed 21 = .ok (.iload_n 1, 1) := dk_27 (dk_at dksX5_feed_0 21 rfl rfl)
theorem dX5_feed_22 : decode cX5_feed 22 = .ok (.invokevirtual 10, 3) := dk_182 0 10 (dk_at dksX5_feed_1 0 rfl rfl)
theorem dX5_feed_25 : decode cX5_feed 25 = .ok (.aload_n 0, 1) := dk_42 (dk_at dksX5_feed_1 3 rfl rfl)
theorem dX5_feed_26 : decode cX5_feed 26 = .ok (.iload_n 2, 1) := dk_28 (dk_at dksX5_feed_1 4 rfl rfl)
theorem dX5_feed_27 : decode cX5_feed 27 = .ok (.invokevirtual 10, 3) := dk_182 0 10 (dk_at dksX5_feed_1 5 rfl rfl)
theorem dX5_feed_30 : decode cX5_feed 30 = .ok (.aload_n 0, 1) := dk_42 (dk_at dksX5_feed_1 8 rfl rfl)
theorem dX5_feed_31 : decode cX5_feed 31 = .ok (.iload_n 3, 1) := dk_29 (dk_at dksX5_feed_1 9 rfl rfl)
theorem dX5_feed_32 : decode cX5_feed 32 = .ok (.invokevirtual 10, 3) := dk_182 0 10 (dk_at dksX5_feed_1 10 rfl rfl)
theorem dX5_feed_35 : decode cX5_feed 35 = .ok (.aload_n 0, 1) := dk_42 (dk_at dksX5_feed_1 13 rfl rfl)
theorem dX5_feed_36 : decode cX5_feed 36 = .ok (.iload 4, 2) := dk_21 4 (dk_at dksX5_feed_1 14 rfl rfl)
theorem dX5_feed_38 : decode cX5_feed 38 = .ok (.invokevirtual 10, 3) := dk_182 0 10 (dk_at dksX5_feed_1 16 rfl rfl)
theorem dX5_feed_41 : decode cX5_feed 41 = .ok (.aload_n 0, 1) := dk_42 (dk_at dksX5_feed_1 19 rfl rfl)
theorem dX5_feed_42 : decode cX5_feed 42 = .ok (.iload 5, 2) := dk_21 5 (dk_at dksX5_feed_1 20 rfl rfl)
theorem dX5_feed_44 : decode cX5_feed 44 = .ok (.invokevirtual 10, 3) := dk_182 0 10 (dk_at dksX5_feed_2 0 rfl rfl)
theorem dX5_feed_47 : decode cX5_feed 47 = .ok (.aload_n 0, 1) := dk_42 (dk_at dksX5_feed_2 3 rfl rfl)
theorem dX5_feed_48 : decode cX5_feed 48 = .ok (.getfield 7, 3) := dk_180 0 7 (dk_at dksX5_feed_2 4 rfl rfl)
theorem dX5_feed_51 : decode cX5_feed 51 = .ok (.ireturn, 1) := dk_172 (dk_at dksX5_feed_2 7 rfl rfl)
theorem se_HeldCoatsModel_four__I_V_HeldCoatsModel : ∀ c ∈ ([5] : List Nat), ∃ q : vw_C, cz_cl[c]? = some q ∧ Cond.selects q.1 (⟨"HeldCoatsModel", "four", "(I)V"⟩ : MethodName) (⟨"HeldCoatsModel", "four", "(I)V"⟩ : MethodName) ∈ lw_all := List.forall_mem_cons.mpr ⟨⟨_, cz_cl5, qs44⟩, fun _ h => absurd h List.not_mem_nil⟩
theorem md_X5_four : cz_md yX5_four 3 (ws_ yX5_four cX5_four 3 ((Option.none : Option Jvm.ClassFile.FieldType))) 1 := ⟨cz_ws_code q1880, q123, ⟨by decide, by decide, by decide +kernel⟩, by decide⟩
theorem kS_940 : (Int16.ofInt (940)).toInt32 = 940 := by decide
set_option maxHeartbeats 4000000 in
set_option maxRecDepth 100000 in
noncomputable def fn_X5_feed (l0 : Option Nat) (l1 : Int32) (l2 : Int32) (l3 : Int32) (l4 : Int32) (l5 : Int32) (h : cz_H) : cz_Z := cz_put h l0 [(5, 0)] (cz_i 0) (fun h1 => cz_getI h1 l0 [(5, 2)] (fun x2 => (if (x2 + 20) ≤ 940 then cz_rc h1 l0 [5] (cz_cV (fn_X5_four l0 l1 h1) (fun h9 => cz_rc h9 l0 [5] (cz_cV (fn_X5_four l0 l2 h9) (fun h16 => cz_rc h16 l0 [5] (cz_cV (fn_X5_four l0 l3 h16) (fun h23 => cz_rc h23 l0 [5] (cz_cV (fn_X5_four l0 l4 h23) (fun h30 => cz_rc h30 l0 [5] (cz_cV (fn_X5_four l0 l5 h30) (fun h37 => cz_getI h37 l0 [(5, 2)] (fun x38 => some (.inl (some (cz_i x38)), h37)))))))))))) else some (.inl (some (cz_i (-1))), h1))))
set_option maxHeartbeats 4000000 in
set_option maxRecDepth 100000 in
theorem wk_X5_feed {K : cz_K} {D : cz_D} {h0 : cz_H} {oh : cz_O × cz_H} {l0 : Option Nat} {l1 : Int32} {l2 : Int32} {l3 : Int32} {l4 : Int32} {l5 : Int32} {h : cz_H} (S : cz_S K D h0 cX5_feed 6 "HeldCoatsModel" ((Option.some Jvm.ClassFile.FieldType.int)) "feed" ([])) : cz_T K D 3 h0 oh 6 (fn_X5_feed l0 l1 l2 l3 l4 l5 h) h 0 [(0, cz_r l0), (1, cz_i l1), (2, cz_i l2), (3, cz_i l3), (4, cz_i l4), (5, cz_i l5)] [] := by
  unfold fn_X5_feed
  refine ct_aload_n (k := 0) S dX5_feed_0 rfl rfl ?_
  refine ct_iconst (v := 0) S dX5_feed_1 kI_0 ?_
  refine ct_put S fw_X5_1 fp_X5_m_5_0 (cz_fits_i pd_I) dX5_feed_2 (fun h1 => ?_)
  refine ct_aload_n (k := 0) S dX5_feed_5 rfl rfl ?_
  refine ct_getI S fw_X5_7 dX5_feed_6 (fun x2 => ?_)
  refine ct_bipush (v := 20) S dX5_feed_9 kB_20 ?_
  refine ct_iadd S dX5_feed_11 ?_
  refine ct_sipush (v := 940) S dX5_feed_12 kS_940 ?_
  refine ct_icmp_le (tgt := 20) S dX5_feed_15 (by decide) ?_ ?_
  · refine ct_aload_n (k := 0) S dX5_feed_20 rfl rfl ?_
    refine ct_iload_n (k := 1) S dX5_feed_21 rfl rfl ?_
    refine ct_rc (fun b3 ci4 V5 hb6 hc7 hi8 => ?_)
    refine ct_cV (st := []) (cg_virtual (av := [cz_i l1]) S hb6 hc7 hi8 (fun _ e => mt_X5_four e) md_X5_four q1876 q1878 se_HeldCoatsModel_four__I_V_HeldCoatsModel (by decide) (Nat.le_of_ble_eq_true rfl) rfl dX5_feed_22) (fun h9 => ?_)
    refine ct_aload_n (k := 0) S dX5_feed_25 rfl rfl ?_
    refine ct_iload_n (k := 2) S dX5_feed_26 rfl rfl ?_
    refine ct_rc (fun b10 ci11 V12 hb13 hc14 hi15 => ?_)
    refine ct_cV (st := []) (cg_virtual (av := [cz_i l2]) S hb13 hc14 hi15 (fun _ e => mt_X5_four e) md_X5_four q1876 q1878 se_HeldCoatsModel_four__I_V_HeldCoatsModel (by decide) (Nat.le_of_ble_eq_true rfl) rfl dX5_feed_27) (fun h16 => ?_)
    refine ct_aload_n (k := 0) S dX5_feed_30 rfl rfl ?_
    refine ct_iload_n (k := 3) S dX5_feed_31 rfl rfl ?_
    refine ct_rc (fun b17 ci18 V19 hb20 hc21 hi22 => ?_)
    refine ct_cV (st := []) (cg_virtual (av := [cz_i l3]) S hb20 hc21 hi22 (fun _ e => mt_X5_four e) md_X5_four q1876 q1878 se_HeldCoatsModel_four__I_V_HeldCoatsModel (by decide) (Nat.le_of_ble_eq_true rfl) rfl dX5_feed_32) (fun h23 => ?_)
    refine ct_aload_n (k := 0) S dX5_feed_35 rfl rfl ?_
    refine ct_iload (k := 4) S dX5_feed_36 rfl ?_
    refine ct_rc (fun b24 ci25 V26 hb27 hc28 hi29 => ?_)
    refine ct_cV (st := []) (cg_virtual (av := [cz_i l4]) S hb27 hc28 hi29 (fun _ e => mt_X5_four e) md_X5_four q1876 q1878 se_HeldCoatsModel_four__I_V_HeldCoatsModel (by decide) (Nat.le_of_ble_eq_true rfl) rfl dX5_feed_38) (fun h30 => ?_)
    refine ct_aload_n (k := 0) S dX5_feed_41 rfl rfl ?_
    refine ct_iload (k := 5) S dX5_feed_42 rfl ?_
    refine ct_rc (fun b31 ci32 V33 hb34 hc35 hi36 => ?_)
    refine ct_cV (st := []) (cg_virtual (av := [cz_i l5]) S hb34 hc35 hi36 (fun _ e => mt_X5_four e) md_X5_four q1876 q1878 se_HeldCoatsModel_four__I_V_HeldCoatsModel (by decide) (Nat.le_of_ble_eq_true rfl) rfl dX5_feed_44) (fun h37 => ?_)
    refine ct_aload_n (k := 0) S dX5_feed_47 rfl rfl ?_
    refine ct_getI S fw_X5_7 dX5_feed_48 (fun x38 => ?_)
    exact ct_iret S rfl dX5_feed_51
  · refine ct_iconst (v := (-1)) S dX5_feed_18 kI_m1 ?_
    exact ct_iret S rfl dX5_feed_19
theorem mt_X5_feed {l : Launch} {D : cz_D} {l0 : Option Nat} {l1 : Int32} {l2 : Int32} {l3 : Int32} {l4 : Int32} {l5 : Int32} {h : cz_H} {oh : cz_O × cz_H} (hz : fn_X5_feed l0 l1 l2 l3 l4 l5 h = some oh) : cz_M l D yX5_feed (ws_ yX5_feed cX5_feed 6 ((Option.some Jvm.ClassFile.FieldType.int))) 3 [cz_r l0, cz_i l1, cz_i l2, cz_i l3, cz_i l4, cz_i l5] h oh := cz_met (plainFor_of_name (by decide)) (Nat.le_of_ble_eq_true rfl) hz (fun K hl S => wk_X5_feed S)
/-! HeldCoatsModel.areTwo(II)Z -/
def dkwX5_areTwo_1 : List UInt8 := [167, 0, 4, 3, 172]
abbrev dktX5_areTwo_1 : List UInt8 := dkwX5_areTwo_1 ++ []
def dkwX5_areTwo_0 : List UInt8 := [42, 27, 182, 1, 14, 153, 0, 20, 42, 28, 182, 1, 14, 153, 0, 12, 27, 28, 159, 0, 7, 4]
abbrev dktX5_areTwo_0 : List UInt8 := dkwX5_areTwo_0 ++ dktX5_areTwo_1
theorem dksX5_areTwo_0 : cX5_areTwo.data.toList.drop 0 = dktX5_areTwo_0 := by decide +kernel
theorem dksX5_areTwo_1 : cX5_areTwo.data.toList.drop 22 = dktX5_areTwo_1 := dk_seg dksX5_areTwo_0 22 rfl rfl
theorem dX5_areTwo_0 : decode cX5_areTwo 0 = .ok (.aload_n 0, 1) := dk_42 (dk_at dksX5_areTwo_0 0 rfl rfl)
theorem dX5_areTwo_1 : decode cX5_areTwo 1 = .ok (.iload_n 1, 1) := dk_27 (dk_at dksX5_areTwo_0 1 rfl rfl)
theorem dX5_areTwo_2 : decode cX5_areTwo 2 = .ok (.invokevirtual 270, 3) := dk_182 1 14 (dk_at dksX5_areTwo_0 2 rfl rfl)
theorem dX5_areTwo_5 : decode cX5_areTwo 5 = .ok (.ifCond .eq 20, 3) := dk_153 0 20 (dk_at dksX5_areTwo_0 5 rfl rfl)
theorem dX5_areTwo_8 : decode cX5_areTwo 8 = .ok (.aload_n 0, 1) := dk_42 (dk_at dksX5_areTwo_0 8 rfl rfl)
theorem dX5_areTwo_9 : decode cX5_areTwo 9 = .ok (.iload_n 2, 1) := dk_28 (dk_at dksX5_areTwo_0 9 rfl rfl)
theorem dX5_areTwo_10 : decode cX5_areTwo 10 = .ok (.invokevirtual 270, 3) := dk_182 1 14 (dk_at dksX5_areTwo_0 10 rfl rfl)
theorem dX5_areTwo_13 : decode cX5_areTwo 13 = .ok (.ifCond .eq 12, 3) := dk_153 0 12 (dk_at dksX5_areTwo_0 13 rfl rfl)
theorem dX5_areTwo_16 : decode cX5_areTwo 16 = .ok (.iload_n 1, 1) := dk_27 (dk_at dksX5_areTwo_0 16 rfl rfl)
theorem dX5_areTwo_17 : decode cX5_areTwo 17 = .ok (.iload_n 2, 1) := dk_28 (dk_at dksX5_areTwo_0 17 rfl rfl)
theorem dX5_areTwo_18 : decode cX5_areTwo 18 = .ok (.if_icmp .eq 7, 3) := dk_159 0 7 (dk_at dksX5_areTwo_0 18 rfl rfl)
theorem dX5_areTwo_21 : decode cX5_areTwo 21 = .ok (.iconst 1, 1) := dk_4 (dk_at dksX5_areTwo_0 21 rfl rfl)
theorem dX5_areTwo_22 : decode cX5_areTwo 22 = .ok (.goto 4, 3) := dk_167 0 4 (dk_at dksX5_areTwo_1 0 rfl rfl)
theorem dX5_areTwo_25 : decode cX5_areTwo 25 = .ok (.iconst 0, 1) := dk_3 (dk_at dksX5_areTwo_1 3 rfl rfl)
theorem dX5_areTwo_26 : decode cX5_areTwo 26 = .ok (.ireturn, 1) := dk_172 (dk_at dksX5_areTwo_1 4 rfl rfl)
set_option maxHeartbeats 4000000 in
set_option maxRecDepth 100000 in
noncomputable def fn_X5_areTwo (l0 : Option Nat) (l1 : Int32) (l2 : Int32) (h : cz_H) : cz_Z := cz_rc h l0 [5] (cz_cI (fn_X5_isMan l0 l1 h) (fun x8 h7 => (if x8 = 0 then some (.inl (some (cz_i 0)), h7) else cz_rc h7 l0 [5] (cz_cI (fn_X5_isMan l0 l2 h7) (fun x16 h15 => (if x16 = 0 then some (.inl (some (cz_i 0)), h15) else (if l1 = l2 then some (.inl (some (cz_i 0)), h15) else some (.inl (some (cz_i 1)), h15))))))))
set_option maxHeartbeats 4000000 in
set_option maxRecDepth 100000 in
theorem wk_X5_areTwo {K : cz_K} {D : cz_D} {h0 : cz_H} {oh : cz_O × cz_H} {l0 : Option Nat} {l1 : Int32} {l2 : Int32} {h : cz_H} (S : cz_S K D h0 cX5_areTwo 3 "HeldCoatsModel" ((Option.some Jvm.ClassFile.FieldType.boolean)) "areTwo" ([])) : cz_T K D 4 h0 oh 3 (fn_X5_areTwo l0 l1 l2 h) h 0 [(0, cz_r l0), (1, cz_i l1), (2, cz_i l2)] [] := by
  unfold fn_X5_areTwo
  refine ct_aload_n (k := 0) S dX5_areTwo_0 rfl rfl ?_
  refine ct_iload_n (k := 1) S dX5_areTwo_1 rfl rfl ?_
  refine ct_rc (fun b1 ci2 V3 hb4 hc5 hi6 => ?_)
  refine ct_cI (st := []) (cg_virtual (av := [cz_i l1]) S hb4 hc5 hi6 (fun _ e => mt_X5_isMan e) md_X5_isMan q2188 q2190 se_HeldCoatsModel_isMan__I_Z_HeldCoatsModel (by decide) (Nat.le_of_ble_eq_true rfl) rfl dX5_areTwo_2) (fun x8 h7 => ?_)
  refine ct_if_eq (tgt := 25) S dX5_areTwo_5 (by decide) ?_ ?_
  · refine ct_iconst (v := 0) S dX5_areTwo_25 kI_0 ?_
    exact ct_zr (ty := .boolean) S rfl rfl dX5_areTwo_26
  · refine ct_aload_n (k := 0) S dX5_areTwo_8 rfl rfl ?_
    refine ct_iload_n (k := 2) S dX5_areTwo_9 rfl rfl ?_
    refine ct_rc (fun b9 ci10 V11 hb12 hc13 hi14 => ?_)
    refine ct_cI (st := []) (cg_virtual (av := [cz_i l2]) S hb12 hc13 hi14 (fun _ e => mt_X5_isMan e) md_X5_isMan q2188 q2190 se_HeldCoatsModel_isMan__I_Z_HeldCoatsModel (by decide) (Nat.le_of_ble_eq_true rfl) rfl dX5_areTwo_10) (fun x16 h15 => ?_)
    refine ct_if_eq (tgt := 25) S dX5_areTwo_13 (by decide) ?_ ?_
    · refine ct_iconst (v := 0) S dX5_areTwo_25 kI_0 ?_
      exact ct_zr (ty := .boolean) S rfl rfl dX5_areTwo_26
    · refine ct_iload_n (k := 1) S dX5_areTwo_16 rfl rfl ?_
      refine ct_iload_n (k := 2) S dX5_areTwo_17 rfl rfl ?_
      refine ct_icmp_eq (tgt := 25) S dX5_areTwo_18 (by decide) ?_ ?_
      · refine ct_iconst (v := 0) S dX5_areTwo_25 kI_0 ?_
        exact ct_zr (ty := .boolean) S rfl rfl dX5_areTwo_26
      · refine ct_iconst (v := 1) S dX5_areTwo_21 kI_1 ?_
        refine ct_goto (tgt := 26) S dX5_areTwo_22 (by decide) ?_
        exact ct_zr (ty := .boolean) S rfl rfl dX5_areTwo_26
theorem mt_X5_areTwo {l : Launch} {D : cz_D} {l0 : Option Nat} {l1 : Int32} {l2 : Int32} {h : cz_H} {oh : cz_O × cz_H} (hz : fn_X5_areTwo l0 l1 l2 h = some oh) : cz_M l D yX5_areTwo (ws_ yX5_areTwo cX5_areTwo 3 ((Option.some Jvm.ClassFile.FieldType.boolean))) 4 [cz_r l0, cz_i l1, cz_i l2] h oh := cz_met (plainFor_of_name (by decide)) (Nat.le_of_ble_eq_true rfl) hz (fun K hl S => wk_X5_areTwo S)
/-! HeldCoatsModel.harmIn(III)I -/
def dkwX5_harmIn_0 : List UInt8 := [42, 27, 28, 29, 182, 1, 0, 54, 4, 21, 4, 21, 4, 104, 172]
abbrev dktX5_harmIn_0 : List UInt8 := dkwX5_harmIn_0 ++ []
theorem dksX5_harmIn_0 : cX5_harmIn.data.toList.drop 0 = dktX5_harmIn_0 := by decide +kernel
theorem dX5_harmIn_0 : decode cX5_harmIn 0 = .ok (.aload_n 0, 1) := dk_42 (dk_at dksX5_harmIn_0 0 rfl rfl)
theorem dX5_harmIn_1 : decode cX5_harmIn 1 = .ok (.iload_n 1, 1) := dk_27 (dk_at dksX5_harmIn_0 1 rfl rfl)
theorem dX5_harmIn_2 : decode cX5_harmIn 2 = .ok (.iload_n 2, 1) := dk_28 (dk_at dksX5_harmIn_0 2 rfl rfl)
theorem dX5_harmIn_3 : decode cX5_harmIn 3 = .ok (.iload_n 3, 1) := dk_29 (dk_at dksX5_harmIn_0 3 rfl rfl)
theorem dX5_harmIn_4 : decode cX5_harmIn 4 = .ok (.invokevirtual 256, 3) := dk_182 1 0 (dk_at dksX5_harmIn_0 4 rfl rfl)
theorem dX5_harmIn_7 : decode cX5_harmIn 7 = .ok (.istore 4, 2) := dk_54 4 (dk_at dksX5_harmIn_0 7 rfl rfl)
theorem dX5_harmIn_9 : decode cX5_harmIn 9 = .ok (.iload 4, 2) := dk_21 4 (dk_at dksX5_harmIn_0 9 rfl rfl)
theorem dX5_harmIn_11 : decode cX5_harmIn 11 = .ok (.iload 4, 2) := dk_21 4 (dk_at dksX5_harmIn_0 11 rfl rfl)
theorem dX5_harmIn_13 : decode cX5_harmIn 13 = .ok (.imul, 1) := dk_104 (dk_at dksX5_harmIn_0 13 rfl rfl)
theorem dX5_harmIn_14 : decode cX5_harmIn 14 = .ok (.ireturn, 1) := dk_172 (dk_at dksX5_harmIn_0 14 rfl rfl)
set_option maxHeartbeats 4000000 in
set_option maxRecDepth 100000 in
noncomputable def fn_X5_harmIn (l0 : Option Nat) (l1 : Int32) (l2 : Int32) (l3 : Int32) (h : cz_H) : cz_Z := cz_rc h l0 [5] (cz_cI (fn_X5_chillIn l0 l1 l2 l3 h) (fun x8 h7 => some (.inl (some (cz_i (x8 * x8))), h7)))
set_option maxHeartbeats 4000000 in
set_option maxRecDepth 100000 in
theorem wk_X5_harmIn {K : cz_K} {D : cz_D} {h0 : cz_H} {oh : cz_O × cz_H} {l0 : Option Nat} {l1 : Int32} {l2 : Int32} {l3 : Int32} {h : cz_H} (S : cz_S K D h0 cX5_harmIn 5 "HeldCoatsModel" ((Option.some Jvm.ClassFile.FieldType.int)) "harmIn" ([])) : cz_T K D 5 h0 oh 5 (fn_X5_harmIn l0 l1 l2 l3 h) h 0 [(0, cz_r l0), (1, cz_i l1), (2, cz_i l2), (3, cz_i l3)] [] := by
  unfold fn_X5_harmIn
  refine ct_aload_n (k := 0) S dX5_harmIn_0 rfl rfl ?_
  refine ct_iload_n (k := 1) S dX5_harmIn_1 rfl rfl ?_
  refine ct_iload_n (k := 2) S dX5_harmIn_2 rfl rfl ?_
  refine ct_iload_n (k := 3) S dX5_harmIn_3 rfl rfl ?_
  refine ct_rc (fun b1 ci2 V3 hb4 hc5 hi6 => ?_)
  refine ct_cI (st := []) (cg_virtual (av := [cz_i l1, cz_i l2, cz_i l3]) S hb4 hc5 hi6 (fun _ e => mt_X5_chillIn e) md_X5_chillIn q2204 q2206 se_HeldCoatsModel_chillIn__III_I_HeldCoatsModel (by decide) (Nat.le_of_ble_eq_true rfl) rfl dX5_harmIn_4) (fun x8 h7 => ?_)
  refine ct_istore (L' := [(4, cz_i x8), (0, cz_r l0), (1, cz_i l1), (2, cz_i l2), (3, cz_i l3)]) S dX5_harmIn_7 (by decide) rfl ?_
  refine ct_iload (k := 0) S dX5_harmIn_9 rfl ?_
  refine ct_iload (k := 0) S dX5_harmIn_11 rfl ?_
  refine ct_imul S dX5_harmIn_13 ?_
  exact ct_iret S rfl dX5_harmIn_14
theorem mt_X5_harmIn {l : Launch} {D : cz_D} {l0 : Option Nat} {l1 : Int32} {l2 : Int32} {l3 : Int32} {h : cz_H} {oh : cz_O × cz_H} (hz : fn_X5_harmIn l0 l1 l2 l3 h = some oh) : cz_M l D yX5_harmIn (ws_ yX5_harmIn cX5_harmIn 5 ((Option.some Jvm.ClassFile.FieldType.int))) 5 [cz_r l0, cz_i l1, cz_i l2, cz_i l3] h oh := cz_met (plainFor_of_name (by decide)) (Nat.le_of_ble_eq_true rfl) hz (fun K hl S => wk_X5_harmIn S)
/-! HeldCoatsModel.frostOf(II)I -/
def dkwX5_frostOf_4 : List UInt8 := [167, 0, 4, 27, 172, 132, 5, 1, 167, 255, 167, 2, 172]
abbrev dktX5_frostOf_4 : List UInt8 := dkwX5_frostOf_4 ++ []
def dkwX5_frostOf_3 : List UInt8 := [42, 21, 5, 181, 1, 92, 29, 21, 4, 160, 0, 7, 2, 167, 0, 14, 29, 21, 4, 164, 0, 7, 28]
abbrev dktX5_frostOf_3 : List UInt8 := dkwX5_frostOf_3 ++ dktX5_frostOf_4
def dkwX5_frostOf_2 : List UInt8 := [180, 0, 33, 16, 6, 46, 163, 0, 18, 21, 4, 42, 180, 0, 33, 16, 6, 46, 163, 0, 6, 167, 0, 31]
abbrev dktX5_frostOf_2 : List UInt8 := dkwX5_frostOf_2 ++ dktX5_frostOf_3
def dkwX5_frostOf_1 : List UInt8 := [27, 21, 5, 3, 182, 1, 86, 96, 62, 21, 4, 42, 28, 21, 5, 3, 182, 1, 86, 96, 54, 4, 29, 42]
abbrev dktX5_frostOf_1 : List UInt8 := dkwX5_frostOf_1 ++ dktX5_frostOf_2
def dkwX5_frostOf_0 : List UInt8 := [3, 62, 3, 54, 4, 42, 180, 0, 33, 16, 62, 46, 54, 5, 21, 5, 17, 1, 144, 162, 0, 87, 29, 42]
abbrev dktX5_frostOf_0 : List UInt8 := dkwX5_frostOf_0 ++ dktX5_frostOf_1
theorem dksX5_frostOf_0 : cX5_frostOf.data.toList.drop 0 = dktX5_frostOf_0 := by decide +kernel
theorem dksX5_frostOf_1 : cX5_frostOf.data.toList.drop 24 = dktX5_frostOf_1 := dk_seg dksX5_frostOf_0 24 rfl rfl
theorem dksX5_frostOf_2 : cX5_frostOf.data.toList.drop 48 = dktX5_frostOf_2 := dk_seg dksX5_frostOf_1 24 rfl rfl
theorem dksX5_frostOf_3 : cX5_frostOf.data.toList.drop 72 = dktX5_frostOf_3 := dk_seg dksX5_frostOf_2 24 rfl rfl
theorem dksX5_frostOf_4 : cX5_frostOf.data.toList.drop 95 = dktX5_frostOf_4 := dk_seg dksX5_frostOf_3 23 rfl rfl
theorem dX5_frostOf_0 : decode cX5_frostOf 0 = .ok (.iconst 0, 1) := dk_3 (dk_at dksX5_frostOf_0 0 rfl rfl)
theorem dX5_frostOf_1 : decode cX5_frostOf 1 = .ok (.istore_n 3, 1) := dk_62 (dk_at dksX5_frostOf_0 1 rfl rfl)
theorem dX5_frostOf_2 : decode cX5_frostOf 2 = .ok (.iconst 0, 1) := dk_3 (dk_at dksX5_frostOf_0 2 rfl rfl)
theorem dX5_frostOf_3 : decode cX5_frostOf 3 = .ok (.istore 4, 2) := dk_54 4 (dk_at dksX5_frostOf_0 3 rfl rfl)
theorem dX5_frostOf_5 : decode cX5_frostOf 5 = .ok (.aload_n 0, 1) := dk_42 (dk_at dksX5_frostOf_0 5 rfl rfl)
theorem dX5_frostOf_6 : decode cX5_frostOf 6 = .ok (.getfield 33, 3) := dk_180 0 33 (dk_at dksX5_frostOf_0 6 rfl rfl)
theorem dX5_frostOf_9 : decode cX5_frostOf 9 = .ok (.bipush 62, 2) := dk_16 62 (dk_at dksX5_frostOf_0 9 rfl rfl)
theorem dX5_frostOf_11 : decode cX5_frostOf 11 = .ok (.iaload, 1) := dk_46 (dk_at dksX5_frostOf_0 11 rfl rfl)
theorem dX5_frostOf_12 : decode cX5_frostOf 12 = .ok (.istore 5, 2) := dk_54 5 (dk_at dksX5_frostOf_0 12 rfl rfl)
theorem dX5_frostOf_14 : decode cX5_frostOf 14 = .ok (.iload 5, 2) := dk_21 5 (dk_at dksX5_frostOf_0 14 rfl rfl)
theorem dX5_frostOf_16 : decode cX5_frostOf 16 = .ok (.sipush 400, 3) := dk_17 1 144 (dk_at dksX5_frostOf_0 16 rfl rfl)
theorem dX5_frostOf_19 : decode cX5_frostOf 19 = .ok (.if_icmp .ge 87, 3) := dk_162 0 87 (dk_at dksX5_frostOf_0 19 rfl rfl)
theorem dX5_frostOf_22 : decode cX5_frostOf 22 = .ok (.iload_n 3, 1) := dk_29 (dk_at dksX5_frostOf_0 22 rfl rfl)
theorem dX5_frostOf_23 : decode cX5_frostOf 23 = .ok (.aload_n 0, 1) := dk_42 (dk_at dksX5_frostOf_0 23 rfl rfl)
theorem dX5_frostOf_24 : decode cX5_frostOf 24 = .ok (.iload_n 1, 1) := dk_27 (dk_at dksX5_frostOf_1 0 rfl rfl)
theorem dX5_frostOf_25 : decode cX5_frostOf 25 = .ok (.iload 5, 2) := dk_21 5 (dk_at dksX5_frostOf_1 1 rfl rfl)
theorem dX5_frostOf_27 : decode cX5_frostOf 27 = .ok (.iconst 0, 1) := dk_3 (dk_at dksX5_frostOf_1 3 rfl rfl)
theorem dX5_frostOf_28 : decode cX5_frostOf 28 = .ok (.invokevirtual 342, 3) := dk_182 1 86 (dk_at dksX5_frostOf_1 4 rfl rfl)
theorem dX5_frostOf_31 : decode cX5_frostOf 31 = .ok (.iadd, 1) := dk_96 (dk_at dksX5_frostOf_1 7 rfl rfl)
theorem dX5_frostOf_32 : decode cX5_frostOf 32 = .ok (.istore_n 3, 1) := dk_62 (dk_at dksX5_frostOf_1 8 rfl rfl)
theorem dX5_frostOf_33 : decode cX5_frostOf 33 = .ok (.iload 4, 2) := dk_21 4 (dk_at dksX5_frostOf_1 9 rfl rfl)
theorem dX5_frostOf_35 : decode cX5_frostOf 35 = .ok (.aload_n 0, 1) := dk_42 (dk_at dksX5_frostOf_1 11 rfl rfl)
theorem dX5_frostOf_36 : decode cX5_frostOf 36 = .ok (.iload_n 2, 1) := dk_28 (dk_at dksX5_frostOf_1 12 rfl rfl)
theorem dX5_frostOf_37 : decode cX5_frostOf 37 = .ok (.iload 5, 2) := dk_21 5 (dk_at dksX5_frostOf_1 13 rfl rfl)
theorem dX5_frostOf_39 : decode cX5_frostOf 39 = .ok (.iconst 0, 1) := dk_3 (dk_at dksX5_frostOf_1 15 rfl rfl)
theorem dX5_frostOf_40 : decode cX5_frostOf 40 = .ok (.invokevirtual 342, 3) := dk_182 1 86 (dk_at dksX5_frostOf_1 16 rfl rfl)
theorem dX5_frostOf_43 : decode cX5_frostOf 43 = .ok (.iadd, 1) := dk_96 (dk_at dksX5_frostOf_1 19 rfl rfl)
theorem dX5_frostOf_44 : decode cX5_frostOf 44 = .ok (.istore 4, 2) := dk_54 4 (dk_at dksX5_frostOf_1 20 rfl rfl)
theorem dX5_frostOf_46 : decode cX5_frostOf 46 = .ok (.iload_n 3, 1) := dk_29 (dk_at dksX5_frostOf_1 22 rfl rfl)
theorem dX5_frostOf_47 : decode cX5_frostOf 47 = .ok (.aload_n 0, 1) := dk_42 (dk_at dksX5_frostOf_1 23 rfl rfl)
theorem dX5_frostOf_48 : decode cX5_frostOf 48 = .ok (.getfield 33, 3) := dk_180 0 33 (dk_at dksX5_frostOf_2 0 rfl rfl)
theorem dX5_frostOf_51 : decode cX5_frostOf 51 = .ok (.bipush 6, 2) := dk_16 6 (dk_at dksX5_frostOf_2 3 rfl rfl)
theorem dX5_frostOf_53 : decode cX5_frostOf 53 = .ok (.iaload, 1) := dk_46 (dk_at dksX5_frostOf_2 5 rfl rfl)
theorem dX5_frostOf_54 : decode cX5_frostOf 54 = .ok (.if_icmp .gt 18, 3) := dk_163 0 18 (dk_at dksX5_frostOf_2 6 rfl rfl)
theorem dX5_frostOf_57 : decode cX5_frostOf 57 = .ok (.iload 4, 2) := dk_21 4 (dk_at dksX5_frostOf_2 9 rfl rfl)
theorem dX5_frostOf_59 : decode cX5_frostOf 59 = .ok (.aload_n 0, 1) := dk_42 (dk_at dksX5_frostOf_2 11 rfl rfl)
theorem dX5_frostOf_60 : decode cX5_frostOf 60 = .ok (.getfield 33, 3) := dk_180 0 33 (dk_at dksX5_frostOf_2 12 rfl rfl)
theorem dX5_frostOf_63 : decode cX5_frostOf 63 = .ok (.bipush 6, 2) := dk_16 6 (dk_at dksX5_frostOf_2 15 rfl rfl)
theorem dX5_frostOf_65 : decode cX5_frostOf 65 = .ok (.iaload, 1) := dk_46 (dk_at dksX5_frostOf_2 17 rfl rfl)
theorem dX5_frostOf_66 : decode cX5_frostOf 66 = .ok (.if_icmp .gt 6, 3) := dk_163 0 6 (dk_at dksX5_frostOf_2 18 rfl rfl)
theorem dX5_frostOf_69 : decode cX5_frostOf 69 = .ok (.goto 31, 3) := dk_167 0 31 (dk_at dksX5_frostOf_2 21 rfl rfl)
theorem dX5_frostOf_72 : decode cX5_frostOf 72 = .ok (.aload_n 0, 1) := dk_42 (dk_at dksX5_frostOf_3 0 rfl rfl)
theorem dX5_frostOf_73 : decode cX5_frostOf 73 = .ok (.iload 5, 2) := dk_21 5 (dk_at dksX5_frostOf_3 1 rfl rfl)
theorem dX5_frostOf_75 : decode cX5_frostOf 75 = .ok (.putfield 348, 3) := dk_181 1 92 (dk_at dksX5_frostOf_3 3 rfl rfl)
theorem dX5_frostOf_78 : decode cX5_frostOf 78 = .ok (.iload_n 3, 1) := dk_29 (dk_at dksX5_frostOf_3 6 rfl rfl)
theorem dX5_frostOf_79 : decode cX5_frostOf 79 = .ok (.iload 4, 2) := dk_21 4 (dk_at dksX5_frostOf_3 7 rfl rfl)
theorem dX5_frostOf_81 : decode cX5_frostOf 81 = .ok (.if_icmp .ne 7, 3) := dk_160 0 7 (dk_at dksX5_frostOf_3 9 rfl rfl)
theorem dX5_frostOf_84 : decode cX5_frostOf 84 = .ok (.iconst (-1), 1) := dk_2 (dk_at dksX5_frostOf_3 12 rfl rfl)
theorem dX5_frostOf_85 : decode cX5_frostOf 85 = .ok (.goto 14, 3) := dk_167 0 14 (dk_at dksX5_frostOf_3 13 rfl rfl)
theorem dX5_frostOf_88 : decode cX5_frostOf 88 = .ok (.iload_n 3, 1) := dk_29 (dk_at dksX5_frostOf_3 16 rfl rfl)
theorem dX5_frostOf_89 : decode cX5_frostOf 89 = .ok (.iload 4, 2) := dk_21 4 (dk_at dksX5_frostOf_3 17 rfl rfl)
theorem dX5_frostOf_91 : decode cX5_frostOf 91 = .ok (.if_icmp .le 7, 3) := dk_164 0 7 (dk_at dksX5_frostOf_3 19 rfl rfl)
theorem dX5_frostOf_94 : decode cX5_frostOf 94 = .ok (.iload_n 2, 1) := dk_28 (dk_at dksX5_frostOf_3 22 rfl rfl)
theorem dX5_frostOf_95 : decode cX5_frostOf 95 = .ok (.goto 4, 3) := dk_167 0 4 (dk_at dksX5_frostOf_4 0 rfl rfl)
theorem dX5_frostOf_98 : decode cX5_frostOf 98 = .ok (.iload_n 1, 1) := dk_27 (dk_at dksX5_frostOf_4 3 rfl rfl)
theorem dX5_frostOf_99 : decode cX5_frostOf 99 = .ok (.ireturn, 1) := dk_172 (dk_at dksX5_frostOf_4 4 rfl rfl)
theorem dX5_frostOf_100 : decode cX5_frostOf 100 = .ok (.iinc 5 1, 3) := dk_132 5 1 (dk_at dksX5_frostOf_4 5 rfl rfl)
theorem dX5_frostOf_103 : decode cX5_frostOf 103 = .ok (.goto (-89), 3) := dk_167 255 167 (dk_at dksX5_frostOf_4 8 rfl rfl)
theorem dX5_frostOf_106 : decode cX5_frostOf 106 = .ok (.iconst (-1), 1) := dk_2 (dk_at dksX5_frostOf_4 11 rfl rfl)
theorem dX5_frostOf_107 : decode cX5_frostOf 107 = .ok (.ireturn, 1) := dk_172 (dk_at dksX5_frostOf_4 12 rfl rfl)
theorem se_HeldCoatsModel_harmIn__III_I_HeldCoatsModel : ∀ c ∈ ([5] : List Nat), ∃ q : vw_C, cz_cl[c]? = some q ∧ Cond.selects q.1 (⟨"HeldCoatsModel", "harmIn", "(III)I"⟩ : MethodName) (⟨"HeldCoatsModel", "harmIn", "(III)I"⟩ : MethodName) ∈ lw_all := List.forall_mem_cons.mpr ⟨⟨_, cz_cl5, qs91⟩, fun _ h => absurd h List.not_mem_nil⟩
theorem md_X5_harmIn : cz_md yX5_harmIn 5 (ws_ yX5_harmIn cX5_harmIn 5 ((Option.some Jvm.ClassFile.FieldType.int))) 3 := ⟨cz_ws_code q2329, q123, ⟨by decide, by decide, by decide +kernel⟩, by decide⟩
theorem fw_X5_348 : cz_FW "HeldCoatsModel" 348 [(5, 28)] "I" := ⟨"HeldCoatsModel", "frostDay", Or.inl q1946, List.forall_mem_cons.mpr ⟨⟨RX5, TX5, 49, rfl, by decide, rfl, rfl, Or.inl rfl⟩, fun _ h => absurd h List.not_mem_nil⟩, by decide⟩
theorem fp_X5_m_5_28 {nm : String} : cz_FP "HeldCoatsModel" nm [(5, 28)] := List.forall_mem_cons.mpr ⟨⟨RX5, TX5, 49, rfl, Or.inl rfl⟩, fun _ h => absurd h List.not_mem_nil⟩
set_option maxHeartbeats 4000000 in
set_option maxRecDepth 100000 in
noncomputable def fn_X5_frostOf_14 (l0 : Option Nat) (l1 : Int32) (l2 : Int32) (k0 : Int32 → Int32 → Int32 → cz_H → cz_Z) (k1 : cz_H → cz_Z) : Nat → Int32 → Int32 → Int32 → cz_H → cz_Z
  | 0, _, _, _, _ => none
  | n + 1, l3, l4, l5, h => (if (400 : Int32) ≤ l5 then k1 h else cz_rc h l0 [5] (cz_cI (fn_X5_harmIn l0 l1 l5 0 h) (fun x10 h9 => cz_leti (l3 + x10) (fun x11 => cz_rc h9 l0 [5] (cz_cI (fn_X5_harmIn l0 l2 l5 0 h9) (fun x19 h18 => cz_leti (l4 + x19) (fun x20 => cz_getR h18 l0 [(5, 6)] (fun r21 => cz_iald h18 r21 6 (fun x22 => (if x22 < x11 then k0 x11 x20 l5 h18 else cz_getR h18 l0 [(5, 6)] (fun r23 => cz_iald h18 r23 6 (fun x24 => (if x24 < x20 then k0 x11 x20 l5 h18 else cz_leti (l5 + 1) (fun x25 => fn_X5_frostOf_14 l0 l1 l2 k0 k1 n x11 x20 x25 h18))))))))))))))
set_option maxHeartbeats 4000000 in
set_option maxRecDepth 100000 in
theorem wk_X5_frostOf_14 {K : cz_K} {D : cz_D} {h0 : cz_H} {oh : cz_O × cz_H} {l0 : Option Nat} {l1 : Int32} {l2 : Int32} {k0 : Int32 → Int32 → Int32 → cz_H → cz_Z} {k1 : cz_H → cz_Z} (S : cz_S K D h0 cX5_frostOf 6 "HeldCoatsModel" ((Option.some Jvm.ClassFile.FieldType.int)) "frostOf" ([])) (hk0 : ∀ (e3 : Int32) (e4 : Int32) (e5 : Int32) (h : cz_H), cz_T K D 6 h0 oh 6 (k0 e3 e4 e5 h) h 72 [(0, cz_r l0), (1, cz_i l1), (2, cz_i l2), (3, cz_i e3), (4, cz_i e4), (5, cz_i e5)] []) (hk1 : ∀ (h : cz_H), cz_T K D 6 h0 oh 6 (k1 h) h 106 [] []) : ∀ (n : Nat) (l3 : Int32) (l4 : Int32) (l5 : Int32) (h : cz_H), cz_T K D 6 h0 oh 6 (fn_X5_frostOf_14 l0 l1 l2 k0 k1 n l3 l4 l5 h) h 14 [(0, cz_r l0), (1, cz_i l1), (2, cz_i l2), (3, cz_i l3), (4, cz_i l4), (5, cz_i l5)] [] := by
  intro n
  induction n with
  | zero => intros; exact ct_none
  | succ n ih =>
    intro l3 l4 l5 h
    rw [fn_X5_frostOf_14]
    refine ct_iload (k := 5) S dX5_frostOf_14 rfl ?_
    refine ct_sipush (v := 400) S dX5_frostOf_16 kS_400 ?_
    refine ct_icmp_ge (tgt := 106) S dX5_frostOf_19 (by decide) ?_ ?_
    · exact ct_sub [] rfl (hk1 h)
    · refine ct_iload_n (k := 3) S dX5_frostOf_22 rfl rfl ?_
      refine ct_aload_n (k := 0) S dX5_frostOf_23 rfl rfl ?_
      refine ct_iload_n (k := 1) S dX5_frostOf_24 rfl rfl ?_
      refine ct_iload (k := 5) S dX5_frostOf_25 rfl ?_
      refine ct_iconst (v := 0) S dX5_frostOf_27 kI_0 ?_
      refine ct_rc (fun b3 ci4 V5 hb6 hc7 hi8 => ?_)
      refine ct_cI (st := [cz_i l3]) (cg_virtual (av := [cz_i l1, cz_i l5, cz_i 0]) S hb6 hc7 hi8 (fun _ e => mt_X5_harmIn e) md_X5_harmIn q2326 q2328 se_HeldCoatsModel_harmIn__III_I_HeldCoatsModel (by decide) (Nat.le_of_ble_eq_true rfl) rfl dX5_frostOf_28) (fun x10 h9 => ?_)
      refine ct_iadd S dX5_frostOf_31 ?_
      refine ct_leti (fun x11 => ?_)
      refine ct_istore_n (L' := [(3, cz_i x11), (0, cz_r l0), (1, cz_i l1), (2, cz_i l2), (4, cz_i l4), (5, cz_i l5)]) S dX5_frostOf_32 rfl (by decide) rfl ?_
      refine ct_iload (k := 4) S dX5_frostOf_33 rfl ?_
      refine ct_aload_n (k := 1) S dX5_frostOf_35 rfl rfl ?_
      refine ct_iload_n (k := 3) S dX5_frostOf_36 rfl rfl ?_
      refine ct_iload (k := 5) S dX5_frostOf_37 rfl ?_
      refine ct_iconst (v := 0) S dX5_frostOf_39 kI_0 ?_
      refine ct_rc (fun b12 ci13 V14 hb15 hc16 hi17 => ?_)
      refine ct_cI (st := [cz_i l4]) (cg_virtual (av := [cz_i l2, cz_i l5, cz_i 0]) S hb15 hc16 hi17 (fun _ e => mt_X5_harmIn e) md_X5_harmIn q2326 q2328 se_HeldCoatsModel_harmIn__III_I_HeldCoatsModel (by decide) (Nat.le_of_ble_eq_true rfl) rfl dX5_frostOf_40) (fun x19 h18 => ?_)
      refine ct_iadd S dX5_frostOf_43 ?_
      refine ct_leti (fun x20 => ?_)
      refine ct_istore (L' := [(4, cz_i x20), (3, cz_i x11), (0, cz_r l0), (1, cz_i l1), (2, cz_i l2), (5, cz_i l5)]) S dX5_frostOf_44 (by decide) rfl ?_
      refine ct_iload_n (k := 1) S dX5_frostOf_46 rfl rfl ?_
      refine ct_aload_n (k := 2) S dX5_frostOf_47 rfl rfl ?_
      refine ct_getR S fw_X5_33 dX5_frostOf_48 (fun r21 => ?_)
      refine ct_bipush (v := 6) S dX5_frostOf_51 kB_6 ?_
      refine ct_iald S dX5_frostOf_53 (fun x22 => ?_)
      refine ct_icmp_gt (tgt := 72) S dX5_frostOf_54 (by decide) ?_ ?_
      · exact ct_sub [2, 3, 4, 1, 0, 5] rfl (hk0 x11 x20 l5 h18)
      · refine ct_iload (k := 0) S dX5_frostOf_57 rfl ?_
        refine ct_aload_n (k := 2) S dX5_frostOf_59 rfl rfl ?_
        refine ct_getR S fw_X5_33 dX5_frostOf_60 (fun r23 => ?_)
        refine ct_bipush (v := 6) S dX5_frostOf_63 kB_6 ?_
        refine ct_iald S dX5_frostOf_65 (fun x24 => ?_)
        refine ct_icmp_gt (tgt := 72) S dX5_frostOf_66 (by decide) ?_ ?_
        · exact ct_sub [2, 3, 4, 1, 0, 5] rfl (hk0 x11 x20 l5 h18)
        · refine ct_goto (tgt := 100) S dX5_frostOf_69 (by decide) ?_
          refine ct_iincL (j := 5) (L2 := fun x25 => [(5, cz_i x25), (4, cz_i x20), (3, cz_i x11), (0, cz_r l0), (1, cz_i l1), (2, cz_i l2)]) S dX5_frostOf_100 rfl kI_1 (by decide) (fun _ => rfl) (fun x25 => ?_)
          refine ct_goto (tgt := 14) S dX5_frostOf_103 (by decide) ?_
          exact ct_sub [3, 4, 5, 2, 1, 0] rfl (ih x11 x20 x25 h18)
set_option maxHeartbeats 4000000 in
set_option maxRecDepth 100000 in
noncomputable def fn_X5_frostOf (l0 : Option Nat) (l1 : Int32) (l2 : Int32) (h : cz_H) : cz_Z := cz_getR h l0 [(5, 6)] (fun r1 => cz_iald h r1 62 (fun x2 => fn_X5_frostOf_14 l0 l1 l2 (fun (e26 : Int32) (e27 : Int32) (e28 : Int32) (h29 : cz_H) => cz_put h29 l0 [(5, 28)] (cz_i e28) (fun h30 => (if e26 = e27 then some (.inl (some (cz_i (-1))), h30) else (if e26 ≤ e27 then some (.inl (some (cz_i l1)), h30) else some (.inl (some (cz_i l2)), h30))))) (fun (h31 : cz_H) => some (.inl (some (cz_i (-1))), h31)) 1000 0 0 x2 h))
set_option maxHeartbeats 4000000 in
set_option maxRecDepth 100000 in
theorem wk_X5_frostOf {K : cz_K} {D : cz_D} {h0 : cz_H} {oh : cz_O × cz_H} {l0 : Option Nat} {l1 : Int32} {l2 : Int32} {h : cz_H} (S : cz_S K D h0 cX5_frostOf 6 "HeldCoatsModel" ((Option.some Jvm.ClassFile.FieldType.int)) "frostOf" ([])) : cz_T K D 6 h0 oh 6 (fn_X5_frostOf l0 l1 l2 h) h 0 [(0, cz_r l0), (1, cz_i l1), (2, cz_i l2)] [] := by
  unfold fn_X5_frostOf
  refine ct_iconst (v := 0) S dX5_frostOf_0 kI_0 ?_
  refine ct_istore_n (L' := [(3, cz_i 0), (0, cz_r l0), (1, cz_i l1), (2, cz_i l2)]) S dX5_frostOf_1 rfl (by decide) rfl ?_
  refine ct_iconst (v := 0) S dX5_frostOf_2 kI_0 ?_
  refine ct_istore (L' := [(4, cz_i 0), (3, cz_i 0), (0, cz_r l0), (1, cz_i l1), (2, cz_i l2)]) S dX5_frostOf_3 (by decide) rfl ?_
  refine ct_aload_n (k := 2) S dX5_frostOf_5 rfl rfl ?_
  refine ct_getR S fw_X5_33 dX5_frostOf_6 (fun r1 => ?_)
  refine ct_bipush (v := 62) S dX5_frostOf_9 kB_62 ?_
  refine ct_iald S dX5_frostOf_11 (fun x2 => ?_)
  refine ct_istore (L' := [(5, cz_i x2), (4, cz_i 0), (3, cz_i 0), (0, cz_r l0), (1, cz_i l1), (2, cz_i l2)]) S dX5_frostOf_12 (by decide) rfl ?_
  refine ct_sub [3, 4, 5, 2, 1, 0] (L' := [(0, cz_r l0), (1, cz_i l1), (2, cz_i l2), (3, cz_i 0), (4, cz_i 0), (5, cz_i x2)]) rfl (wk_X5_frostOf_14 S ?_ ?_ 1000 0 0 x2 h)
  · intro e26 e27 e28 h29
    refine ct_aload_n (k := 0) S dX5_frostOf_72 rfl rfl ?_
    refine ct_iload (k := 5) S dX5_frostOf_73 rfl ?_
    refine ct_put S fw_X5_348 fp_X5_m_5_28 (cz_fits_i pd_I) dX5_frostOf_75 (fun h30 => ?_)
    refine ct_iload_n (k := 3) S dX5_frostOf_78 rfl rfl ?_
    refine ct_iload (k := 4) S dX5_frostOf_79 rfl ?_
    refine ct_icmp_ne (tgt := 88) S dX5_frostOf_81 (by decide) ?_ ?_
    · refine ct_iload_n (k := 3) S dX5_frostOf_88 rfl rfl ?_
      refine ct_iload (k := 4) S dX5_frostOf_89 rfl ?_
      refine ct_icmp_le (tgt := 98) S dX5_frostOf_91 (by decide) ?_ ?_
      · refine ct_iload_n (k := 1) S dX5_frostOf_98 rfl rfl ?_
        exact ct_iret S rfl dX5_frostOf_99
      · refine ct_iload_n (k := 2) S dX5_frostOf_94 rfl rfl ?_
        refine ct_goto (tgt := 99) S dX5_frostOf_95 (by decide) ?_
        exact ct_iret S rfl dX5_frostOf_99
    · refine ct_iconst (v := (-1)) S dX5_frostOf_84 kI_m1 ?_
      refine ct_goto (tgt := 99) S dX5_frostOf_85 (by decide) ?_
      exact ct_iret S rfl dX5_frostOf_99
  · intro h31
    refine ct_iconst (v := (-1)) S dX5_frostOf_106 kI_m1 ?_
    exact ct_iret S rfl dX5_frostOf_107
theorem mt_X5_frostOf {l : Launch} {D : cz_D} {l0 : Option Nat} {l1 : Int32} {l2 : Int32} {h : cz_H} {oh : cz_O × cz_H} (hz : fn_X5_frostOf l0 l1 l2 h = some oh) : cz_M l D yX5_frostOf (ws_ yX5_frostOf cX5_frostOf 6 ((Option.some Jvm.ClassFile.FieldType.int))) 6 [cz_r l0, cz_i l1, cz_i l2] h oh := cz_met (plainFor_of_name (by decide)) (Nat.le_of_ble_eq_true rfl) hz (fun K hl S => wk_X5_frostOf S)
/-! HeldCoatsModel.frost(II)I -/
def dkwX5_frost_1 : List UInt8 := [172]
abbrev dktX5_frost_1 : List UInt8 := dkwX5_frost_1 ++ []
def dkwX5_frost_0 : List UInt8 := [42, 3, 181, 0, 1, 42, 27, 28, 182, 1, 95, 153, 0, 12, 42, 27, 28, 182, 1, 98, 167, 0, 4, 2]
abbrev dktX5_frost_0 : List UInt8 := dkwX5_frost_0 ++ dktX5_frost_1
theorem dksX5_frost_0 : cX5_frost.data.toList.drop 0 = dktX5_frost_0 := by decide +kernel
theorem dksX5_frost_1 : cX5_frost.data.toList.drop 24 = dktX5_frost_1 := dk_seg dksX5_frost_0 24 rfl rfl
theorem dX5_frost_0 : decode cX5_frost 0 = .ok (.aload_n 0, 1) := dk_42 (dk_at dksX5_frost_0 0 rfl rfl)
theorem dX5_frost_1 : decode cX5_frost 1 = .ok (.iconst 0, 1) := dk_3 (dk_at dksX5_frost_0 1 rfl rfl)
theorem dX5_frost_2 : decode cX5_frost 2 = .ok (.putfield 1, 3) := dk_181 0 1 (dk_at dksX5_frost_0 2 rfl rfl)
theorem dX5_frost_5 : decode cX5_frost 5 = .ok (.aload_n 0, 1) := dk_42 (dk_at dksX5_frost_0 5 rfl rfl)
theorem dX5_frost_6 : decode cX5_frost 6 = .ok (.iload_n 1, 1) := dk_27 (dk_at dksX5_frost_0 6 rfl rfl)
theorem dX5_frost_7 : decode cX5_frost 7 = .ok (.iload_n 2, 1) := dk_28 (dk_at dksX5_frost_0 7 rfl rfl)
theorem dX5_frost_8 : decode cX5_frost 8 = .ok (.invokevirtual 351, 3) := dk_182 1 95 (dk_at dksX5_frost_0 8 rfl rfl)
theorem dX5_frost_11 : decode cX5_frost 11 = .ok (.ifCond .eq 12, 3) := dk_153 0 12 (dk_at dksX5_frost_0 11 rfl rfl)
theorem dX5_frost_14 : decode cX5_frost 14 = .ok (.aload_n 0, 1) := dk_42 (dk_at dksX5_frost_0 14 rfl rfl)
theorem dX5_frost_15 : decode cX5_frost 15 = .ok (.iload_n 1, 1) := dk_27 (dk_at dksX5_frost_0 15 rfl rfl)
theorem dX5_frost_16 : decode cX5_frost 16 = .ok (.iload_n 2, 1) := dk_28 (dk_at dksX5_frost_0 16 rfl rfl)
theorem dX5_frost_17 : decode cX5_frost 17 = .ok (.invokevirtual 354, 3) := dk_182 1 98 (dk_at dksX5_frost_0 17 rfl rfl)
theorem dX5_frost_20 : decode cX5_frost 20 = .ok (.goto 4, 3) := dk_167 0 4 (dk_at dksX5_frost_0 20 rfl rfl)
theorem dX5_frost_23 : decode cX5_frost 23 = .ok (.iconst (-1), 1) := dk_2 (dk_at dksX5_frost_0 23 rfl rfl)
theorem dX5_frost_24 : decode cX5_frost 24 = .ok (.ireturn, 1) := dk_172 (dk_at dksX5_frost_1 0 rfl rfl)
theorem se_HeldCoatsModel_areTwo__II_Z_HeldCoatsModel : ∀ c ∈ ([5] : List Nat), ∃ q : vw_C, cz_cl[c]? = some q ∧ Cond.selects q.1 (⟨"HeldCoatsModel", "areTwo", "(II)Z"⟩ : MethodName) (⟨"HeldCoatsModel", "areTwo", "(II)Z"⟩ : MethodName) ∈ lw_all := List.forall_mem_cons.mpr ⟨⟨_, cz_cl5, qs93⟩, fun _ h => absurd h List.not_mem_nil⟩
theorem md_X5_areTwo : cz_md yX5_areTwo 3 (ws_ yX5_areTwo cX5_areTwo 3 ((Option.some Jvm.ClassFile.FieldType.boolean))) 2 := ⟨cz_ws_code q2357, q123, ⟨by decide, by decide, by decide +kernel⟩, by decide⟩
theorem se_HeldCoatsModel_frostOf__II_I_HeldCoatsModel : ∀ c ∈ ([5] : List Nat), ∃ q : vw_C, cz_cl[c]? = some q ∧ Cond.selects q.1 (⟨"HeldCoatsModel", "frostOf", "(II)I"⟩ : MethodName) (⟨"HeldCoatsModel", "frostOf", "(II)I"⟩ : MethodName) ∈ lw_all := List.forall_mem_cons.mpr ⟨⟨_, cz_cl5, qs94⟩, fun _ h => absurd h List.not_mem_nil⟩
theorem md_X5_frostOf : cz_md yX5_frostOf 6 (ws_ yX5_frostOf cX5_frostOf 6 ((Option.some Jvm.ClassFile.FieldType.int))) 2 := ⟨cz_ws_code q2361, q123, ⟨by decide, by decide, by decide +kernel⟩, by decide⟩
set_option maxHeartbeats 4000000 in
set_option maxRecDepth 100000 in
noncomputable def fn_X5_frost (l0 : Option Nat) (l1 : Int32) (l2 : Int32) (h : cz_H) : cz_Z := cz_put h l0 [(5, 0)] (cz_i 0) (fun h1 => cz_rc h1 l0 [5] (cz_cI (fn_X5_areTwo l0 l1 l2 h1) (fun x9 h8 => (if x9 = 0 then some (.inl (some (cz_i (-1))), h8) else cz_rc h8 l0 [5] (cz_cI (fn_X5_frostOf l0 l1 l2 h8) (fun x17 h16 => some (.inl (some (cz_i x17)), h16)))))))
set_option maxHeartbeats 4000000 in
set_option maxRecDepth 100000 in
theorem wk_X5_frost {K : cz_K} {D : cz_D} {h0 : cz_H} {oh : cz_O × cz_H} {l0 : Option Nat} {l1 : Int32} {l2 : Int32} {h : cz_H} (S : cz_S K D h0 cX5_frost 3 "HeldCoatsModel" ((Option.some Jvm.ClassFile.FieldType.int)) "frost" ([])) : cz_T K D 7 h0 oh 3 (fn_X5_frost l0 l1 l2 h) h 0 [(0, cz_r l0), (1, cz_i l1), (2, cz_i l2)] [] := by
  unfold fn_X5_frost
  refine ct_aload_n (k := 0) S dX5_frost_0 rfl rfl ?_
  refine ct_iconst (v := 0) S dX5_frost_1 kI_0 ?_
  refine ct_put S fw_X5_1 fp_X5_m_5_0 (cz_fits_i pd_I) dX5_frost_2 (fun h1 => ?_)
  refine ct_aload_n (k := 0) S dX5_frost_5 rfl rfl ?_
  refine ct_iload_n (k := 1) S dX5_frost_6 rfl rfl ?_
  refine ct_iload_n (k := 2) S dX5_frost_7 rfl rfl ?_
  refine ct_rc (fun b2 ci3 V4 hb5 hc6 hi7 => ?_)
  refine ct_cI (st := []) (cg_virtual (av := [cz_i l1, cz_i l2]) S hb5 hc6 hi7 (fun _ e => mt_X5_areTwo e) md_X5_areTwo q2354 q2356 se_HeldCoatsModel_areTwo__II_Z_HeldCoatsModel (by decide) (Nat.le_of_ble_eq_true rfl) rfl dX5_frost_8) (fun x9 h8 => ?_)
  refine ct_if_eq (tgt := 23) S dX5_frost_11 (by decide) ?_ ?_
  · refine ct_iconst (v := (-1)) S dX5_frost_23 kI_m1 ?_
    exact ct_iret S rfl dX5_frost_24
  · refine ct_aload_n (k := 0) S dX5_frost_14 rfl rfl ?_
    refine ct_iload_n (k := 1) S dX5_frost_15 rfl rfl ?_
    refine ct_iload_n (k := 2) S dX5_frost_16 rfl rfl ?_
    refine ct_rc (fun b10 ci11 V12 hb13 hc14 hi15 => ?_)
    refine ct_cI (st := []) (cg_virtual (av := [cz_i l1, cz_i l2]) S hb13 hc14 hi15 (fun _ e => mt_X5_frostOf e) md_X5_frostOf q2358 q2360 se_HeldCoatsModel_frostOf__II_I_HeldCoatsModel (by decide) (Nat.le_of_ble_eq_true rfl) rfl dX5_frost_17) (fun x17 h16 => ?_)
    refine ct_goto (tgt := 24) S dX5_frost_20 (by decide) ?_
    exact ct_iret S rfl dX5_frost_24
theorem mt_X5_frost {l : Launch} {D : cz_D} {l0 : Option Nat} {l1 : Int32} {l2 : Int32} {h : cz_H} {oh : cz_O × cz_H} (hz : fn_X5_frost l0 l1 l2 h = some oh) : cz_M l D yX5_frost (ws_ yX5_frost cX5_frost 3 ((Option.some Jvm.ClassFile.FieldType.int))) 7 [cz_r l0, cz_i l1, cz_i l2] h oh := cz_met (plainFor_of_name (by decide)) (Nat.le_of_ble_eq_true rfl) hz (fun K hl S => wk_X5_frost S)
/-! HeldCoatsModel.frostAt(II)I -/
def dkwX5_frostAt_1 : List UInt8 := [180, 1, 92, 167, 0, 4, 2, 172]
abbrev dktX5_frostAt_1 : List UInt8 := dkwX5_frostAt_1 ++ []
def dkwX5_frostAt_0 : List UInt8 := [42, 3, 181, 0, 1, 42, 27, 28, 182, 1, 95, 153, 0, 19, 42, 27, 28, 182, 1, 98, 155, 0, 10, 42]
abbrev dktX5_frostAt_0 : List UInt8 := dkwX5_frostAt_0 ++ dktX5_frostAt_1
theorem dksX5_frostAt_0 : cX5_frostAt.data.toList.drop 0 = dktX5_frostAt_0 := by decide +kernel
theorem dksX5_frostAt_1 : cX5_frostAt.data.toList.drop 24 = dktX5_frostAt_1 := dk_seg dksX5_frostAt_0 24 rfl rfl
theorem dX5_frostAt_0 : decode cX5_frostAt 0 = .ok (.aload_n 0, 1) := dk_42 (dk_at dksX5_frostAt_0 0 rfl rfl)
theorem dX5_frostAt_1 : decode cX5_frostAt 1 = .ok (.iconst 0, 1) := dk_3 (dk_at dksX5_frostAt_0 1 rfl rfl)
theorem dX5_frostAt_2 : decode cX5_frostAt 2 = .ok (.putfield 1, 3) := dk_181 0 1 (dk_at dksX5_frostAt_0 2 rfl rfl)
theorem dX5_frostAt_5 : decode cX5_frostAt 5 = .ok (.aload_n 0, 1) := dk_42 (dk_at dksX5_frostAt_0 5 rfl rfl)
theorem dX5_frostAt_6 : decode cX5_frostAt 6 = .ok (.iload_n 1, 1) := dk_27 (dk_at dksX5_frostAt_0 6 rfl rfl)
theorem dX5_frostAt_7 : decode cX5_frostAt 7 = .ok (.iload_n 2, 1) := dk_28 (dk_at dksX5_frostAt_0 7 rfl rfl)
theorem dX5_frostAt_8 : decode cX5_frostAt 8 = .ok (.invokevirtual 351, 3) := dk_182 1 95 (dk_at dksX5_frostAt_0 8 rfl rfl)
theorem dX5_frostAt_11 : decode cX5_frostAt 11 = .ok (.ifCond .eq 19, 3) := dk_153 0 19 (dk_at dksX5_frostAt_0 11 rfl rfl)
theorem dX5_frostAt_14 : decode cX5_frostAt 14 = .ok (.aload_n 0, 1) := dk_42 (dk_at dksX5_frostAt_0 14 rfl rfl)
theorem dX5_frostAt_15 : decode cX5_frostAt 15 = .ok (.iload_n 1, 1) := dk_27 (dk_at dksX5_frostAt_0 15 rfl rfl)
theorem dX5_frostAt_16 : decode cX5_frostAt 16 = .ok (.iload_n 2, 1) := dk_28 (dk_at dksX5_frostAt_0 16 rfl rfl)
theorem dX5_frostAt_17 : decode cX5_frostAt 17 = .ok (.invokevirtual 354, 3) := dk_182 1 98 (dk_at dksX5_frostAt_0 17 rfl rfl)
theorem dX5_frostAt_20 : decode cX5_frostAt 20 = .ok (.ifCond .lt 10, 3) := dk_155 0 10 (dk_at dksX5_frostAt_0 20 rfl rfl)
theorem dX5_frostAt_23 : decode cX5_frostAt 23 = .ok (.aload_n 0, 1) := dk_42 (dk_at dksX5_frostAt_0 23 rfl rfl)
theorem dX5_frostAt_24 : decode cX5_frostAt 24 = .ok (.getfield 348, 3) := dk_180 1 92 (dk_at dksX5_frostAt_1 0 rfl rfl)
theorem dX5_frostAt_27 : decode cX5_frostAt 27 = .ok (.goto 4, 3) := dk_167 0 4 (dk_at dksX5_frostAt_1 3 rfl rfl)
theorem dX5_frostAt_30 : decode cX5_frostAt 30 = .ok (.iconst (-1), 1) := dk_2 (dk_at dksX5_frostAt_1 6 rfl rfl)
theorem dX5_frostAt_31 : decode cX5_frostAt 31 = .ok (.ireturn, 1) := dk_172 (dk_at dksX5_frostAt_1 7 rfl rfl)
set_option maxHeartbeats 4000000 in
set_option maxRecDepth 100000 in
noncomputable def fn_X5_frostAt (l0 : Option Nat) (l1 : Int32) (l2 : Int32) (h : cz_H) : cz_Z := cz_put h l0 [(5, 0)] (cz_i 0) (fun h1 => cz_rc h1 l0 [5] (cz_cI (fn_X5_areTwo l0 l1 l2 h1) (fun x9 h8 => (if x9 = 0 then some (.inl (some (cz_i (-1))), h8) else cz_rc h8 l0 [5] (cz_cI (fn_X5_frostOf l0 l1 l2 h8) (fun x17 h16 => (if x17 < 0 then some (.inl (some (cz_i (-1))), h16) else cz_getI h16 l0 [(5, 28)] (fun x18 => some (.inl (some (cz_i x18)), h16)))))))))
set_option maxHeartbeats 4000000 in
set_option maxRecDepth 100000 in
theorem wk_X5_frostAt {K : cz_K} {D : cz_D} {h0 : cz_H} {oh : cz_O × cz_H} {l0 : Option Nat} {l1 : Int32} {l2 : Int32} {h : cz_H} (S : cz_S K D h0 cX5_frostAt 3 "HeldCoatsModel" ((Option.some Jvm.ClassFile.FieldType.int)) "frostAt" ([])) : cz_T K D 7 h0 oh 3 (fn_X5_frostAt l0 l1 l2 h) h 0 [(0, cz_r l0), (1, cz_i l1), (2, cz_i l2)] [] := by
  unfold fn_X5_frostAt
  refine ct_aload_n (k := 0) S dX5_frostAt_0 rfl rfl ?_
  refine ct_iconst (v := 0) S dX5_frostAt_1 kI_0 ?_
  refine ct_put S fw_X5_1 fp_X5_m_5_0 (cz_fits_i pd_I) dX5_frostAt_2 (fun h1 => ?_)
  refine ct_aload_n (k := 0) S dX5_frostAt_5 rfl rfl ?_
  refine ct_iload_n (k := 1) S dX5_frostAt_6 rfl rfl ?_
  refine ct_iload_n (k := 2) S dX5_frostAt_7 rfl rfl ?_
  refine ct_rc (fun b2 ci3 V4 hb5 hc6 hi7 => ?_)
  refine ct_cI (st := []) (cg_virtual (av := [cz_i l1, cz_i l2]) S hb5 hc6 hi7 (fun _ e => mt_X5_areTwo e) md_X5_areTwo q2354 q2356 se_HeldCoatsModel_areTwo__II_Z_HeldCoatsModel (by decide) (Nat.le_of_ble_eq_true rfl) rfl dX5_frostAt_8) (fun x9 h8 => ?_)
  refine ct_if_eq (tgt := 30) S dX5_frostAt_11 (by decide) ?_ ?_
  · refine ct_iconst (v := (-1)) S dX5_frostAt_30 kI_m1 ?_
    exact ct_iret S rfl dX5_frostAt_31
  · refine ct_aload_n (k := 0) S dX5_frostAt_14 rfl rfl ?_
    refine ct_iload_n (k := 1) S dX5_frostAt_15 rfl rfl ?_
    refine ct_iload_n (k := 2) S dX5_frostAt_16 rfl rfl ?_
    refine ct_rc (fun b10 ci11 V12 hb13 hc14 hi15 => ?_)
    refine ct_cI (st := []) (cg_virtual (av := [cz_i l1, cz_i l2]) S hb13 hc14 hi15 (fun _ e => mt_X5_frostOf e) md_X5_frostOf q2358 q2360 se_HeldCoatsModel_frostOf__II_I_HeldCoatsModel (by decide) (Nat.le_of_ble_eq_true rfl) rfl dX5_frostAt_17) (fun x17 h16 => ?_)
    refine ct_if_lt (tgt := 30) S dX5_frostAt_20 (by decide) ?_ ?_
    · refine ct_iconst (v := (-1)) S dX5_frostAt_30 kI_m1 ?_
      exact ct_iret S rfl dX5_frostAt_31
    · refine ct_aload_n (k := 0) S dX5_frostAt_23 rfl rfl ?_
      refine ct_getI S fw_X5_348 dX5_frostAt_24 (fun x18 => ?_)
      refine ct_goto (tgt := 31) S dX5_frostAt_27 (by decide) ?_
      exact ct_iret S rfl dX5_frostAt_31
theorem mt_X5_frostAt {l : Launch} {D : cz_D} {l0 : Option Nat} {l1 : Int32} {l2 : Int32} {h : cz_H} {oh : cz_O × cz_H} (hz : fn_X5_frostAt l0 l1 l2 h = some oh) : cz_M l D yX5_frostAt (ws_ yX5_frostAt cX5_frostAt 3 ((Option.some Jvm.ClassFile.FieldType.int))) 7 [cz_r l0, cz_i l1, cz_i l2] h oh := cz_met (plainFor_of_name (by decide)) (Nat.le_of_ble_eq_true rfl) hz (fun K hl S => wk_X5_frostAt S)
/-! HeldCoatsModel.harm(II)I -/
def dkwX5_harm_2 : List UInt8 := [180, 0, 33, 16, 97, 27, 96, 46, 29, 100, 54, 4, 42, 182, 1, 104, 21, 4, 172]
abbrev dktX5_harm_2 : List UInt8 := dkwX5_harm_2 ++ []
def dkwX5_harm_1 : List UInt8 := [172, 42, 182, 1, 101, 42, 180, 0, 33, 16, 97, 27, 96, 46, 62, 42, 28, 182, 1, 64, 87, 42]
abbrev dktX5_harm_1 : List UInt8 := dkwX5_harm_1 ++ dktX5_harm_2
def dkwX5_harm_0 : List UInt8 := [42, 3, 181, 0, 1, 42, 27, 182, 1, 14, 153, 0, 13, 28, 4, 16, 60, 184, 0, 171, 154, 0, 5, 2]
abbrev dktX5_harm_0 : List UInt8 := dkwX5_harm_0 ++ dktX5_harm_1
theorem dksX5_harm_0 : cX5_harm.data.toList.drop 0 = dktX5_harm_0 := by decide +kernel
theorem dksX5_harm_1 : cX5_harm.data.toList.drop 24 = dktX5_harm_1 := dk_seg dksX5_harm_0 24 rfl rfl
theorem dksX5_harm_2 : cX5_harm.data.toList.drop 46 = dktX5_harm_2 := dk_seg dksX5_harm_1 22 rfl rfl
theorem dX5_harm_0 : decode cX5_harm 0 = .ok (.aload_n 0, 1) := dk_42 (dk_at dksX5_harm_0 0 rfl rfl)
theorem dX5_harm_1 : decode cX5_harm 1 = .ok (.iconst 0, 1) := dk_3 (dk_at dksX5_harm_0 1 rfl rfl)
theorem dX5_harm_2 : decode cX5_harm 2 = .ok (.putfield 1, 3) := dk_181 0 1 (dk_at dksX5_harm_0 2 rfl rfl)
theorem dX5_harm_5 : decode cX5_harm 5 = .ok (.aload_n 0, 1) := dk_42 (dk_at dksX5_harm_0 5 rfl rfl)
theorem dX5_harm_6 : decode cX5_harm 6 = .ok (.iload_n 1, 1) := dk_27 (dk_at dksX5_harm_0 6 rfl rfl)
theorem dX5_harm_7 : decode cX5_harm 7 = .ok (.invokevirtual 270, 3) := dk_182 1 14 (dk_at dksX5_harm_0 7 rfl rfl)
theorem dX5_harm_10 : decode cX5_harm 10 = .ok (.ifCond .eq 13, 3) := dk_153 0 13 (dk_at dksX5_harm_0 10 rfl rfl)
theorem dX5_harm_13 : decode cX5_harm 13 = .ok (.iload_n 2, 1) := dk_28 (dk_at dksX5_harm_0 13 rfl rfl)
theorem dX5_harm_14 : decode cX5_harm 14 = .ok (.iconst 1, 1) := dk_4 (dk_at dksX5_harm_0 14 rfl rfl)
theorem dX5_harm_15 : decode cX5_harm 15 = .ok (.bipush 60, 2) := dk_16 60 (dk_at dksX5_harm_0 15 rfl rfl)
theorem dX5_harm_17 : decode cX5_harm 17 = .ok (.invokestatic 171, 3) := dk_184 0 171 (dk_at dksX5_harm_0 17 rfl rfl)
theorem dX5_harm_20 : decode cX5_harm 20 = .ok (.ifCond .ne 5, 3) := dk_154 0 5 (dk_at dksX5_harm_0 20 rfl rfl)
theorem dX5_harm_23 : decode cX5_harm 23 = .ok (.iconst (-1), 1) := dk_2 (dk_at dksX5_harm_0 23 rfl rfl)
theorem dX5_harm_24 : decode cX5_harm 24 = .ok (.ireturn, 1) := dk_172 (dk_at dksX5_harm_1 0 rfl rfl)
theorem dX5_harm_25 : decode cX5_harm 25 = .ok (.aload_n 0, 1) := dk_42 (dk_at dksX5_harm_1 1 rfl rfl)
theorem dX5_harm_26 : decode cX5_harm 26 = .ok (.invokevirtual 357, 3) := dk_182 1 101 (dk_at dksX5_harm_1 2 rfl rfl)
theorem dX5_harm_29 : decode cX5_harm 29 = .ok (.aload_n 0, 1) := dk_42 (dk_at dksX5_harm_1 5 rfl rfl)
theorem dX5_harm_30 : decode cX5_harm 30 = .ok (.getfield 33, 3) := dk_180 0 33 (dk_at dksX5_harm_1 6 rfl rfl)
theorem dX5_harm_33 : decode cX5_harm 33 = .ok (.bipush 97, 2) := dk_16 97 (dk_at dksX5_harm_1 9 rfl rfl)
theorem dX5_harm_35 : decode cX5_harm 35 = .ok (.iload_n 1, 1) := dk_27 (dk_at dksX5_harm_1 11 rfl rfl)
theorem dX5_harm_36 : decode cX5_harm 36 = .ok (.iadd, 1) := dk_96 (dk_at dksX5_harm_1 12 rfl rfl)
theorem dX5_harm_37 : decode cX5_harm 37 = .ok (.iaload, 1) := dk_46 (dk_at dksX5_harm_1 13 rfl rfl)
theorem dX5_harm_38 : decode cX5_harm 38 = .ok (.istore_n 3, 1) := dk_62 (dk_at dksX5_harm_1 14 rfl rfl)
theorem dX5_harm_39 : decode cX5_harm 39 = .ok (.aload_n 0, 1) := dk_42 (dk_at dksX5_harm_1 15 rfl rfl)
theorem dX5_harm_40 : decode cX5_harm 40 = .ok (.iload_n 2, 1) := dk_28 (dk_at dksX5_harm_1 16 rfl rfl)
theorem dX5_harm_41 : decode cX5_harm 41 = .ok (.invokevirtual 320, 3) := dk_182 1 64 (dk_at dksX5_harm_1 17 rfl rfl)
theorem dX5_harm_44 : decode cX5_harm 44 = .ok (.pop, 1) := dk_87 (dk_at dksX5_harm_1 20 rfl rfl)
theorem dX5_harm_45 : decode cX5_harm 45 = .ok (.aload_n 0, 1) := dk_42 (dk_at dksX5_harm_1 21 rfl rfl)
theorem dX5_harm_46 : decode cX5_harm 46 = .ok (.getfield 33, 3) := dk_180 0 33 (dk_at dksX5_harm_2 0 rfl rfl)
theorem dX5_harm_49 : decode cX5_harm 49 = .ok (.bipush 97, 2) := dk_16 97 (dk_at dksX5_harm_2 3 rfl rfl)
theorem dX5_harm_51 : decode cX5_harm 51 = .ok (.iload_n 1, 1) := dk_27 (dk_at dksX5_harm_2 5 rfl rfl)
theorem dX5_harm_52 : decode cX5_harm 52 = .ok (.iadd, 1) := dk_96 (dk_at dksX5_harm_2 6 rfl rfl)
theorem dX5_harm_53 : decode cX5_harm 53 = .ok (.iaload, 1) := dk_46 (dk_at dksX5_harm_2 7 rfl rfl)
theorem dX5_harm_54 : decode cX5_harm 54 = .ok (.iload_n 3, 1) := dk_29 (dk_at dksX5_harm_2 8 rfl rfl)
theorem dX5_harm_55 : decode cX5_harm 55 = .ok (.isub, 1) := dk_100 (dk_at dksX5_harm_2 9 rfl rfl)
theorem dX5_harm_56 : decode cX5_harm 56 = .ok (.istore 4, 2) := dk_54 4 (dk_at dksX5_harm_2 10 rfl rfl)
theorem dX5_harm_58 : decode cX5_harm 58 = .ok (.aload_n 0, 1) := dk_42 (dk_at dksX5_harm_2 12 rfl rfl)
theorem dX5_harm_59 : decode cX5_harm 59 = .ok (.invokevirtual 360, 3) := dk_182 1 104 (dk_at dksX5_harm_2 13 rfl rfl)
theorem dX5_harm_62 : decode cX5_harm 62 = .ok (.iload 4, 2) := dk_21 4 (dk_at dksX5_harm_2 16 rfl rfl)
theorem dX5_harm_64 : decode cX5_harm 64 = .ok (.ireturn, 1) := dk_172 (dk_at dksX5_harm_2 18 rfl rfl)
set_option maxHeartbeats 4000000 in
set_option maxRecDepth 100000 in
noncomputable def fn_X5_harm (l0 : Option Nat) (l1 : Int32) (l2 : Int32) (h : cz_H) : cz_Z := cz_put h l0 [(5, 0)] (cz_i 0) (fun h1 => cz_rc h1 l0 [5] (cz_cI (fn_X5_isMan l0 l1 h1) (fun x9 h8 => (if x9 = 0 then some (.inl (some (cz_i (-1))), h8) else cz_cI (fn_X5_isIn l2 1 60 h8) (fun x11 h10 => (if x11 = 0 then some (.inl (some (cz_i (-1))), h10) else cz_rc h10 l0 [5] (cz_cV (fn_X5_tries l0 h10) (fun h18 => cz_getR h18 l0 [(5, 6)] (fun r19 => cz_iald h18 r19 ((97 : Int32) + l1) (fun x20 => cz_rc h18 l0 [5] (cz_cI (fn_X5_goesOn l0 l2 h18) (fun x28 h27 => cz_getR h27 l0 [(5, 6)] (fun r29 => cz_iald h27 r29 ((97 : Int32) + l1) (fun x30 => cz_leti (x30 - x20) (fun x31 => cz_rc h27 l0 [5] (cz_cV (fn_X5_back l0 h27) (fun h38 => some (.inl (some (cz_i x31)), h38))))))))))))))))))
set_option maxHeartbeats 4000000 in
set_option maxRecDepth 100000 in
theorem wk_X5_harm {K : cz_K} {D : cz_D} {h0 : cz_H} {oh : cz_O × cz_H} {l0 : Option Nat} {l1 : Int32} {l2 : Int32} {h : cz_H} (S : cz_S K D h0 cX5_harm 5 "HeldCoatsModel" ((Option.some Jvm.ClassFile.FieldType.int)) "harm" ([])) : cz_T K D 8 h0 oh 5 (fn_X5_harm l0 l1 l2 h) h 0 [(0, cz_r l0), (1, cz_i l1), (2, cz_i l2)] [] := by
  unfold fn_X5_harm
  refine ct_aload_n (k := 0) S dX5_harm_0 rfl rfl ?_
  refine ct_iconst (v := 0) S dX5_harm_1 kI_0 ?_
  refine ct_put S fw_X5_1 fp_X5_m_5_0 (cz_fits_i pd_I) dX5_harm_2 (fun h1 => ?_)
  refine ct_aload_n (k := 0) S dX5_harm_5 rfl rfl ?_
  refine ct_iload_n (k := 1) S dX5_harm_6 rfl rfl ?_
  refine ct_rc (fun b2 ci3 V4 hb5 hc6 hi7 => ?_)
  refine ct_cI (st := []) (cg_virtual (av := [cz_i l1]) S hb5 hc6 hi7 (fun _ e => mt_X5_isMan e) md_X5_isMan q2188 q2190 se_HeldCoatsModel_isMan__I_Z_HeldCoatsModel (by decide) (Nat.le_of_ble_eq_true rfl) rfl dX5_harm_7) (fun x9 h8 => ?_)
  refine ct_if_eq (tgt := 23) S dX5_harm_10 (by decide) ?_ ?_
  · refine ct_iconst (v := (-1)) S dX5_harm_23 kI_m1 ?_
    exact ct_iret S rfl dX5_harm_24
  · refine ct_iload_n (k := 2) S dX5_harm_13 rfl rfl ?_
    refine ct_iconst (v := 1) S dX5_harm_14 kI_1 ?_
    refine ct_bipush (v := 60) S dX5_harm_15 kB_60 ?_
    refine ct_cI (st := []) (cg_static (av := [cz_i l2, cz_i 1, cz_i 60]) S (fun _ e => mt_X5_isIn e) md_X5_isIn (Or.inl q2122) q2123 (by decide) (Nat.le_of_ble_eq_true rfl) rfl dX5_harm_17) (fun x11 h10 => ?_)
    refine ct_if_ne (tgt := 25) S dX5_harm_20 (by decide) ?_ ?_
    · refine ct_aload_n (k := 0) S dX5_harm_25 rfl rfl ?_
      refine ct_rc (fun b12 ci13 V14 hb15 hc16 hi17 => ?_)
      refine ct_cV (st := []) (cg_virtual (av := []) S hb15 hc16 hi17 (fun _ e => mt_X5_tries e) md_X5_tries q2370 q2372 se_HeldCoatsModel_tries___V_HeldCoatsModel (by decide) (Nat.le_of_ble_eq_true rfl) rfl dX5_harm_26) (fun h18 => ?_)
      refine ct_aload_n (k := 0) S dX5_harm_29 rfl rfl ?_
      refine ct_getR S fw_X5_33 dX5_harm_30 (fun r19 => ?_)
      refine ct_bipush (v := 97) S dX5_harm_33 kB_97 ?_
      refine ct_iload_n (k := 1) S dX5_harm_35 rfl rfl ?_
      refine ct_iadd S dX5_harm_36 ?_
      refine ct_iald S dX5_harm_37 (fun x20 => ?_)
      refine ct_istore_n (L' := [(3, cz_i x20), (0, cz_r l0), (1, cz_i l1), (2, cz_i l2)]) S dX5_harm_38 rfl (by decide) rfl ?_
      refine ct_aload_n (k := 1) S dX5_harm_39 rfl rfl ?_
      refine ct_iload_n (k := 3) S dX5_harm_40 rfl rfl ?_
      refine ct_rc (fun b21 ci22 V23 hb24 hc25 hi26 => ?_)
      refine ct_cI (st := []) (cg_virtual (av := [cz_i l2]) S hb24 hc25 hi26 (fun _ e => mt_X5_goesOn e) md_X5_goesOn q2291 q2293 se_HeldCoatsModel_goesOn__I_I_HeldCoatsModel (by decide) (Nat.le_of_ble_eq_true rfl) rfl dX5_harm_41) (fun x28 h27 => ?_)
      refine ct_pop S dX5_harm_44 rfl ?_
      refine ct_aload_n (k := 1) S dX5_harm_45 rfl rfl ?_
      refine ct_getR S fw_X5_33 dX5_harm_46 (fun r29 => ?_)
      refine ct_bipush (v := 97) S dX5_harm_49 kB_97 ?_
      refine ct_iload_n (k := 2) S dX5_harm_51 rfl rfl ?_
      refine ct_iadd S dX5_harm_52 ?_
      refine ct_iald S dX5_harm_53 (fun x30 => ?_)
      refine ct_iload_n (k := 0) S dX5_harm_54 rfl rfl ?_
      refine ct_isub S dX5_harm_55 ?_
      refine ct_leti (fun x31 => ?_)
      refine ct_istore (L' := [(4, cz_i x31), (3, cz_i x20), (0, cz_r l0), (1, cz_i l1), (2, cz_i l2)]) S dX5_harm_56 (by decide) rfl ?_
      refine ct_aload_n (k := 2) S dX5_harm_58 rfl rfl ?_
      refine ct_rc (fun b32 ci33 V34 hb35 hc36 hi37 => ?_)
      refine ct_cV (st := []) (cg_virtual (av := []) S hb35 hc36 hi37 (fun _ e => mt_X5_back e) md_X5_back q2374 q2376 se_HeldCoatsModel_back___V_HeldCoatsModel (by decide) (Nat.le_of_ble_eq_true rfl) rfl dX5_harm_59) (fun h38 => ?_)
      refine ct_iload (k := 0) S dX5_harm_62 rfl ?_
      exact ct_iret S rfl dX5_harm_64
    · refine ct_iconst (v := (-1)) S dX5_harm_23 kI_m1 ?_
      exact ct_iret S rfl dX5_harm_24
theorem mt_X5_harm {l : Launch} {D : cz_D} {l0 : Option Nat} {l1 : Int32} {l2 : Int32} {h : cz_H} {oh : cz_O × cz_H} (hz : fn_X5_harm l0 l1 l2 h = some oh) : cz_M l D yX5_harm (ws_ yX5_harm cX5_harm 5 ((Option.some Jvm.ClassFile.FieldType.int))) 8 [cz_r l0, cz_i l1, cz_i l2] h oh := cz_met (plainFor_of_name (by decide)) (Nat.le_of_ble_eq_true rfl) hz (fun K hl S => wk_X5_harm S)
/-! HeldCoatsModel.octet(I)I -/
def dkwX5_octet_0 : List UInt8 := [42, 180, 0, 14, 27, 51, 17, 0, 255, 126, 172]
abbrev dktX5_octet_0 : List UInt8 := dkwX5_octet_0 ++ []
theorem dksX5_octet_0 : cX5_octet.data.toList.drop 0 = dktX5_octet_0 := by decide +kernel
theorem dX5_octet_0 : decode cX5_octet 0 = .ok (.aload_n 0, 1) := dk_42 (dk_at dksX5_octet_0 0 rfl rfl)
theorem dX5_octet_1 : decode cX5_octet 1 = .ok (.getfield 14, 3) := dk_180 0 14 (dk_at dksX5_octet_0 1 rfl rfl)
theorem dX5_octet_4 : decode cX5_octet 4 = .ok (.iload_n 1, 1) := dk_27 (dk_at dksX5_octet_0 4 rfl rfl)
theorem dX5_octet_5 : decode cX5_octet 5 = .ok (.baload, 1) := dk_51 (dk_at dksX5_octet_0 5 rfl rfl)
theorem dX5_octet_6 : decode cX5_octet 6 = .ok (.sipush 255, 3) := dk_17 0 255 (dk_at dksX5_octet_0 6 rfl rfl)
theorem dX5_octet_9 : decode cX5_octet 9 = .ok (.iand, 1) := dk_126 (dk_at dksX5_octet_0 9 rfl rfl)
theorem dX5_octet_10 : decode cX5_octet 10 = .ok (.ireturn, 1) := dk_172 (dk_at dksX5_octet_0 10 rfl rfl)
set_option maxHeartbeats 4000000 in
set_option maxRecDepth 100000 in
noncomputable def fn_X5_octet (l0 : Option Nat) (l1 : Int32) (h : cz_H) : cz_Z := cz_getR h l0 [(5, 1)] (fun r1 => cz_bald h r1 l1 (fun x2 => some (.inl (some (cz_i (x2 &&& 255))), h)))
set_option maxHeartbeats 4000000 in
set_option maxRecDepth 100000 in
theorem wk_X5_octet {K : cz_K} {D : cz_D} {h0 : cz_H} {oh : cz_O × cz_H} {l0 : Option Nat} {l1 : Int32} {h : cz_H} (S : cz_S K D h0 cX5_octet 2 "HeldCoatsModel" ((Option.some Jvm.ClassFile.FieldType.int)) "octet" ([])) : cz_T K D 2 h0 oh 2 (fn_X5_octet l0 l1 h) h 0 [(0, cz_r l0), (1, cz_i l1)] [] := by
  unfold fn_X5_octet
  refine ct_aload_n (k := 0) S dX5_octet_0 rfl rfl ?_
  refine ct_getR S fw_X5_14 dX5_octet_1 (fun r1 => ?_)
  refine ct_iload_n (k := 1) S dX5_octet_4 rfl rfl ?_
  refine ct_bald S dX5_octet_5 (fun x2 => ?_)
  refine ct_sipush (v := 255) S dX5_octet_6 kS_255 ?_
  refine ct_iand S dX5_octet_9 ?_
  exact ct_iret S rfl dX5_octet_10
theorem mt_X5_octet {l : Launch} {D : cz_D} {l0 : Option Nat} {l1 : Int32} {h : cz_H} {oh : cz_O × cz_H} (hz : fn_X5_octet l0 l1 h = some oh) : cz_M l D yX5_octet (ws_ yX5_octet cX5_octet 2 ((Option.some Jvm.ClassFile.FieldType.int))) 2 [cz_r l0, cz_i l1] h oh := cz_met (plainFor_of_name (by decide)) (Nat.le_of_ble_eq_true rfl) hz (fun K hl S => wk_X5_octet S)
/-! HeldCoatsModel.hooks()I -/
def dkwX5_hooks_12 : List UInt8 := [28, 181, 1, 116, 42, 29, 181, 1, 119, 27, 172]
abbrev dktX5_hooks_12 : List UInt8 := dkwX5_hooks_12 ++ []
def dkwX5_hooks_11 : List UInt8 := [167, 0, 4, 3, 128, 62, 132, 4, 1, 167, 255, 112, 27, 154, 0, 5, 3, 172, 42, 4, 181, 1, 113, 42]
abbrev dktX5_hooks_11 : List UInt8 := dkwX5_hooks_11 ++ dktX5_hooks_12
def dkwX5_hooks_10 : List UInt8 := [160, 0, 8, 21, 5, 167, 0, 4, 3, 128, 61, 29, 42, 180, 0, 56, 21, 4, 46, 154, 0, 8, 21, 5]
abbrev dktX5_hooks_10 : List UInt8 := dkwX5_hooks_10 ++ dktX5_hooks_11
def dkwX5_hooks_9 : List UInt8 := [184, 0, 250, 104, 60, 132, 6, 1, 167, 255, 226, 28, 42, 180, 0, 56, 21, 4, 46, 21, 5, 184, 1, 67]
abbrev dktX5_hooks_9 : List UInt8 := dkwX5_hooks_9 ++ dktX5_hooks_10
def dkwX5_hooks_8 : List UInt8 := [54, 6, 21, 6, 42, 180, 0, 56, 21, 4, 46, 162, 0, 24, 27, 3, 21, 5, 184, 1, 67, 21, 6, 100]
abbrev dktX5_hooks_8 : List UInt8 := dkwX5_hooks_8 ++ dktX5_hooks_9
def dkwX5_hooks_7 : List UInt8 := [46, 21, 4, 160, 0, 10, 4, 21, 6, 120, 167, 0, 4, 3, 128, 54, 5, 132, 6, 1, 167, 255, 214, 3]
abbrev dktX5_hooks_7 : List UInt8 := dkwX5_hooks_7 ++ dktX5_hooks_8
def dkwX5_hooks_6 : List UInt8 := [54, 6, 21, 6, 42, 180, 0, 33, 5, 46, 162, 0, 37, 21, 5, 42, 180, 0, 33, 16, 22, 21, 6, 96]
abbrev dktX5_hooks_6 : List UInt8 := dkwX5_hooks_6 ++ dktX5_hooks_7
def dkwX5_hooks_5 : List UInt8 := [60, 3, 61, 3, 62, 3, 54, 4, 21, 4, 42, 180, 0, 33, 4, 46, 162, 0, 139, 3, 54, 5, 3]
abbrev dktX5_hooks_5 : List UInt8 := dkwX5_hooks_5 ++ dktX5_hooks_6
def dkwX5_hooks_4 : List UInt8 := [159, 0, 17, 42, 180, 0, 56, 42, 27, 182, 1, 110, 92, 46, 4, 96, 79, 132, 1, 1, 167, 255, 197, 4]
abbrev dktX5_hooks_4 : List UInt8 := dkwX5_hooks_4 ++ dktX5_hooks_5
def dkwX5_hooks_3 : List UInt8 := [159, 0, 17, 42, 42, 27, 182, 1, 110, 182, 1, 14, 154, 0, 5, 2, 172, 42, 27, 182, 1, 110, 16, 9]
abbrev dktX5_hooks_3 : List UInt8 := dkwX5_hooks_3 ++ dktX5_hooks_4
def dkwX5_hooks_2 : List UInt8 := [79, 132, 1, 1, 167, 255, 240, 3, 60, 27, 42, 180, 0, 18, 162, 0, 57, 42, 27, 182, 1, 110, 16, 9]
abbrev dktX5_hooks_2 : List UInt8 := dkwX5_hooks_2 ++ dktX5_hooks_3
def dkwX5_hooks_1 : List UInt8 := [180, 0, 33, 3, 46, 159, 0, 5, 2, 172, 3, 60, 27, 16, 6, 162, 0, 16, 42, 180, 0, 56, 27, 3]
abbrev dktX5_hooks_1 : List UInt8 := dkwX5_hooks_1 ++ dktX5_hooks_2
def dkwX5_hooks_0 : List UInt8 := [42, 3, 181, 0, 1, 42, 17, 3, 172, 182, 0, 219, 42, 180, 0, 18, 153, 0, 16, 42, 180, 0, 18, 42]
abbrev dktX5_hooks_0 : List UInt8 := dkwX5_hooks_0 ++ dktX5_hooks_1
theorem dksX5_hooks_0 : cX5_hooks.data.toList.drop 0 = dktX5_hooks_0 := by decide +kernel
theorem dksX5_hooks_1 : cX5_hooks.data.toList.drop 24 = dktX5_hooks_1 := dk_seg dksX5_hooks_0 24 rfl rfl
theorem dksX5_hooks_2 : cX5_hooks.data.toList.drop 48 = dktX5_hooks_2 := dk_seg dksX5_hooks_1 24 rfl rfl
theorem dksX5_hooks_3 : cX5_hooks.data.toList.drop 72 = dktX5_hooks_3 := dk_seg dksX5_hooks_2 24 rfl rfl
theorem dksX5_hooks_4 : cX5_hooks.data.toList.drop 96 = dktX5_hooks_4 := dk_seg dksX5_hooks_3 24 rfl rfl
theorem dksX5_hooks_5 : cX5_hooks.data.toList.drop 120 = dktX5_hooks_5 := dk_seg dksX5_hooks_4 24 rfl rfl
theorem dksX5_hooks_6 : cX5_hooks.data.toList.drop 143 = dktX5_hooks_6 := dk_seg dksX5_hooks_5 23 rfl rfl
theorem dksX5_hooks_7 : cX5_hooks.data.toList.drop 167 = dktX5_hooks_7 := dk_seg dksX5_hooks_6 24 rfl rfl
theorem dksX5_hooks_8 : cX5_hooks.data.toList.drop 191 = dktX5_hooks_8 := dk_seg dksX5_hooks_7 24 rfl rfl
theorem dksX5_hooks_9 : cX5_hooks.data.toList.drop 215 = dktX5_hooks_9 := dk_seg dksX5_hooks_8 24 rfl rfl
theorem dksX5_hooks_10 : cX5_hooks.data.toList.drop 239 = dktX5_hooks_10 := dk_seg dksX5_hooks_9 24 rfl rfl
theorem dksX5_hooks_11 : cX5_hooks.data.toList.drop 263 = dktX5_hooks_11 := dk_seg dksX5_hooks_10 24 rfl rfl
theorem dksX5_hooks_12 : cX5_hooks.data.toList.drop 287 = dktX5_hooks_12 := dk_seg dksX5_hooks_11 24 rfl rfl
theorem dX5_hooks_0 : decode cX5_hooks 0 = .ok (.aload_n 0, 1) := dk_42 (dk_at dksX5_hooks_0 0 rfl rfl)
theorem dX5_hooks_1 : decode cX5_hooks 1 = .ok (.iconst 0, 1) := dk_3 (dk_at dksX5_hooks_0 1 rfl rfl)
theorem dX5_hooks_2 : decode cX5_hooks 2 = .ok (.putfield 1, 3) := dk_181 0 1 (dk_at dksX5_hooks_0 2 rfl rfl)
theorem dX5_hooks_5 : decode cX5_hooks 5 = .ok (.aload_n 0, 1) := dk_42 (dk_at dksX5_hooks_0 5 rfl rfl)
theorem dX5_hooks_6 : decode cX5_hooks 6 = .ok (.sipush 940, 3) := dk_17 3 172 (dk_at dksX5_hooks_0 6 rfl rfl)
theorem dX5_hooks_9 : decode cX5_hooks 9 = .ok (.invokevirtual 219, 3) := dk_182 0 219 (dk_at dksX5_hooks_0 9 rfl rfl)
theorem dX5_hooks_12 : decode cX5_hooks 12 = .ok (.aload_n 0, 1) := dk_42 (dk_at dksX5_hooks_0 12 rfl rfl)
theorem dX5_hooks_13 : decode cX5_hooks 13 = .ok (.getfield 18, 3) := dk_180 0 18 (dk_at dksX5_hooks_0 13 rfl rfl)
theorem dX5_hooks_16 : decode cX5_hooks 16 = .ok (.ifCond .eq 16, 3) := dk_153 0 16 (dk_at dksX5_hooks_0 16 rfl rfl)
theorem dX5_hooks_19 : decode cX5_hooks 19 = .ok (.aload_n 0, 1) := dk_42 (dk_at dksX5_hooks_0 19 rfl rfl)
theorem dX5_hooks_20 : decode cX5_hooks 20 = .ok (.getfield 18, 3) := dk_180 0 18 (dk_at dksX5_hooks_0 20 rfl rfl)
theorem dX5_hooks_23 : decode cX5_hooks 23 = .ok (.aload_n 0, 1) := dk_42 (dk_at dksX5_hooks_0 23 rfl rfl)
theorem dX5_hooks_24 : decode cX5_hooks 24 = .ok (.getfield 33, 3) := dk_180 0 33 (dk_at dksX5_hooks_1 0 rfl rfl)
theorem dX5_hooks_27 : decode cX5_hooks 27 = .ok (.iconst 0, 1) := dk_3 (dk_at dksX5_hooks_1 3 rfl rfl)
theorem dX5_hooks_28 : decode cX5_hooks 28 = .ok (.iaload, 1) := dk_46 (dk_at dksX5_hooks_1 4 rfl rfl)
theorem dX5_hooks_29 : decode cX5_hooks 29 = .ok (.if_icmp .eq 5, 3) := dk_159 0 5 (dk_at dksX5_hooks_1 5 rfl rfl)
theorem dX5_hooks_32 : decode cX5_hooks 32 = .ok (.iconst (-1), 1) := dk_2 (dk_at dksX5_hooks_1 8 rfl rfl)
theorem dX5_hooks_33 : decode cX5_hooks 33 = .ok (.ireturn, 1) := dk_172 (dk_at dksX5_hooks_1 9 rfl rfl)
theorem dX5_hooks_34 : decode cX5_hooks 34 = .ok (.iconst 0, 1) := dk_3 (dk_at dksX5_hooks_1 10 rfl rfl)
theorem dX5_hooks_35 : decode cX5_hooks 35 = .ok (.istore_n 1, 1) := dk_60 (dk_at dksX5_hooks_1 11 rfl rfl)
theorem dX5_hooks_36 : decode cX5_hooks 36 = .ok (.iload_n 1, 1) := dk_27 (dk_at dksX5_hooks_1 12 rfl rfl)
theorem dX5_hooks_37 : decode cX5_hooks 37 = .ok (.bipush 6, 2) := dk_16 6 (dk_at dksX5_hooks_1 13 rfl rfl)
theorem dX5_hooks_39 : decode cX5_hooks 39 = .ok (.if_icmp .ge 16, 3) := dk_162 0 16 (dk_at dksX5_hooks_1 15 rfl rfl)
theorem dX5_hooks_42 : decode cX5_hooks 42 = .ok (.aload_n 0, 1) := dk_42 (dk_at dksX5_hooks_1 18 rfl rfl)
theorem dX5_hooks_43 : decode cX5_hooks 43 = .ok (.getfield 56, 3) := dk_180 0 56 (dk_at dksX5_hooks_1 19 rfl rfl)
theorem dX5_hooks_46 : decode cX5_hooks 46 = .ok (.iload_n 1, 1) := dk_27 (dk_at dksX5_hooks_1 22 rfl rfl)
theorem dX5_hooks_47 : decode cX5_hooks 47 = .ok (.iconst 0, 1) := dk_3 (dk_at dksX5_hooks_1 23 rfl rfl)
theorem dX5_hooks_48 : decode cX5_hooks 48 = .ok (.iastore, 1) := dk_79 (dk_at dksX5_hooks_2 0 rfl rfl)
theorem dX5_hooks_49 : decode cX5_hooks 49 = .ok (.iinc 1 1, 3) := dk_132 1 1 (dk_at dksX5_hooks_2 1 rfl rfl)
theorem dX5_hooks_52 : decode cX5_hooks 52 = .ok (.goto (-16), 3) := dk_167 255 240 (dk_at dksX5_hooks_2 4 rfl rfl)
theorem dX5_hooks_55 : decode cX5_hooks 55 = .ok (.iconst 0, 1) := dk_3 (dk_at dksX5_hooks_2 7 rfl rfl)
theorem dX5_hooks_56 : decode cX5_hooks 56 = .ok (.istore_n 1, 1) := dk_60 (dk_at dksX5_hooks_2 8 rfl rfl)
theorem dX5_hooks_57 : decode cX5_hooks 57 = .ok (.iload_n 1, 1) := dk_27 (dk_at dksX5_hooks_2 9 rfl rfl)
theorem dX5_hooks_58 : decode cX5_hooks 58 = .ok (.aload_n 0, 1) := dk_42 (dk_at dksX5_hooks_2 10 rfl rfl)
theorem dX5_hooks_59 : decode cX5_hooks 59 = .ok (.getfield 18, 3) := dk_180 0 18 (dk_at dksX5_hooks_2 11 rfl rfl)
theorem dX5_hooks_62 : decode cX5_hooks 62 = .ok (.if_icmp .ge 57, 3) := dk_162 0 57 (dk_at dksX5_hooks_2 14 rfl rfl)
theorem dX5_hooks_65 : decode cX5_hooks 65 = .ok (.aload_n 0, 1) := dk_42 (dk_at dksX5_hooks_2 17 rfl rfl)
theorem dX5_hooks_66 : decode cX5_hooks 66 = .ok (.iload_n 1, 1) := dk_27 (dk_at dksX5_hooks_2 18 rfl rfl)
theorem dX5_hooks_67 : decode cX5_hooks 67 = .ok (.invokevirtual 366, 3) := dk_182 1 110 (dk_at dksX5_hooks_2 19 rfl rfl)
theorem dX5_hooks_70 : decode cX5_hooks 70 = .ok (.bipush 9, 2) := dk_16 9 (dk_at dksX5_hooks_2 22 rfl rfl)
theorem dX5_hooks_72 : decode cX5_hooks 72 = .ok (.if_icmp .eq 17, 3) := dk_159 0 17 (dk_at dksX5_hooks_3 0 rfl rfl)
theorem dX5_hooks_75 : decode cX5_hooks 75 = .ok (.aload_n 0, 1) := dk_42 (dk_at dksX5_hooks_3 3 rfl rfl)
theorem dX5_hooks_76 : decode cX5_hooks 76 = .ok (.aload_n 0, 1) := dk_42 (dk_at dksX5_hooks_3 4 rfl rfl)
theorem dX5_hooks_77 : decode cX5_hooks 77 = .ok (.iload_n 1, 1) := dk_27 (dk_at dksX5_hooks_3 5 rfl rfl)
theorem dX5_hooks_78 : decode cX5_hooks 78 = .ok (.invokevirtual 366, 3) := dk_182 1 110 (dk_at dksX5_hooks_3 6 rfl rfl)
theorem dX5_hooks_81 : decode cX5_hooks 81 = .ok (.invokevirtual 270, 3) := dk_182 1 14 (dk_at dksX5_hooks_3 9 rfl rfl)
theorem dX5_hooks_84 : decode cX5_hooks 84 = .ok (.ifCond .ne 5, 3) := dk_154 0 5 (dk_at dksX5_hooks_3 12 rfl rfl)
theorem dX5_hooks_87 : decode cX5_hooks 87 = .ok (.iconst (-1), 1) := dk_2 (dk_at dksX5_hooks_3 15 rfl rfl)
theorem dX5_hooks_88 : decode cX5_hooks 88 = .ok (.ireturn, 1) := dk_172 (dk_at dksX5_hooks_3 16 rfl rfl)
theorem dX5_hooks_89 : decode cX5_hooks 89 = .ok (.aload_n 0, 1) := dk_42 (dk_at dksX5_hooks_3 17 rfl rfl)
theorem dX5_hooks_90 : decode cX5_hooks 90 = .ok (.iload_n 1, 1) := dk_27 (dk_at dksX5_hooks_3 18 rfl rfl)
theorem dX5_hooks_91 : decode cX5_hooks 91 = .ok (.invokevirtual 366, 3) := dk_182 1 110 (dk_at dksX5_hooks_3 19 rfl rfl)
theorem dX5_hooks_94 : decode cX5_hooks 94 = .ok (.bipush 9, 2) := dk_16 9 (dk_at dksX5_hooks_3 22 rfl rfl)
theorem dX5_hooks_96 : decode cX5_hooks 96 = .ok (.if_icmp .eq 17, 3) := dk_159 0 17 (dk_at dksX5_hooks_4 0 rfl rfl)
theorem dX5_hooks_99 : decode cX5_hooks 99 = .ok (.aload_n 0, 1) := dk_42 (dk_at dksX5_hooks_4 3 rfl rfl)
theorem dX5_hooks_100 : decode cX5_hooks 100 = .ok (.getfield 56, 3) := dk_180 0 56 (dk_at dksX5_hooks_4 4 rfl rfl)
theorem dX5_hooks_103 : decode cX5_hooks 103 = .ok (.aload_n 0, 1) := dk_42 (dk_at dksX5_hooks_4 7 rfl rfl)
theorem dX5_hooks_104 : decode cX5_hooks 104 = .ok (.iload_n 1, 1) := dk_27 (dk_at dksX5_hooks_4 8 rfl rfl)
theorem dX5_hooks_105 : decode cX5_hooks 105 = .ok (.invokevirtual 366, 3) := dk_182 1 110 (dk_at dksX5_hooks_4 9 rfl rfl)
theorem dX5_hooks_108 : decode cX5_hooks 108 = .ok (.dup2, 1) := dk_92 (dk_at dksX5_hooks_4 12 rfl rfl)
theorem dX5_hooks_109 : decode cX5_hooks 109 = .ok (.iaload, 1) := dk_46 (dk_at dksX5_hooks_4 13 rfl rfl)
theorem dX5_hooks_110 : decode cX5_hooks 110 = .ok (.iconst 1, 1) := dk_4 (dk_at dksX5_hooks_4 14 rfl rfl)
theorem dX5_hooks_111 : decode cX5_hooks 111 = .ok (.iadd, 1) := dk_96 (dk_at dksX5_hooks_4 15 rfl rfl)
theorem dX5_hooks_112 : decode cX5_hooks 112 = .ok (.iastore, 1) := dk_79 (dk_at dksX5_hooks_4 16 rfl rfl)
theorem dX5_hooks_113 : decode cX5_hooks 113 = .ok (.iinc 1 1, 3) := dk_132 1 1 (dk_at dksX5_hooks_4 17 rfl rfl)
theorem dX5_hooks_116 : decode cX5_hooks 116 = .ok (.goto (-59), 3) := dk_167 255 197 (dk_at dksX5_hooks_4 20 rfl rfl)
theorem dX5_hooks_119 : decode cX5_hooks 119 = .ok (.iconst 1, 1) := dk_4 (dk_at dksX5_hooks_4 23 rfl rfl)
theorem dX5_hooks_120 : decode cX5_hooks 120 = .ok (.istore_n 1, 1) := dk_60 (dk_at dksX5_hooks_5 0 rfl rfl)
theorem dX5_hooks_121 : decode cX5_hooks 121 = .ok (.iconst 0, 1) := dk_3 (dk_at dksX5_hooks_5 1 rfl rfl)
theorem dX5_hooks_122 : decode cX5_hooks 122 = .ok (.istore_n 2, 1) := dk_61 (dk_at dksX5_hooks_5 2 rfl rfl)
theorem dX5_hooks_123 : decode cX5_hooks 123 = .ok (.iconst 0, 1) := dk_3 (dk_at dksX5_hooks_5 3 rfl rfl)
theorem dX5_hooks_124 : decode cX5_hooks 124 = .ok (.istore_n 3, 1) := dk_62 (dk_at dksX5_hooks_5 4 rfl rfl)
theorem dX5_hooks_125 : decode cX5_hooks 125 = .ok (.iconst 0, 1) := dk_3 (dk_at dksX5_hooks_5 5 rfl rfl)
theorem dX5_hooks_126 : decode cX5_hooks 126 = .ok (.istore 4, 2) := dk_54 4 (dk_at dksX5_hooks_5 6 rfl rfl)
theorem dX5_hooks_128 : decode cX5_hooks 128 = .ok (.iload 4, 2) := dk_21 4 (dk_at dksX5_hooks_5 8 rfl rfl)
theorem dX5_hooks_130 : decode cX5_hooks 130 = .ok (.aload_n 0, 1) := dk_42 (dk_at dksX5_hooks_5 10 rfl rfl)
theorem dX5_hooks_131 : decode cX5_hooks 131 = .ok (.getfield 33, 3) := dk_180 0 33 (dk_at dksX5_hooks_5 11 rfl rfl)
theorem dX5_hooks_134 : decode cX5_hooks 134 = .ok (.iconst 1, 1) := dk_4 (dk_at dksX5_hooks_5 14 rfl rfl)
theorem dX5_hooks_135 : decode cX5_hooks 135 = .ok (.iaload, 1) := dk_46 (dk_at dksX5_hooks_5 15 rfl rfl)
theorem dX5_hooks_136 : decode cX5_hooks 136 = .ok (.if_icmp .ge 139, 3) := dk_162 0 139 (dk_at dksX5_hooks_5 16 rfl rfl)
theorem dX5_hooks_139 : decode cX5_hooks 139 = .ok (.iconst 0, 1) := dk_3 (dk_at dksX5_hooks_5 19 rfl rfl)
theorem dX5_hooks_140 : decode cX5_hooks 140 = .ok (.istore 5, 2) := dk_54 5 (dk_at dksX5_hooks_5 20 rfl rfl)
theorem dX5_hooks_142 : decode cX5_hooks 142 = .ok (.iconst 0, 1) := dk_3 (dk_at dksX5_hooks_5 22 rfl rfl)
theorem dX5_hooks_143 : decode cX5_hooks 143 = .ok (.istore 6, 2) := dk_54 6 (dk_at dksX5_hooks_6 0 rfl rfl)
theorem dX5_hooks_145 : decode cX5_hooks 145 = .ok (.iload 6, 2) := dk_21 6 (dk_at dksX5_hooks_6 2 rfl rfl)
theorem dX5_hooks_147 : decode cX5_hooks 147 = .ok (.aload_n 0, 1) := dk_42 (dk_at dksX5_hooks_6 4 rfl rfl)
theorem dX5_hooks_148 : decode cX5_hooks 148 = .ok (.getfield 33, 3) := dk_180 0 33 (dk_at dksX5_hooks_6 5 rfl rfl)
theorem dX5_hooks_151 : decode cX5_hooks 151 = .ok (.iconst 2, 1) := dk_5 (dk_at dksX5_hooks_6 8 rfl rfl)
theorem dX5_hooks_152 : decode cX5_hooks 152 = .ok (.iaload, 1) := dk_46 (dk_at dksX5_hooks_6 9 rfl rfl)
theorem dX5_hooks_153 : decode cX5_hooks 153 = .ok (.if_icmp .ge 37, 3) := dk_162 0 37 (dk_at dksX5_hooks_6 10 rfl rfl)
theorem dX5_hooks_156 : decode cX5_hooks 156 = .ok (.iload 5, 2) := dk_21 5 (dk_at dksX5_hooks_6 13 rfl rfl)
theorem dX5_hooks_158 : decode cX5_hooks 158 = .ok (.aload_n 0, 1) := dk_42 (dk_at dksX5_hooks_6 15 rfl rfl)
theorem dX5_hooks_159 : decode cX5_hooks 159 = .ok (.getfield 33, 3) := dk_180 0 33 (dk_at dksX5_hooks_6 16 rfl rfl)
theorem dX5_hooks_162 : decode cX5_hooks 162 = .ok (.bipush 22, 2) := dk_16 22 (dk_at dksX5_hooks_6 19 rfl rfl)
theorem dX5_hooks_164 : decode cX5_hooks 164 = .ok (.iload 6, 2) := dk_21 6 (dk_at dksX5_hooks_6 21 rfl rfl)
theorem dX5_hooks_166 : decode cX5_hooks 166 = .ok (.iadd, 1) := dk_96 (dk_at dksX5_hooks_6 23 rfl rfl)
theorem dX5_hooks_167 : decode cX5_hooks 167 = .ok (.iaload, 1) := dk_46 (dk_at dksX5_hooks_7 0 rfl rfl)
theorem dX5_hooks_168 : decode cX5_hooks 168 = .ok (.iload 4, 2) := dk_21 4 (dk_at dksX5_hooks_7 1 rfl rfl)
theorem dX5_hooks_170 : decode cX5_hooks 170 = .ok (.if_icmp .ne 10, 3) := dk_160 0 10 (dk_at dksX5_hooks_7 3 rfl rfl)
theorem dX5_hooks_173 : decode cX5_hooks 173 = .ok (.iconst 1, 1) := dk_4 (dk_at dksX5_hooks_7 6 rfl rfl)
theorem dX5_hooks_174 : decode cX5_hooks 174 = .ok (.iload 6, 2) := dk_21 6 (dk_at dksX5_hooks_7 7 rfl rfl)
theorem dX5_hooks_176 : decode cX5_hooks 176 = .ok (.ishl, 1) := dk_120 (dk_at dksX5_hooks_7 9 rfl rfl)
theorem dX5_hooks_177 : decode cX5_hooks 177 = .ok (.goto 4, 3) := dk_167 0 4 (dk_at dksX5_hooks_7 10 rfl rfl)
theorem dX5_hooks_180 : decode cX5_hooks 180 = .ok (.iconst 0, 1) := dk_3 (dk_at dksX5_hooks_7 13 rfl rfl)
theorem dX5_hooks_181 : decode cX5_hooks 181 = .ok (.ior, 1) := dk_128 (dk_at dksX5_hooks_7 14 rfl rfl)
theorem dX5_hooks_182 : decode cX5_hooks 182 = .ok (.istore 5, 2) := dk_54 5 (dk_at dksX5_hooks_7 15 rfl rfl)
theorem dX5_hooks_184 : decode cX5_hooks 184 = .ok (.iinc 6 1, 3) := dk_132 6 1 (dk_at dksX5_hooks_7 17 rfl rfl)
theorem dX5_hooks_187 : decode cX5_hooks 187 = .ok (.goto (-42), 3) := dk_167 255 214 (dk_at dksX5_hooks_7 20 rfl rfl)
theorem dX5_hooks_190 : decode cX5_hooks 190 = .ok (.iconst 0, 1) := dk_3 (dk_at dksX5_hooks_7 23 rfl rfl)
theorem dX5_hooks_191 : decode cX5_hooks 191 = .ok (.istore 6, 2) := dk_54 6 (dk_at dksX5_hooks_8 0 rfl rfl)
theorem dX5_hooks_193 : decode cX5_hooks 193 = .ok (.iload 6, 2) := dk_21 6 (dk_at dksX5_hooks_8 2 rfl rfl)
theorem dX5_hooks_195 : decode cX5_hooks 195 = .ok (.aload_n 0, 1) := dk_42 (dk_at dksX5_hooks_8 4 rfl rfl)
theorem dX5_hooks_196 : decode cX5_hooks 196 = .ok (.getfield 56, 3) := dk_180 0 56 (dk_at dksX5_hooks_8 5 rfl rfl)
theorem dX5_hooks_199 : decode cX5_hooks 199 = .ok (.iload 4, 2) := dk_21 4 (dk_at dksX5_hooks_8 8 rfl rfl)
theorem dX5_hooks_201 : decode cX5_hooks 201 = .ok (.iaload, 1) := dk_46 (dk_at dksX5_hooks_8 10 rfl rfl)
theorem dX5_hooks_202 : decode cX5_hooks 202 = .ok (.if_icmp .ge 24, 3) := dk_162 0 24 (dk_at dksX5_hooks_8 11 rfl rfl)
theorem dX5_hooks_205 : decode cX5_hooks 205 = .ok (.iload_n 1, 1) := dk_27 (dk_at dksX5_hooks_8 14 rfl rfl)
theorem dX5_hooks_206 : decode cX5_hooks 206 = .ok (.iconst 0, 1) := dk_3 (dk_at dksX5_hooks_8 15 rfl rfl)
theorem dX5_hooks_207 : decode cX5_hooks 207 = .ok (.iload 5, 2) := dk_21 5 (dk_at dksX5_hooks_8 16 rfl rfl)
theorem dX5_hooks_209 : decode cX5_hooks 209 = .ok (.invokestatic 323, 3) := dk_184 1 67 (dk_at dksX5_hooks_8 18 rfl rfl)
theorem dX5_hooks_212 : decode cX5_hooks 212 = .ok (.iload 6, 2) := dk_21 6 (dk_at dksX5_hooks_8 21 rfl rfl)
theorem dX5_hooks_214 : decode cX5_hooks 214 = .ok (.isub, 1) := dk_100 (dk_at dksX5_hooks_8 23 rfl rfl)
theorem dX5_hooks_215 : decode cX5_hooks 215 = .ok (.invokestatic 250, 3) := dk_184 0 250 (dk_at dksX5_hooks_9 0 rfl rfl)
theorem dX5_hooks_218 : decode cX5_hooks 218 = .ok (.imul, 1) := dk_104 (dk_at dksX5_hooks_9 3 rfl rfl)
theorem dX5_hooks_219 : decode cX5_hooks 219 = .ok (.istore_n 1, 1) := dk_60 (dk_at dksX5_hooks_9 4 rfl rfl)
theorem dX5_hooks_220 : decode cX5_hooks 220 = .ok (.iinc 6 1, 3) := dk_132 6 1 (dk_at dksX5_hooks_9 5 rfl rfl)
theorem dX5_hooks_223 : decode cX5_hooks 223 = .ok (.goto (-30), 3) := dk_167 255 226 (dk_at dksX5_hooks_9 8 rfl rfl)
theorem dX5_hooks_226 : decode cX5_hooks 226 = .ok (.iload_n 2, 1) := dk_28 (dk_at dksX5_hooks_9 11 rfl rfl)
theorem dX5_hooks_227 : decode cX5_hooks 227 = .ok (.aload_n 0, 1) := dk_42 (dk_at dksX5_hooks_9 12 rfl rfl)
theorem dX5_hooks_228 : decode cX5_hooks 228 = .ok (.getfield 56, 3) := dk_180 0 56 (dk_at dksX5_hooks_9 13 rfl rfl)
theorem dX5_hooks_231 : decode cX5_hooks 231 = .ok (.iload 4, 2) := dk_21 4 (dk_at dksX5_hooks_9 16 rfl rfl)
theorem dX5_hooks_233 : decode cX5_hooks 233 = .ok (.iaload, 1) := dk_46 (dk_at dksX5_hooks_9 18 rfl rfl)
theorem dX5_hooks_234 : decode cX5_hooks 234 = .ok (.iload 5, 2) := dk_21 5 (dk_at dksX5_hooks_9 19 rfl rfl)
theorem dX5_hooks_236 : decode cX5_hooks 236 = .ok (.invokestatic 323, 3) := dk_184 1 67 (dk_at dksX5_hooks_9 21 rfl rfl)
theorem dX5_hooks_239 : decode cX5_hooks 239 = .ok (.if_icmp .ne 8, 3) := dk_160 0 8 (dk_at dksX5_hooks_10 0 rfl rfl)
theorem dX5_hooks_242 : decode cX5_hooks 242 = .ok (.iload 5, 2) := dk_21 5 (dk_at dksX5_hooks_10 3 rfl rfl)
theorem dX5_hooks_244 : decode cX5_hooks 244 = .ok (.goto 4, 3) := dk_167 0 4 (dk_at dksX5_hooks_10 5 rfl rfl)
theorem dX5_hooks_247 : decode cX5_hooks 247 = .ok (.iconst 0, 1) := dk_3 (dk_at dksX5_hooks_10 8 rfl rfl)
theorem dX5_hooks_248 : decode cX5_hooks 248 = .ok (.ior, 1) := dk_128 (dk_at dksX5_hooks_10 9 rfl rfl)
theorem dX5_hooks_249 : decode cX5_hooks 249 = .ok (.istore_n 2, 1) := dk_61 (dk_at dksX5_hooks_10 10 rfl rfl)
theorem dX5_hooks_250 : decode cX5_hooks 250 = .ok (.iload_n 3, 1) := dk_29 (dk_at dksX5_hooks_10 11 rfl rfl)
theorem dX5_hooks_251 : decode cX5_hooks 251 = .ok (.aload_n 0, 1) := dk_42 (dk_at dksX5_hooks_10 12 rfl rfl)
theorem dX5_hooks_252 : decode cX5_hooks 252 = .ok (.getfield 56, 3) := dk_180 0 56 (dk_at dksX5_hooks_10 13 rfl rfl)
theorem dX5_hooks_255 : decode cX5_hooks 255 = .ok (.iload 4, 2) := dk_21 4 (dk_at dksX5_hooks_10 16 rfl rfl)
theorem dX5_hooks_257 : decode cX5_hooks 257 = .ok (.iaload, 1) := dk_46 (dk_at dksX5_hooks_10 18 rfl rfl)
theorem dX5_hooks_258 : decode cX5_hooks 258 = .ok (.ifCond .ne 8, 3) := dk_154 0 8 (dk_at dksX5_hooks_10 19 rfl rfl)
theorem dX5_hooks_261 : decode cX5_hooks 261 = .ok (.iload 5, 2) := dk_21 5 (dk_at dksX5_hooks_10 22 rfl rfl)
theorem dX5_hooks_263 : decode cX5_hooks 263 = .ok (.goto 4, 3) := dk_167 0 4 (dk_at dksX5_hooks_11 0 rfl rfl)
theorem dX5_hooks_266 : decode cX5_hooks 266 = .ok (.iconst 0, 1) := dk_3 (dk_at dksX5_hooks_11 3 rfl rfl)
theorem dX5_hooks_267 : decode cX5_hooks 267 = .ok (.ior, 1) := dk_128 (dk_at dksX5_hooks_11 4 rfl rfl)
theorem dX5_hooks_268 : decode cX5_hooks 268 = .ok (.istore_n 3, 1) := dk_62 (dk_at dksX5_hooks_11 5 rfl rfl)
theorem dX5_hooks_269 : decode cX5_hooks 269 = .ok (.iinc 4 1, 3) := dk_132 4 1 (dk_at dksX5_hooks_11 6 rfl rfl)
theorem dX5_hooks_272 : decode cX5_hooks 272 = .ok (.goto (-144), 3) := dk_167 255 112 (dk_at dksX5_hooks_11 9 rfl rfl)
theorem dX5_hooks_275 : decode cX5_hooks 275 = .ok (.iload_n 1, 1) := dk_27 (dk_at dksX5_hooks_11 12 rfl rfl)
theorem dX5_hooks_276 : decode cX5_hooks 276 = .ok (.ifCond .ne 5, 3) := dk_154 0 5 (dk_at dksX5_hooks_11 13 rfl rfl)
theorem dX5_hooks_279 : decode cX5_hooks 279 = .ok (.iconst 0, 1) := dk_3 (dk_at dksX5_hooks_11 16 rfl rfl)
theorem dX5_hooks_280 : decode cX5_hooks 280 = .ok (.ireturn, 1) := dk_172 (dk_at dksX5_hooks_11 17 rfl rfl)
theorem dX5_hooks_281 : decode cX5_hooks 281 = .ok (.aload_n 0, 1) := dk_42 (dk_at dksX5_hooks_11 18 rfl rfl)
theorem dX5_hooks_282 : decode cX5_hooks 282 = .ok (.iconst 1, 1) := dk_4 (dk_at dksX5_hooks_11 19 rfl rfl)
theorem dX5_hooks_283 : decode cX5_hooks 283 = .ok (.putfield 369, 3) := dk_181 1 113 (dk_at dksX5_hooks_11 20 rfl rfl)
theorem dX5_hooks_286 : decode cX5_hooks 286 = .ok (.aload_n 0, 1) := dk_42 (dk_at dksX5_hooks_11 23 rfl rfl)
theorem dX5_hooks_287 : decode cX5_hooks 287 = .ok (.iload_n 2, 1) := dk_28 (dk_at dksX5_hooks_12 0 rfl rfl)
theorem dX5_hooks_288 : decode cX5_hooks 288 = .ok (.putfield 372, 3) := dk_181 1 116 (dk_at dksX5_hooks_12 1 rfl rfl)
theorem dX5_hooks_291 : decode cX5_hooks 291 = .ok (.aload_n 0, 1) := dk_42 (dk_at dksX5_hooks_12 4 rfl rfl)
theorem dX5_hooks_292 : decode cX5_hooks 292 = .ok (.iload_n 3, 1) := dk_29 (dk_at dksX5_hooks_12 5 rfl rfl)
theorem dX5_hooks_293 : decode cX5_hooks 293 = .ok (.putfield 375, 3) := dk_181 1 119 (dk_at dksX5_hooks_12 6 rfl rfl)
theorem dX5_hooks_296 : decode cX5_hooks 296 = .ok (.iload_n 1, 1) := dk_27 (dk_at dksX5_hooks_12 9 rfl rfl)
theorem dX5_hooks_297 : decode cX5_hooks 297 = .ok (.ireturn, 1) := dk_172 (dk_at dksX5_hooks_12 10 rfl rfl)
theorem fw_X5_56 : cz_FW "HeldCoatsModel" 56 [(5, 32)] "[I" := ⟨"HeldCoatsModel", "sat", Or.inl q1950, List.forall_mem_cons.mpr ⟨⟨RX5, TX5, 49, rfl, by decide, rfl, rfl, Or.inl rfl⟩, fun _ h => absurd h List.not_mem_nil⟩, by decide⟩
theorem se_HeldCoatsModel_octet__I_I_HeldCoatsModel : ∀ c ∈ ([5] : List Nat), ∃ q : vw_C, cz_cl[c]? = some q ∧ Cond.selects q.1 (⟨"HeldCoatsModel", "octet", "(I)I"⟩ : MethodName) (⟨"HeldCoatsModel", "octet", "(I)I"⟩ : MethodName) ∈ lw_all := List.forall_mem_cons.mpr ⟨⟨_, cz_cl5, qs98⟩, fun _ h => absurd h List.not_mem_nil⟩
theorem md_X5_octet : cz_md yX5_octet 2 (ws_ yX5_octet cX5_octet 2 ((Option.some Jvm.ClassFile.FieldType.int))) 1 := ⟨cz_ws_code q2401, q123, ⟨by decide, by decide, by decide +kernel⟩, by decide⟩
theorem fw_X5_369 : cz_FW "HeldCoatsModel" 369 [(5, 31)] "Z" := ⟨"HeldCoatsModel", "hasHooks", Or.inl q1949, List.forall_mem_cons.mpr ⟨⟨RX5, TX5, 49, rfl, by decide, rfl, rfl, Or.inl rfl⟩, fun _ h => absurd h List.not_mem_nil⟩, by decide⟩
theorem fp_X5_m_5_31 {nm : String} : cz_FP "HeldCoatsModel" nm [(5, 31)] := List.forall_mem_cons.mpr ⟨⟨RX5, TX5, 49, rfl, Or.inl rfl⟩, fun _ h => absurd h List.not_mem_nil⟩
theorem fw_X5_372 : cz_FW "HeldCoatsModel" 372 [(5, 29)] "I" := ⟨"HeldCoatsModel", "surelySet", Or.inl q1947, List.forall_mem_cons.mpr ⟨⟨RX5, TX5, 49, rfl, by decide, rfl, rfl, Or.inl rfl⟩, fun _ h => absurd h List.not_mem_nil⟩, by decide⟩
theorem fp_X5_m_5_29 {nm : String} : cz_FP "HeldCoatsModel" nm [(5, 29)] := List.forall_mem_cons.mpr ⟨⟨RX5, TX5, 49, rfl, Or.inl rfl⟩, fun _ h => absurd h List.not_mem_nil⟩
theorem fw_X5_375 : cz_FW "HeldCoatsModel" 375 [(5, 30)] "I" := ⟨"HeldCoatsModel", "neverSet", Or.inl q1948, List.forall_mem_cons.mpr ⟨⟨RX5, TX5, 49, rfl, by decide, rfl, rfl, Or.inl rfl⟩, fun _ h => absurd h List.not_mem_nil⟩, by decide⟩
theorem fp_X5_m_5_30 {nm : String} : cz_FP "HeldCoatsModel" nm [(5, 30)] := List.forall_mem_cons.mpr ⟨⟨RX5, TX5, 49, rfl, Or.inl rfl⟩, fun _ h => absurd h List.not_mem_nil⟩
set_option maxHeartbeats 4000000 in
set_option maxRecDepth 100000 in
noncomputable def fn_X5_hooks_36 (l0 : Option Nat) (k0 : cz_H → cz_Z) : Nat → Int32 → cz_H → cz_Z
  | 0, _, _ => none
  | n + 1, l1, h => (if (6 : Int32) ≤ l1 then k0 h else cz_getR h l0 [(5, 32)] (fun r13 => cz_iast h r13 l1 0 (fun h14 => cz_leti (l1 + 1) (fun x15 => fn_X5_hooks_36 l0 k0 n x15 h14))))
set_option maxHeartbeats 4000000 in
set_option maxRecDepth 100000 in
theorem wk_X5_hooks_36 {K : cz_K} {D : cz_D} {h0 : cz_H} {oh : cz_O × cz_H} {l0 : Option Nat} {k0 : cz_H → cz_Z} (S : cz_S K D h0 cX5_hooks 7 "HeldCoatsModel" ((Option.some Jvm.ClassFile.FieldType.int)) "hooks" ([])) (hk0 : ∀ (h : cz_H), cz_T K D 4 h0 oh 7 (k0 h) h 55 [(0, cz_r l0)] []) : ∀ (n : Nat) (l1 : Int32) (h : cz_H), cz_T K D 4 h0 oh 7 (fn_X5_hooks_36 l0 k0 n l1 h) h 36 [(0, cz_r l0), (1, cz_i l1)] [] := by
  intro n
  induction n with
  | zero => intros; exact ct_none
  | succ n ih =>
    intro l1 h
    rw [fn_X5_hooks_36]
    refine ct_iload_n (k := 1) S dX5_hooks_36 rfl rfl ?_
    refine ct_bipush (v := 6) S dX5_hooks_37 kB_6 ?_
    refine ct_icmp_ge (tgt := 55) S dX5_hooks_39 (by decide) ?_ ?_
    · exact ct_sub [0] rfl (hk0 h)
    · refine ct_aload_n (k := 0) S dX5_hooks_42 rfl rfl ?_
      refine ct_getR S fw_X5_56 dX5_hooks_43 (fun r13 => ?_)
      refine ct_iload_n (k := 1) S dX5_hooks_46 rfl rfl ?_
      refine ct_iconst (v := 0) S dX5_hooks_47 kI_0 ?_
      refine ct_iast S dX5_hooks_48 (fun h14 => ?_)
      refine ct_iincL (j := 1) (L2 := fun x15 => [(1, cz_i x15), (0, cz_r l0)]) S dX5_hooks_49 rfl kI_1 (by decide) (fun _ => rfl) (fun x15 => ?_)
      refine ct_goto (tgt := 36) S dX5_hooks_52 (by decide) ?_
      exact ct_sub [1, 0] rfl (ih x15 h14)
set_option maxHeartbeats 4000000 in
set_option maxRecDepth 100000 in
noncomputable def fn_X5_hooks_57 (l0 : Option Nat) (k0 : cz_H → cz_Z) (k1 : cz_H → cz_Z) : Nat → Int32 → cz_H → cz_Z
  | 0, _, _ => none
  | n + 1, l1, h => cz_getI h l0 [(5, 3)] (fun x17 => (if x17 ≤ l1 then k1 h else cz_rc h l0 [5] (cz_cI (fn_X5_octet l0 l1 h) (fun x25 h24 => cz_jn (fun (h26 : cz_H) => cz_rc h26 l0 [5] (cz_cI (fn_X5_octet l0 l1 h26) (fun x34 h33 => (if x34 = 9 then cz_leti (l1 + 1) (fun x35 => fn_X5_hooks_57 l0 k0 k1 n x35 h33) else cz_getR h33 l0 [(5, 32)] (fun r36 => cz_rc h33 l0 [5] (cz_cI (fn_X5_octet l0 l1 h33) (fun x44 h43 => cz_iald h43 r36 x44 (fun x45 => cz_iast h43 r36 x44 (x45 + 1) (fun h46 => cz_leti (l1 + 1) (fun x47 => fn_X5_hooks_57 l0 k0 k1 n x47 h46)))))))))) (fun j48 => (if x25 = 9 then j48 h24 else cz_rc h24 l0 [5] (cz_cI (fn_X5_octet l0 l1 h24) (fun x56 h55 => cz_rc h55 l0 [5] (cz_cI (fn_X5_isMan l0 x56 h55) (fun x64 h63 => (if x64 = 0 then k0 h63 else j48 h63)))))))))))
set_option maxHeartbeats 4000000 in
set_option maxRecDepth 100000 in
theorem wk_X5_hooks_57 {K : cz_K} {D : cz_D} {h0 : cz_H} {oh : cz_O × cz_H} {l0 : Option Nat} {k0 : cz_H → cz_Z} {k1 : cz_H → cz_Z} (S : cz_S K D h0 cX5_hooks 7 "HeldCoatsModel" ((Option.some Jvm.ClassFile.FieldType.int)) "hooks" ([])) (hk0 : ∀ (h : cz_H), cz_T K D 4 h0 oh 7 (k0 h) h 87 [] []) (hk1 : ∀ (h : cz_H), cz_T K D 4 h0 oh 7 (k1 h) h 119 [(0, cz_r l0)] []) : ∀ (n : Nat) (l1 : Int32) (h : cz_H), cz_T K D 4 h0 oh 7 (fn_X5_hooks_57 l0 k0 k1 n l1 h) h 57 [(0, cz_r l0), (1, cz_i l1)] [] := by
  intro n
  induction n with
  | zero => intros; exact ct_none
  | succ n ih =>
    intro l1 h
    rw [fn_X5_hooks_57]
    refine ct_iload_n (k := 1) S dX5_hooks_57 rfl rfl ?_
    refine ct_aload_n (k := 0) S dX5_hooks_58 rfl rfl ?_
    refine ct_getI S fw_X5_18 dX5_hooks_59 (fun x17 => ?_)
    refine ct_icmp_ge (tgt := 119) S dX5_hooks_62 (by decide) ?_ ?_
    · exact ct_sub [0] rfl (hk1 h)
    · refine ct_aload_n (k := 0) S dX5_hooks_65 rfl rfl ?_
      refine ct_iload_n (k := 1) S dX5_hooks_66 rfl rfl ?_
      refine ct_rc (fun b18 ci19 V20 hb21 hc22 hi23 => ?_)
      refine ct_cI (st := []) (cg_virtual (av := [cz_i l1]) S hb21 hc22 hi23 (fun _ e => mt_X5_octet e) md_X5_octet q2398 q2400 se_HeldCoatsModel_octet__I_I_HeldCoatsModel (by decide) (Nat.le_of_ble_eq_true rfl) rfl dX5_hooks_67) (fun x25 h24 => ?_)
      refine ct_bipush (v := 9) S dX5_hooks_70 kB_9 ?_
      refine ct_jnP (fun j48 => ∀ (h26 : cz_H), cz_T K D 4 h0 oh 7 (j48 h26) h26 89 [(0, cz_r l0), (1, cz_i l1)] []) (fun h26 => ?_) (fun j48 Hj48 => ?_)
      · refine ct_aload_n (k := 0) S dX5_hooks_89 rfl rfl ?_
        refine ct_iload_n (k := 1) S dX5_hooks_90 rfl rfl ?_
        refine ct_rc (fun b27 ci28 V29 hb30 hc31 hi32 => ?_)
        refine ct_cI (st := []) (cg_virtual (av := [cz_i l1]) S hb30 hc31 hi32 (fun _ e => mt_X5_octet e) md_X5_octet q2398 q2400 se_HeldCoatsModel_octet__I_I_HeldCoatsModel (by decide) (Nat.le_of_ble_eq_true rfl) rfl dX5_hooks_91) (fun x34 h33 => ?_)
        refine ct_bipush (v := 9) S dX5_hooks_94 kB_9 ?_
        refine ct_icmp_eq (tgt := 113) S dX5_hooks_96 (by decide) ?_ ?_
        · refine ct_iincL (j := 1) (L2 := fun x35 => [(1, cz_i x35), (0, cz_r l0)]) S dX5_hooks_113 rfl kI_1 (by decide) (fun _ => rfl) (fun x35 => ?_)
          refine ct_goto (tgt := 57) S dX5_hooks_116 (by decide) ?_
          exact ct_sub [1, 0] rfl (ih x35 h33)
        · refine ct_aload_n (k := 0) S dX5_hooks_99 rfl rfl ?_
          refine ct_getR S fw_X5_56 dX5_hooks_100 (fun r36 => ?_)
          refine ct_aload_n (k := 0) S dX5_hooks_103 rfl rfl ?_
          refine ct_iload_n (k := 1) S dX5_hooks_104 rfl rfl ?_
          refine ct_rc (fun b37 ci38 V39 hb40 hc41 hi42 => ?_)
          refine ct_cI (st := [cz_r r36]) (cg_virtual (av := [cz_i l1]) S hb40 hc41 hi42 (fun _ e => mt_X5_octet e) md_X5_octet q2398 q2400 se_HeldCoatsModel_octet__I_I_HeldCoatsModel (by decide) (Nat.le_of_ble_eq_true rfl) rfl dX5_hooks_105) (fun x44 h43 => ?_)
          refine ct_dup2 S dX5_hooks_108 rfl rfl ?_
          refine ct_iald S dX5_hooks_109 (fun x45 => ?_)
          refine ct_iconst (v := 1) S dX5_hooks_110 kI_1 ?_
          refine ct_iadd S dX5_hooks_111 ?_
          refine ct_iast S dX5_hooks_112 (fun h46 => ?_)
          refine ct_iincL (j := 1) (L2 := fun x47 => [(1, cz_i x47), (0, cz_r l0)]) S dX5_hooks_113 rfl kI_1 (by decide) (fun _ => rfl) (fun x47 => ?_)
          refine ct_goto (tgt := 57) S dX5_hooks_116 (by decide) ?_
          exact ct_sub [1, 0] rfl (ih x47 h46)
      · refine ct_icmp_eq (tgt := 89) S dX5_hooks_72 (by decide) ?_ ?_
        · exact Hj48 h24
        · refine ct_aload_n (k := 0) S dX5_hooks_75 rfl rfl ?_
          refine ct_aload_n (k := 0) S dX5_hooks_76 rfl rfl ?_
          refine ct_iload_n (k := 1) S dX5_hooks_77 rfl rfl ?_
          refine ct_rc (fun b49 ci50 V51 hb52 hc53 hi54 => ?_)
          refine ct_cI (st := [cz_r l0]) (cg_virtual (av := [cz_i l1]) S hb52 hc53 hi54 (fun _ e => mt_X5_octet e) md_X5_octet q2398 q2400 se_HeldCoatsModel_octet__I_I_HeldCoatsModel (by decide) (Nat.le_of_ble_eq_true rfl) rfl dX5_hooks_78) (fun x56 h55 => ?_)
          refine ct_rc (fun b57 ci58 V59 hb60 hc61 hi62 => ?_)
          refine ct_cI (st := []) (cg_virtual (av := [cz_i x56]) S hb60 hc61 hi62 (fun _ e => mt_X5_isMan e) md_X5_isMan q2188 q2190 se_HeldCoatsModel_isMan__I_Z_HeldCoatsModel (by decide) (Nat.le_of_ble_eq_true rfl) rfl dX5_hooks_81) (fun x64 h63 => ?_)
          refine ct_if_ne (tgt := 89) S dX5_hooks_84 (by decide) ?_ ?_
          · exact Hj48 h63
          · exact ct_sub [] rfl (hk0 h63)
set_option maxHeartbeats 4000000 in
set_option maxRecDepth 100000 in
noncomputable def fn_X5_hooks_145 (l0 : Option Nat) (l4 : Int32) (k0 : Int32 → cz_H → cz_Z) : Nat → Int32 → Int32 → cz_H → cz_Z
  | 0, _, _, _ => none
  | n + 1, l5, l6, h => cz_getR h l0 [(5, 6)] (fun r69 => cz_iald h r69 2 (fun x70 => (if x70 ≤ l6 then k0 l5 h else cz_getR h l0 [(5, 6)] (fun r71 => cz_iald h r71 ((22 : Int32) + l6) (fun x72 => (if x72 = l4 then cz_leti (l5 ||| ((1 : Int32) <<< (l6 &&& 31))) (fun x75 => cz_leti (l6 + 1) (fun x76 => fn_X5_hooks_145 l0 l4 k0 n x75 x76 h)) else cz_leti (l5 ||| 0) (fun x73 => cz_leti (l6 + 1) (fun x74 => fn_X5_hooks_145 l0 l4 k0 n x73 x74 h))))))))
set_option maxHeartbeats 4000000 in
set_option maxRecDepth 100000 in
theorem wk_X5_hooks_145 {K : cz_K} {D : cz_D} {h0 : cz_H} {oh : cz_O × cz_H} {l0 : Option Nat} {l4 : Int32} {l1 : Int32} {l2 : Int32} {l3 : Int32} {k0 : Int32 → cz_H → cz_Z} (S : cz_S K D h0 cX5_hooks 7 "HeldCoatsModel" ((Option.some Jvm.ClassFile.FieldType.int)) "hooks" ([])) (hk0 : ∀ (e5 : Int32) (h : cz_H), cz_T K D 4 h0 oh 7 (k0 e5 h) h 190 [(0, cz_r l0), (1, cz_i l1), (2, cz_i l2), (3, cz_i l3), (4, cz_i l4), (5, cz_i e5)] []) : ∀ (n : Nat) (l5 : Int32) (l6 : Int32) (h : cz_H), cz_T K D 4 h0 oh 7 (fn_X5_hooks_145 l0 l4 k0 n l5 l6 h) h 145 [(0, cz_r l0), (1, cz_i l1), (2, cz_i l2), (3, cz_i l3), (4, cz_i l4), (5, cz_i l5), (6, cz_i l6)] [] := by
  intro n
  induction n with
  | zero => intros; exact ct_none
  | succ n ih =>
    intro l5 l6 h
    rw [fn_X5_hooks_145]
    refine ct_iload (k := 6) S dX5_hooks_145 rfl ?_
    refine ct_aload_n (k := 0) S dX5_hooks_147 rfl rfl ?_
    refine ct_getR S fw_X5_33 dX5_hooks_148 (fun r69 => ?_)
    refine ct_iconst (v := 2) S dX5_hooks_151 kI_2 ?_
    refine ct_iald S dX5_hooks_152 (fun x70 => ?_)
    refine ct_icmp_ge (tgt := 190) S dX5_hooks_153 (by decide) ?_ ?_
    · exact ct_sub [0, 1, 2, 3, 4, 5] rfl (hk0 l5 h)
    · refine ct_iload (k := 5) S dX5_hooks_156 rfl ?_
      refine ct_aload_n (k := 0) S dX5_hooks_158 rfl rfl ?_
      refine ct_getR S fw_X5_33 dX5_hooks_159 (fun r71 => ?_)
      refine ct_bipush (v := 22) S dX5_hooks_162 kB_22 ?_
      refine ct_iload (k := 6) S dX5_hooks_164 rfl ?_
      refine ct_iadd S dX5_hooks_166 ?_
      refine ct_iald S dX5_hooks_167 (fun x72 => ?_)
      refine ct_iload (k := 4) S dX5_hooks_168 rfl ?_
      refine ct_icmp_ne (tgt := 180) S dX5_hooks_170 (by decide) ?_ ?_
      · refine ct_iconst (v := 0) S dX5_hooks_180 kI_0 ?_
        refine ct_ior S dX5_hooks_181 ?_
        refine ct_leti (fun x73 => ?_)
        refine ct_istore (L' := [(5, cz_i x73), (0, cz_r l0), (1, cz_i l1), (2, cz_i l2), (3, cz_i l3), (4, cz_i l4), (6, cz_i l6)]) S dX5_hooks_182 (by decide) rfl ?_
        refine ct_iincL (j := 6) (L2 := fun x74 => [(6, cz_i x74), (5, cz_i x73), (0, cz_r l0), (1, cz_i l1), (2, cz_i l2), (3, cz_i l3), (4, cz_i l4)]) S dX5_hooks_184 rfl kI_1 (by decide) (fun _ => rfl) (fun x74 => ?_)
        refine ct_goto (tgt := 145) S dX5_hooks_187 (by decide) ?_
        exact ct_sub [2, 3, 4, 5, 6, 1, 0] rfl (ih x73 x74 h)
      · refine ct_iconst (v := 1) S dX5_hooks_173 kI_1 ?_
        refine ct_iload (k := 6) S dX5_hooks_174 rfl ?_
        refine ct_ishl S dX5_hooks_176 ?_
        refine ct_goto (tgt := 181) S dX5_hooks_177 (by decide) ?_
        refine ct_ior S dX5_hooks_181 ?_
        refine ct_leti (fun x75 => ?_)
        refine ct_istore (L' := [(5, cz_i x75), (0, cz_r l0), (1, cz_i l1), (2, cz_i l2), (3, cz_i l3), (4, cz_i l4), (6, cz_i l6)]) S dX5_hooks_182 (by decide) rfl ?_
        refine ct_iincL (j := 6) (L2 := fun x76 => [(6, cz_i x76), (5, cz_i x75), (0, cz_r l0), (1, cz_i l1), (2, cz_i l2), (3, cz_i l3), (4, cz_i l4)]) S dX5_hooks_184 rfl kI_1 (by decide) (fun _ => rfl) (fun x76 => ?_)
        refine ct_goto (tgt := 145) S dX5_hooks_187 (by decide) ?_
        exact ct_sub [2, 3, 4, 5, 6, 1, 0] rfl (ih x75 x76 h)
set_option maxHeartbeats 4000000 in
set_option maxRecDepth 100000 in
noncomputable def fn_X5_hooks_193 (l0 : Option Nat) (l4 : Int32) (l5 : Int32) (k0 : Int32 → cz_H → cz_Z) : Nat → Int32 → Int32 → cz_H → cz_Z
  | 0, _, _, _ => none
  | n + 1, l1, l6, h => cz_getR h l0 [(5, 32)] (fun r79 => cz_iald h r79 l4 (fun x80 => (if x80 ≤ l6 then k0 l1 h else cz_cI (fn_X5_bits l5 h) (fun x82 h81 => cz_cI (fn_X5_greater 0 (x82 - l6) h81) (fun x84 h83 => cz_leti (l1 * x84) (fun x85 => cz_leti (l6 + 1) (fun x86 => fn_X5_hooks_193 l0 l4 l5 k0 n x85 x86 h83)))))))
set_option maxHeartbeats 4000000 in
set_option maxRecDepth 100000 in
theorem wk_X5_hooks_193 {K : cz_K} {D : cz_D} {h0 : cz_H} {oh : cz_O × cz_H} {l0 : Option Nat} {l4 : Int32} {l5 : Int32} {l2 : Int32} {l3 : Int32} {k0 : Int32 → cz_H → cz_Z} (S : cz_S K D h0 cX5_hooks 7 "HeldCoatsModel" ((Option.some Jvm.ClassFile.FieldType.int)) "hooks" ([])) (hk0 : ∀ (e1 : Int32) (h : cz_H), cz_T K D 4 h0 oh 7 (k0 e1 h) h 226 [(0, cz_r l0), (1, cz_i e1), (2, cz_i l2), (3, cz_i l3), (4, cz_i l4), (5, cz_i l5)] []) : ∀ (n : Nat) (l1 : Int32) (l6 : Int32) (h : cz_H), cz_T K D 4 h0 oh 7 (fn_X5_hooks_193 l0 l4 l5 k0 n l1 l6 h) h 193 [(0, cz_r l0), (1, cz_i l1), (2, cz_i l2), (3, cz_i l3), (4, cz_i l4), (5, cz_i l5), (6, cz_i l6)] [] := by
  intro n
  induction n with
  | zero => intros; exact ct_none
  | succ n ih =>
    intro l1 l6 h
    rw [fn_X5_hooks_193]
    refine ct_iload (k := 6) S dX5_hooks_193 rfl ?_
    refine ct_aload_n (k := 0) S dX5_hooks_195 rfl rfl ?_
    refine ct_getR S fw_X5_56 dX5_hooks_196 (fun r79 => ?_)
    refine ct_iload (k := 4) S dX5_hooks_199 rfl ?_
    refine ct_iald S dX5_hooks_201 (fun x80 => ?_)
    refine ct_icmp_ge (tgt := 226) S dX5_hooks_202 (by decide) ?_ ?_
    · exact ct_sub [0, 1, 2, 3, 4, 5] rfl (hk0 l1 h)
    · refine ct_iload_n (k := 1) S dX5_hooks_205 rfl rfl ?_
      refine ct_iconst (v := 0) S dX5_hooks_206 kI_0 ?_
      refine ct_iload (k := 5) S dX5_hooks_207 rfl ?_
      refine ct_cI (st := [cz_i 0, cz_i l1]) (cg_static (av := [cz_i l5]) S (fun _ e => mt_X5_bits e) md_X5_bits (Or.inl q2311) q2312 (by decide) (Nat.le_of_ble_eq_true rfl) rfl dX5_hooks_209) (fun x82 h81 => ?_)
      refine ct_iload (k := 6) S dX5_hooks_212 rfl ?_
      refine ct_isub S dX5_hooks_214 ?_
      refine ct_cI (st := [cz_i l1]) (cg_static (av := [cz_i 0, cz_i (x82 - l6)]) S (fun _ e => mt_X5_greater e) md_X5_greater (Or.inl q2212) q2213 (by decide) (Nat.le_of_ble_eq_true rfl) rfl dX5_hooks_215) (fun x84 h83 => ?_)
      refine ct_imul S dX5_hooks_218 ?_
      refine ct_leti (fun x85 => ?_)
      refine ct_istore_n (L' := [(1, cz_i x85), (0, cz_r l0), (2, cz_i l2), (3, cz_i l3), (4, cz_i l4), (5, cz_i l5), (6, cz_i l6)]) S dX5_hooks_219 rfl (by decide) rfl ?_
      refine ct_iincL (j := 6) (L2 := fun x86 => [(6, cz_i x86), (1, cz_i x85), (0, cz_r l0), (2, cz_i l2), (3, cz_i l3), (4, cz_i l4), (5, cz_i l5)]) S dX5_hooks_220 rfl kI_1 (by decide) (fun _ => rfl) (fun x86 => ?_)
      refine ct_goto (tgt := 193) S dX5_hooks_223 (by decide) ?_
      exact ct_sub [2, 1, 3, 4, 5, 6, 0] rfl (ih x85 x86 h83)
set_option maxHeartbeats 4000000 in
set_option maxRecDepth 100000 in
noncomputable def fn_X5_hooks_128 (l0 : Option Nat) (k0 : Int32 → Int32 → Int32 → cz_H → cz_Z) : Nat → Int32 → Int32 → Int32 → Int32 → cz_H → cz_Z
  | 0, _, _, _, _, _ => none
  | n + 1, l1, l2, l3, l4, h => cz_getR h l0 [(5, 6)] (fun r67 => cz_iald h r67 1 (fun x68 => (if x68 ≤ l4 then k0 l1 l2 l3 h else fn_X5_hooks_145 l0 l4 (fun (e77 : Int32) (h78 : cz_H) => fn_X5_hooks_193 l0 l4 e77 (fun (e87 : Int32) (h88 : cz_H) => cz_getR h88 l0 [(5, 32)] (fun r89 => cz_iald h88 r89 l4 (fun x90 => cz_cI (fn_X5_bits e77 h88) (fun x92 h91 => cz_jn (fun (v93 : Int32) (h94 : cz_H) => cz_leti (l2 ||| v93) (fun x95 => cz_getR h94 l0 [(5, 32)] (fun r96 => cz_iald h94 r96 l4 (fun x97 => (if x97 = 0 then cz_leti (l3 ||| e77) (fun x100 => cz_leti (l4 + 1) (fun x101 => fn_X5_hooks_128 l0 k0 n e87 x95 x100 x101 h94)) else cz_leti (l3 ||| 0) (fun x98 => cz_leti (l4 + 1) (fun x99 => fn_X5_hooks_128 l0 k0 n e87 x95 x98 x99 h94))))))) (fun j102 => (if x90 = x92 then j102 e77 h91 else j102 0 h91)))))) 1000 l1 0 h78) 1000 0 0 h)))
set_option maxHeartbeats 4000000 in
set_option maxRecDepth 100000 in
theorem wk_X5_hooks_128 {K : cz_K} {D : cz_D} {h0 : cz_H} {oh : cz_O × cz_H} {l0 : Option Nat} {k0 : Int32 → Int32 → Int32 → cz_H → cz_Z} (S : cz_S K D h0 cX5_hooks 7 "HeldCoatsModel" ((Option.some Jvm.ClassFile.FieldType.int)) "hooks" ([])) (hk0 : ∀ (e1 : Int32) (e2 : Int32) (e3 : Int32) (h : cz_H), cz_T K D 4 h0 oh 7 (k0 e1 e2 e3 h) h 275 [(0, cz_r l0), (1, cz_i e1), (2, cz_i e2), (3, cz_i e3)] []) : ∀ (n : Nat) (l1 : Int32) (l2 : Int32) (l3 : Int32) (l4 : Int32) (h : cz_H), cz_T K D 4 h0 oh 7 (fn_X5_hooks_128 l0 k0 n l1 l2 l3 l4 h) h 128 [(0, cz_r l0), (1, cz_i l1), (2, cz_i l2), (3, cz_i l3), (4, cz_i l4)] [] := by
  intro n
  induction n with
  | zero => intros; exact ct_none
  | succ n ih =>
    intro l1 l2 l3 l4 h
    rw [fn_X5_hooks_128]
    refine ct_iload (k := 4) S dX5_hooks_128 rfl ?_
    refine ct_aload_n (k := 0) S dX5_hooks_130 rfl rfl ?_
    refine ct_getR S fw_X5_33 dX5_hooks_131 (fun r67 => ?_)
    refine ct_iconst (v := 1) S dX5_hooks_134 kI_1 ?_
    refine ct_iald S dX5_hooks_135 (fun x68 => ?_)
    refine ct_icmp_ge (tgt := 275) S dX5_hooks_136 (by decide) ?_ ?_
    · exact ct_sub [0, 1, 2, 3] rfl (hk0 l1 l2 l3 h)
    · refine ct_iconst (v := 0) S dX5_hooks_139 kI_0 ?_
      refine ct_istore (L' := [(5, cz_i 0), (0, cz_r l0), (1, cz_i l1), (2, cz_i l2), (3, cz_i l3), (4, cz_i l4)]) S dX5_hooks_140 (by decide) rfl ?_
      refine ct_iconst (v := 0) S dX5_hooks_142 kI_0 ?_
      refine ct_istore (L' := [(6, cz_i 0), (5, cz_i 0), (0, cz_r l0), (1, cz_i l1), (2, cz_i l2), (3, cz_i l3), (4, cz_i l4)]) S dX5_hooks_143 (by decide) rfl ?_
      refine ct_sub [2, 3, 4, 5, 6, 1, 0] (L' := [(0, cz_r l0), (1, cz_i l1), (2, cz_i l2), (3, cz_i l3), (4, cz_i l4), (5, cz_i 0), (6, cz_i 0)]) rfl (wk_X5_hooks_145 S ?_ 1000 0 0 h)
      · intro e77 h78
        refine ct_iconst (v := 0) S dX5_hooks_190 kI_0 ?_
        refine ct_istore (L' := [(6, cz_i 0), (0, cz_r l0), (1, cz_i l1), (2, cz_i l2), (3, cz_i l3), (4, cz_i l4), (5, cz_i e77)]) S dX5_hooks_191 (by decide) rfl ?_
        refine ct_sub [1, 2, 3, 4, 5, 6, 0] (L' := [(0, cz_r l0), (1, cz_i l1), (2, cz_i l2), (3, cz_i l3), (4, cz_i l4), (5, cz_i e77), (6, cz_i 0)]) rfl (wk_X5_hooks_193 S ?_ 1000 l1 0 h78)
        · intro e87 h88
          refine ct_iload_n (k := 2) S dX5_hooks_226 rfl rfl ?_
          refine ct_aload_n (k := 0) S dX5_hooks_227 rfl rfl ?_
          refine ct_getR S fw_X5_56 dX5_hooks_228 (fun r89 => ?_)
          refine ct_iload (k := 4) S dX5_hooks_231 rfl ?_
          refine ct_iald S dX5_hooks_233 (fun x90 => ?_)
          refine ct_iload (k := 5) S dX5_hooks_234 rfl ?_
          refine ct_cI (st := [cz_i x90, cz_i l2]) (cg_static (av := [cz_i e77]) S (fun _ e => mt_X5_bits e) md_X5_bits (Or.inl q2311) q2312 (by decide) (Nat.le_of_ble_eq_true rfl) rfl dX5_hooks_236) (fun x92 h91 => ?_)
          refine ct_jnP (fun j102 => ∀ (v93 : Int32) (h94 : cz_H), cz_T K D 4 h0 oh 7 (j102 v93 h94) h94 248 [(0, cz_r l0), (1, cz_i e87), (3, cz_i l3), (4, cz_i l4), (5, cz_i e77)] [cz_i v93, cz_i l2]) (fun v93 h94 => ?_) (fun j102 Hj102 => ?_)
          · refine ct_ior S dX5_hooks_248 ?_
            refine ct_leti (fun x95 => ?_)
            refine ct_istore_n (L' := [(2, cz_i x95), (0, cz_r l0), (1, cz_i e87), (3, cz_i l3), (4, cz_i l4), (5, cz_i e77)]) S dX5_hooks_249 rfl (by decide) rfl ?_
            refine ct_iload_n (k := 3) S dX5_hooks_250 rfl rfl ?_
            refine ct_aload_n (k := 1) S dX5_hooks_251 rfl rfl ?_
            refine ct_getR S fw_X5_56 dX5_hooks_252 (fun r96 => ?_)
            refine ct_iload (k := 4) S dX5_hooks_255 rfl ?_
            refine ct_iald S dX5_hooks_257 (fun x97 => ?_)
            refine ct_if_ne (tgt := 266) S dX5_hooks_258 (by decide) ?_ ?_
            · refine ct_iconst (v := 0) S dX5_hooks_266 kI_0 ?_
              refine ct_ior S dX5_hooks_267 ?_
              refine ct_leti (fun x98 => ?_)
              refine ct_istore_n (L' := [(3, cz_i x98), (2, cz_i x95), (0, cz_r l0), (1, cz_i e87), (4, cz_i l4), (5, cz_i e77)]) S dX5_hooks_268 rfl (by decide) rfl ?_
              refine ct_iincL (j := 4) (L2 := fun x99 => [(4, cz_i x99), (3, cz_i x98), (2, cz_i x95), (0, cz_r l0), (1, cz_i e87), (5, cz_i e77)]) S dX5_hooks_269 rfl kI_1 (by decide) (fun _ => rfl) (fun x99 => ?_)
              refine ct_goto (tgt := 128) S dX5_hooks_272 (by decide) ?_
              exact ct_sub [3, 4, 2, 1, 0] rfl (ih e87 x95 x98 x99 h94)
            · refine ct_iload (k := 5) S dX5_hooks_261 rfl ?_
              refine ct_goto (tgt := 267) S dX5_hooks_263 (by decide) ?_
              refine ct_ior S dX5_hooks_267 ?_
              refine ct_leti (fun x100 => ?_)
              refine ct_istore_n (L' := [(3, cz_i x100), (2, cz_i x95), (0, cz_r l0), (1, cz_i e87), (4, cz_i l4), (5, cz_i e77)]) S dX5_hooks_268 rfl (by decide) rfl ?_
              refine ct_iincL (j := 4) (L2 := fun x101 => [(4, cz_i x101), (3, cz_i x100), (2, cz_i x95), (0, cz_r l0), (1, cz_i e87), (5, cz_i e77)]) S dX5_hooks_269 rfl kI_1 (by decide) (fun _ => rfl) (fun x101 => ?_)
              refine ct_goto (tgt := 128) S dX5_hooks_272 (by decide) ?_
              exact ct_sub [3, 4, 2, 1, 0] rfl (ih e87 x95 x100 x101 h94)
          · refine ct_icmp_ne (tgt := 247) S dX5_hooks_239 (by decide) ?_ ?_
            · refine ct_iconst (v := 0) S dX5_hooks_247 kI_0 ?_
              exact ct_sub [0, 1, 3, 4, 5] rfl (Hj102 0 h91)
            · refine ct_iload (k := 5) S dX5_hooks_242 rfl ?_
              refine ct_goto (tgt := 248) S dX5_hooks_244 (by decide) ?_
              exact ct_sub [0, 1, 3, 4, 5] rfl (Hj102 e77 h91)
set_option maxHeartbeats 4000000 in
set_option maxRecDepth 100000 in
noncomputable def fn_X5_hooks (l0 : Option Nat) (h : cz_H) : cz_Z := cz_put h l0 [(5, 0)] (cz_i 0) (fun h1 => cz_rc h1 l0 [5] (cz_cV (fn_X5_taken l0 940 h1) (fun h8 => cz_getI h8 l0 [(5, 3)] (fun x9 => (if x9 = 0 then some (.inl (some (cz_i (-1))), h8) else cz_getI h8 l0 [(5, 3)] (fun x10 => cz_getR h8 l0 [(5, 6)] (fun r11 => cz_iald h8 r11 0 (fun x12 => (if x10 = x12 then fn_X5_hooks_36 l0 (fun (h16 : cz_H) => fn_X5_hooks_57 l0 (fun (h65 : cz_H) => some (.inl (some (cz_i (-1))), h65)) (fun (h66 : cz_H) => fn_X5_hooks_128 l0 (fun (e103 : Int32) (e104 : Int32) (e105 : Int32) (h106 : cz_H) => (if e103 = 0 then some (.inl (some (cz_i 0)), h106) else cz_put h106 l0 [(5, 31)] (cz_i 1) (fun h107 => cz_put h107 l0 [(5, 29)] (cz_i e104) (fun h108 => cz_put h108 l0 [(5, 30)] (cz_i e105) (fun h109 => some (.inl (some (cz_i e103)), h109)))))) 1000 1 0 0 0 h66) 1000 0 h16) 1000 0 h8 else some (.inl (some (cz_i (-1))), h8))))))))))
set_option maxHeartbeats 4000000 in
set_option maxRecDepth 100000 in
theorem wk_X5_hooks {K : cz_K} {D : cz_D} {h0 : cz_H} {oh : cz_O × cz_H} {l0 : Option Nat} {h : cz_H} (S : cz_S K D h0 cX5_hooks 7 "HeldCoatsModel" ((Option.some Jvm.ClassFile.FieldType.int)) "hooks" ([])) : cz_T K D 4 h0 oh 7 (fn_X5_hooks l0 h) h 0 [(0, cz_r l0)] [] := by
  unfold fn_X5_hooks
  refine ct_aload_n (k := 0) S dX5_hooks_0 rfl rfl ?_
  refine ct_iconst (v := 0) S dX5_hooks_1 kI_0 ?_
  refine ct_put S fw_X5_1 fp_X5_m_5_0 (cz_fits_i pd_I) dX5_hooks_2 (fun h1 => ?_)
  refine ct_aload_n (k := 0) S dX5_hooks_5 rfl rfl ?_
  refine ct_sipush (v := 940) S dX5_hooks_6 kS_940 ?_
  refine ct_rc (fun b2 ci3 V4 hb5 hc6 hi7 => ?_)
  refine ct_cV (st := []) (cg_virtual (av := [cz_i 940]) S hb5 hc6 hi7 (fun _ e => mt_X5_taken e) md_X5_taken q2072 q2074 se_HeldCoatsModel_taken__I_V_HeldCoatsModel (by decide) (Nat.le_of_ble_eq_true rfl) rfl dX5_hooks_9) (fun h8 => ?_)
  refine ct_aload_n (k := 0) S dX5_hooks_12 rfl rfl ?_
  refine ct_getI S fw_X5_18 dX5_hooks_13 (fun x9 => ?_)
  refine ct_if_eq (tgt := 32) S dX5_hooks_16 (by decide) ?_ ?_
  · refine ct_iconst (v := (-1)) S dX5_hooks_32 kI_m1 ?_
    exact ct_iret S rfl dX5_hooks_33
  · refine ct_aload_n (k := 0) S dX5_hooks_19 rfl rfl ?_
    refine ct_getI S fw_X5_18 dX5_hooks_20 (fun x10 => ?_)
    refine ct_aload_n (k := 0) S dX5_hooks_23 rfl rfl ?_
    refine ct_getR S fw_X5_33 dX5_hooks_24 (fun r11 => ?_)
    refine ct_iconst (v := 0) S dX5_hooks_27 kI_0 ?_
    refine ct_iald S dX5_hooks_28 (fun x12 => ?_)
    refine ct_icmp_eq (tgt := 34) S dX5_hooks_29 (by decide) ?_ ?_
    · refine ct_iconst (v := 0) S dX5_hooks_34 kI_0 ?_
      refine ct_istore_n (L' := [(1, cz_i 0), (0, cz_r l0)]) S dX5_hooks_35 rfl (by decide) rfl ?_
      refine ct_sub [1, 0] (L' := [(0, cz_r l0), (1, cz_i 0)]) rfl (wk_X5_hooks_36 S ?_ 1000 0 h8)
      · intro h16
        refine ct_iconst (v := 0) S dX5_hooks_55 kI_0 ?_
        refine ct_istore_n (L' := [(1, cz_i 0), (0, cz_r l0)]) S dX5_hooks_56 rfl (by decide) rfl ?_
        refine ct_sub [1, 0] (L' := [(0, cz_r l0), (1, cz_i 0)]) rfl (wk_X5_hooks_57 S ?_ ?_ 1000 0 h16)
        · intro h65
          refine ct_iconst (v := (-1)) S dX5_hooks_87 kI_m1 ?_
          exact ct_iret S rfl dX5_hooks_88
        · intro h66
          refine ct_iconst (v := 1) S dX5_hooks_119 kI_1 ?_
          refine ct_istore_n (L' := [(1, cz_i 1), (0, cz_r l0)]) S dX5_hooks_120 rfl (by decide) rfl ?_
          refine ct_iconst (v := 0) S dX5_hooks_121 kI_0 ?_
          refine ct_istore_n (L' := [(2, cz_i 0), (1, cz_i 1), (0, cz_r l0)]) S dX5_hooks_122 rfl (by decide) rfl ?_
          refine ct_iconst (v := 0) S dX5_hooks_123 kI_0 ?_
          refine ct_istore_n (L' := [(3, cz_i 0), (2, cz_i 0), (1, cz_i 1), (0, cz_r l0)]) S dX5_hooks_124 rfl (by decide) rfl ?_
          refine ct_iconst (v := 0) S dX5_hooks_125 kI_0 ?_
          refine ct_istore (L' := [(4, cz_i 0), (3, cz_i 0), (2, cz_i 0), (1, cz_i 1), (0, cz_r l0)]) S dX5_hooks_126 (by decide) rfl ?_
          refine ct_sub [4, 3, 2, 1, 0] (L' := [(0, cz_r l0), (1, cz_i 1), (2, cz_i 0), (3, cz_i 0), (4, cz_i 0)]) rfl (wk_X5_hooks_128 S ?_ 1000 1 0 0 0 h66)
          · intro e103 e104 e105 h106
            refine ct_iload_n (k := 1) S dX5_hooks_275 rfl rfl ?_
            refine ct_if_ne (tgt := 281) S dX5_hooks_276 (by decide) ?_ ?_
            · refine ct_aload_n (k := 0) S dX5_hooks_281 rfl rfl ?_
              refine ct_iconst (v := 1) S dX5_hooks_282 kI_1 ?_
              refine ct_put S fw_X5_369 fp_X5_m_5_31 (cz_fits_z pd_Z (Or.inr rfl)) dX5_hooks_283 (fun h107 => ?_)
              refine ct_aload_n (k := 0) S dX5_hooks_286 rfl rfl ?_
              refine ct_iload_n (k := 2) S dX5_hooks_287 rfl rfl ?_
              refine ct_put S fw_X5_372 fp_X5_m_5_29 (cz_fits_i pd_I) dX5_hooks_288 (fun h108 => ?_)
              refine ct_aload_n (k := 0) S dX5_hooks_291 rfl rfl ?_
              refine ct_iload_n (k := 3) S dX5_hooks_292 rfl rfl ?_
              refine ct_put S fw_X5_375 fp_X5_m_5_30 (cz_fits_i pd_I) dX5_hooks_293 (fun h109 => ?_)
              refine ct_iload_n (k := 1) S dX5_hooks_296 rfl rfl ?_
              exact ct_iret S rfl dX5_hooks_297
            · refine ct_iconst (v := 0) S dX5_hooks_279 kI_0 ?_
              exact ct_iret S rfl dX5_hooks_280
    · refine ct_iconst (v := (-1)) S dX5_hooks_32 kI_m1 ?_
      exact ct_iret S rfl dX5_hooks_33
theorem mt_X5_hooks {l : Launch} {D : cz_D} {l0 : Option Nat} {h : cz_H} {oh : cz_O × cz_H} (hz : fn_X5_hooks l0 h = some oh) : cz_M l D yX5_hooks (ws_ yX5_hooks cX5_hooks 7 ((Option.some Jvm.ClassFile.FieldType.int))) 4 [cz_r l0] h oh := cz_met (plainFor_of_name (by decide)) (Nat.le_of_ble_eq_true rfl) hz (fun K hl S => wk_X5_hooks S)
