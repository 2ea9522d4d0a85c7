set_option maxRecDepth 100000
theorem dX0_layGrid_56 : decode cX0_layGrid 56 = .ok (.iload_n 2, 1) := dk_28 (dk_at dksX0_layGrid_2 9 rfl rfl)
theorem dX0_layGrid_57 : decode cX0_layGrid 57 = .ok (.aaload, 1) := dk_50 (dk_at dksX0_layGrid_2 10 rfl rfl)
theorem dX0_layGrid_58 : decode cX0_layGrid 58 = .ok (.iload 4, 2) := dk_21 4 (dk_at dksX0_layGrid_2 11 rfl rfl)
theorem dX0_layGrid_60 : decode cX0_layGrid 60 = .ok (.iaload, 1) := dk_46 (dk_at dksX0_layGrid_2 13 rfl rfl)
theorem dX0_layGrid_61 : decode cX0_layGrid 61 = .ok (.iadd, 1) := dk_96 (dk_at dksX0_layGrid_2 14 rfl rfl)
theorem dX0_layGrid_62 : decode cX0_layGrid 62 = .ok (.iadd, 1) := dk_96 (dk_at dksX0_layGrid_2 15 rfl rfl)
theorem dX0_layGrid_63 : decode cX0_layGrid 63 = .ok (.istore_n 3, 1) := dk_62 (dk_at dksX0_layGrid_2 16 rfl rfl)
theorem dX0_layGrid_64 : decode cX0_layGrid 64 = .ok (.iinc 4 1, 3) := dk_132 4 1 (dk_at dksX0_layGrid_2 17 rfl rfl)
theorem dX0_layGrid_67 : decode cX0_layGrid 67 = .ok (.goto (-34), 3) := dk_167 255 222 (dk_at dksX0_layGrid_2 20 rfl rfl)
theorem dX0_layGrid_70 : decode cX0_layGrid 70 = .ok (.iload_n 3, 1) := dk_29 (dk_at dksX0_layGrid_2 23 rfl rfl)
theorem dX0_layGrid_71 : decode cX0_layGrid 71 = .ok (.ifCond .le 23, 3) := dk_158 0 23 (dk_at dksX0_layGrid_3 0 rfl rfl)
theorem dX0_layGrid_74 : decode cX0_layGrid 74 = .ok (.aload_n 0, 1) := dk_42 (dk_at dksX0_layGrid_3 3 rfl rfl)
theorem dX0_layGrid_75 : decode cX0_layGrid 75 = .ok (.getfield 156, 3) := dk_180 0 156 (dk_at dksX0_layGrid_3 4 rfl rfl)
theorem dX0_layGrid_78 : decode cX0_layGrid 78 = .ok (.aload_n 0, 1) := dk_42 (dk_at dksX0_layGrid_3 7 rfl rfl)
theorem dX0_layGrid_79 : decode cX0_layGrid 79 = .ok (.getfield 153, 3) := dk_180 0 153 (dk_at dksX0_layGrid_3 8 rfl rfl)
theorem dX0_layGrid_82 : decode cX0_layGrid 82 = .ok (.iload_n 2, 1) := dk_28 (dk_at dksX0_layGrid_3 11 rfl rfl)
theorem dX0_layGrid_83 : decode cX0_layGrid 83 = .ok (.iastore, 1) := dk_79 (dk_at dksX0_layGrid_3 12 rfl rfl)
theorem dX0_layGrid_84 : decode cX0_layGrid 84 = .ok (.aload_n 0, 1) := dk_42 (dk_at dksX0_layGrid_3 13 rfl rfl)
theorem dX0_layGrid_85 : decode cX0_layGrid 85 = .ok (.dup, 1) := dk_89 (dk_at dksX0_layGrid_3 14 rfl rfl)
theorem dX0_layGrid_86 : decode cX0_layGrid 86 = .ok (.getfield 153, 3) := dk_180 0 153 (dk_at dksX0_layGrid_3 15 rfl rfl)
theorem dX0_layGrid_89 : decode cX0_layGrid 89 = .ok (.iconst 1, 1) := dk_4 (dk_at dksX0_layGrid_3 18 rfl rfl)
theorem dX0_layGrid_90 : decode cX0_layGrid 90 = .ok (.iadd, 1) := dk_96 (dk_at dksX0_layGrid_3 19 rfl rfl)
theorem dX0_layGrid_91 : decode cX0_layGrid 91 = .ok (.putfield 153, 3) := dk_181 0 153 (dk_at dksX0_layGrid_3 20 rfl rfl)
theorem dX0_layGrid_94 : decode cX0_layGrid 94 = .ok (.iinc 2 1, 3) := dk_132 2 1 (dk_at dksX0_layGrid_4 0 rfl rfl)
theorem dX0_layGrid_97 : decode cX0_layGrid 97 = .ok (.goto (-86), 3) := dk_167 255 170 (dk_at dksX0_layGrid_4 3 rfl rfl)
theorem dX0_layGrid_100 : decode cX0_layGrid 100 = .ok (.aload_n 0, 1) := dk_42 (dk_at dksX0_layGrid_4 6 rfl rfl)
theorem dX0_layGrid_101 : decode cX0_layGrid 101 = .ok (.getfield 159, 3) := dk_180 0 159 (dk_at dksX0_layGrid_4 7 rfl rfl)
theorem dX0_layGrid_104 : decode cX0_layGrid 104 = .ok (.iconst 0, 1) := dk_3 (dk_at dksX0_layGrid_4 10 rfl rfl)
theorem dX0_layGrid_105 : decode cX0_layGrid 105 = .ok (.invokestatic 104, 3) := dk_184 0 104 (dk_at dksX0_layGrid_4 11 rfl rfl)
theorem dX0_layGrid_108 : decode cX0_layGrid 108 = .ok (.ldc 162, 2) := dk_18 162 (dk_at dksX0_layGrid_4 14 rfl rfl)
theorem dX0_layGrid_110 : decode cX0_layGrid 110 = .ok (.istore_n 2, 1) := dk_61 (dk_at dksX0_layGrid_4 16 rfl rfl)
theorem dX0_layGrid_111 : decode cX0_layGrid 111 = .ok (.iconst 1, 1) := dk_4 (dk_at dksX0_layGrid_4 17 rfl rfl)
theorem dX0_layGrid_112 : decode cX0_layGrid 112 = .ok (.istore_n 3, 1) := dk_62 (dk_at dksX0_layGrid_4 18 rfl rfl)
theorem dX0_layGrid_113 : decode cX0_layGrid 113 = .ok (.iload_n 3, 1) := dk_29 (dk_at dksX0_layGrid_4 19 rfl rfl)
theorem dX0_layGrid_114 : decode cX0_layGrid 114 = .ok (.ifCond .eq 102, 3) := dk_153 0 102 (dk_at dksX0_layGrid_4 20 rfl rfl)
theorem dX0_layGrid_117 : decode cX0_layGrid 117 = .ok (.aload_n 0, 1) := dk_42 (dk_at dksX0_layGrid_4 23 rfl rfl)
theorem dX0_layGrid_118 : decode cX0_layGrid 118 = .ok (.invokevirtual 163, 3) := dk_182 0 163 (dk_at dksX0_layGrid_5 0 rfl rfl)
theorem dX0_layGrid_121 : decode cX0_layGrid 121 = .ok (.istore 4, 2) := dk_54 4 (dk_at dksX0_layGrid_5 3 rfl rfl)
theorem dX0_layGrid_123 : decode cX0_layGrid 123 = .ok (.iload 4, 2) := dk_21 4 (dk_at dksX0_layGrid_5 5 rfl rfl)
theorem dX0_layGrid_125 : decode cX0_layGrid 125 = .ok (.iload_n 2, 1) := dk_28 (dk_at dksX0_layGrid_5 7 rfl rfl)
theorem dX0_layGrid_126 : decode cX0_layGrid 126 = .ok (.if_icmp .ge 21, 3) := dk_162 0 21 (dk_at dksX0_layGrid_5 8 rfl rfl)
theorem dX0_layGrid_129 : decode cX0_layGrid 129 = .ok (.iload 4, 2) := dk_21 4 (dk_at dksX0_layGrid_5 11 rfl rfl)
theorem dX0_layGrid_131 : decode cX0_layGrid 131 = .ok (.istore_n 2, 1) := dk_61 (dk_at dksX0_layGrid_5 13 rfl rfl)
theorem dX0_layGrid_132 : decode cX0_layGrid 132 = .ok (.aload_n 0, 1) := dk_42 (dk_at dksX0_layGrid_5 14 rfl rfl)
theorem dX0_layGrid_133 : decode cX0_layGrid 133 = .ok (.getfield 159, 3) := dk_180 0 159 (dk_at dksX0_layGrid_5 15 rfl rfl)
theorem dX0_layGrid_136 : decode cX0_layGrid 136 = .ok (.iconst 0, 1) := dk_3 (dk_at dksX0_layGrid_5 18 rfl rfl)
theorem dX0_layGrid_137 : decode cX0_layGrid 137 = .ok (.aload_n 0, 1) := dk_42 (dk_at dksX0_layGrid_5 19 rfl rfl)
theorem dX0_layGrid_138 : decode cX0_layGrid 138 = .ok (.getfield 166, 3) := dk_180 0 166 (dk_at dksX0_layGrid_5 20 rfl rfl)
theorem dX0_layGrid_141 : decode cX0_layGrid 141 = .ok (.iconst 0, 1) := dk_3 (dk_at dksX0_layGrid_5 23 rfl rfl)
theorem dX0_layGrid_142 : decode cX0_layGrid 142 = .ok (.bipush 8, 2) := dk_16 8 (dk_at dksX0_layGrid_6 0 rfl rfl)
theorem dX0_layGrid_144 : decode cX0_layGrid 144 = .ok (.invokestatic 169, 3) := dk_184 0 169 (dk_at dksX0_layGrid_6 2 rfl rfl)
theorem dX0_layGrid_147 : decode cX0_layGrid 147 = .ok (.aload_n 0, 1) := dk_42 (dk_at dksX0_layGrid_6 5 rfl rfl)
theorem dX0_layGrid_148 : decode cX0_layGrid 148 = .ok (.getfield 153, 3) := dk_180 0 153 (dk_at dksX0_layGrid_6 6 rfl rfl)
theorem dX0_layGrid_151 : decode cX0_layGrid 151 = .ok (.iconst 1, 1) := dk_4 (dk_at dksX0_layGrid_6 9 rfl rfl)
theorem dX0_layGrid_152 : decode cX0_layGrid 152 = .ok (.isub, 1) := dk_100 (dk_at dksX0_layGrid_6 10 rfl rfl)
theorem dX0_layGrid_153 : decode cX0_layGrid 153 = .ok (.istore 5, 2) := dk_54 5 (dk_at dksX0_layGrid_6 11 rfl rfl)
theorem dX0_layGrid_155 : decode cX0_layGrid 155 = .ok (.iload 5, 2) := dk_21 5 (dk_at dksX0_layGrid_6 13 rfl rfl)
theorem dX0_layGrid_157 : decode cX0_layGrid 157 = .ok (.ifCond .lt 30, 3) := dk_155 0 30 (dk_at dksX0_layGrid_6 15 rfl rfl)
theorem dX0_layGrid_160 : decode cX0_layGrid 160 = .ok (.aload_n 0, 1) := dk_42 (dk_at dksX0_layGrid_6 18 rfl rfl)
theorem dX0_layGrid_161 : decode cX0_layGrid 161 = .ok (.getfield 159, 3) := dk_180 0 159 (dk_at dksX0_layGrid_6 19 rfl rfl)
theorem dX0_layGrid_164 : decode cX0_layGrid 164 = .ok (.iload 5, 2) := dk_21 5 (dk_at dksX0_layGrid_6 22 rfl rfl)
theorem dX0_layGrid_166 : decode cX0_layGrid 166 = .ok (.iaload, 1) := dk_46 (dk_at dksX0_layGrid_7 0 rfl rfl)
theorem dX0_layGrid_167 : decode cX0_layGrid 167 = .ok (.iload_n 1, 1) := dk_27 (dk_at dksX0_layGrid_7 1 rfl rfl)
theorem dX0_layGrid_168 : decode cX0_layGrid 168 = .ok (.iconst 1, 1) := dk_4 (dk_at dksX0_layGrid_7 2 rfl rfl)
theorem dX0_layGrid_169 : decode cX0_layGrid 169 = .ok (.isub, 1) := dk_100 (dk_at dksX0_layGrid_7 3 rfl rfl)
theorem dX0_layGrid_170 : decode cX0_layGrid 170 = .ok (.if_icmp .ne 17, 3) := dk_160 0 17 (dk_at dksX0_layGrid_7 4 rfl rfl)
theorem dX0_layGrid_173 : decode cX0_layGrid 173 = .ok (.aload_n 0, 1) := dk_42 (dk_at dksX0_layGrid_7 7 rfl rfl)
theorem dX0_layGrid_174 : decode cX0_layGrid 174 = .ok (.getfield 159, 3) := dk_180 0 159 (dk_at dksX0_layGrid_7 8 rfl rfl)
theorem dX0_layGrid_177 : decode cX0_layGrid 177 = .ok (.iload 5, 2) := dk_21 5 (dk_at dksX0_layGrid_7 11 rfl rfl)
theorem dX0_layGrid_179 : decode cX0_layGrid 179 = .ok (.iconst 0, 1) := dk_3 (dk_at dksX0_layGrid_7 13 rfl rfl)
theorem dX0_layGrid_180 : decode cX0_layGrid 180 = .ok (.iastore, 1) := dk_79 (dk_at dksX0_layGrid_7 14 rfl rfl)
theorem dX0_layGrid_181 : decode cX0_layGrid 181 = .ok (.iinc 5 (-1), 3) := dk_132 5 255 (dk_at dksX0_layGrid_7 15 rfl rfl)
theorem dX0_layGrid_184 : decode cX0_layGrid 184 = .ok (.goto (-29), 3) := dk_167 255 227 (dk_at dksX0_layGrid_7 18 rfl rfl)
theorem dX0_layGrid_187 : decode cX0_layGrid 187 = .ok (.iload 5, 2) := dk_21 5 (dk_at dksX0_layGrid_7 21 rfl rfl)
theorem dX0_layGrid_189 : decode cX0_layGrid 189 = .ok (.ifCond .lt 7, 3) := dk_155 0 7 (dk_at dksX0_layGrid_8 0 rfl rfl)
theorem dX0_layGrid_192 : decode cX0_layGrid 192 = .ok (.iconst 1, 1) := dk_4 (dk_at dksX0_layGrid_8 3 rfl rfl)
theorem dX0_layGrid_193 : decode cX0_layGrid 193 = .ok (.goto 4, 3) := dk_167 0 4 (dk_at dksX0_layGrid_8 4 rfl rfl)
theorem dX0_layGrid_196 : decode cX0_layGrid 196 = .ok (.iconst 0, 1) := dk_3 (dk_at dksX0_layGrid_8 7 rfl rfl)
theorem dX0_layGrid_197 : decode cX0_layGrid 197 = .ok (.istore_n 3, 1) := dk_62 (dk_at dksX0_layGrid_8 8 rfl rfl)
theorem dX0_layGrid_198 : decode cX0_layGrid 198 = .ok (.iload_n 3, 1) := dk_29 (dk_at dksX0_layGrid_8 9 rfl rfl)
theorem dX0_layGrid_199 : decode cX0_layGrid 199 = .ok (.ifCond .eq 14, 3) := dk_153 0 14 (dk_at dksX0_layGrid_8 10 rfl rfl)
theorem dX0_layGrid_202 : decode cX0_layGrid 202 = .ok (.aload_n 0, 1) := dk_42 (dk_at dksX0_layGrid_8 13 rfl rfl)
theorem dX0_layGrid_203 : decode cX0_layGrid 203 = .ok (.getfield 159, 3) := dk_180 0 159 (dk_at dksX0_layGrid_8 14 rfl rfl)
theorem dX0_layGrid_206 : decode cX0_layGrid 206 = .ok (.iload 5, 2) := dk_21 5 (dk_at dksX0_layGrid_8 17 rfl rfl)
theorem dX0_layGrid_208 : decode cX0_layGrid 208 = .ok (.dup2, 1) := dk_92 (dk_at dksX0_layGrid_8 19 rfl rfl)
theorem dX0_layGrid_209 : decode cX0_layGrid 209 = .ok (.iaload, 1) := dk_46 (dk_at dksX0_layGrid_8 20 rfl rfl)
theorem dX0_layGrid_210 : decode cX0_layGrid 210 = .ok (.iconst 1, 1) := dk_4 (dk_at dksX0_layGrid_8 21 rfl rfl)
theorem dX0_layGrid_211 : decode cX0_layGrid 211 = .ok (.iadd, 1) := dk_96 (dk_at dksX0_layGrid_8 22 rfl rfl)
theorem dX0_layGrid_212 : decode cX0_layGrid 212 = .ok (.iastore, 1) := dk_79 (dk_at dksX0_layGrid_8 23 rfl rfl)
theorem dX0_layGrid_213 : decode cX0_layGrid 213 = .ok (.goto (-100), 3) := dk_167 255 156 (dk_at dksX0_layGrid_9 0 rfl rfl)
theorem dX0_layGrid_216 : decode cX0_layGrid 216 = .ok (.iload_n 2, 1) := dk_28 (dk_at dksX0_layGrid_9 3 rfl rfl)
theorem dX0_layGrid_217 : decode cX0_layGrid 217 = .ok (.ireturn, 1) := dk_172 (dk_at dksX0_layGrid_9 4 rfl rfl)
abbrev cX0_quarrel : ByteArray := prog_1_method_28_code
def yX0_quarrel : MethodName := ⟨RX0, "quarrel", "()I"⟩
def dkwX0_quarrel_3 : List UInt8 := [21, 5, 46, 96, 60, 132, 3, 1, 167, 255, 191, 132, 2, 1, 167, 255, 175, 27, 172]
abbrev dktX0_quarrel_3 : List UInt8 := dkwX0_quarrel_3 ++ []
def dkwX0_quarrel_2 : List UInt8 := [160, 0, 16, 42, 180, 0, 139, 21, 4, 50, 21, 5, 46, 167, 0, 13, 42, 180, 0, 135, 21, 4, 50]
abbrev dktX0_quarrel_2 : List UInt8 := dkwX0_quarrel_2 ++ dktX0_quarrel_3
def dkwX0_quarrel_1 : List UInt8 := [46, 54, 4, 42, 180, 0, 156, 29, 46, 54, 5, 27, 42, 180, 0, 159, 28, 46, 42, 180, 0, 159, 29, 46]
abbrev dktX0_quarrel_1 : List UInt8 := dkwX0_quarrel_1 ++ dktX0_quarrel_2
def dkwX0_quarrel_0 : List UInt8 := [3, 60, 3, 61, 28, 42, 180, 0, 153, 162, 0, 79, 3, 62, 29, 28, 162, 0, 66, 42, 180, 0, 156, 28]
abbrev dktX0_quarrel_0 : List UInt8 := dkwX0_quarrel_0 ++ dktX0_quarrel_1
theorem dksX0_quarrel_0 : cX0_quarrel.data.toList.drop 0 = dktX0_quarrel_0 := by decide +kernel
theorem dksX0_quarrel_1 : cX0_quarrel.data.toList.drop 24 = dktX0_quarrel_1 := dk_seg dksX0_quarrel_0 24 rfl rfl
theorem dksX0_quarrel_2 : cX0_quarrel.data.toList.drop 48 = dktX0_quarrel_2 := dk_seg dksX0_quarrel_1 24 rfl rfl
theorem dksX0_quarrel_3 : cX0_quarrel.data.toList.drop 71 = dktX0_quarrel_3 := dk_seg dksX0_quarrel_2 23 rfl rfl
theorem dX0_quarrel_0 : decode cX0_quarrel 0 = .ok (.iconst 0, 1) := dk_3 (dk_at dksX0_quarrel_0 0 rfl rfl)
theorem dX0_quarrel_1 : decode cX0_quarrel 1 = .ok (.istore_n 1, 1) := dk_60 (dk_at dksX0_quarrel_0 1 rfl rfl)
theorem dX0_quarrel_2 : decode cX0_quarrel 2 = .ok (.iconst 0, 1) := dk_3 (dk_at dksX0_quarrel_0 2 rfl rfl)
theorem dX0_quarrel_3 : decode cX0_quarrel 3 = .ok (.istore_n 2, 1) := dk_61 (dk_at dksX0_quarrel_0 3 rfl rfl)
theorem dX0_quarrel_4 : decode cX0_quarrel 4 = .ok (.iload_n 2, 1) := dk_28 (dk_at dksX0_quarrel_0 4 rfl rfl)
theorem dX0_quarrel_5 : decode cX0_quarrel 5 = .ok (.aload_n 0, 1) := dk_42 (dk_at dksX0_quarrel_0 5 rfl rfl)
theorem dX0_quarrel_6 : decode cX0_quarrel 6 = .ok (.getfield 153, 3) := dk_180 0 153 (dk_at dksX0_quarrel_0 6 rfl rfl)
theorem dX0_quarrel_9 : decode cX0_quarrel 9 = .ok (.if_icmp .ge 79, 3) := dk_162 0 79 (dk_at dksX0_quarrel_0 9 rfl rfl)
theorem dX0_quarrel_12 : decode cX0_quarrel 12 = .ok (.iconst 0, 1) := dk_3 (dk_at dksX0_quarrel_0 12 rfl rfl)
theorem dX0_quarrel_13 : decode cX0_quarrel 13 = .ok (.istore_n 3, 1) := dk_62 (dk_at dksX0_quarrel_0 13 rfl rfl)
theorem dX0_quarrel_14 : decode cX0_quarrel 14 = .ok (.iload_n 3, 1) := dk_29 (dk_at dksX0_quarrel_0 14 rfl rfl)
theorem dX0_quarrel_15 : decode cX0_quarrel 15 = .ok (.iload_n 2, 1) := dk_28 (dk_at dksX0_quarrel_0 15 rfl rfl)
theorem dX0_quarrel_16 : decode cX0_quarrel 16 = .ok (.if_icmp .ge 66, 3) := dk_162 0 66 (dk_at dksX0_quarrel_0 16 rfl rfl)
theorem dX0_quarrel_19 : decode cX0_quarrel 19 = .ok (.aload_n 0, 1) := dk_42 (dk_at dksX0_quarrel_0 19 rfl rfl)
theorem dX0_quarrel_20 : decode cX0_quarrel 20 = .ok (.getfield 156, 3) := dk_180 0 156 (dk_at dksX0_quarrel_0 20 rfl rfl)
theorem dX0_quarrel_23 : decode cX0_quarrel 23 = .ok (.iload_n 2, 1) := dk_28 (dk_at dksX0_quarrel_0 23 rfl rfl)
theorem dX0_quarrel_24 : decode cX0_quarrel 24 = .ok (.iaload, 1) := dk_46 (dk_at dksX0_quarrel_1 0 rfl rfl)
theorem dX0_quarrel_25 : decode cX0_quarrel 25 = .ok (.istore 4, 2) := dk_54 4 (dk_at dksX0_quarrel_1 1 rfl rfl)
theorem dX0_quarrel_27 : decode cX0_quarrel 27 = .ok (.aload_n 0, 1) := dk_42 (dk_at dksX0_quarrel_1 3 rfl rfl)
theorem dX0_quarrel_28 : decode cX0_quarrel 28 = .ok (.getfield 156, 3) := dk_180 0 156 (dk_at dksX0_quarrel_1 4 rfl rfl)
theorem dX0_quarrel_31 : decode cX0_quarrel 31 = .ok (.iload_n 3, 1) := dk_29 (dk_at dksX0_quarrel_1 7 rfl rfl)
theorem dX0_quarrel_32 : decode cX0_quarrel 32 = .ok (.iaload, 1) := dk_46 (dk_at dksX0_quarrel_1 8 rfl rfl)
theorem dX0_quarrel_33 : decode cX0_quarrel 33 = .ok (.istore 5, 2) := dk_54 5 (dk_at dksX0_quarrel_1 9 rfl rfl)
theorem dX0_quarrel_35 : decode cX0_quarrel 35 = .ok (.iload_n 1, 1) := dk_27 (dk_at dksX0_quarrel_1 11 rfl rfl)
theorem dX0_quarrel_36 : decode cX0_quarrel 36 = .ok (.aload_n 0, 1) := dk_42 (dk_at dksX0_quarrel_1 12 rfl rfl)
theorem dX0_quarrel_37 : decode cX0_quarrel 37 = .ok (.getfield 159, 3) := dk_180 0 159 (dk_at dksX0_quarrel_1 13 rfl rfl)
theorem dX0_quarrel_40 : decode cX0_quarrel 40 = .ok (.iload_n 2, 1) := dk_28 (dk_at dksX0_quarrel_1 16 rfl rfl)
theorem dX0_quarrel_41 : decode cX0_quarrel 41 = .ok (.iaload, 1) := dk_46 (dk_at dksX0_quarrel_1 17 rfl rfl)
theorem dX0_quarrel_42 : decode cX0_quarrel 42 = .ok (.aload_n 0, 1) := dk_42 (dk_at dksX0_quarrel_1 18 rfl rfl)
theorem dX0_quarrel_43 : decode cX0_quarrel 43 = .ok (.getfield 159, 3) := dk_180 0 159 (dk_at dksX0_quarrel_1 19 rfl rfl)
theorem dX0_quarrel_46 : decode cX0_quarrel 46 = .ok (.iload_n 3, 1) := dk_29 (dk_at dksX0_quarrel_1 22 rfl rfl)
theorem dX0_quarrel_47 : decode cX0_quarrel 47 = .ok (.iaload, 1) := dk_46 (dk_at dksX0_quarrel_1 23 rfl rfl)
theorem dX0_quarrel_48 : decode cX0_quarrel 48 = .ok (.if_icmp .ne 16, 3) := dk_160 0 16 (dk_at dksX0_quarrel_2 0 rfl rfl)
theorem dX0_quarrel_51 : decode cX0_quarrel 51 = .ok (.aload_n 0, 1) := dk_42 (dk_at dksX0_quarrel_2 3 rfl rfl)
theorem dX0_quarrel_52 : decode cX0_quarrel 52 = .ok (.getfield 139, 3) := dk_180 0 139 (dk_at dksX0_quarrel_2 4 rfl rfl)
theorem dX0_quarrel_55 : decode cX0_quarrel 55 = .ok (.iload 4, 2) := dk_21 4 (dk_at dksX0_quarrel_2 7 rfl rfl)
theorem dX0_quarrel_57 : decode cX0_quarrel 57 = .ok (.aaload, 1) := dk_50 (dk_at dksX0_quarrel_2 9 rfl rfl)
theorem dX0_quarrel_58 : decode cX0_quarrel 58 = .ok (.iload 5, 2) := dk_21 5 (dk_at dksX0_quarrel_2 10 rfl rfl)
theorem dX0_quarrel_60 : decode cX0_quarrel 60 = .ok (.iaload, 1) := dk_46 (dk_at dksX0_quarrel_2 12 rfl rfl)
theorem dX0_quarrel_61 : decode cX0_quarrel 61 = .ok (.goto 13, 3) := dk_167 0 13 (dk_at dksX0_quarrel_2 13 rfl rfl)
theorem dX0_quarrel_64 : decode cX0_quarrel 64 = .ok (.aload_n 0, 1) := dk_42 (dk_at dksX0_quarrel_2 16 rfl rfl)
theorem dX0_quarrel_65 : decode cX0_quarrel 65 = .ok (.getfield 135, 3) := dk_180 0 135 (dk_at dksX0_quarrel_2 17 rfl rfl)
theorem dX0_quarrel_68 : decode cX0_quarrel 68 = .ok (.iload 4, 2) := dk_21 4 (dk_at dksX0_quarrel_2 20 rfl rfl)
theorem dX0_quarrel_70 : decode cX0_quarrel 70 = .ok (.aaload, 1) := dk_50 (dk_at dksX0_quarrel_2 22 rfl rfl)
theorem dX0_quarrel_71 : decode cX0_quarrel 71 = .ok (.iload 5, 2) := dk_21 5 (dk_at dksX0_quarrel_3 0 rfl rfl)
theorem dX0_quarrel_73 : decode cX0_quarrel 73 = .ok (.iaload, 1) := dk_46 (dk_at dksX0_quarrel_3 2 rfl rfl)
theorem dX0_quarrel_74 : decode cX0_quarrel 74 = .ok (.iadd, 1) := dk_96 (dk_at dksX0_quarrel_3 3 rfl rfl)
theorem dX0_quarrel_75 : decode cX0_quarrel 75 = .ok (.istore_n 1, 1) := dk_60 (dk_at dksX0_quarrel_3 4 rfl rfl)
theorem dX0_quarrel_76 : decode cX0_quarrel 76 = .ok (.iinc 3 1, 3) := dk_132 3 1 (dk_at dksX0_quarrel_3 5 rfl rfl)
theorem dX0_quarrel_79 : decode cX0_quarrel 79 = .ok (.goto (-65), 3) := dk_167 255 191 (dk_at dksX0_quarrel_3 8 rfl rfl)
theorem dX0_quarrel_82 : decode cX0_quarrel 82 = .ok (.iinc 2 1, 3) := dk_132 2 1 (dk_at dksX0_quarrel_3 11 rfl rfl)
theorem dX0_quarrel_85 : decode cX0_quarrel 85 = .ok (.goto (-81), 3) := dk_167 255 175 (dk_at dksX0_quarrel_3 14 rfl rfl)
theorem dX0_quarrel_88 : decode cX0_quarrel 88 = .ok (.iload_n 1, 1) := dk_27 (dk_at dksX0_quarrel_3 17 rfl rfl)
theorem dX0_quarrel_89 : decode cX0_quarrel 89 = .ok (.ireturn, 1) := dk_172 (dk_at dksX0_quarrel_3 18 rfl rfl)
abbrev cX0_account : ByteArray := prog_1_method_33_code
def yX0_account : MethodName := ⟨RX0, "account", "(II)I"⟩
def dkwX0_account_2 : List UInt8 := [28, 79, 42, 89, 180, 0, 188, 4, 96, 181, 0, 188, 42, 180, 0, 188, 4, 100, 172]
abbrev dktX0_account_2 : List UInt8 := dkwX0_account_2 ++ []
def dkwX0_account_1 : List UInt8 := [160, 0, 6, 16, 253, 172, 42, 180, 0, 191, 42, 180, 0, 188, 27, 79, 42, 180, 0, 194, 42, 180, 0, 188]
abbrev dktX0_account_1 : List UInt8 := dkwX0_account_1 ++ dktX0_account_2
def dkwX0_account_0 : List UInt8 := [27, 184, 0, 185, 153, 0, 10, 28, 184, 0, 185, 154, 0, 5, 2, 172, 42, 180, 0, 188, 16, 8]
abbrev dktX0_account_0 : List UInt8 := dkwX0_account_0 ++ dktX0_account_1
theorem dksX0_account_0 : cX0_account.data.toList.drop 0 = dktX0_account_0 := by decide +kernel
theorem dksX0_account_1 : cX0_account.data.toList.drop 22 = dktX0_account_1 := dk_seg dksX0_account_0 22 rfl rfl
theorem dksX0_account_2 : cX0_account.data.toList.drop 46 = dktX0_account_2 := dk_seg dksX0_account_1 24 rfl rfl
theorem dX0_account_0 : decode cX0_account 0 = .ok (.iload_n 1, 1) := dk_27 (dk_at dksX0_account_0 0 rfl rfl)
theorem dX0_account_1 : decode cX0_account 1 = .ok (.invokestatic 185, 3) := dk_184 0 185 (dk_at dksX0_account_0 1 rfl rfl)
theorem dX0_account_4 : decode cX0_account 4 = .ok (.ifCond .eq 10, 3) := dk_153 0 10 (dk_at dksX0_account_0 4 rfl rfl)
theorem dX0_account_7 : decode cX0_account 7 = .ok (.iload_n 2, 1) := dk_28 (dk_at dksX0_account_0 7 rfl rfl)
theorem dX0_account_8 : decode cX0_account 8 = .ok (.invokestatic 185, 3) := dk_184 0 185 (dk_at dksX0_account_0 8 rfl rfl)
theorem dX0_account_11 : decode cX0_account 11 = .ok (.ifCond .ne 5, 3) := dk_154 0 5 (dk_at dksX0_account_0 11 rfl rfl)
theorem dX0_account_14 : decode cX0_account 14 = .ok (.iconst (-1), 1) := dk_2 (dk_at dksX0_account_0 14 rfl rfl)
theorem dX0_account_15 : decode cX0_account 15 = .ok (.ireturn, 1) := dk_172 (dk_at dksX0_account_0 15 rfl rfl)
theorem dX0_account_16 : decode cX0_account 16 = .ok (.aload_n 0, 1) := dk_42 (dk_at dksX0_account_0 16 rfl rfl)
theorem dX0_account_17 : decode cX0_account 17 = .ok (.getfield 188, 3) := dk_180 0 188 (dk_at dksX0_account_0 17 rfl rfl)
theorem dX0_account_20 : decode cX0_account 20 = .ok (.bipush 8, 2) := dk_16 8 (dk_at dksX0_account_0 20 rfl rfl)
theorem dX0_account_22 : decode cX0_account 22 = .ok (.if_icmp .ne 6, 3) := dk_160 0 6 (dk_at dksX0_account_1 0 rfl rfl)
theorem dX0_account_25 : decode cX0_account 25 = .ok (.bipush (-3), 2) := dk_16 253 (dk_at dksX0_account_1 3 rfl rfl)
theorem dX0_account_27 : decode cX0_account 27 = .ok (.ireturn, 1) := dk_172 (dk_at dksX0_account_1 5 rfl rfl)
theorem dX0_account_28 : decode cX0_account 28 = .ok (.aload_n 0, 1) := dk_42 (dk_at dksX0_account_1 6 rfl rfl)
theorem dX0_account_29 : decode cX0_account 29 = .ok (.getfield 191, 3) := dk_180 0 191 (dk_at dksX0_account_1 7 rfl rfl)
theorem dX0_account_32 : decode cX0_account 32 = .ok (.aload_n 0, 1) := dk_42 (dk_at dksX0_account_1 10 rfl rfl)
theorem dX0_account_33 : decode cX0_account 33 = .ok (.getfield 188, 3) := dk_180 0 188 (dk_at dksX0_account_1 11 rfl rfl)
theorem dX0_account_36 : decode cX0_account 36 = .ok (.iload_n 1, 1) := dk_27 (dk_at dksX0_account_1 14 rfl rfl)
theorem dX0_account_37 : decode cX0_account 37 = .ok (.iastore, 1) := dk_79 (dk_at dksX0_account_1 15 rfl rfl)
theorem dX0_account_38 : decode cX0_account 38 = .ok (.aload_n 0, 1) := dk_42 (dk_at dksX0_account_1 16 rfl rfl)
theorem dX0_account_39 : decode cX0_account 39 = .ok (.getfield 194, 3) := dk_180 0 194 (dk_at dksX0_account_1 17 rfl rfl)
theorem dX0_account_42 : decode cX0_account 42 = .ok (.aload_n 0, 1) := dk_42 (dk_at dksX0_account_1 20 rfl rfl)
theorem dX0_account_43 : decode cX0_account 43 = .ok (.getfield 188, 3) := dk_180 0 188 (dk_at dksX0_account_1 21 rfl rfl)
theorem dX0_account_46 : decode cX0_account 46 = .ok (.iload_n 2, 1) := dk_28 (dk_at dksX0_account_2 0 rfl rfl)
theorem dX0_account_47 : decode cX0_account 47 = .ok (.iastore, 1) := dk_79 (dk_at dksX0_account_2 1 rfl rfl)
theorem dX0_account_48 : decode cX0_account 48 = .ok (.aload_n 0, 1) := dk_42 (dk_at dksX0_account_2 2 rfl rfl)
theorem dX0_account_49 : decode cX0_account 49 = .ok (.dup, 1) := dk_89 (dk_at dksX0_account_2 3 rfl rfl)
theorem dX0_account_50 : decode cX0_account 50 = .ok (.getfield 188, 3) := dk_180 0 188 (dk_at dksX0_account_2 4 rfl rfl)
theorem dX0_account_53 : decode cX0_account 53 = .ok (.iconst 1, 1) := dk_4 (dk_at dksX0_account_2 7 rfl rfl)
theorem dX0_account_54 : decode cX0_account 54 = .ok (.iadd, 1) := dk_96 (dk_at dksX0_account_2 8 rfl rfl)
theorem dX0_account_55 : decode cX0_account 55 = .ok (.putfield 188, 3) := dk_181 0 188 (dk_at dksX0_account_2 9 rfl rfl)
theorem dX0_account_58 : decode cX0_account 58 = .ok (.aload_n 0, 1) := dk_42 (dk_at dksX0_account_2 12 rfl rfl)
theorem dX0_account_59 : decode cX0_account 59 = .ok (.getfield 188, 3) := dk_180 0 188 (dk_at dksX0_account_2 13 rfl rfl)
theorem dX0_account_62 : decode cX0_account 62 = .ok (.iconst 1, 1) := dk_4 (dk_at dksX0_account_2 16 rfl rfl)
theorem dX0_account_63 : decode cX0_account 63 = .ok (.isub, 1) := dk_100 (dk_at dksX0_account_2 17 rfl rfl)
theorem dX0_account_64 : decode cX0_account 64 = .ok (.ireturn, 1) := dk_172 (dk_at dksX0_account_2 18 rfl rfl)
abbrev cX0_isCounted : ByteArray := prog_1_method_32_code
def yX0_isCounted : MethodName := ⟨RX0, "isCounted", "(I)Z"⟩
def dkwX0_isCounted_1 : List UInt8 := [184, 0, 182, 16, 20, 163, 0, 7, 4, 167, 0, 4, 3, 60, 132, 2, 1, 167, 255, 228, 27, 172]
abbrev dktX0_isCounted_1 : List UInt8 := dkwX0_isCounted_1 ++ []
def dkwX0_isCounted_0 : List UInt8 := [26, 133, 9, 20, 0, 180, 184, 0, 5, 60, 3, 61, 28, 7, 162, 0, 29, 27, 153, 0, 17, 26, 28]
abbrev dktX0_isCounted_0 : List UInt8 := dkwX0_isCounted_0 ++ dktX0_isCounted_1
theorem dksX0_isCounted_0 : cX0_isCounted.data.toList.drop 0 = dktX0_isCounted_0 := by decide +kernel
theorem dksX0_isCounted_1 : cX0_isCounted.data.toList.drop 23 = dktX0_isCounted_1 := dk_seg dksX0_isCounted_0 23 rfl rfl
theorem dX0_isCounted_0 : decode cX0_isCounted 0 = .ok (.iload_n 0, 1) := dk_26 (dk_at dksX0_isCounted_0 0 rfl rfl)
theorem dX0_isCounted_1 : decode cX0_isCounted 1 = .ok (.i2l, 1) := dk_133 (dk_at dksX0_isCounted_0 1 rfl rfl)
theorem dX0_isCounted_2 : decode cX0_isCounted 2 = .ok (.lconst 0, 1) := dk_9 (dk_at dksX0_isCounted_0 2 rfl rfl)
theorem dX0_isCounted_3 : decode cX0_isCounted 3 = .ok (.ldc2_w 180, 3) := dk_20 0 180 (dk_at dksX0_isCounted_0 3 rfl rfl)
theorem dX0_isCounted_6 : decode cX0_isCounted 6 = .ok (.invokestatic 5, 3) := dk_184 0 5 (dk_at dksX0_isCounted_0 6 rfl rfl)
theorem dX0_isCounted_9 : decode cX0_isCounted 9 = .ok (.istore_n 1, 1) := dk_60 (dk_at dksX0_isCounted_0 9 rfl rfl)
theorem dX0_isCounted_10 : decode cX0_isCounted 10 = .ok (.iconst 0, 1) := dk_3 (dk_at dksX0_isCounted_0 10 rfl rfl)
theorem dX0_isCounted_11 : decode cX0_isCounted 11 = .ok (.istore_n 2, 1) := dk_61 (dk_at dksX0_isCounted_0 11 rfl rfl)
theorem dX0_isCounted_12 : decode cX0_isCounted 12 = .ok (.iload_n 2, 1) := dk_28 (dk_at dksX0_isCounted_0 12 rfl rfl)
theorem dX0_isCounted_13 : decode cX0_isCounted 13 = .ok (.iconst 4, 1) := dk_7 (dk_at dksX0_isCounted_0 13 rfl rfl)
theorem dX0_isCounted_14 : decode cX0_isCounted 14 = .ok (.if_icmp .ge 29, 3) := dk_162 0 29 (dk_at dksX0_isCounted_0 14 rfl rfl)
theorem dX0_isCounted_17 : decode cX0_isCounted 17 = .ok (.iload_n 1, 1) := dk_27 (dk_at dksX0_isCounted_0 17 rfl rfl)
theorem dX0_isCounted_18 : decode cX0_isCounted 18 = .ok (.ifCond .eq 17, 3) := dk_153 0 17 (dk_at dksX0_isCounted_0 18 rfl rfl)
theorem dX0_isCounted_21 : decode cX0_isCounted 21 = .ok (.iload_n 0, 1) := dk_26 (dk_at dksX0_isCounted_0 21 rfl rfl)
theorem dX0_isCounted_22 : decode cX0_isCounted 22 = .ok (.iload_n 2, 1) := dk_28 (dk_at dksX0_isCounted_0 22 rfl rfl)
theorem dX0_isCounted_23 : decode cX0_isCounted 23 = .ok (.invokestatic 182, 3) := dk_184 0 182 (dk_at dksX0_isCounted_1 0 rfl rfl)
theorem dX0_isCounted_26 : decode cX0_isCounted 26 = .ok (.bipush 20, 2) := dk_16 20 (dk_at dksX0_isCounted_1 3 rfl rfl)
theorem dX0_isCounted_28 : decode cX0_isCounted 28 = .ok (.if_icmp .gt 7, 3) := dk_163 0 7 (dk_at dksX0_isCounted_1 5 rfl rfl)
theorem dX0_isCounted_31 : decode cX0_isCounted 31 = .ok (.iconst 1, 1) := dk_4 (dk_at dksX0_isCounted_1 8 rfl rfl)
theorem dX0_isCounted_32 : decode cX0_isCounted 32 = .ok (.goto 4, 3) := dk_167 0 4 (dk_at dksX0_isCounted_1 9 rfl rfl)
theorem dX0_isCounted_35 : decode cX0_isCounted 35 = .ok (.iconst 0, 1) := dk_3 (dk_at dksX0_isCounted_1 12 rfl rfl)
theorem dX0_isCounted_36 : decode cX0_isCounted 36 = .ok (.istore_n 1, 1) := dk_60 (dk_at dksX0_isCounted_1 13 rfl rfl)
theorem dX0_isCounted_37 : decode cX0_isCounted 37 = .ok (.iinc 2 1, 3) := dk_132 2 1 (dk_at dksX0_isCounted_1 14 rfl rfl)
theorem dX0_isCounted_40 : decode cX0_isCounted 40 = .ok (.goto (-28), 3) := dk_167 255 228 (dk_at dksX0_isCounted_1 17 rfl rfl)
theorem dX0_isCounted_43 : decode cX0_isCounted 43 = .ok (.iload_n 1, 1) := dk_27 (dk_at dksX0_isCounted_1 20 rfl rfl)
theorem dX0_isCounted_44 : decode cX0_isCounted 44 = .ok (.ireturn, 1) := dk_172 (dk_at dksX0_isCounted_1 21 rfl rfl)
abbrev cX0_marked : ByteArray := prog_1_method_31_code
def yX0_marked : MethodName := ⟨RX0, "marked", "(II)I"⟩
def dkwX0_marked_0 : List UInt8 := [26, 8, 27, 104, 122, 16, 31, 126, 172]
abbrev dktX0_marked_0 : List UInt8 := dkwX0_marked_0 ++ []
theorem dksX0_marked_0 : cX0_marked.data.toList.drop 0 = dktX0_marked_0 := by decide +kernel
theorem dX0_marked_0 : decode cX0_marked 0 = .ok (.iload_n 0, 1) := dk_26 (dk_at dksX0_marked_0 0 rfl rfl)
theorem dX0_marked_1 : decode cX0_marked 1 = .ok (.iconst 5, 1) := dk_8 (dk_at dksX0_marked_0 1 rfl rfl)
theorem dX0_marked_2 : decode cX0_marked 2 = .ok (.iload_n 1, 1) := dk_27 (dk_at dksX0_marked_0 2 rfl rfl)
theorem dX0_marked_3 : decode cX0_marked 3 = .ok (.imul, 1) := dk_104 (dk_at dksX0_marked_0 3 rfl rfl)
theorem dX0_marked_4 : decode cX0_marked 4 = .ok (.ishr, 1) := dk_122 (dk_at dksX0_marked_0 4 rfl rfl)
theorem dX0_marked_5 : decode cX0_marked 5 = .ok (.bipush 31, 2) := dk_16 31 (dk_at dksX0_marked_0 5 rfl rfl)
theorem dX0_marked_7 : decode cX0_marked 7 = .ok (.iand, 1) := dk_126 (dk_at dksX0_marked_0 7 rfl rfl)
theorem dX0_marked_8 : decode cX0_marked 8 = .ok (.ireturn, 1) := dk_172 (dk_at dksX0_marked_0 8 rfl rfl)
abbrev cX0_values : ByteArray := prog_1_method_36_code
def yX0_values : MethodName := ⟨RX0, "values", "(I)I"⟩
def dkwX0_values_3 : List UInt8 := [167, 0, 5, 16, 252, 172]
abbrev dktX0_values_3 : List UInt8 := dkwX0_values_3 ++ []
def dkwX0_values_2 : List UInt8 := [180, 0, 197, 27, 4, 100, 46, 46, 172, 132, 2, 1, 132, 3, 1, 167, 255, 214, 27, 154, 0, 7, 28]
abbrev dktX0_values_2 : List UInt8 := dkwX0_values_2 ++ dktX0_values_3
def dkwX0_values_1 : List UInt8 := [162, 0, 41, 42, 29, 182, 0, 205, 42, 182, 0, 209, 153, 0, 23, 27, 158, 0, 16, 178, 0, 200, 42]
abbrev dktX0_values_1 : List UInt8 := dkwX0_values_1 ++ dktX0_values_2
def dkwX0_values_0 : List UInt8 := [27, 133, 9, 20, 0, 203, 184, 0, 5, 154, 0, 5, 2, 172, 3, 61, 3, 62, 29, 17, 16, 0]
abbrev dktX0_values_0 : List UInt8 := dkwX0_values_0 ++ dktX0_values_1
theorem dksX0_values_0 : cX0_values.data.toList.drop 0 = dktX0_values_0 := by decide +kernel
theorem dksX0_values_1 : cX0_values.data.toList.drop 22 = dktX0_values_1 := dk_seg dksX0_values_0 22 rfl rfl
theorem dksX0_values_2 : cX0_values.data.toList.drop 45 = dktX0_values_2 := dk_seg dksX0_values_1 23 rfl rfl
theorem dksX0_values_3 : cX0_values.data.toList.drop 68 = dktX0_values_3 := dk_seg dksX0_values_2 23 rfl rfl
theorem dX0_values_0 : decode cX0_values 0 = .ok (.iload_n 1, 1) := dk_27 (dk_at dksX0_values_0 0 rfl rfl)
theorem dX0_values_1 : decode cX0_values 1 = .ok (.i2l, 1) := dk_133 (dk_at dksX0_values_0 1 rfl rfl)
theorem dX0_values_2 : decode cX0_values 2 = .ok (.lconst 0, 1) := dk_9 (dk_at dksX0_values_0 2 rfl rfl)
theorem dX0_values_3 : decode cX0_values 3 = .ok (.ldc2_w 203, 3) := dk_20 0 203 (dk_at dksX0_values_0 3 rfl rfl)
theorem dX0_values_6 : decode cX0_values 6 = .ok (.invokestatic 5, 3) := dk_184 0 5 (dk_at dksX0_values_0 6 rfl rfl)
theorem dX0_values_9 : decode cX0_values 9 = .ok (.ifCond .ne 5, 3) := dk_154 0 5 (dk_at dksX0_values_0 9 rfl rfl)
theorem dX0_values_12 : decode cX0_values 12 = .ok (.iconst (-1), 1) := dk_2 (dk_at dksX0_values_0 12 rfl rfl)
theorem dX0_values_13 : decode cX0_values 13 = .ok (.ireturn, 1) := dk_172 (dk_at dksX0_values_0 13 rfl rfl)
theorem dX0_values_14 : decode cX0_values 14 = .ok (.iconst 0, 1) := dk_3 (dk_at dksX0_values_0 14 rfl rfl)
theorem dX0_values_15 : decode cX0_values 15 = .ok (.istore_n 2, 1) := dk_61 (dk_at dksX0_values_0 15 rfl rfl)
theorem dX0_values_16 : decode cX0_values 16 = .ok (.iconst 0, 1) := dk_3 (dk_at dksX0_values_0 16 rfl rfl)
theorem dX0_values_17 : decode cX0_values 17 = .ok (.istore_n 3, 1) := dk_62 (dk_at dksX0_values_0 17 rfl rfl)
theorem dX0_values_18 : decode cX0_values 18 = .ok (.iload_n 3, 1) := dk_29 (dk_at dksX0_values_0 18 rfl rfl)
theorem dX0_values_19 : decode cX0_values 19 = .ok (.sipush 4096, 3) := dk_17 16 0 (dk_at dksX0_values_0 19 rfl rfl)
theorem dX0_values_22 : decode cX0_values 22 = .ok (.if_icmp .ge 41, 3) := dk_162 0 41 (dk_at dksX0_values_1 0 rfl rfl)
theorem dX0_values_25 : decode cX0_values 25 = .ok (.aload_n 0, 1) := dk_42 (dk_at dksX0_values_1 3 rfl rfl)
theorem dX0_values_26 : decode cX0_values 26 = .ok (.iload_n 3, 1) := dk_29 (dk_at dksX0_values_1 4 rfl rfl)
theorem dX0_values_27 : decode cX0_values 27 = .ok (.invokevirtual 205, 3) := dk_182 0 205 (dk_at dksX0_values_1 5 rfl rfl)
theorem dX0_values_30 : decode cX0_values 30 = .ok (.aload_n 0, 1) := dk_42 (dk_at dksX0_values_1 8 rfl rfl)
theorem dX0_values_31 : decode cX0_values 31 = .ok (.invokevirtual 209, 3) := dk_182 0 209 (dk_at dksX0_values_1 9 rfl rfl)
theorem dX0_values_34 : decode cX0_values 34 = .ok (.ifCond .eq 23, 3) := dk_153 0 23 (dk_at dksX0_values_1 12 rfl rfl)
theorem dX0_values_37 : decode cX0_values 37 = .ok (.iload_n 1, 1) := dk_27 (dk_at dksX0_values_1 15 rfl rfl)
theorem dX0_values_38 : decode cX0_values 38 = .ok (.ifCond .le 16, 3) := dk_158 0 16 (dk_at dksX0_values_1 16 rfl rfl)
theorem dX0_values_41 : decode cX0_values 41 = .ok (.getstatic 200, 3) := dk_178 0 200 (dk_at dksX0_values_1 19 rfl rfl)
theorem dX0_values_44 : decode cX0_values 44 = .ok (.aload_n 0, 1) := dk_42 (dk_at dksX0_values_1 22 rfl rfl)
theorem dX0_values_45 : decode cX0_values 45 = .ok (.getfield 197, 3) := dk_180 0 197 (dk_at dksX0_values_2 0 rfl rfl)
theorem dX0_values_48 : decode cX0_values 48 = .ok (.iload_n 1, 1) := dk_27 (dk_at dksX0_values_2 3 rfl rfl)
theorem dX0_values_49 : decode cX0_values 49 = .ok (.iconst 1, 1) := dk_4 (dk_at dksX0_values_2 4 rfl rfl)
theorem dX0_values_50 : decode cX0_values 50 = .ok (.isub, 1) := dk_100 (dk_at dksX0_values_2 5 rfl rfl)
theorem dX0_values_51 : decode cX0_values 51 = .ok (.iaload, 1) := dk_46 (dk_at dksX0_values_2 6 rfl rfl)
theorem dX0_values_52 : decode cX0_values 52 = .ok (.iaload, 1) := dk_46 (dk_at dksX0_values_2 7 rfl rfl)
theorem dX0_values_53 : decode cX0_values 53 = .ok (.ireturn, 1) := dk_172 (dk_at dksX0_values_2 8 rfl rfl)
theorem dX0_values_54 : decode cX0_values 54 = .ok (.iinc 2 1, 3) := dk_132 2 1 (dk_at dksX0_values_2 9 rfl rfl)
theorem dX0_values_57 : decode cX0_values 57 = .ok (.iinc 3 1, 3) := dk_132 3 1 (dk_at dksX0_values_2 12 rfl rfl)
theorem dX0_values_60 : decode cX0_values 60 = .ok (.goto (-42), 3) := dk_167 255 214 (dk_at dksX0_values_2 15 rfl rfl)
theorem dX0_values_63 : decode cX0_values 63 = .ok (.iload_n 1, 1) := dk_27 (dk_at dksX0_values_2 18 rfl rfl)
theorem dX0_values_64 : decode cX0_values 64 = .ok (.ifCond .ne 7, 3) := dk_154 0 7 (dk_at dksX0_values_2 19 rfl rfl)
theorem dX0_values_67 : decode cX0_values 67 = .ok (.iload_n 2, 1) := dk_28 (dk_at dksX0_values_2 22 rfl rfl)
theorem dX0_values_68 : decode cX0_values 68 = .ok (.goto 5, 3) := dk_167 0 5 (dk_at dksX0_values_3 0 rfl rfl)
theorem dX0_values_71 : decode cX0_values 71 = .ok (.bipush (-4), 2) := dk_16 252 (dk_at dksX0_values_3 3 rfl rfl)
theorem dX0_values_73 : decode cX0_values 73 = .ok (.ireturn, 1) := dk_172 (dk_at dksX0_values_3 5 rfl rfl)
abbrev cX0_pick : ByteArray := prog_1_method_35_code
def yX0_pick : MethodName := ⟨RX0, "pick", "(I)V"⟩
def dkwX0_pick_1 : List UInt8 := [132, 2, 1, 167, 255, 232, 177]
abbrev dktX0_pick_1 : List UInt8 := dkwX0_pick_1 ++ []
def dkwX0_pick_0 : List UInt8 := [3, 61, 28, 7, 162, 0, 25, 42, 180, 0, 197, 28, 27, 6, 6, 28, 100, 104, 122, 16, 7, 126, 79]
abbrev dktX0_pick_0 : List UInt8 := dkwX0_pick_0 ++ dktX0_pick_1
theorem dksX0_pick_0 : cX0_pick.data.toList.drop 0 = dktX0_pick_0 := by decide +kernel
theorem dksX0_pick_1 : cX0_pick.data.toList.drop 23 = dktX0_pick_1 := dk_seg dksX0_pick_0 23 rfl rfl
theorem dX0_pick_0 : decode cX0_pick 0 = .ok (.iconst 0, 1) := dk_3 (dk_at dksX0_pick_0 0 rfl rfl)
theorem dX0_pick_1 : decode cX0_pick 1 = .ok (.istore_n 2, 1) := dk_61 (dk_at dksX0_pick_0 1 rfl rfl)
theorem dX0_pick_2 : decode cX0_pick 2 = .ok (.iload_n 2, 1) := dk_28 (dk_at dksX0_pick_0 2 rfl rfl)
theorem dX0_pick_3 : decode cX0_pick 3 = .ok (.iconst 4, 1) := dk_7 (dk_at dksX0_pick_0 3 rfl rfl)
theorem dX0_pick_4 : decode cX0_pick 4 = .ok (.if_icmp .ge 25, 3) := dk_162 0 25 (dk_at dksX0_pick_0 4 rfl rfl)
theorem dX0_pick_7 : decode cX0_pick 7 = .ok (.aload_n 0, 1) := dk_42 (dk_at dksX0_pick_0 7 rfl rfl)
theorem dX0_pick_8 : decode cX0_pick 8 = .ok (.getfield 197, 3) := dk_180 0 197 (dk_at dksX0_pick_0 8 rfl rfl)
theorem dX0_pick_11 : decode cX0_pick 11 = .ok (.iload_n 2, 1) := dk_28 (dk_at dksX0_pick_0 11 rfl rfl)
theorem dX0_pick_12 : decode cX0_pick 12 = .ok (.iload_n 1, 1) := dk_27 (dk_at dksX0_pick_0 12 rfl rfl)
theorem dX0_pick_13 : decode cX0_pick 13 = .ok (.iconst 3, 1) := dk_6 (dk_at dksX0_pick_0 13 rfl rfl)
theorem dX0_pick_14 : decode cX0_pick 14 = .ok (.iconst 3, 1) := dk_6 (dk_at dksX0_pick_0 14 rfl rfl)
theorem dX0_pick_15 : decode cX0_pick 15 = .ok (.iload_n 2, 1) := dk_28 (dk_at dksX0_pick_0 15 rfl rfl)
theorem dX0_pick_16 : decode cX0_pick 16 = .ok (.isub, 1) := dk_100 (dk_at dksX0_pick_0 16 rfl rfl)
theorem dX0_pick_17 : decode cX0_pick 17 = .ok (.imul, 1) := dk_104 (dk_at dksX0_pick_0 17 rfl rfl)
theorem dX0_pick_18 : decode cX0_pick 18 = .ok (.ishr, 1) := dk_122 (dk_at dksX0_pick_0 18 rfl rfl)
theorem dX0_pick_19 : decode cX0_pick 19 = .ok (.bipush 7, 2) := dk_16 7 (dk_at dksX0_pick_0 19 rfl rfl)
theorem dX0_pick_21 : decode cX0_pick 21 = .ok (.iand, 1) := dk_126 (dk_at dksX0_pick_0 21 rfl rfl)
theorem dX0_pick_22 : decode cX0_pick 22 = .ok (.iastore, 1) := dk_79 (dk_at dksX0_pick_0 22 rfl rfl)
theorem dX0_pick_23 : decode cX0_pick 23 = .ok (.iinc 2 1, 3) := dk_132 2 1 (dk_at dksX0_pick_1 0 rfl rfl)
theorem dX0_pick_26 : decode cX0_pick 26 = .ok (.goto (-24), 3) := dk_167 255 232 (dk_at dksX0_pick_1 3 rfl rfl)
theorem dX0_pick_29 : decode cX0_pick 29 = .ok (.return_, 1) := dk_177 (dk_at dksX0_pick_1 6 rfl rfl)
abbrev cX0_doFit : ByteArray := prog_1_method_34_code
def yX0_doFit : MethodName := ⟨RX0, "doFit", "()Z"⟩
def dkwX0_doFit_5 : List UInt8 := [132, 4, 1, 167, 255, 209, 29, 154, 0, 7, 4, 167, 0, 4, 3, 60, 132, 2, 1, 167, 255, 176, 27, 172]
abbrev dktX0_doFit_5 : List UInt8 := dkwX0_doFit_5 ++ []
def dkwX0_doFit_4 : List UInt8 := [28, 46, 21, 4, 184, 0, 182, 42, 180, 0, 194, 28, 46, 21, 4, 184, 0, 182, 100, 104, 96, 62]
abbrev dktX0_doFit_4 : List UInt8 := dkwX0_doFit_4 ++ dktX0_doFit_5
def dkwX0_doFit_3 : List UInt8 := [54, 4, 21, 4, 7, 162, 0, 47, 29, 178, 0, 200, 42, 180, 0, 197, 21, 4, 46, 46, 42, 180, 0, 191]
abbrev dktX0_doFit_3 : List UInt8 := dkwX0_doFit_3 ++ dktX0_doFit_4
def dkwX0_doFit_2 : List UInt8 := [132, 2, 1, 167, 255, 210, 3, 61, 28, 42, 180, 0, 188, 162, 0, 78, 27, 153, 0, 74, 3, 62, 3]
abbrev dktX0_doFit_2 : List UInt8 := dkwX0_doFit_2 ++ dktX0_doFit_3
def dkwX0_doFit_1 : List UInt8 := [28, 46, 42, 180, 0, 197, 29, 46, 159, 0, 7, 4, 167, 0, 4, 3, 60, 132, 3, 1, 167, 255, 223]
abbrev dktX0_doFit_1 : List UInt8 := dkwX0_doFit_1 ++ dktX0_doFit_2
def dkwX0_doFit_0 : List UInt8 := [4, 60, 3, 61, 28, 7, 162, 0, 47, 3, 62, 29, 28, 162, 0, 34, 27, 153, 0, 22, 42, 180, 0, 197]
abbrev dktX0_doFit_0 : List UInt8 := dkwX0_doFit_0 ++ dktX0_doFit_1
theorem dksX0_doFit_0 : cX0_doFit.data.toList.drop 0 = dktX0_doFit_0 := by decide +kernel
theorem dksX0_doFit_1 : cX0_doFit.data.toList.drop 24 = dktX0_doFit_1 := dk_seg dksX0_doFit_0 24 rfl rfl
theorem dksX0_doFit_2 : cX0_doFit.data.toList.drop 47 = dktX0_doFit_2 := dk_seg dksX0_doFit_1 23 rfl rfl
theorem dksX0_doFit_3 : cX0_doFit.data.toList.drop 70 = dktX0_doFit_3 := dk_seg dksX0_doFit_2 23 rfl rfl
theorem dksX0_doFit_4 : cX0_doFit.data.toList.drop 94 = dktX0_doFit_4 := dk_seg dksX0_doFit_3 24 rfl rfl
theorem dksX0_doFit_5 : cX0_doFit.data.toList.drop 116 = dktX0_doFit_5 := dk_seg dksX0_doFit_4 22 rfl rfl
theorem dX0_doFit_0 : decode cX0_doFit 0 = .ok (.iconst 1, 1) := dk_4 (dk_at dksX0_doFit_0 0 rfl rfl)
theorem dX0_doFit_1 : decode cX0_doFit 1 = .ok (.istore_n 1, 1) := dk_60 (dk_at dksX0_doFit_0 1 rfl rfl)
theorem dX0_doFit_2 : decode cX0_doFit 2 = .ok (.iconst 0, 1) := dk_3 (dk_at dksX0_doFit_0 2 rfl rfl)
theorem dX0_doFit_3 : decode cX0_doFit 3 = .ok (.istore_n 2, 1) := dk_61 (dk_at dksX0_doFit_0 3 rfl rfl)
theorem dX0_doFit_4 : decode cX0_doFit 4 = .ok (.iload_n 2, 1) := dk_28 (dk_at dksX0_doFit_0 4 rfl rfl)
theorem dX0_doFit_5 : decode cX0_doFit 5 = .ok (.iconst 4, 1) := dk_7 (dk_at dksX0_doFit_0 5 rfl rfl)
theorem dX0_doFit_6 : decode cX0_doFit 6 = .ok (.if_icmp .ge 47, 3) := dk_162 0 47 (dk_at dksX0_doFit_0 6 rfl rfl)
theorem dX0_doFit_9 : decode cX0_doFit 9 = .ok (.iconst 0, 1) := dk_3 (dk_at dksX0_doFit_0 9 rfl rfl)
theorem dX0_doFit_10 : decode cX0_doFit 10 = .ok (.istore_n 3, 1) := dk_62 (dk_at dksX0_doFit_0 10 rfl rfl)
theorem dX0_doFit_11 : decode cX0_doFit 11 = .ok (.iload_n 3, 1) := dk_29 (dk_at dksX0_doFit_0 11 rfl rfl)
theorem dX0_doFit_12 : decode cX0_doFit 12 = .ok (.iload_n 2, 1) := dk_28 (dk_at dksX0_doFit_0 12 rfl rfl)
theorem dX0_doFit_13 : decode cX0_doFit 13 = .ok (.if_icmp .ge 34, 3) := dk_162 0 34 (dk_at dksX0_doFit_0 13 rfl rfl)
theorem dX0_doFit_16 : decode cX0_doFit 16 = .ok (.iload_n 1, 1) := dk_27 (dk_at dksX0_doFit_0 16 rfl rfl)
theorem dX0_doFit_17 : decode cX0_doFit 17 = .ok (.ifCond .eq 22, 3) := dk_153 0 22 (dk_at dksX0_doFit_0 17 rfl rfl)
theorem dX0_doFit_20 : decode cX0_doFit 20 = .ok (.aload_n 0, 1) := dk_42 (dk_at dksX0_doFit_0 20 rfl rfl)
theorem dX0_doFit_21 : decode cX0_doFit 21 = .ok (.getfield 197, 3) := dk_180 0 197 (dk_at dksX0_doFit_0 21 rfl rfl)
theorem dX0_doFit_24 : decode cX0_doFit 24 = .ok (.iload_n 2, 1) := dk_28 (dk_at dksX0_doFit_1 0 rfl rfl)
theorem dX0_doFit_25 : decode cX0_doFit 25 = .ok (.iaload, 1) := dk_46 (dk_at dksX0_doFit_1 1 rfl rfl)
theorem dX0_doFit_26 : decode cX0_doFit 26 = .ok (.aload_n 0, 1) := dk_42 (dk_at dksX0_doFit_1 2 rfl rfl)
theorem dX0_doFit_27 : decode cX0_doFit 27 = .ok (.getfield 197, 3) := dk_180 0 197 (dk_at dksX0_doFit_1 3 rfl rfl)
theorem dX0_doFit_30 : decode cX0_doFit 30 = .ok (.iload_n 3, 1) := dk_29 (dk_at dksX0_doFit_1 6 rfl rfl)
theorem dX0_doFit_31 : decode cX0_doFit 31 = .ok (.iaload, 1) := dk_46 (dk_at dksX0_doFit_1 7 rfl rfl)
theorem dX0_doFit_32 : decode cX0_doFit 32 = .ok (.if_icmp .eq 7, 3) := dk_159 0 7 (dk_at dksX0_doFit_1 8 rfl rfl)
theorem dX0_doFit_35 : decode cX0_doFit 35 = .ok (.iconst 1, 1) := dk_4 (dk_at dksX0_doFit_1 11 rfl rfl)
theorem dX0_doFit_36 : decode cX0_doFit 36 = .ok (.goto 4, 3) := dk_167 0 4 (dk_at dksX0_doFit_1 12 rfl rfl)
theorem dX0_doFit_39 : decode cX0_doFit 39 = .ok (.iconst 0, 1) := dk_3 (dk_at dksX0_doFit_1 15 rfl rfl)
theorem dX0_doFit_40 : decode cX0_doFit 40 = .ok (.istore_n 1, 1) := dk_60 (dk_at dksX0_doFit_1 16 rfl rfl)
theorem dX0_doFit_41 : decode cX0_doFit 41 = .ok (.iinc 3 1, 3) := dk_132 3 1 (dk_at dksX0_doFit_1 17 rfl rfl)
theorem dX0_doFit_44 : decode cX0_doFit 44 = .ok (.goto (-33), 3) := dk_167 255 223 (dk_at dksX0_doFit_1 20 rfl rfl)
theorem dX0_doFit_47 : decode cX0_doFit 47 = .ok (.iinc 2 1, 3) := dk_132 2 1 (dk_at dksX0_doFit_2 0 rfl rfl)
theorem dX0_doFit_50 : decode cX0_doFit 50 = .ok (.goto (-46), 3) := dk_167 255 210 (dk_at dksX0_doFit_2 3 rfl rfl)
theorem dX0_doFit_53 : decode cX0_doFit 53 = .ok (.iconst 0, 1) := dk_3 (dk_at dksX0_doFit_2 6 rfl rfl)
theorem dX0_doFit_54 : decode cX0_doFit 54 = .ok (.istore_n 2, 1) := dk_61 (dk_at dksX0_doFit_2 7 rfl rfl)
theorem dX0_doFit_55 : decode cX0_doFit 55 = .ok (.iload_n 2, 1) := dk_28 (dk_at dksX0_doFit_2 8 rfl rfl)
theorem dX0_doFit_56 : decode cX0_doFit 56 = .ok (.aload_n 0, 1) := dk_42 (dk_at dksX0_doFit_2 9 rfl rfl)
theorem dX0_doFit_57 : decode cX0_doFit 57 = .ok (.getfield 188, 3) := dk_180 0 188 (dk_at dksX0_doFit_2 10 rfl rfl)
theorem dX0_doFit_60 : decode cX0_doFit 60 = .ok (.if_icmp .ge 78, 3) := dk_162 0 78 (dk_at dksX0_doFit_2 13 rfl rfl)
theorem dX0_doFit_63 : decode cX0_doFit 63 = .ok (.iload_n 1, 1) := dk_27 (dk_at dksX0_doFit_2 16 rfl rfl)
theorem dX0_doFit_64 : decode cX0_doFit 64 = .ok (.ifCond .eq 74, 3) := dk_153 0 74 (dk_at dksX0_doFit_2 17 rfl rfl)
theorem dX0_doFit_67 : decode cX0_doFit 67 = .ok (.iconst 0, 1) := dk_3 (dk_at dksX0_doFit_2 20 rfl rfl)
theorem dX0_doFit_68 : decode cX0_doFit 68 = .ok (.istore_n 3, 1) := dk_62 (dk_at dksX0_doFit_2 21 rfl rfl)
theorem dX0_doFit_69 : decode cX0_doFit 69 = .ok (.iconst 0, 1) := dk_3 (dk_at dksX0_doFit_2 22 rfl rfl)
theorem dX0_doFit_70 : decode cX0_doFit 70 = .ok (.istore 4, 2) := dk_54 4 (dk_at dksX0_doFit_3 0 rfl rfl)
theorem dX0_doFit_72 : decode cX0_doFit 72 = .ok (.iload 4, 2) := dk_21 4 (dk_at dksX0_doFit_3 2 rfl rfl)
theorem dX0_doFit_74 : decode cX0_doFit 74 = .ok (.iconst 4, 1) := dk_7 (dk_at dksX0_doFit_3 4 rfl rfl)
theorem dX0_doFit_75 : decode cX0_doFit 75 = .ok (.if_icmp .ge 47, 3) := dk_162 0 47 (dk_at dksX0_doFit_3 5 rfl rfl)
theorem dX0_doFit_78 : decode cX0_doFit 78 = .ok (.iload_n 3, 1) := dk_29 (dk_at dksX0_doFit_3 8 rfl rfl)
theorem dX0_doFit_79 : decode cX0_doFit 79 = .ok (.getstatic 200, 3) := dk_178 0 200 (dk_at dksX0_doFit_3 9 rfl rfl)
theorem dX0_doFit_82 : decode cX0_doFit 82 = .ok (.aload_n 0, 1) := dk_42 (dk_at dksX0_doFit_3 12 rfl rfl)
theorem dX0_doFit_83 : decode cX0_doFit 83 = .ok (.getfield 197, 3) := dk_180 0 197 (dk_at dksX0_doFit_3 13 rfl rfl)
theorem dX0_doFit_86 : decode cX0_doFit 86 = .ok (.iload 4, 2) := dk_21 4 (dk_at dksX0_doFit_3 16 rfl rfl)
theorem dX0_doFit_88 : decode cX0_doFit 88 = .ok (.iaload, 1) := dk_46 (dk_at dksX0_doFit_3 18 rfl rfl)
theorem dX0_doFit_89 : decode cX0_doFit 89 = .ok (.iaload, 1) := dk_46 (dk_at dksX0_doFit_3 19 rfl rfl)
theorem dX0_doFit_90 : decode cX0_doFit 90 = .ok (.aload_n 0, 1) := dk_42 (dk_at dksX0_doFit_3 20 rfl rfl)
theorem dX0_doFit_91 : decode cX0_doFit 91 = .ok (.getfield 191, 3) := dk_180 0 191 (dk_at dksX0_doFit_3 21 rfl rfl)
theorem dX0_doFit_94 : decode cX0_doFit 94 = .ok (.iload_n 2, 1) := dk_28 (dk_at dksX0_doFit_4 0 rfl rfl)
theorem dX0_doFit_95 : decode cX0_doFit 95 = .ok (.iaload, 1) := dk_46 (dk_at dksX0_doFit_4 1 rfl rfl)
theorem dX0_doFit_96 : decode cX0_doFit 96 = .ok (.iload 4, 2) := dk_21 4 (dk_at dksX0_doFit_4 2 rfl rfl)
theorem dX0_doFit_98 : decode cX0_doFit 98 = .ok (.invokestatic 182, 3) := dk_184 0 182 (dk_at dksX0_doFit_4 4 rfl rfl)
theorem dX0_doFit_101 : decode cX0_doFit 101 = .ok (.aload_n 0, 1) := dk_42 (dk_at dksX0_doFit_4 7 rfl rfl)
theorem dX0_doFit_102 : decode cX0_doFit 102 = .ok (.getfield 194, 3) := dk_180 0 194 (dk_at dksX0_doFit_4 8 rfl rfl)
theorem dX0_doFit_105 : decode cX0_doFit 105 = .ok (.iload_n 2, 1) := dk_28 (dk_at dksX0_doFit_4 11 rfl rfl)
theorem dX0_doFit_106 : decode cX0_doFit 106 = .ok (.iaload, 1) := dk_46 (dk_at dksX0_doFit_4 12 rfl rfl)
theorem dX0_doFit_107 : decode cX0_doFit 107 = .ok (.iload 4, 2) := dk_21 4 (dk_at dksX0_doFit_4 13 rfl rfl)
theorem dX0_doFit_109 : decode cX0_doFit 109 = .ok (.invokestatic 182, 3) := dk_184 0 182 (dk_at dksX0_doFit_4 15 rfl rfl)
theorem dX0_doFit_112 : decode cX0_doFit 112 = .ok (.isub, 1) := dk_100 (dk_at dksX0_doFit_4 18 rfl rfl)
theorem dX0_doFit_113 : decode cX0_doFit 113 = .ok (.imul, 1) := dk_104 (dk_at dksX0_doFit_4 19 rfl rfl)
theorem dX0_doFit_114 : decode cX0_doFit 114 = .ok (.iadd, 1) := dk_96 (dk_at dksX0_doFit_4 20 rfl rfl)
theorem dX0_doFit_115 : decode cX0_doFit 115 = .ok (.istore_n 3, 1) := dk_62 (dk_at dksX0_doFit_4 21 rfl rfl)
theorem dX0_doFit_116 : decode cX0_doFit 116 = .ok (.iinc 4 1, 3) := dk_132 4 1 (dk_at dksX0_doFit_5 0 rfl rfl)
theorem dX0_doFit_119 : decode cX0_doFit 119 = .ok (.goto (-47), 3) := dk_167 255 209 (dk_at dksX0_doFit_5 3 rfl rfl)
theorem dX0_doFit_122 : decode cX0_doFit 122 = .ok (.iload_n 3, 1) := dk_29 (dk_at dksX0_doFit_5 6 rfl rfl)
theorem dX0_doFit_123 : decode cX0_doFit 123 = .ok (.ifCond .ne 7, 3) := dk_154 0 7 (dk_at dksX0_doFit_5 7 rfl rfl)
theorem dX0_doFit_126 : decode cX0_doFit 126 = .ok (.iconst 1, 1) := dk_4 (dk_at dksX0_doFit_5 10 rfl rfl)
theorem dX0_doFit_127 : decode cX0_doFit 127 = .ok (.goto 4, 3) := dk_167 0 4 (dk_at dksX0_doFit_5 11 rfl rfl)
theorem dX0_doFit_130 : decode cX0_doFit 130 = .ok (.iconst 0, 1) := dk_3 (dk_at dksX0_doFit_5 14 rfl rfl)
theorem dX0_doFit_131 : decode cX0_doFit 131 = .ok (.istore_n 1, 1) := dk_60 (dk_at dksX0_doFit_5 15 rfl rfl)
theorem dX0_doFit_132 : decode cX0_doFit 132 = .ok (.iinc 2 1, 3) := dk_132 2 1 (dk_at dksX0_doFit_5 16 rfl rfl)
theorem dX0_doFit_135 : decode cX0_doFit 135 = .ok (.goto (-80), 3) := dk_167 255 176 (dk_at dksX0_doFit_5 19 rfl rfl)
theorem dX0_doFit_138 : decode cX0_doFit 138 = .ok (.iload_n 1, 1) := dk_27 (dk_at dksX0_doFit_5 22 rfl rfl)
theorem dX0_doFit_139 : decode cX0_doFit 139 = .ok (.ireturn, 1) := dk_172 (dk_at dksX0_doFit_5 23 rfl rfl)
abbrev cX0_sure : ByteArray := prog_1_method_37_code
def yX0_sure : MethodName := ⟨RX0, "sure", "(I)I"⟩
def dkwX0_sure_2 : List UInt8 := [167, 0, 4, 3, 128, 61, 132, 3, 1, 167, 255, 219, 28, 184, 0, 25, 172]
abbrev dktX0_sure_2 : List UInt8 := dkwX0_sure_2 ++ []
def dkwX0_sure_1 : List UInt8 := [162, 0, 36, 42, 29, 182, 0, 205, 28, 42, 182, 0, 209, 153, 0, 14, 4, 42, 180, 0, 197, 27, 46, 120]
abbrev dktX0_sure_1 : List UInt8 := dkwX0_sure_1 ++ dktX0_sure_2
def dkwX0_sure_0 : List UInt8 := [27, 133, 9, 20, 0, 42, 184, 0, 5, 154, 0, 5, 2, 172, 3, 61, 3, 62, 29, 17, 16, 0]
abbrev dktX0_sure_0 : List UInt8 := dkwX0_sure_0 ++ dktX0_sure_1
theorem dksX0_sure_0 : cX0_sure.data.toList.drop 0 = dktX0_sure_0 := by decide +kernel
theorem dksX0_sure_1 : cX0_sure.data.toList.drop 22 = dktX0_sure_1 := dk_seg dksX0_sure_0 22 rfl rfl
theorem dksX0_sure_2 : cX0_sure.data.toList.drop 46 = dktX0_sure_2 := dk_seg dksX0_sure_1 24 rfl rfl
theorem dX0_sure_0 : decode cX0_sure 0 = .ok (.iload_n 1, 1) := dk_27 (dk_at dksX0_sure_0 0 rfl rfl)
theorem dX0_sure_1 : decode cX0_sure 1 = .ok (.i2l, 1) := dk_133 (dk_at dksX0_sure_0 1 rfl rfl)
theorem dX0_sure_2 : decode cX0_sure 2 = .ok (.lconst 0, 1) := dk_9 (dk_at dksX0_sure_0 2 rfl rfl)
theorem dX0_sure_3 : decode cX0_sure 3 = .ok (.ldc2_w 42, 3) := dk_20 0 42 (dk_at dksX0_sure_0 3 rfl rfl)
theorem dX0_sure_6 : decode cX0_sure 6 = .ok (.invokestatic 5, 3) := dk_184 0 5 (dk_at dksX0_sure_0 6 rfl rfl)
theorem dX0_sure_9 : decode cX0_sure 9 = .ok (.ifCond .ne 5, 3) := dk_154 0 5 (dk_at dksX0_sure_0 9 rfl rfl)
theorem dX0_sure_12 : decode cX0_sure 12 = .ok (.iconst (-1), 1) := dk_2 (dk_at dksX0_sure_0 12 rfl rfl)
theorem dX0_sure_13 : decode cX0_sure 13 = .ok (.ireturn, 1) := dk_172 (dk_at dksX0_sure_0 13 rfl rfl)
theorem dX0_sure_14 : decode cX0_sure 14 = .ok (.iconst 0, 1) := dk_3 (dk_at dksX0_sure_0 14 rfl rfl)
theorem dX0_sure_15 : decode cX0_sure 15 = .ok (.istore_n 2, 1) := dk_61 (dk_at dksX0_sure_0 15 rfl rfl)
theorem dX0_sure_16 : decode cX0_sure 16 = .ok (.iconst 0, 1) := dk_3 (dk_at dksX0_sure_0 16 rfl rfl)
theorem dX0_sure_17 : decode cX0_sure 17 = .ok (.istore_n 3, 1) := dk_62 (dk_at dksX0_sure_0 17 rfl rfl)
theorem dX0_sure_18 : decode cX0_sure 18 = .ok (.iload_n 3, 1) := dk_29 (dk_at dksX0_sure_0 18 rfl rfl)
theorem dX0_sure_19 : decode cX0_sure 19 = .ok (.sipush 4096, 3) := dk_17 16 0 (dk_at dksX0_sure_0 19 rfl rfl)
theorem dX0_sure_22 : decode cX0_sure 22 = .ok (.if_icmp .ge 36, 3) := dk_162 0 36 (dk_at dksX0_sure_1 0 rfl rfl)
theorem dX0_sure_25 : decode cX0_sure 25 = .ok (.aload_n 0, 1) := dk_42 (dk_at dksX0_sure_1 3 rfl rfl)
theorem dX0_sure_26 : decode cX0_sure 26 = .ok (.iload_n 3, 1) := dk_29 (dk_at dksX0_sure_1 4 rfl rfl)
theorem dX0_sure_27 : decode cX0_sure 27 = .ok (.invokevirtual 205, 3) := dk_182 0 205 (dk_at dksX0_sure_1 5 rfl rfl)
theorem dX0_sure_30 : decode cX0_sure 30 = .ok (.iload_n 2, 1) := dk_28 (dk_at dksX0_sure_1 8 rfl rfl)
theorem dX0_sure_31 : decode cX0_sure 31 = .ok (.aload_n 0, 1) := dk_42 (dk_at dksX0_sure_1 9 rfl rfl)
theorem dX0_sure_32 : decode cX0_sure 32 = .ok (.invokevirtual 209, 3) := dk_182 0 209 (dk_at dksX0_sure_1 10 rfl rfl)
theorem dX0_sure_35 : decode cX0_sure 35 = .ok (.ifCond .eq 14, 3) := dk_153 0 14 (dk_at dksX0_sure_1 13 rfl rfl)
theorem dX0_sure_38 : decode cX0_sure 38 = .ok (.iconst 1, 1) := dk_4 (dk_at dksX0_sure_1 16 rfl rfl)
theorem dX0_sure_39 : decode cX0_sure 39 = .ok (.aload_n 0, 1) := dk_42 (dk_at dksX0_sure_1 17 rfl rfl)
theorem dX0_sure_40 : decode cX0_sure 40 = .ok (.getfield 197, 3) := dk_180 0 197 (dk_at dksX0_sure_1 18 rfl rfl)
theorem dX0_sure_43 : decode cX0_sure 43 = .ok (.iload_n 1, 1) := dk_27 (dk_at dksX0_sure_1 21 rfl rfl)
theorem dX0_sure_44 : decode cX0_sure 44 = .ok (.iaload, 1) := dk_46 (dk_at dksX0_sure_1 22 rfl rfl)
theorem dX0_sure_45 : decode cX0_sure 45 = .ok (.ishl, 1) := dk_120 (dk_at dksX0_sure_1 23 rfl rfl)
theorem dX0_sure_46 : decode cX0_sure 46 = .ok (.goto 4, 3) := dk_167 0 4 (dk_at dksX0_sure_2 0 rfl rfl)
theorem dX0_sure_49 : decode cX0_sure 49 = .ok (.iconst 0, 1) := dk_3 (dk_at dksX0_sure_2 3 rfl rfl)
theorem dX0_sure_50 : decode cX0_sure 50 = .ok (.ior, 1) := dk_128 (dk_at dksX0_sure_2 4 rfl rfl)
theorem dX0_sure_51 : decode cX0_sure 51 = .ok (.istore_n 2, 1) := dk_61 (dk_at dksX0_sure_2 5 rfl rfl)
theorem dX0_sure_52 : decode cX0_sure 52 = .ok (.iinc 3 1, 3) := dk_132 3 1 (dk_at dksX0_sure_2 6 rfl rfl)
theorem dX0_sure_55 : decode cX0_sure 55 = .ok (.goto (-37), 3) := dk_167 255 219 (dk_at dksX0_sure_2 9 rfl rfl)
theorem dX0_sure_58 : decode cX0_sure 58 = .ok (.iload_n 2, 1) := dk_28 (dk_at dksX0_sure_2 12 rfl rfl)
theorem dX0_sure_59 : decode cX0_sure 59 = .ok (.invokestatic 25, 3) := dk_184 0 25 (dk_at dksX0_sure_2 13 rfl rfl)
theorem dX0_sure_62 : decode cX0_sure 62 = .ok (.ireturn, 1) := dk_172 (dk_at dksX0_sure_2 16 rfl rfl)
abbrev cX0_name : ByteArray := prog_1_method_39_code
def yX0_name : MethodName := ⟨RX0, "name", "(II)I"⟩
def dkwX0_name_2 : List UInt8 := [181, 0, 216, 42, 180, 0, 216, 4, 100, 172]
abbrev dktX0_name_2 : List UInt8 := dkwX0_name_2 ++ []
def dkwX0_name_1 : List UInt8 := [180, 0, 219, 42, 180, 0, 216, 187, 0, 223, 89, 27, 28, 183, 0, 225, 83, 42, 89, 180, 0, 216, 4, 96]
abbrev dktX0_name_1 : List UInt8 := dkwX0_name_1 ++ dktX0_name_2
def dkwX0_name_0 : List UInt8 := [27, 16, 8, 28, 184, 0, 213, 154, 0, 5, 2, 172, 42, 180, 0, 216, 7, 160, 0, 6, 16, 253, 172, 42]
abbrev dktX0_name_0 : List UInt8 := dkwX0_name_0 ++ dktX0_name_1
theorem dksX0_name_0 : cX0_name.data.toList.drop 0 = dktX0_name_0 := by decide +kernel
theorem dksX0_name_1 : cX0_name.data.toList.drop 24 = dktX0_name_1 := dk_seg dksX0_name_0 24 rfl rfl
theorem dksX0_name_2 : cX0_name.data.toList.drop 48 = dktX0_name_2 := dk_seg dksX0_name_1 24 rfl rfl
theorem dX0_name_0 : decode cX0_name 0 = .ok (.iload_n 1, 1) := dk_27 (dk_at dksX0_name_0 0 rfl rfl)
theorem dX0_name_1 : decode cX0_name 1 = .ok (.bipush 8, 2) := dk_16 8 (dk_at dksX0_name_0 1 rfl rfl)
theorem dX0_name_3 : decode cX0_name 3 = .ok (.iload_n 2, 1) := dk_28 (dk_at dksX0_name_0 3 rfl rfl)
theorem dX0_name_4 : decode cX0_name 4 = .ok (.invokestatic 213, 3) := dk_184 0 213 (dk_at dksX0_name_0 4 rfl rfl)
theorem dX0_name_7 : decode cX0_name 7 = .ok (.ifCond .ne 5, 3) := dk_154 0 5 (dk_at dksX0_name_0 7 rfl rfl)
theorem dX0_name_10 : decode cX0_name 10 = .ok (.iconst (-1), 1) := dk_2 (dk_at dksX0_name_0 10 rfl rfl)
theorem dX0_name_11 : decode cX0_name 11 = .ok (.ireturn, 1) := dk_172 (dk_at dksX0_name_0 11 rfl rfl)
theorem dX0_name_12 : decode cX0_name 12 = .ok (.aload_n 0, 1) := dk_42 (dk_at dksX0_name_0 12 rfl rfl)
theorem dX0_name_13 : decode cX0_name 13 = .ok (.getfield 216, 3) := dk_180 0 216 (dk_at dksX0_name_0 13 rfl rfl)
theorem dX0_name_16 : decode cX0_name 16 = .ok (.iconst 4, 1) := dk_7 (dk_at dksX0_name_0 16 rfl rfl)
theorem dX0_name_17 : decode cX0_name 17 = .ok (.if_icmp .ne 6, 3) := dk_160 0 6 (dk_at dksX0_name_0 17 rfl rfl)
theorem dX0_name_20 : decode cX0_name 20 = .ok (.bipush (-3), 2) := dk_16 253 (dk_at dksX0_name_0 20 rfl rfl)
theorem dX0_name_22 : decode cX0_name 22 = .ok (.ireturn, 1) := dk_172 (dk_at dksX0_name_0 22 rfl rfl)
theorem dX0_name_23 : decode cX0_name 23 = .ok (.aload_n 0, 1) := dk_42 (dk_at dksX0_name_0 23 rfl rfl)
theorem dX0_name_24 : decode cX0_name 24 = .ok (.getfield 219, 3) := dk_180 0 219 (dk_at dksX0_name_1 0 rfl rfl)
theorem dX0_name_27 : decode cX0_name 27 = .ok (.aload_n 0, 1) := dk_42 (dk_at dksX0_name_1 3 rfl rfl)
theorem dX0_name_28 : decode cX0_name 28 = .ok (.getfield 216, 3) := dk_180 0 216 (dk_at dksX0_name_1 4 rfl rfl)
theorem dX0_name_31 : decode cX0_name 31 = .ok (.new 223, 3) := dk_187 0 223 (dk_at dksX0_name_1 7 rfl rfl)
theorem dX0_name_34 : decode cX0_name 34 = .ok (.dup, 1) := dk_89 (dk_at dksX0_name_1 10 rfl rfl)
theorem dX0_name_35 : decode cX0_name 35 = .ok (.iload_n 1, 1) := dk_27 (dk_at dksX0_name_1 11 rfl rfl)
theorem dX0_name_36 : decode cX0_name 36 = .ok (.iload_n 2, 1) := dk_28 (dk_at dksX0_name_1 12 rfl rfl)
theorem dX0_name_37 : decode cX0_name 37 = .ok (.invokespecial 225, 3) := dk_183 0 225 (dk_at dksX0_name_1 13 rfl rfl)
theorem dX0_name_40 : decode cX0_name 40 = .ok (.aastore, 1) := dk_83 (dk_at dksX0_name_1 16 rfl rfl)
theorem dX0_name_41 : decode cX0_name 41 = .ok (.aload_n 0, 1) := dk_42 (dk_at dksX0_name_1 17 rfl rfl)
theorem dX0_name_42 : decode cX0_name 42 = .ok (.dup, 1) := dk_89 (dk_at dksX0_name_1 18 rfl rfl)
theorem dX0_name_43 : decode cX0_name 43 = .ok (.getfield 216, 3) := dk_180 0 216 (dk_at dksX0_name_1 19 rfl rfl)
theorem dX0_name_46 : decode cX0_name 46 = .ok (.iconst 1, 1) := dk_4 (dk_at dksX0_name_1 22 rfl rfl)
theorem dX0_name_47 : decode cX0_name 47 = .ok (.iadd, 1) := dk_96 (dk_at dksX0_name_1 23 rfl rfl)
theorem dX0_name_48 : decode cX0_name 48 = .ok (.putfield 216, 3) := dk_181 0 216 (dk_at dksX0_name_2 0 rfl rfl)
theorem dX0_name_51 : decode cX0_name 51 = .ok (.aload_n 0, 1) := dk_42 (dk_at dksX0_name_2 3 rfl rfl)
theorem dX0_name_52 : decode cX0_name 52 = .ok (.getfield 216, 3) := dk_180 0 216 (dk_at dksX0_name_2 4 rfl rfl)
theorem dX0_name_55 : decode cX0_name 55 = .ok (.iconst 1, 1) := dk_4 (dk_at dksX0_name_2 7 rfl rfl)
theorem dX0_name_56 : decode cX0_name 56 = .ok (.isub, 1) := dk_100 (dk_at dksX0_name_2 8 rfl rfl)
theorem dX0_name_57 : decode cX0_name 57 = .ok (.ireturn, 1) := dk_172 (dk_at dksX0_name_2 9 rfl rfl)
abbrev cX0_areSounds : ByteArray := prog_1_method_38_code
def yX0_areSounds : MethodName := ⟨RX0, "areSounds", "(III)Z"⟩
def dkwX0_areSounds_1 : List UInt8 := [184, 0, 5, 153, 0, 7, 4, 167, 0, 4, 3, 172]
abbrev dktX0_areSounds_1 : List UInt8 := dkwX0_areSounds_1 ++ []
def dkwX0_areSounds_0 : List UInt8 := [26, 133, 10, 27, 133, 184, 0, 5, 153, 0, 24, 28, 133, 9, 4, 5, 26, 104, 120, 4, 100, 133]
abbrev dktX0_areSounds_0 : List UInt8 := dkwX0_areSounds_0 ++ dktX0_areSounds_1
theorem dksX0_areSounds_0 : cX0_areSounds.data.toList.drop 0 = dktX0_areSounds_0 := by decide +kernel
theorem dksX0_areSounds_1 : cX0_areSounds.data.toList.drop 22 = dktX0_areSounds_1 := dk_seg dksX0_areSounds_0 22 rfl rfl
theorem dX0_areSounds_0 : decode cX0_areSounds 0 = .ok (.iload_n 0, 1) := dk_26 (dk_at dksX0_areSounds_0 0 rfl rfl)
theorem dX0_areSounds_1 : decode cX0_areSounds 1 = .ok (.i2l, 1) := dk_133 (dk_at dksX0_areSounds_0 1 rfl rfl)
theorem dX0_areSounds_2 : decode cX0_areSounds 2 = .ok (.lconst 1, 1) := dk_10 (dk_at dksX0_areSounds_0 2 rfl rfl)
theorem dX0_areSounds_3 : decode cX0_areSounds 3 = .ok (.iload_n 1, 1) := dk_27 (dk_at dksX0_areSounds_0 3 rfl rfl)
theorem dX0_areSounds_4 : decode cX0_areSounds 4 = .ok (.i2l, 1) := dk_133 (dk_at dksX0_areSounds_0 4 rfl rfl)
theorem dX0_areSounds_5 : decode cX0_areSounds 5 = .ok (.invokestatic 5, 3) := dk_184 0 5 (dk_at dksX0_areSounds_0 5 rfl rfl)
theorem dX0_areSounds_8 : decode cX0_areSounds 8 = .ok (.ifCond .eq 24, 3) := dk_153 0 24 (dk_at dksX0_areSounds_0 8 rfl rfl)
theorem dX0_areSounds_11 : decode cX0_areSounds 11 = .ok (.iload_n 2, 1) := dk_28 (dk_at dksX0_areSounds_0 11 rfl rfl)
theorem dX0_areSounds_12 : decode cX0_areSounds 12 = .ok (.i2l, 1) := dk_133 (dk_at dksX0_areSounds_0 12 rfl rfl)
theorem dX0_areSounds_13 : decode cX0_areSounds 13 = .ok (.lconst 0, 1) := dk_9 (dk_at dksX0_areSounds_0 13 rfl rfl)
theorem dX0_areSounds_14 : decode cX0_areSounds 14 = .ok (.iconst 1, 1) := dk_4 (dk_at dksX0_areSounds_0 14 rfl rfl)
theorem dX0_areSounds_15 : decode cX0_areSounds 15 = .ok (.iconst 2, 1) := dk_5 (dk_at dksX0_areSounds_0 15 rfl rfl)
theorem dX0_areSounds_16 : decode cX0_areSounds 16 = .ok (.iload_n 0, 1) := dk_26 (dk_at dksX0_areSounds_0 16 rfl rfl)
theorem dX0_areSounds_17 : decode cX0_areSounds 17 = .ok (.imul, 1) := dk_104 (dk_at dksX0_areSounds_0 17 rfl rfl)
theorem dX0_areSounds_18 : decode cX0_areSounds 18 = .ok (.ishl, 1) := dk_120 (dk_at dksX0_areSounds_0 18 rfl rfl)
theorem dX0_areSounds_19 : decode cX0_areSounds 19 = .ok (.iconst 1, 1) := dk_4 (dk_at dksX0_areSounds_0 19 rfl rfl)
theorem dX0_areSounds_20 : decode cX0_areSounds 20 = .ok (.isub, 1) := dk_100 (dk_at dksX0_areSounds_0 20 rfl rfl)
theorem dX0_areSounds_21 : decode cX0_areSounds 21 = .ok (.i2l, 1) := dk_133 (dk_at dksX0_areSounds_0 21 rfl rfl)
theorem dX0_areSounds_22 : decode cX0_areSounds 22 = .ok (.invokestatic 5, 3) := dk_184 0 5 (dk_at dksX0_areSounds_1 0 rfl rfl)
theorem dX0_areSounds_25 : decode cX0_areSounds 25 = .ok (.ifCond .eq 7, 3) := dk_153 0 7 (dk_at dksX0_areSounds_1 3 rfl rfl)
theorem dX0_areSounds_28 : decode cX0_areSounds 28 = .ok (.iconst 1, 1) := dk_4 (dk_at dksX0_areSounds_1 6 rfl rfl)
theorem dX0_areSounds_29 : decode cX0_areSounds 29 = .ok (.goto 4, 3) := dk_167 0 4 (dk_at dksX0_areSounds_1 7 rfl rfl)
theorem dX0_areSounds_32 : decode cX0_areSounds 32 = .ok (.iconst 0, 1) := dk_3 (dk_at dksX0_areSounds_1 10 rfl rfl)
theorem dX0_areSounds_33 : decode cX0_areSounds 33 = .ok (.ireturn, 1) := dk_172 (dk_at dksX0_areSounds_1 11 rfl rfl)
abbrev cX0_dragged : ByteArray := prog_1_method_43_code
def yX0_dragged : MethodName := ⟨RX0, "dragged", "(III)I"⟩
def dkwX0_dragged_5 : List UInt8 := [29, 154, 0, 8, 21, 4, 167, 0, 15, 29, 4, 160, 0, 8, 21, 5, 167, 0, 5, 21, 6, 172]
abbrev dktX0_dragged_5 : List UInt8 := dkwX0_dragged_5 ++ []
def dkwX0_dragged_4 : List UInt8 := [16, 252, 160, 0, 8, 21, 7, 167, 0, 5, 21, 5, 54, 5, 21, 7, 54, 6, 132, 7, 1, 167, 255, 191]
abbrev dktX0_dragged_4 : List UInt8 := dkwX0_dragged_4 ++ dktX0_dragged_5
def dkwX0_dragged_3 : List UInt8 := [180, 0, 219, 27, 50, 42, 180, 0, 61, 28, 50, 21, 7, 182, 0, 245, 153, 0, 26, 132, 4, 1, 21, 5]
abbrev dktX0_dragged_3 : List UInt8 := dkwX0_dragged_3 ++ dktX0_dragged_4
def dkwX0_dragged_2 : List UInt8 := [54, 7, 21, 7, 42, 180, 0, 61, 28, 50, 182, 0, 67, 162, 0, 57, 42, 182, 0, 242, 42, 42]
abbrev dktX0_dragged_2 : List UInt8 := dkwX0_dragged_2 ++ dktX0_dragged_3
def dkwX0_dragged_1 : List UInt8 := [184, 0, 5, 154, 0, 5, 2, 172, 42, 182, 0, 38, 3, 54, 4, 16, 252, 54, 5, 16, 252, 54, 6, 3]
abbrev dktX0_dragged_1 : List UInt8 := dkwX0_dragged_1 ++ dktX0_dragged_2
def dkwX0_dragged_0 : List UInt8 := [42, 27, 182, 0, 239, 153, 0, 23, 42, 28, 182, 0, 58, 153, 0, 15, 29, 133, 9, 20, 0, 99]
abbrev dktX0_dragged_0 : List UInt8 := dkwX0_dragged_0 ++ dktX0_dragged_1
theorem dksX0_dragged_0 : cX0_dragged.data.toList.drop 0 = dktX0_dragged_0 := by decide +kernel
theorem dksX0_dragged_1 : cX0_dragged.data.toList.drop 22 = dktX0_dragged_1 := dk_seg dksX0_dragged_0 22 rfl rfl
theorem dksX0_dragged_2 : cX0_dragged.data.toList.drop 46 = dktX0_dragged_2 := dk_seg dksX0_dragged_1 24 rfl rfl
theorem dksX0_dragged_3 : cX0_dragged.data.toList.drop 68 = dktX0_dragged_3 := dk_seg dksX0_dragged_2 22 rfl rfl
theorem dksX0_dragged_4 : cX0_dragged.data.toList.drop 92 = dktX0_dragged_4 := dk_seg dksX0_dragged_3 24 rfl rfl
theorem dksX0_dragged_5 : cX0_dragged.data.toList.drop 116 = dktX0_dragged_5 := dk_seg dksX0_dragged_4 24 rfl rfl
theorem dX0_dragged_0 : decode cX0_dragged 0 = .ok (.aload_n 0, 1) := dk_42 (dk_at dksX0_dragged_0 0 rfl rfl)
theorem dX0_dragged_1 : decode cX0_dragged 1 = .ok (.iload_n 1, 1) := dk_27 (dk_at dksX0_dragged_0 1 rfl rfl)
theorem dX0_dragged_2 : decode cX0_dragged 2 = .ok (.invokevirtual 239, 3) := dk_182 0 239 (dk_at dksX0_dragged_0 2 rfl rfl)
theorem dX0_dragged_5 : decode cX0_dragged 5 = .ok (.ifCond .eq 23, 3) := dk_153 0 23 (dk_at dksX0_dragged_0 5 rfl rfl)
theorem dX0_dragged_8 : decode cX0_dragged 8 = .ok (.aload_n 0, 1) := dk_42 (dk_at dksX0_dragged_0 8 rfl rfl)
theorem dX0_dragged_9 : decode cX0_dragged 9 = .ok (.iload_n 2, 1) := dk_28 (dk_at dksX0_dragged_0 9 rfl rfl)
theorem dX0_dragged_10 : decode cX0_dragged 10 = .ok (.invokevirtual 58, 3) := dk_182 0 58 (dk_at dksX0_dragged_0 10 rfl rfl)
theorem dX0_dragged_13 : decode cX0_dragged 13 = .ok (.ifCond .eq 15, 3) := dk_153 0 15 (dk_at dksX0_dragged_0 13 rfl rfl)
theorem dX0_dragged_16 : decode cX0_dragged 16 = .ok (.iload_n 3, 1) := dk_29 (dk_at dksX0_dragged_0 16 rfl rfl)
theorem dX0_dragged_17 : decode cX0_dragged 17 = .ok (.i2l, 1) := dk_133 (dk_at dksX0_dragged_0 17 rfl rfl)
theorem dX0_dragged_18 : decode cX0_dragged 18 = .ok (.lconst 0, 1) := dk_9 (dk_at dksX0_dragged_0 18 rfl rfl)
theorem dX0_dragged_19 : decode cX0_dragged 19 = .ok (.ldc2_w 99, 3) := dk_20 0 99 (dk_at dksX0_dragged_0 19 rfl rfl)
theorem dX0_dragged_22 : decode cX0_dragged 22 = .ok (.invokestatic 5, 3) := dk_184 0 5 (dk_at dksX0_dragged_1 0 rfl rfl)
theorem dX0_dragged_25 : decode cX0_dragged 25 = .ok (.ifCond .ne 5, 3) := dk_154 0 5 (dk_at dksX0_dragged_1 3 rfl rfl)
theorem dX0_dragged_28 : decode cX0_dragged 28 = .ok (.iconst (-1), 1) := dk_2 (dk_at dksX0_dragged_1 6 rfl rfl)
theorem dX0_dragged_29 : decode cX0_dragged 29 = .ok (.ireturn, 1) := dk_172 (dk_at dksX0_dragged_1 7 rfl rfl)
theorem dX0_dragged_30 : decode cX0_dragged 30 = .ok (.aload_n 0, 1) := dk_42 (dk_at dksX0_dragged_1 8 rfl rfl)
theorem dX0_dragged_31 : decode cX0_dragged 31 = .ok (.invokevirtual 38, 3) := dk_182 0 38 (dk_at dksX0_dragged_1 9 rfl rfl)
theorem dX0_dragged_34 : decode cX0_dragged 34 = .ok (.iconst 0, 1) := dk_3 (dk_at dksX0_dragged_1 12 rfl rfl)
theorem dX0_dragged_35 : decode cX0_dragged 35 = .ok (.istore 4, 2) := dk_54 4 (dk_at dksX0_dragged_1 13 rfl rfl)
theorem dX0_dragged_37 : decode cX0_dragged 37 = .ok (.bipush (-4), 2) := dk_16 252 (dk_at dksX0_dragged_1 15 rfl rfl)
theorem dX0_dragged_39 : decode cX0_dragged 39 = .ok (.istore 5, 2) := dk_54 5 (dk_at dksX0_dragged_1 17 rfl rfl)
theorem dX0_dragged_41 : decode cX0_dragged 41 = .ok (.bipush (-4), 2) := dk_16 252 (dk_at dksX0_dragged_1 19 rfl rfl)
theorem dX0_dragged_43 : decode cX0_dragged 43 = .ok (.istore 6, 2) := dk_54 6 (dk_at dksX0_dragged_1 21 rfl rfl)
theorem dX0_dragged_45 : decode cX0_dragged 45 = .ok (.iconst 0, 1) := dk_3 (dk_at dksX0_dragged_1 23 rfl rfl)
theorem dX0_dragged_46 : decode cX0_dragged 46 = .ok (.istore 7, 2) := dk_54 7 (dk_at dksX0_dragged_2 0 rfl rfl)
theorem dX0_dragged_48 : decode cX0_dragged 48 = .ok (.iload 7, 2) := dk_21 7 (dk_at dksX0_dragged_2 2 rfl rfl)
theorem dX0_dragged_50 : decode cX0_dragged 50 = .ok (.aload_n 0, 1) := dk_42 (dk_at dksX0_dragged_2 4 rfl rfl)
theorem dX0_dragged_51 : decode cX0_dragged 51 = .ok (.getfield 61, 3) := dk_180 0 61 (dk_at dksX0_dragged_2 5 rfl rfl)
theorem dX0_dragged_54 : decode cX0_dragged 54 = .ok (.iload_n 2, 1) := dk_28 (dk_at dksX0_dragged_2 8 rfl rfl)
theorem dX0_dragged_55 : decode cX0_dragged 55 = .ok (.aaload, 1) := dk_50 (dk_at dksX0_dragged_2 9 rfl rfl)
theorem dX0_dragged_56 : decode cX0_dragged 56 = .ok (.invokevirtual 67, 3) := dk_182 0 67 (dk_at dksX0_dragged_2 10 rfl rfl)
theorem dX0_dragged_59 : decode cX0_dragged 59 = .ok (.if_icmp .ge 57, 3) := dk_162 0 57 (dk_at dksX0_dragged_2 13 rfl rfl)
theorem dX0_dragged_62 : decode cX0_dragged 62 = .ok (.aload_n 0, 1) := dk_42 (dk_at dksX0_dragged_2 16 rfl rfl)
theorem dX0_dragged_63 : decode cX0_dragged 63 = .ok (.invokevirtual 242, 3) := dk_182 0 242 (dk_at dksX0_dragged_2 17 rfl rfl)
theorem dX0_dragged_66 : decode cX0_dragged 66 = .ok (.aload_n 0, 1) := dk_42 (dk_at dksX0_dragged_2 20 rfl rfl)
theorem dX0_dragged_67 : decode cX0_dragged 67 = .ok (.aload_n 0, 1) := dk_42 (dk_at dksX0_dragged_2 21 rfl rfl)
theorem dX0_dragged_68 : decode cX0_dragged 68 = .ok (.getfield 219, 3) := dk_180 0 219 (dk_at dksX0_dragged_3 0 rfl rfl)
theorem dX0_dragged_71 : decode cX0_dragged 71 = .ok (.iload_n 1, 1) := dk_27 (dk_at dksX0_dragged_3 3 rfl rfl)
theorem dX0_dragged_72 : decode cX0_dragged 72 = .ok (.aaload, 1) := dk_50 (dk_at dksX0_dragged_3 4 rfl rfl)
theorem dX0_dragged_73 : decode cX0_dragged 73 = .ok (.aload_n 0, 1) := dk_42 (dk_at dksX0_dragged_3 5 rfl rfl)
theorem dX0_dragged_74 : decode cX0_dragged 74 = .ok (.getfield 61, 3) := dk_180 0 61 (dk_at dksX0_dragged_3 6 rfl rfl)
theorem dX0_dragged_77 : decode cX0_dragged 77 = .ok (.iload_n 2, 1) := dk_28 (dk_at dksX0_dragged_3 9 rfl rfl)
theorem dX0_dragged_78 : decode cX0_dragged 78 = .ok (.aaload, 1) := dk_50 (dk_at dksX0_dragged_3 10 rfl rfl)
theorem dX0_dragged_79 : decode cX0_dragged 79 = .ok (.iload 7, 2) := dk_21 7 (dk_at dksX0_dragged_3 11 rfl rfl)
theorem dX0_dragged_81 : decode cX0_dragged 81 = .ok (.invokevirtual 245, 3) := dk_182 0 245 (dk_at dksX0_dragged_3 13 rfl rfl)
theorem dX0_dragged_84 : decode cX0_dragged 84 = .ok (.ifCond .eq 26, 3) := dk_153 0 26 (dk_at dksX0_dragged_3 16 rfl rfl)
theorem dX0_dragged_87 : decode cX0_dragged 87 = .ok (.iinc 4 1, 3) := dk_132 4 1 (dk_at dksX0_dragged_3 19 rfl rfl)
theorem dX0_dragged_90 : decode cX0_dragged 90 = .ok (.iload 5, 2) := dk_21 5 (dk_at dksX0_dragged_3 22 rfl rfl)
theorem dX0_dragged_92 : decode cX0_dragged 92 = .ok (.bipush (-4), 2) := dk_16 252 (dk_at dksX0_dragged_4 0 rfl rfl)
theorem dX0_dragged_94 : decode cX0_dragged 94 = .ok (.if_icmp .ne 8, 3) := dk_160 0 8 (dk_at dksX0_dragged_4 2 rfl rfl)
theorem dX0_dragged_97 : decode cX0_dragged 97 = .ok (.iload 7, 2) := dk_21 7 (dk_at dksX0_dragged_4 5 rfl rfl)
theorem dX0_dragged_99 : decode cX0_dragged 99 = .ok (.goto 5, 3) := dk_167 0 5 (dk_at dksX0_dragged_4 7 rfl rfl)
theorem dX0_dragged_102 : decode cX0_dragged 102 = .ok (.iload 5, 2) := dk_21 5 (dk_at dksX0_dragged_4 10 rfl rfl)
theorem dX0_dragged_104 : decode cX0_dragged 104 = .ok (.istore 5, 2) := dk_54 5 (dk_at dksX0_dragged_4 12 rfl rfl)
theorem dX0_dragged_106 : decode cX0_dragged 106 = .ok (.iload 7, 2) := dk_21 7 (dk_at dksX0_dragged_4 14 rfl rfl)
theorem dX0_dragged_108 : decode cX0_dragged 108 = .ok (.istore 6, 2) := dk_54 6 (dk_at dksX0_dragged_4 16 rfl rfl)
theorem dX0_dragged_110 : decode cX0_dragged 110 = .ok (.iinc 7 1, 3) := dk_132 7 1 (dk_at dksX0_dragged_4 18 rfl rfl)
theorem dX0_dragged_113 : decode cX0_dragged 113 = .ok (.goto (-65), 3) := dk_167 255 191 (dk_at dksX0_dragged_4 21 rfl rfl)
theorem dX0_dragged_116 : decode cX0_dragged 116 = .ok (.iload_n 3, 1) := dk_29 (dk_at dksX0_dragged_5 0 rfl rfl)
theorem dX0_dragged_117 : decode cX0_dragged 117 = .ok (.ifCond .ne 8, 3) := dk_154 0 8 (dk_at dksX0_dragged_5 1 rfl rfl)
theorem dX0_dragged_120 : decode cX0_dragged 120 = .ok (.iload 4, 2) := dk_21 4 (dk_at dksX0_dragged_5 4 rfl rfl)
theorem dX0_dragged_122 : decode cX0_dragged 122 = .ok (.goto 15, 3) := dk_167 0 15 (dk_at dksX0_dragged_5 6 rfl rfl)
theorem dX0_dragged_125 : decode cX0_dragged 125 = .ok (.iload_n 3, 1) := dk_29 (dk_at dksX0_dragged_5 9 rfl rfl)
theorem dX0_dragged_126 : decode cX0_dragged 126 = .ok (.iconst 1, 1) := dk_4 (dk_at dksX0_dragged_5 10 rfl rfl)
theorem dX0_dragged_127 : decode cX0_dragged 127 = .ok (.if_icmp .ne 8, 3) := dk_160 0 8 (dk_at dksX0_dragged_5 11 rfl rfl)
theorem dX0_dragged_130 : decode cX0_dragged 130 = .ok (.iload 5, 2) := dk_21 5 (dk_at dksX0_dragged_5 14 rfl rfl)
theorem dX0_dragged_132 : decode cX0_dragged 132 = .ok (.goto 5, 3) := dk_167 0 5 (dk_at dksX0_dragged_5 16 rfl rfl)
theorem dX0_dragged_135 : decode cX0_dragged 135 = .ok (.iload 6, 2) := dk_21 6 (dk_at dksX0_dragged_5 19 rfl rfl)
theorem dX0_dragged_137 : decode cX0_dragged 137 = .ok (.ireturn, 1) := dk_172 (dk_at dksX0_dragged_5 21 rfl rfl)
abbrev cX0_isName : ByteArray := prog_1_method_42_code
def yX0_isName : MethodName := ⟨RX0, "isName", "(I)Z"⟩
def dkwX0_isName_0 : List UInt8 := [27, 133, 9, 42, 180, 0, 216, 4, 100, 133, 184, 0, 5, 172]
abbrev dktX0_isName_0 : List UInt8 := dkwX0_isName_0 ++ []
theorem dksX0_isName_0 : cX0_isName.data.toList.drop 0 = dktX0_isName_0 := by decide +kernel
theorem dX0_isName_0 : decode cX0_isName 0 = .ok (.iload_n 1, 1) := dk_27 (dk_at dksX0_isName_0 0 rfl rfl)
theorem dX0_isName_1 : decode cX0_isName 1 = .ok (.i2l, 1) := dk_133 (dk_at dksX0_isName_0 1 rfl rfl)
theorem dX0_isName_2 : decode cX0_isName 2 = .ok (.lconst 0, 1) := dk_9 (dk_at dksX0_isName_0 2 rfl rfl)
theorem dX0_isName_3 : decode cX0_isName 3 = .ok (.aload_n 0, 1) := dk_42 (dk_at dksX0_isName_0 3 rfl rfl)
theorem dX0_isName_4 : decode cX0_isName 4 = .ok (.getfield 216, 3) := dk_180 0 216 (dk_at dksX0_isName_0 4 rfl rfl)
theorem dX0_isName_7 : decode cX0_isName 7 = .ok (.iconst 1, 1) := dk_4 (dk_at dksX0_isName_0 7 rfl rfl)
theorem dX0_isName_8 : decode cX0_isName 8 = .ok (.isub, 1) := dk_100 (dk_at dksX0_isName_0 8 rfl rfl)
theorem dX0_isName_9 : decode cX0_isName 9 = .ok (.i2l, 1) := dk_133 (dk_at dksX0_isName_0 9 rfl rfl)
theorem dX0_isName_10 : decode cX0_isName 10 = .ok (.invokestatic 5, 3) := dk_184 0 5 (dk_at dksX0_isName_0 10 rfl rfl)
theorem dX0_isName_13 : decode cX0_isName 13 = .ok (.ireturn, 1) := dk_172 (dk_at dksX0_isName_0 13 rfl rfl)
abbrev cX0_clear : ByteArray := prog_1_method_40_code
def yX0_clear : MethodName := ⟨RX0, "clear", "()V"⟩
def dkwX0_clear_0 : List UInt8 := [42, 180, 0, 229, 16, 252, 184, 0, 104, 42, 180, 0, 232, 16, 252, 184, 0, 104, 177]
abbrev dktX0_clear_0 : List UInt8 := dkwX0_clear_0 ++ []
theorem dksX0_clear_0 : cX0_clear.data.toList.drop 0 = dktX0_clear_0 := by decide +kernel
theorem dX0_clear_0 : decode cX0_clear 0 = .ok (.aload_n 0, 1) := dk_42 (dk_at dksX0_clear_0 0 rfl rfl)
theorem dX0_clear_1 : decode cX0_clear 1 = .ok (.getfield 229, 3) := dk_180 0 229 (dk_at dksX0_clear_0 1 rfl rfl)
theorem dX0_clear_4 : decode cX0_clear 4 = .ok (.bipush (-4), 2) := dk_16 252 (dk_at dksX0_clear_0 4 rfl rfl)
theorem dX0_clear_6 : decode cX0_clear 6 = .ok (.invokestatic 104, 3) := dk_184 0 104 (dk_at dksX0_clear_0 6 rfl rfl)
theorem dX0_clear_9 : decode cX0_clear 9 = .ok (.aload_n 0, 1) := dk_42 (dk_at dksX0_clear_0 9 rfl rfl)
theorem dX0_clear_10 : decode cX0_clear 10 = .ok (.getfield 232, 3) := dk_180 0 232 (dk_at dksX0_clear_0 10 rfl rfl)
theorem dX0_clear_13 : decode cX0_clear 13 = .ok (.bipush (-4), 2) := dk_16 252 (dk_at dksX0_clear_0 13 rfl rfl)
theorem dX0_clear_15 : decode cX0_clear 15 = .ok (.invokestatic 104, 3) := dk_184 0 104 (dk_at dksX0_clear_0 15 rfl rfl)
theorem dX0_clear_18 : decode cX0_clear 18 = .ok (.return_, 1) := dk_177 (dk_at dksX0_clear_0 18 rfl rfl)
abbrev cX0_places : ByteArray := prog_1_method_41_code
def yX0_places : MethodName := ⟨RX0, "places", "(LUnreadScript$Name;LUnreadScript$Text;I)Z"⟩
def dkwX0_places_6 : List UInt8 := [132, 5, 1, 167, 255, 136, 21, 4, 172]
abbrev dktX0_places_6 : List UInt8 := dkwX0_places_6 ++ []
def dkwX0_places_5 : List UInt8 := [21, 4, 153, 0, 21, 42, 180, 0, 229, 21, 7, 21, 6, 79, 42, 180, 0, 232, 21, 6, 21, 7, 79]
abbrev dktX0_places_5 : List UInt8 := dkwX0_places_5 ++ dktX0_places_6
def dkwX0_places_4 : List UInt8 := [16, 252, 159, 0, 15, 42, 180, 0, 232, 21, 6, 46, 21, 7, 160, 0, 7, 4, 167, 0, 4, 3, 54, 4]
abbrev dktX0_places_4 : List UInt8 := dkwX0_places_4 ++ dktX0_places_5
def dkwX0_places_3 : List UInt8 := [16, 252, 159, 0, 15, 42, 180, 0, 229, 21, 7, 46, 21, 6, 160, 0, 31, 42, 180, 0, 232, 21, 6, 46]
abbrev dktX0_places_3 : List UInt8 := dkwX0_places_3 ++ dktX0_places_4
def dkwX0_places_2 : List UInt8 := [54, 6, 43, 180, 0, 236, 21, 5, 46, 54, 7, 21, 6, 155, 0, 55, 42, 180, 0, 229, 21, 7, 46]
abbrev dktX0_places_2 : List UInt8 := dkwX0_places_2 ++ dktX0_places_3
def dkwX0_places_1 : List UInt8 := [21, 5, 43, 182, 0, 235, 162, 0, 117, 21, 4, 153, 0, 112, 42, 44, 29, 21, 5, 96, 182, 0, 71]
abbrev dktX0_places_1 : List UInt8 := dkwX0_places_1 ++ dktX0_places_2
def dkwX0_places_0 : List UInt8 := [29, 43, 182, 0, 235, 96, 44, 182, 0, 67, 163, 0, 7, 4, 167, 0, 4, 3, 54, 4, 3, 54, 5]
abbrev dktX0_places_0 : List UInt8 := dkwX0_places_0 ++ dktX0_places_1
theorem dksX0_places_0 : cX0_places.data.toList.drop 0 = dktX0_places_0 := by decide +kernel
theorem dksX0_places_1 : cX0_places.data.toList.drop 23 = dktX0_places_1 := dk_seg dksX0_places_0 23 rfl rfl
theorem dksX0_places_2 : cX0_places.data.toList.drop 46 = dktX0_places_2 := dk_seg dksX0_places_1 23 rfl rfl
theorem dksX0_places_3 : cX0_places.data.toList.drop 69 = dktX0_places_3 := dk_seg dksX0_places_2 23 rfl rfl
theorem dksX0_places_4 : cX0_places.data.toList.drop 93 = dktX0_places_4 := dk_seg dksX0_places_3 24 rfl rfl
theorem dksX0_places_5 : cX0_places.data.toList.drop 117 = dktX0_places_5 := dk_seg dksX0_places_4 24 rfl rfl
theorem dksX0_places_6 : cX0_places.data.toList.drop 140 = dktX0_places_6 := dk_seg dksX0_places_5 23 rfl rfl
theorem dX0_places_0 : decode cX0_places 0 = .ok (.iload_n 3, 1) := dk_29 (dk_at dksX0_places_0 0 rfl rfl)
theorem dX0_places_1 : decode cX0_places 1 = .ok (.aload_n 1, 1) := dk_43 (dk_at dksX0_places_0 1 rfl rfl)
theorem dX0_places_2 : decode cX0_places 2 = .ok (.invokevirtual 235, 3) := dk_182 0 235 (dk_at dksX0_places_0 2 rfl rfl)
theorem dX0_places_5 : decode cX0_places 5 = .ok (.iadd, 1) := dk_96 (dk_at dksX0_places_0 5 rfl rfl)
theorem dX0_places_6 : decode cX0_places 6 = .ok (.aload_n 2, 1) := dk_44 (dk_at dksX0_places_0 6 rfl rfl)
theorem dX0_places_7 : decode cX0_places 7 = .ok (.invokevirtual 67, 3) := dk_182 0 67 (dk_at dksX0_places_0 7 rfl rfl)
theorem dX0_places_10 : decode cX0_places 10 = .ok (.if_icmp .gt 7, 3) := dk_163 0 7 (dk_at dksX0_places_0 10 rfl rfl)
theorem dX0_places_13 : decode cX0_places 13 = .ok (.iconst 1, 1) := dk_4 (dk_at dksX0_places_0 13 rfl rfl)
theorem dX0_places_14 : decode cX0_places 14 = .ok (.goto 4, 3) := dk_167 0 4 (dk_at dksX0_places_0 14 rfl rfl)
theorem dX0_places_17 : decode cX0_places 17 = .ok (.iconst 0, 1) := dk_3 (dk_at dksX0_places_0 17 rfl rfl)
theorem dX0_places_18 : decode cX0_places 18 = .ok (.istore 4, 2) := dk_54 4 (dk_at dksX0_places_0 18 rfl rfl)
theorem dX0_places_20 : decode cX0_places 20 = .ok (.iconst 0, 1) := dk_3 (dk_at dksX0_places_0 20 rfl rfl)
theorem dX0_places_21 : decode cX0_places 21 = .ok (.istore 5, 2) := dk_54 5 (dk_at dksX0_places_0 21 rfl rfl)
theorem dX0_places_23 : decode cX0_places 23 = .ok (.iload 5, 2) := dk_21 5 (dk_at dksX0_places_1 0 rfl rfl)
theorem dX0_places_25 : decode cX0_places 25 = .ok (.aload_n 1, 1) := dk_43 (dk_at dksX0_places_1 2 rfl rfl)
theorem dX0_places_26 : decode cX0_places 26 = .ok (.invokevirtual 235, 3) := dk_182 0 235 (dk_at dksX0_places_1 3 rfl rfl)
theorem dX0_places_29 : decode cX0_places 29 = .ok (.if_icmp .ge 117, 3) := dk_162 0 117 (dk_at dksX0_places_1 6 rfl rfl)
theorem dX0_places_32 : decode cX0_places 32 = .ok (.iload 4, 2) := dk_21 4 (dk_at dksX0_places_1 9 rfl rfl)
theorem dX0_places_34 : decode cX0_places 34 = .ok (.ifCond .eq 112, 3) := dk_153 0 112 (dk_at dksX0_places_1 11 rfl rfl)
theorem dX0_places_37 : decode cX0_places 37 = .ok (.aload_n 0, 1) := dk_42 (dk_at dksX0_places_1 14 rfl rfl)
theorem dX0_places_38 : decode cX0_places 38 = .ok (.aload_n 2, 1) := dk_44 (dk_at dksX0_places_1 15 rfl rfl)
theorem dX0_places_39 : decode cX0_places 39 = .ok (.iload_n 3, 1) := dk_29 (dk_at dksX0_places_1 16 rfl rfl)
theorem dX0_places_40 : decode cX0_places 40 = .ok (.iload 5, 2) := dk_21 5 (dk_at dksX0_places_1 17 rfl rfl)
theorem dX0_places_42 : decode cX0_places 42 = .ok (.iadd, 1) := dk_96 (dk_at dksX0_places_1 19 rfl rfl)
theorem dX0_places_43 : decode cX0_places 43 = .ok (.invokevirtual 71, 3) := dk_182 0 71 (dk_at dksX0_places_1 20 rfl rfl)
theorem dX0_places_46 : decode cX0_places 46 = .ok (.istore 6, 2) := dk_54 6 (dk_at dksX0_places_2 0 rfl rfl)
theorem dX0_places_48 : decode cX0_places 48 = .ok (.aload_n 1, 1) := dk_43 (dk_at dksX0_places_2 2 rfl rfl)
theorem dX0_places_49 : decode cX0_places 49 = .ok (.getfield 236, 3) := dk_180 0 236 (dk_at dksX0_places_2 3 rfl rfl)
theorem dX0_places_52 : decode cX0_places 52 = .ok (.iload 5, 2) := dk_21 5 (dk_at dksX0_places_2 6 rfl rfl)
theorem dX0_places_54 : decode cX0_places 54 = .ok (.iaload, 1) := dk_46 (dk_at dksX0_places_2 8 rfl rfl)
theorem dX0_places_55 : decode cX0_places 55 = .ok (.istore 7, 2) := dk_54 7 (dk_at dksX0_places_2 9 rfl rfl)
theorem dX0_places_57 : decode cX0_places 57 = .ok (.iload 6, 2) := dk_21 6 (dk_at dksX0_places_2 11 rfl rfl)
theorem dX0_places_59 : decode cX0_places 59 = .ok (.ifCond .lt 55, 3) := dk_155 0 55 (dk_at dksX0_places_2 13 rfl rfl)
theorem dX0_places_62 : decode cX0_places 62 = .ok (.aload_n 0, 1) := dk_42 (dk_at dksX0_places_2 16 rfl rfl)
theorem dX0_places_63 : decode cX0_places 63 = .ok (.getfield 229, 3) := dk_180 0 229 (dk_at dksX0_places_2 17 rfl rfl)
theorem dX0_places_66 : decode cX0_places 66 = .ok (.iload 7, 2) := dk_21 7 (dk_at dksX0_places_2 20 rfl rfl)
theorem dX0_places_68 : decode cX0_places 68 = .ok (.iaload, 1) := dk_46 (dk_at dksX0_places_2 22 rfl rfl)
theorem dX0_places_69 : decode cX0_places 69 = .ok (.bipush (-4), 2) := dk_16 252 (dk_at dksX0_places_3 0 rfl rfl)
theorem dX0_places_71 : decode cX0_places 71 = .ok (.if_icmp .eq 15, 3) := dk_159 0 15 (dk_at dksX0_places_3 2 rfl rfl)
theorem dX0_places_74 : decode cX0_places 74 = .ok (.aload_n 0, 1) := dk_42 (dk_at dksX0_places_3 5 rfl rfl)
theorem dX0_places_75 : decode cX0_places 75 = .ok (.getfield 229, 3) := dk_180 0 229 (dk_at dksX0_places_3 6 rfl rfl)
theorem dX0_places_78 : decode cX0_places 78 = .ok (.iload 7, 2) := dk_21 7 (dk_at dksX0_places_3 9 rfl rfl)
theorem dX0_places_80 : decode cX0_places 80 = .ok (.iaload, 1) := dk_46 (dk_at dksX0_places_3 11 rfl rfl)
theorem dX0_places_81 : decode cX0_places 81 = .ok (.iload 6, 2) := dk_21 6 (dk_at dksX0_places_3 12 rfl rfl)
theorem dX0_places_83 : decode cX0_places 83 = .ok (.if_icmp .ne 31, 3) := dk_160 0 31 (dk_at dksX0_places_3 14 rfl rfl)
theorem dX0_places_86 : decode cX0_places 86 = .ok (.aload_n 0, 1) := dk_42 (dk_at dksX0_places_3 17 rfl rfl)
theorem dX0_places_87 : decode cX0_places 87 = .ok (.getfield 232, 3) := dk_180 0 232 (dk_at dksX0_places_3 18 rfl rfl)
theorem dX0_places_90 : decode cX0_places 90 = .ok (.iload 6, 2) := dk_21 6 (dk_at dksX0_places_3 21 rfl rfl)
theorem dX0_places_92 : decode cX0_places 92 = .ok (.iaload, 1) := dk_46 (dk_at dksX0_places_3 23 rfl rfl)
theorem dX0_places_93 : decode cX0_places 93 = .ok (.bipush (-4), 2) := dk_16 252 (dk_at dksX0_places_4 0 rfl rfl)
theorem dX0_places_95 : decode cX0_places 95 = .ok (.if_icmp .eq 15, 3) := dk_159 0 15 (dk_at dksX0_places_4 2 rfl rfl)
theorem dX0_places_98 : decode cX0_places 98 = .ok (.aload_n 0, 1) := dk_42 (dk_at dksX0_places_4 5 rfl rfl)
theorem dX0_places_99 : decode cX0_places 99 = .ok (.getfield 232, 3) := dk_180 0 232 (dk_at dksX0_places_4 6 rfl rfl)
theorem dX0_places_102 : decode cX0_places 102 = .ok (.iload 6, 2) := dk_21 6 (dk_at dksX0_places_4 9 rfl rfl)
theorem dX0_places_104 : decode cX0_places 104 = .ok (.iaload, 1) := dk_46 (dk_at dksX0_places_4 11 rfl rfl)
theorem dX0_places_105 : decode cX0_places 105 = .ok (.iload 7, 2) := dk_21 7 (dk_at dksX0_places_4 12 rfl rfl)
theorem dX0_places_107 : decode cX0_places 107 = .ok (.if_icmp .ne 7, 3) := dk_160 0 7 (dk_at dksX0_places_4 14 rfl rfl)
theorem dX0_places_110 : decode cX0_places 110 = .ok (.iconst 1, 1) := dk_4 (dk_at dksX0_places_4 17 rfl rfl)
theorem dX0_places_111 : decode cX0_places 111 = .ok (.goto 4, 3) := dk_167 0 4 (dk_at dksX0_places_4 18 rfl rfl)
theorem dX0_places_114 : decode cX0_places 114 = .ok (.iconst 0, 1) := dk_3 (dk_at dksX0_places_4 21 rfl rfl)
theorem dX0_places_115 : decode cX0_places 115 = .ok (.istore 4, 2) := dk_54 4 (dk_at dksX0_places_4 22 rfl rfl)
theorem dX0_places_117 : decode cX0_places 117 = .ok (.iload 4, 2) := dk_21 4 (dk_at dksX0_places_5 0 rfl rfl)
theorem dX0_places_119 : decode cX0_places 119 = .ok (.ifCond .eq 21, 3) := dk_153 0 21 (dk_at dksX0_places_5 2 rfl rfl)
theorem dX0_places_122 : decode cX0_places 122 = .ok (.aload_n 0, 1) := dk_42 (dk_at dksX0_places_5 5 rfl rfl)
theorem dX0_places_123 : decode cX0_places 123 = .ok (.getfield 229, 3) := dk_180 0 229 (dk_at dksX0_places_5 6 rfl rfl)
theorem dX0_places_126 : decode cX0_places 126 = .ok (.iload 7, 2) := dk_21 7 (dk_at dksX0_places_5 9 rfl rfl)
theorem dX0_places_128 : decode cX0_places 128 = .ok (.iload 6, 2) := dk_21 6 (dk_at dksX0_places_5 11 rfl rfl)
theorem dX0_places_130 : decode cX0_places 130 = .ok (.iastore, 1) := dk_79 (dk_at dksX0_places_5 13 rfl rfl)
theorem dX0_places_131 : decode cX0_places 131 = .ok (.aload_n 0, 1) := dk_42 (dk_at dksX0_places_5 14 rfl rfl)
theorem dX0_places_132 : decode cX0_places 132 = .ok (.getfield 232, 3) := dk_180 0 232 (dk_at dksX0_places_5 15 rfl rfl)
theorem dX0_places_135 : decode cX0_places 135 = .ok (.iload 6, 2) := dk_21 6 (dk_at dksX0_places_5 18 rfl rfl)
theorem dX0_places_137 : decode cX0_places 137 = .ok (.iload 7, 2) := dk_21 7 (dk_at dksX0_places_5 20 rfl rfl)
theorem dX0_places_139 : decode cX0_places 139 = .ok (.iastore, 1) := dk_79 (dk_at dksX0_places_5 22 rfl rfl)
theorem dX0_places_140 : decode cX0_places 140 = .ok (.iinc 5 1, 3) := dk_132 5 1 (dk_at dksX0_places_6 0 rfl rfl)
theorem dX0_places_143 : decode cX0_places 143 = .ok (.goto (-120), 3) := dk_167 255 136 (dk_at dksX0_places_6 3 rfl rfl)
theorem dX0_places_146 : decode cX0_places 146 = .ok (.iload 4, 2) := dk_21 4 (dk_at dksX0_places_6 6 rfl rfl)
theorem dX0_places_148 : decode cX0_places 148 = .ok (.ireturn, 1) := dk_172 (dk_at dksX0_places_6 8 rfl rfl)
abbrev cX0_together : ByteArray := prog_1_method_44_code
def yX0_together : MethodName := ⟨RX0, "together", "(IIII)I"⟩
def dkwX0_together_6 : List UInt8 := [132, 6, 1, 167, 255, 158, 21, 5, 172]
abbrev dktX0_together_6 : List UInt8 := dkwX0_together_6 ++ []
def dkwX0_together_5 : List UInt8 := [21, 7, 182, 0, 245, 153, 0, 7, 4, 167, 0, 4, 3, 96, 54, 5, 132, 7, 1, 167, 255, 181]
abbrev dktX0_together_5 : List UInt8 := dkwX0_together_5 ++ dktX0_together_6
def dkwX0_together_4 : List UInt8 := [50, 21, 6, 182, 0, 245, 153, 0, 29, 42, 42, 180, 0, 219, 29, 50, 42, 180, 0, 61, 21, 4, 50]
abbrev dktX0_together_4 : List UInt8 := dkwX0_together_4 ++ dktX0_together_5
def dkwX0_together_3 : List UInt8 := [182, 0, 67, 162, 0, 66, 42, 182, 0, 242, 21, 5, 42, 42, 180, 0, 219, 27, 50, 42, 180, 0, 61, 28]
abbrev dktX0_together_3 : List UInt8 := dkwX0_together_3 ++ dktX0_together_4
def dkwX0_together_2 : List UInt8 := [180, 0, 61, 28, 50, 182, 0, 67, 162, 0, 90, 3, 54, 7, 21, 7, 42, 180, 0, 61, 21, 4, 50]
abbrev dktX0_together_2 : List UInt8 := dkwX0_together_2 ++ dktX0_together_3
def dkwX0_together_1 : List UInt8 := [42, 21, 4, 182, 0, 58, 154, 0, 5, 2, 172, 42, 182, 0, 38, 3, 54, 5, 3, 54, 6, 21, 6, 42]
abbrev dktX0_together_1 : List UInt8 := dkwX0_together_1 ++ dktX0_together_2
def dkwX0_together_0 : List UInt8 := [42, 27, 182, 0, 239, 153, 0, 28, 42, 28, 182, 0, 58, 153, 0, 20, 42, 29, 182, 0, 239, 153, 0, 12]
abbrev dktX0_together_0 : List UInt8 := dkwX0_together_0 ++ dktX0_together_1
theorem dksX0_together_0 : cX0_together.data.toList.drop 0 = dktX0_together_0 := by decide +kernel
theorem dksX0_together_1 : cX0_together.data.toList.drop 24 = dktX0_together_1 := dk_seg dksX0_together_0 24 rfl rfl
theorem dksX0_together_2 : cX0_together.data.toList.drop 48 = dktX0_together_2 := dk_seg dksX0_together_1 24 rfl rfl
theorem dksX0_together_3 : cX0_together.data.toList.drop 71 = dktX0_together_3 := dk_seg dksX0_together_2 23 rfl rfl
theorem dksX0_together_4 : cX0_together.data.toList.drop 95 = dktX0_together_4 := dk_seg dksX0_together_3 24 rfl rfl
theorem dksX0_together_5 : cX0_together.data.toList.drop 118 = dktX0_together_5 := dk_seg dksX0_together_4 23 rfl rfl
theorem dksX0_together_6 : cX0_together.data.toList.drop 140 = dktX0_together_6 := dk_seg dksX0_together_5 22 rfl rfl
theorem dX0_together_0 : decode cX0_together 0 = .ok (.aload_n 0, 1) := dk_42 (dk_at dksX0_together_0 0 rfl rfl)
theorem dX0_together_1 : decode cX0_together 1 = .ok (.iload_n 1, 1) := dk_27 (dk_at dksX0_together_0 1 rfl rfl)
theorem dX0_together_2 : decode cX0_together 2 = .ok (.invokevirtual 239, 3) := dk_182 0 239 (dk_at dksX0_together_0 2 rfl rfl)
theorem dX0_together_5 : decode cX0_together 5 = .ok (.ifCond .eq 28, 3) := dk_153 0 28 (dk_at dksX0_together_0 5 rfl rfl)
theorem dX0_together_8 : decode cX0_together 8 = .ok (.aload_n 0, 1) := dk_42 (dk_at dksX0_together_0 8 rfl rfl)
theorem dX0_together_9 : decode cX0_together 9 = .ok (.iload_n 2, 1) := dk_28 (dk_at dksX0_together_0 9 rfl rfl)
theorem dX0_together_10 : decode cX0_together 10 = .ok (.invokevirtual 58, 3) := dk_182 0 58 (dk_at dksX0_together_0 10 rfl rfl)
theorem dX0_together_13 : decode cX0_together 13 = .ok (.ifCond .eq 20, 3) := dk_153 0 20 (dk_at dksX0_together_0 13 rfl rfl)
theorem dX0_together_16 : decode cX0_together 16 = .ok (.aload_n 0, 1) := dk_42 (dk_at dksX0_together_0 16 rfl rfl)
theorem dX0_together_17 : decode cX0_together 17 = .ok (.iload_n 3, 1) := dk_29 (dk_at dksX0_together_0 17 rfl rfl)
theorem dX0_together_18 : decode cX0_together 18 = .ok (.invokevirtual 239, 3) := dk_182 0 239 (dk_at dksX0_together_0 18 rfl rfl)
theorem dX0_together_21 : decode cX0_together 21 = .ok (.ifCond .eq 12, 3) := dk_153 0 12 (dk_at dksX0_together_0 21 rfl rfl)
theorem dX0_together_24 : decode cX0_together 24 = .ok (.aload_n 0, 1) := dk_42 (dk_at dksX0_together_1 0 rfl rfl)
theorem dX0_together_25 : decode cX0_together 25 = .ok (.iload 4, 2) := dk_21 4 (dk_at dksX0_together_1 1 rfl rfl)
theorem dX0_together_27 : decode cX0_together 27 = .ok (.invokevirtual 58, 3) := dk_182 0 58 (dk_at dksX0_together_1 3 rfl rfl)
theorem dX0_together_30 : decode cX0_together 30 = .ok (.ifCond .ne 5, 3) := dk_154 0 5 (dk_at dksX0_together_1 6 rfl rfl)
theorem dX0_together_33 : decode cX0_together 33 = .ok (.iconst (-1), 1) := dk_2 (dk_at dksX0_together_1 9 rfl rfl)
theorem dX0_together_34 : decode cX0_together 34 = .ok (.ireturn, 1) := dk_172 (dk_at dksX0_together_1 10 rfl rfl)
theorem dX0_together_35 : decode cX0_together 35 = .ok (.aload_n 0, 1) := dk_42 (dk_at dksX0_together_1 11 rfl rfl)
theorem dX0_together_36 : decode cX0_together 36 = .ok (.invokevirtual 38, 3) := dk_182 0 38 (dk_at dksX0_together_1 12 rfl rfl)
theorem dX0_together_39 : decode cX0_together 39 = .ok (.iconst 0, 1) := dk_3 (dk_at dksX0_together_1 15 rfl rfl)
theorem dX0_together_40 : decode cX0_together 40 = .ok (.istore 5, 2) := dk_54 5 (dk_at dksX0_together_1 16 rfl rfl)
theorem dX0_together_42 : decode cX0_together 42 = .ok (.iconst 0, 1) := dk_3 (dk_at dksX0_together_1 18 rfl rfl)
theorem dX0_together_43 : decode cX0_together 43 = .ok (.istore 6, 2) := dk_54 6 (dk_at dksX0_together_1 19 rfl rfl)
theorem dX0_together_45 : decode cX0_together 45 = .ok (.iload 6, 2) := dk_21 6 (dk_at dksX0_together_1 21 rfl rfl)
theorem dX0_together_47 : decode cX0_together 47 = .ok (.aload_n 0, 1) := dk_42 (dk_at dksX0_together_1 23 rfl rfl)
theorem dX0_together_48 : decode cX0_together 48 = .ok (.getfield 61, 3) := dk_180 0 61 (dk_at dksX0_together_2 0 rfl rfl)
theorem dX0_together_51 : decode cX0_together 51 = .ok (.iload_n 2, 1) := dk_28 (dk_at dksX0_together_2 3 rfl rfl)
theorem dX0_together_52 : decode cX0_together 52 = .ok (.aaload, 1) := dk_50 (dk_at dksX0_together_2 4 rfl rfl)
theorem dX0_together_53 : decode cX0_together 53 = .ok (.invokevirtual 67, 3) := dk_182 0 67 (dk_at dksX0_together_2 5 rfl rfl)
theorem dX0_together_56 : decode cX0_together 56 = .ok (.if_icmp .ge 90, 3) := dk_162 0 90 (dk_at dksX0_together_2 8 rfl rfl)
theorem dX0_together_59 : decode cX0_together 59 = .ok (.iconst 0, 1) := dk_3 (dk_at dksX0_together_2 11 rfl rfl)
theorem dX0_together_60 : decode cX0_together 60 = .ok (.istore 7, 2) := dk_54 7 (dk_at dksX0_together_2 12 rfl rfl)
theorem dX0_together_62 : decode cX0_together 62 = .ok (.iload 7, 2) := dk_21 7 (dk_at dksX0_together_2 14 rfl rfl)
theorem dX0_together_64 : decode cX0_together 64 = .ok (.aload_n 0, 1) := dk_42 (dk_at dksX0_together_2 16 rfl rfl)
theorem dX0_together_65 : decode cX0_together 65 = .ok (.getfield 61, 3) := dk_180 0 61 (dk_at dksX0_together_2 17 rfl rfl)
theorem dX0_together_68 : decode cX0_together 68 = .ok (.iload 4, 2) := dk_21 4 (dk_at dksX0_together_2 20 rfl rfl)
theorem dX0_together_70 : decode cX0_together 70 = .ok (.aaload, 1) := dk_50 (dk_at dksX0_together_2 22 rfl rfl)
theorem dX0_together_71 : decode cX0_together 71 = .ok (.invokevirtual 67, 3) := dk_182 0 67 (dk_at dksX0_together_3 0 rfl rfl)
theorem dX0_together_74 : decode cX0_together 74 = .ok (.if_icmp .ge 66, 3) := dk_162 0 66 (dk_at dksX0_together_3 3 rfl rfl)
theorem dX0_together_77 : decode cX0_together 77 = .ok (.aload_n 0, 1) := dk_42 (dk_at dksX0_together_3 6 rfl rfl)
theorem dX0_together_78 : decode cX0_together 78 = .ok (.invokevirtual 242, 3) := dk_182 0 242 (dk_at dksX0_together_3 7 rfl rfl)
theorem dX0_together_81 : decode cX0_together 81 = .ok (.iload 5, 2) := dk_21 5 (dk_at dksX0_together_3 10 rfl rfl)
theorem dX0_together_83 : decode cX0_together 83 = .ok (.aload_n 0, 1) := dk_42 (dk_at dksX0_together_3 12 rfl rfl)
theorem dX0_together_84 : decode cX0_together 84 = .ok (.aload_n 0, 1) := dk_42 (dk_at dksX0_together_3 13 rfl rfl)
theorem dX0_together_85 : decode cX0_together 85 = .ok (.getfield 219, 3) := dk_180 0 219 (dk_at dksX0_together_3 14 rfl rfl)
theorem dX0_together_88 : decode cX0_together 88 = .ok (.iload_n 1, 1) := dk_27 (dk_at dksX0_together_3 17 rfl rfl)
theorem dX0_together_89 : decode cX0_together 89 = .ok (.aaload, 1) := dk_50 (dk_at dksX0_together_3 18 rfl rfl)
theorem dX0_together_90 : decode cX0_together 90 = .ok (.aload_n 0, 1) := dk_42 (dk_at dksX0_together_3 19 rfl rfl)
theorem dX0_together_91 : decode cX0_together 91 = .ok (.getfield 61, 3) := dk_180 0 61 (dk_at dksX0_together_3 20 rfl rfl)
theorem dX0_together_94 : decode cX0_together 94 = .ok (.iload_n 2, 1) := dk_28 (dk_at dksX0_together_3 23 rfl rfl)
theorem dX0_together_95 : decode cX0_together 95 = .ok (.aaload, 1) := dk_50 (dk_at dksX0_together_4 0 rfl rfl)
theorem dX0_together_96 : decode cX0_together 96 = .ok (.iload 6, 2) := dk_21 6 (dk_at dksX0_together_4 1 rfl rfl)
theorem dX0_together_98 : decode cX0_together 98 = .ok (.invokevirtual 245, 3) := dk_182 0 245 (dk_at dksX0_together_4 3 rfl rfl)
theorem dX0_together_101 : decode cX0_together 101 = .ok (.ifCond .eq 29, 3) := dk_153 0 29 (dk_at dksX0_together_4 6 rfl rfl)
theorem dX0_together_104 : decode cX0_together 104 = .ok (.aload_n 0, 1) := dk_42 (dk_at dksX0_together_4 9 rfl rfl)
theorem dX0_together_105 : decode cX0_together 105 = .ok (.aload_n 0, 1) := dk_42 (dk_at dksX0_together_4 10 rfl rfl)
theorem dX0_together_106 : decode cX0_together 106 = .ok (.getfield 219, 3) := dk_180 0 219 (dk_at dksX0_together_4 11 rfl rfl)
theorem dX0_together_109 : decode cX0_together 109 = .ok (.iload_n 3, 1) := dk_29 (dk_at dksX0_together_4 14 rfl rfl)
theorem dX0_together_110 : decode cX0_together 110 = .ok (.aaload, 1) := dk_50 (dk_at dksX0_together_4 15 rfl rfl)
theorem dX0_together_111 : decode cX0_together 111 = .ok (.aload_n 0, 1) := dk_42 (dk_at dksX0_together_4 16 rfl rfl)
theorem dX0_together_112 : decode cX0_together 112 = .ok (.getfield 61, 3) := dk_180 0 61 (dk_at dksX0_together_4 17 rfl rfl)
theorem dX0_together_115 : decode cX0_together 115 = .ok (.iload 4, 2) := dk_21 4 (dk_at dksX0_together_4 20 rfl rfl)
theorem dX0_together_117 : decode cX0_together 117 = .ok (.aaload, 1) := dk_50 (dk_at dksX0_together_4 22 rfl rfl)
theorem dX0_together_118 : decode cX0_together 118 = .ok (.iload 7, 2) := dk_21 7 (dk_at dksX0_together_5 0 rfl rfl)
theorem dX0_together_120 : decode cX0_together 120 = .ok (.invokevirtual 245, 3) := dk_182 0 245 (dk_at dksX0_together_5 2 rfl rfl)
theorem dX0_together_123 : decode cX0_together 123 = .ok (.ifCond .eq 7, 3) := dk_153 0 7 (dk_at dksX0_together_5 5 rfl rfl)
theorem dX0_together_126 : decode cX0_together 126 = .ok (.iconst 1, 1) := dk_4 (dk_at dksX0_together_5 8 rfl rfl)
theorem dX0_together_127 : decode cX0_together 127 = .ok (.goto 4, 3) := dk_167 0 4 (dk_at dksX0_together_5 9 rfl rfl)
theorem dX0_together_130 : decode cX0_together 130 = .ok (.iconst 0, 1) := dk_3 (dk_at dksX0_together_5 12 rfl rfl)
theorem dX0_together_131 : decode cX0_together 131 = .ok (.iadd, 1) := dk_96 (dk_at dksX0_together_5 13 rfl rfl)
theorem dX0_together_132 : decode cX0_together 132 = .ok (.istore 5, 2) := dk_54 5 (dk_at dksX0_together_5 14 rfl rfl)
theorem dX0_together_134 : decode cX0_together 134 = .ok (.iinc 7 1, 3) := dk_132 7 1 (dk_at dksX0_together_5 16 rfl rfl)
theorem dX0_together_137 : decode cX0_together 137 = .ok (.goto (-75), 3) := dk_167 255 181 (dk_at dksX0_together_5 19 rfl rfl)
theorem dX0_together_140 : decode cX0_together 140 = .ok (.iinc 6 1, 3) := dk_132 6 1 (dk_at dksX0_together_6 0 rfl rfl)
theorem dX0_together_143 : decode cX0_together 143 = .ok (.goto (-98), 3) := dk_167 255 158 (dk_at dksX0_together_6 3 rfl rfl)
theorem dX0_together_146 : decode cX0_together 146 = .ok (.iload 5, 2) := dk_21 5 (dk_at dksX0_together_6 6 rfl rfl)
theorem dX0_together_148 : decode cX0_together 148 = .ok (.ireturn, 1) := dk_172 (dk_at dksX0_together_6 8 rfl rfl)
abbrev cX0_word : ByteArray := prog_1_method_45_code
def yX0_word : MethodName := ⟨RX0, "word", "(II)I"⟩
def dkwX0_word_3 : List UInt8 := [182, 1, 7, 4, 84, 42, 89, 180, 0, 253, 4, 96, 181, 0, 253, 42, 180, 0, 253, 4, 100, 172]
abbrev dktX0_word_3 : List UInt8 := dkwX0_word_3 ++ []
def dkwX0_word_2 : List UInt8 := [89, 27, 28, 183, 1, 6, 83, 42, 180, 0, 249, 27, 50, 42, 180, 1, 0, 42, 180, 0, 253, 50]
abbrev dktX0_word_2 : List UInt8 := dkwX0_word_2 ++ dktX0_word_3
def dkwX0_word_1 : List UInt8 := [172, 42, 180, 0, 253, 16, 12, 160, 0, 6, 16, 253, 172, 42, 180, 1, 0, 42, 180, 0, 253, 187, 1, 4]
abbrev dktX0_word_1 : List UInt8 := dkwX0_word_1 ++ dktX0_word_2
def dkwX0_word_0 : List UInt8 := [27, 16, 6, 28, 184, 0, 213, 154, 0, 5, 2, 172, 42, 180, 0, 249, 27, 50, 28, 51, 153, 0, 5, 2]
abbrev dktX0_word_0 : List UInt8 := dkwX0_word_0 ++ dktX0_word_1
theorem dksX0_word_0 : cX0_word.data.toList.drop 0 = dktX0_word_0 := by decide +kernel
theorem dksX0_word_1 : cX0_word.data.toList.drop 24 = dktX0_word_1 := dk_seg dksX0_word_0 24 rfl rfl
theorem dksX0_word_2 : cX0_word.data.toList.drop 48 = dktX0_word_2 := dk_seg dksX0_word_1 24 rfl rfl
theorem dksX0_word_3 : cX0_word.data.toList.drop 70 = dktX0_word_3 := dk_seg dksX0_word_2 22 rfl rfl
theorem dX0_word_0 : decode cX0_word 0 = .ok (.iload_n 1, 1) := dk_27 (dk_at dksX0_word_0 0 rfl rfl)
theorem dX0_word_1 : decode cX0_word 1 = .ok (.bipush 6, 2) := dk_16 6 (dk_at dksX0_word_0 1 rfl rfl)
theorem dX0_word_3 : decode cX0_word 3 = .ok (.iload_n 2, 1) := dk_28 (dk_at dksX0_word_0 3 rfl rfl)
theorem dX0_word_4 : decode cX0_word 4 = .ok (.invokestatic 213, 3) := dk_184 0 213 (dk_at dksX0_word_0 4 rfl rfl)
theorem dX0_word_7 : decode cX0_word 7 = .ok (.ifCond .ne 5, 3) := dk_154 0 5 (dk_at dksX0_word_0 7 rfl rfl)
theorem dX0_word_10 : decode cX0_word 10 = .ok (.iconst (-1), 1) := dk_2 (dk_at dksX0_word_0 10 rfl rfl)
theorem dX0_word_11 : decode cX0_word 11 = .ok (.ireturn, 1) := dk_172 (dk_at dksX0_word_0 11 rfl rfl)
theorem dX0_word_12 : decode cX0_word 12 = .ok (.aload_n 0, 1) := dk_42 (dk_at dksX0_word_0 12 rfl rfl)
theorem dX0_word_13 : decode cX0_word 13 = .ok (.getfield 249, 3) := dk_180 0 249 (dk_at dksX0_word_0 13 rfl rfl)
theorem dX0_word_16 : decode cX0_word 16 = .ok (.iload_n 1, 1) := dk_27 (dk_at dksX0_word_0 16 rfl rfl)
theorem dX0_word_17 : decode cX0_word 17 = .ok (.aaload, 1) := dk_50 (dk_at dksX0_word_0 17 rfl rfl)
theorem dX0_word_18 : decode cX0_word 18 = .ok (.iload_n 2, 1) := dk_28 (dk_at dksX0_word_0 18 rfl rfl)
theorem dX0_word_19 : decode cX0_word 19 = .ok (.baload, 1) := dk_51 (dk_at dksX0_word_0 19 rfl rfl)
theorem dX0_word_20 : decode cX0_word 20 = .ok (.ifCond .eq 5, 3) := dk_153 0 5 (dk_at dksX0_word_0 20 rfl rfl)
theorem dX0_word_23 : decode cX0_word 23 = .ok (.iconst (-1), 1) := dk_2 (dk_at dksX0_word_0 23 rfl rfl)
theorem dX0_word_24 : decode cX0_word 24 = .ok (.ireturn, 1) := dk_172 (dk_at dksX0_word_1 0 rfl rfl)
theorem dX0_word_25 : decode cX0_word 25 = .ok (.aload_n 0, 1) := dk_42 (dk_at dksX0_word_1 1 rfl rfl)
theorem dX0_word_26 : decode cX0_word 26 = .ok (.getfield 253, 3) := dk_180 0 253 (dk_at dksX0_word_1 2 rfl rfl)
theorem dX0_word_29 : decode cX0_word 29 = .ok (.bipush 12, 2) := dk_16 12 (dk_at dksX0_word_1 5 rfl rfl)
theorem dX0_word_31 : decode cX0_word 31 = .ok (.if_icmp .ne 6, 3) := dk_160 0 6 (dk_at dksX0_word_1 7 rfl rfl)
theorem dX0_word_34 : decode cX0_word 34 = .ok (.bipush (-3), 2) := dk_16 253 (dk_at dksX0_word_1 10 rfl rfl)
theorem dX0_word_36 : decode cX0_word 36 = .ok (.ireturn, 1) := dk_172 (dk_at dksX0_word_1 12 rfl rfl)
theorem dX0_word_37 : decode cX0_word 37 = .ok (.aload_n 0, 1) := dk_42 (dk_at dksX0_word_1 13 rfl rfl)
theorem dX0_word_38 : decode cX0_word 38 = .ok (.getfield 256, 3) := dk_180 1 0 (dk_at dksX0_word_1 14 rfl rfl)
theorem dX0_word_41 : decode cX0_word 41 = .ok (.aload_n 0, 1) := dk_42 (dk_at dksX0_word_1 17 rfl rfl)
theorem dX0_word_42 : decode cX0_word 42 = .ok (.getfield 253, 3) := dk_180 0 253 (dk_at dksX0_word_1 18 rfl rfl)
theorem dX0_word_45 : decode cX0_word 45 = .ok (.new 260, 3) := dk_187 1 4 (dk_at dksX0_word_1 21 rfl rfl)
theorem dX0_word_48 : decode cX0_word 48 = .ok (.dup, 1) := dk_89 (dk_at dksX0_word_2 0 rfl rfl)
theorem dX0_word_49 : decode cX0_word 49 = .ok (.iload_n 1, 1) := dk_27 (dk_at dksX0_word_2 1 rfl rfl)
theorem dX0_word_50 : decode cX0_word 50 = .ok (.iload_n 2, 1) := dk_28 (dk_at dksX0_word_2 2 rfl rfl)
theorem dX0_word_51 : decode cX0_word 51 = .ok (.invokespecial 262, 3) := dk_183 1 6 (dk_at dksX0_word_2 3 rfl rfl)
theorem dX0_word_54 : decode cX0_word 54 = .ok (.aastore, 1) := dk_83 (dk_at dksX0_word_2 6 rfl rfl)
theorem dX0_word_55 : decode cX0_word 55 = .ok (.aload_n 0, 1) := dk_42 (dk_at dksX0_word_2 7 rfl rfl)
theorem dX0_word_56 : decode cX0_word 56 = .ok (.getfield 249, 3) := dk_180 0 249 (dk_at dksX0_word_2 8 rfl rfl)
theorem dX0_word_59 : decode cX0_word 59 = .ok (.iload_n 1, 1) := dk_27 (dk_at dksX0_word_2 11 rfl rfl)
theorem dX0_word_60 : decode cX0_word 60 = .ok (.aaload, 1) := dk_50 (dk_at dksX0_word_2 12 rfl rfl)
theorem dX0_word_61 : decode cX0_word 61 = .ok (.aload_n 0, 1) := dk_42 (dk_at dksX0_word_2 13 rfl rfl)
theorem dX0_word_62 : decode cX0_word 62 = .ok (.getfield 256, 3) := dk_180 1 0 (dk_at dksX0_word_2 14 rfl rfl)
theorem dX0_word_65 : decode cX0_word 65 = .ok (.aload_n 0, 1) := dk_42 (dk_at dksX0_word_2 17 rfl rfl)
theorem dX0_word_66 : decode cX0_word 66 = .ok (.getfield 253, 3) := dk_180 0 253 (dk_at dksX0_word_2 18 rfl rfl)
theorem dX0_word_69 : decode cX0_word 69 = .ok (.aaload, 1) := dk_50 (dk_at dksX0_word_2 21 rfl rfl)
theorem dX0_word_70 : decode cX0_word 70 = .ok (.invokevirtual 263, 3) := dk_182 1 7 (dk_at dksX0_word_3 0 rfl rfl)
theorem dX0_word_73 : decode cX0_word 73 = .ok (.iconst 1, 1) := dk_4 (dk_at dksX0_word_3 3 rfl rfl)
theorem dX0_word_74 : decode cX0_word 74 = .ok (.bastore, 1) := dk_84 (dk_at dksX0_word_3 4 rfl rfl)
theorem dX0_word_75 : decode cX0_word 75 = .ok (.aload_n 0, 1) := dk_42 (dk_at dksX0_word_3 5 rfl rfl)
theorem dX0_word_76 : decode cX0_word 76 = .ok (.dup, 1) := dk_89 (dk_at dksX0_word_3 6 rfl rfl)
theorem dX0_word_77 : decode cX0_word 77 = .ok (.getfield 253, 3) := dk_180 0 253 (dk_at dksX0_word_3 7 rfl rfl)
theorem dX0_word_80 : decode cX0_word 80 = .ok (.iconst 1, 1) := dk_4 (dk_at dksX0_word_3 10 rfl rfl)
theorem dX0_word_81 : decode cX0_word 81 = .ok (.iadd, 1) := dk_96 (dk_at dksX0_word_3 11 rfl rfl)
theorem dX0_word_82 : decode cX0_word 82 = .ok (.putfield 253, 3) := dk_181 0 253 (dk_at dksX0_word_3 12 rfl rfl)
theorem dX0_word_85 : decode cX0_word 85 = .ok (.aload_n 0, 1) := dk_42 (dk_at dksX0_word_3 15 rfl rfl)
theorem dX0_word_86 : decode cX0_word 86 = .ok (.getfield 253, 3) := dk_180 0 253 (dk_at dksX0_word_3 16 rfl rfl)
theorem dX0_word_89 : decode cX0_word 89 = .ok (.iconst 1, 1) := dk_4 (dk_at dksX0_word_3 19 rfl rfl)
theorem dX0_word_90 : decode cX0_word 90 = .ok (.isub, 1) := dk_100 (dk_at dksX0_word_3 20 rfl rfl)
theorem dX0_word_91 : decode cX0_word 91 = .ok (.ireturn, 1) := dk_172 (dk_at dksX0_word_3 21 rfl rfl)
abbrev cX0_tabled : ByteArray := prog_1_method_47_code
def yX0_tabled : MethodName := ⟨RX0, "tabled", "(I)I"⟩
def dkwX0_tabled_1 : List UInt8 := [162, 0, 12, 42, 180, 1, 16, 27, 46, 167, 0, 5, 16, 252, 172]
abbrev dktX0_tabled_1 : List UInt8 := dkwX0_tabled_1 ++ []
def dkwX0_tabled_0 : List UInt8 := [27, 133, 9, 20, 1, 19, 184, 0, 5, 154, 0, 5, 2, 172, 42, 182, 1, 21, 27, 42, 180, 1, 13]
abbrev dktX0_tabled_0 : List UInt8 := dkwX0_tabled_0 ++ dktX0_tabled_1
theorem dksX0_tabled_0 : cX0_tabled.data.toList.drop 0 = dktX0_tabled_0 := by decide +kernel
theorem dksX0_tabled_1 : cX0_tabled.data.toList.drop 23 = dktX0_tabled_1 := dk_seg dksX0_tabled_0 23 rfl rfl
theorem dX0_tabled_0 : decode cX0_tabled 0 = .ok (.iload_n 1, 1) := dk_27 (dk_at dksX0_tabled_0 0 rfl rfl)
theorem dX0_tabled_1 : decode cX0_tabled 1 = .ok (.i2l, 1) := dk_133 (dk_at dksX0_tabled_0 1 rfl rfl)
theorem dX0_tabled_2 : decode cX0_tabled 2 = .ok (.lconst 0, 1) := dk_9 (dk_at dksX0_tabled_0 2 rfl rfl)
theorem dX0_tabled_3 : decode cX0_tabled 3 = .ok (.ldc2_w 275, 3) := dk_20 1 19 (dk_at dksX0_tabled_0 3 rfl rfl)
theorem dX0_tabled_6 : decode cX0_tabled 6 = .ok (.invokestatic 5, 3) := dk_184 0 5 (dk_at dksX0_tabled_0 6 rfl rfl)
theorem dX0_tabled_9 : decode cX0_tabled 9 = .ok (.ifCond .ne 5, 3) := dk_154 0 5 (dk_at dksX0_tabled_0 9 rfl rfl)
theorem dX0_tabled_12 : decode cX0_tabled 12 = .ok (.iconst (-1), 1) := dk_2 (dk_at dksX0_tabled_0 12 rfl rfl)
theorem dX0_tabled_13 : decode cX0_tabled 13 = .ok (.ireturn, 1) := dk_172 (dk_at dksX0_tabled_0 13 rfl rfl)
theorem dX0_tabled_14 : decode cX0_tabled 14 = .ok (.aload_n 0, 1) := dk_42 (dk_at dksX0_tabled_0 14 rfl rfl)
theorem dX0_tabled_15 : decode cX0_tabled 15 = .ok (.invokevirtual 277, 3) := dk_182 1 21 (dk_at dksX0_tabled_0 15 rfl rfl)
theorem dX0_tabled_18 : decode cX0_tabled 18 = .ok (.iload_n 1, 1) := dk_27 (dk_at dksX0_tabled_0 18 rfl rfl)
theorem dX0_tabled_19 : decode cX0_tabled 19 = .ok (.aload_n 0, 1) := dk_42 (dk_at dksX0_tabled_0 19 rfl rfl)
theorem dX0_tabled_20 : decode cX0_tabled 20 = .ok (.getfield 269, 3) := dk_180 1 13 (dk_at dksX0_tabled_0 20 rfl rfl)
theorem dX0_tabled_23 : decode cX0_tabled 23 = .ok (.if_icmp .ge 12, 3) := dk_162 0 12 (dk_at dksX0_tabled_1 0 rfl rfl)
theorem dX0_tabled_26 : decode cX0_tabled 26 = .ok (.aload_n 0, 1) := dk_42 (dk_at dksX0_tabled_1 3 rfl rfl)
theorem dX0_tabled_27 : decode cX0_tabled 27 = .ok (.getfield 272, 3) := dk_180 1 16 (dk_at dksX0_tabled_1 4 rfl rfl)
theorem dX0_tabled_30 : decode cX0_tabled 30 = .ok (.iload_n 1, 1) := dk_27 (dk_at dksX0_tabled_1 7 rfl rfl)
theorem dX0_tabled_31 : decode cX0_tabled 31 = .ok (.iaload, 1) := dk_46 (dk_at dksX0_tabled_1 8 rfl rfl)
theorem dX0_tabled_32 : decode cX0_tabled 32 = .ok (.goto 5, 3) := dk_167 0 5 (dk_at dksX0_tabled_1 9 rfl rfl)
theorem dX0_tabled_35 : decode cX0_tabled 35 = .ok (.bipush (-4), 2) := dk_16 252 (dk_at dksX0_tabled_1 12 rfl rfl)
theorem dX0_tabled_37 : decode cX0_tabled 37 = .ok (.ireturn, 1) := dk_172 (dk_at dksX0_tabled_1 14 rfl rfl)
abbrev cX0_layTabled : ByteArray := prog_1_method_46_code
def yX0_layTabled : MethodName := ⟨RX0, "layTabled", "()V"⟩
def dkwX0_layTabled_7 : List UInt8 := [177]
abbrev dktX0_layTabled_7 : List UInt8 := dkwX0_layTabled_7 ++ []
def dkwX0_layTabled_6 : List UInt8 := [79, 42, 180, 1, 16, 42, 180, 1, 13, 28, 79, 42, 89, 180, 1, 13, 4, 96, 181, 1, 13, 167, 255, 114]
abbrev dktX0_layTabled_6 : List UInt8 := dkwX0_layTabled_6 ++ dktX0_layTabled_7
def dkwX0_layTabled_5 : List UInt8 := [16, 252, 159, 0, 7, 4, 167, 0, 4, 3, 60, 27, 153, 0, 33, 42, 180, 1, 10, 28, 42, 180, 1, 13]
abbrev dktX0_layTabled_5 : List UInt8 := dkwX0_layTabled_5 ++ dktX0_layTabled_6
def dkwX0_layTabled_4 : List UInt8 := [182, 0, 88, 42, 28, 182, 0, 88, 164, 0, 7, 29, 167, 0, 4, 28, 61, 132, 3, 1, 167, 255, 181, 28]
abbrev dktX0_layTabled_4 : List UInt8 := dkwX0_layTabled_4 ++ dktX0_layTabled_5
def dkwX0_layTabled_3 : List UInt8 := [158, 0, 7, 4, 167, 0, 4, 3, 54, 4, 21, 4, 153, 0, 26, 28, 16, 252, 159, 0, 16, 42, 29]
abbrev dktX0_layTabled_3 : List UInt8 := dkwX0_layTabled_3 ++ dktX0_layTabled_4
def dkwX0_layTabled_2 : List UInt8 := [182, 0, 44, 153, 0, 26, 42, 180, 1, 10, 29, 46, 16, 252, 160, 0, 15, 42, 29, 182, 0, 88]
abbrev dktX0_layTabled_2 : List UInt8 := dkwX0_layTabled_2 ++ dktX0_layTabled_3
def dkwX0_layTabled_1 : List UInt8 := [42, 180, 1, 13, 16, 6, 162, 0, 135, 16, 252, 61, 3, 62, 29, 42, 180, 0, 9, 162, 0, 73, 42, 29]
abbrev dktX0_layTabled_1 : List UInt8 := dkwX0_layTabled_1 ++ dktX0_layTabled_2
def dkwX0_layTabled_0 : List UInt8 := [42, 182, 0, 38, 42, 180, 1, 10, 16, 252, 184, 0, 104, 42, 3, 181, 1, 13, 4, 60, 27, 153, 0, 144]
abbrev dktX0_layTabled_0 : List UInt8 := dkwX0_layTabled_0 ++ dktX0_layTabled_1
theorem dksX0_layTabled_0 : cX0_layTabled.data.toList.drop 0 = dktX0_layTabled_0 := by decide +kernel
theorem dksX0_layTabled_1 : cX0_layTabled.data.toList.drop 24 = dktX0_layTabled_1 := dk_seg dksX0_layTabled_0 24 rfl rfl
theorem dksX0_layTabled_2 : cX0_layTabled.data.toList.drop 48 = dktX0_layTabled_2 := dk_seg dksX0_layTabled_1 24 rfl rfl
theorem dksX0_layTabled_3 : cX0_layTabled.data.toList.drop 70 = dktX0_layTabled_3 := dk_seg dksX0_layTabled_2 22 rfl rfl
theorem dksX0_layTabled_4 : cX0_layTabled.data.toList.drop 93 = dktX0_layTabled_4 := dk_seg dksX0_layTabled_3 23 rfl rfl
theorem dksX0_layTabled_5 : cX0_layTabled.data.toList.drop 117 = dktX0_layTabled_5 := dk_seg dksX0_layTabled_4 24 rfl rfl
theorem dksX0_layTabled_6 : cX0_layTabled.data.toList.drop 141 = dktX0_layTabled_6 := dk_seg dksX0_layTabled_5 24 rfl rfl
theorem dksX0_layTabled_7 : cX0_layTabled.data.toList.drop 165 = dktX0_layTabled_7 := dk_seg dksX0_layTabled_6 24 rfl rfl
theorem dX0_layTabled_0 : decode cX0_layTabled 0 = .ok (.aload_n 0, 1) := dk_42 (dk_at dksX0_layTabled_0 0 rfl rfl)
theorem dX0_layTabled_1 : decode cX0_layTabled 1 = .ok (.invokevirtual 38, 3) := dk_182 0 38 (dk_at dksX0_layTabled_0 1 rfl rfl)
theorem dX0_layTabled_4 : decode cX0_layTabled 4 = .ok (.aload_n 0, 1) := dk_42 (dk_at dksX0_layTabled_0 4 rfl rfl)
theorem dX0_layTabled_5 : decode cX0_layTabled 5 = .ok (.getfield 266, 3) := dk_180 1 10 (dk_at dksX0_layTabled_0 5 rfl rfl)
theorem dX0_layTabled_8 : decode cX0_layTabled 8 = .ok (.bipush (-4), 2) := dk_16 252 (dk_at dksX0_layTabled_0 8 rfl rfl)
theorem dX0_layTabled_10 : decode cX0_layTabled 10 = .ok (.invokestatic 104, 3) := dk_184 0 104 (dk_at dksX0_layTabled_0 10 rfl rfl)
theorem dX0_layTabled_13 : decode cX0_layTabled 13 = .ok (.aload_n 0, 1) := dk_42 (dk_at dksX0_layTabled_0 13 rfl rfl)
theorem dX0_layTabled_14 : decode cX0_layTabled 14 = .ok (.iconst 0, 1) := dk_3 (dk_at dksX0_layTabled_0 14 rfl rfl)
theorem dX0_layTabled_15 : decode cX0_layTabled 15 = .ok (.putfield 269, 3) := dk_181 1 13 (dk_at dksX0_layTabled_0 15 rfl rfl)
theorem dX0_layTabled_18 : decode cX0_layTabled 18 = .ok (.iconst 1, 1) := dk_4 (dk_at dksX0_layTabled_0 18 rfl rfl)
theorem dX0_layTabled_19 : decode cX0_layTabled 19 = .ok (.istore_n 1, 1) := dk_60 (dk_at dksX0_layTabled_0 19 rfl rfl)
theorem dX0_layTabled_20 : decode cX0_layTabled 20 = .ok (.iload_n 1, 1) := dk_27 (dk_at dksX0_layTabled_0 20 rfl rfl)
theorem dX0_layTabled_21 : decode cX0_layTabled 21 = .ok (.ifCond .eq 144, 3) := dk_153 0 144 (dk_at dksX0_layTabled_0 21 rfl rfl)
theorem dX0_layTabled_24 : decode cX0_layTabled 24 = .ok (.aload_n 0, 1) := dk_42 (dk_at dksX0_layTabled_1 0 rfl rfl)
theorem dX0_layTabled_25 : decode cX0_layTabled 25 = .ok (.getfield 269, 3) := dk_180 1 13 (dk_at dksX0_layTabled_1 1 rfl rfl)
theorem dX0_layTabled_28 : decode cX0_layTabled 28 = .ok (.bipush 6, 2) := dk_16 6 (dk_at dksX0_layTabled_1 4 rfl rfl)
theorem dX0_layTabled_30 : decode cX0_layTabled 30 = .ok (.if_icmp .ge 135, 3) := dk_162 0 135 (dk_at dksX0_layTabled_1 6 rfl rfl)
theorem dX0_layTabled_33 : decode cX0_layTabled 33 = .ok (.bipush (-4), 2) := dk_16 252 (dk_at dksX0_layTabled_1 9 rfl rfl)
theorem dX0_layTabled_35 : decode cX0_layTabled 35 = .ok (.istore_n 2, 1) := dk_61 (dk_at dksX0_layTabled_1 11 rfl rfl)
theorem dX0_layTabled_36 : decode cX0_layTabled 36 = .ok (.iconst 0, 1) := dk_3 (dk_at dksX0_layTabled_1 12 rfl rfl)
theorem dX0_layTabled_37 : decode cX0_layTabled 37 = .ok (.istore_n 3, 1) := dk_62 (dk_at dksX0_layTabled_1 13 rfl rfl)
theorem dX0_layTabled_38 : decode cX0_layTabled 38 = .ok (.iload_n 3, 1) := dk_29 (dk_at dksX0_layTabled_1 14 rfl rfl)
theorem dX0_layTabled_39 : decode cX0_layTabled 39 = .ok (.aload_n 0, 1) := dk_42 (dk_at dksX0_layTabled_1 15 rfl rfl)
theorem dX0_layTabled_40 : decode cX0_layTabled 40 = .ok (.getfield 9, 3) := dk_180 0 9 (dk_at dksX0_layTabled_1 16 rfl rfl)
theorem dX0_layTabled_43 : decode cX0_layTabled 43 = .ok (.if_icmp .ge 73, 3) := dk_162 0 73 (dk_at dksX0_layTabled_1 19 rfl rfl)
theorem dX0_layTabled_46 : decode cX0_layTabled 46 = .ok (.aload_n 0, 1) := dk_42 (dk_at dksX0_layTabled_1 22 rfl rfl)
theorem dX0_layTabled_47 : decode cX0_layTabled 47 = .ok (.iload_n 3, 1) := dk_29 (dk_at dksX0_layTabled_1 23 rfl rfl)
theorem dX0_layTabled_48 : decode cX0_layTabled 48 = .ok (.invokevirtual 44, 3) := dk_182 0 44 (dk_at dksX0_layTabled_2 0 rfl rfl)
theorem dX0_layTabled_51 : decode cX0_layTabled 51 = .ok (.ifCond .eq 26, 3) := dk_153 0 26 (dk_at dksX0_layTabled_2 3 rfl rfl)
theorem dX0_layTabled_54 : decode cX0_layTabled 54 = .ok (.aload_n 0, 1) := dk_42 (dk_at dksX0_layTabled_2 6 rfl rfl)
theorem dX0_layTabled_55 : decode cX0_layTabled 55 = .ok (.getfield 266, 3) := dk_180 1 10 (dk_at dksX0_layTabled_2 7 rfl rfl)
theorem dX0_layTabled_58 : decode cX0_layTabled 58 = .ok (.iload_n 3, 1) := dk_29 (dk_at dksX0_layTabled_2 10 rfl rfl)
theorem dX0_layTabled_59 : decode cX0_layTabled 59 = .ok (.iaload, 1) := dk_46 (dk_at dksX0_layTabled_2 11 rfl rfl)
theorem dX0_layTabled_60 : decode cX0_layTabled 60 = .ok (.bipush (-4), 2) := dk_16 252 (dk_at dksX0_layTabled_2 12 rfl rfl)
theorem dX0_layTabled_62 : decode cX0_layTabled 62 = .ok (.if_icmp .ne 15, 3) := dk_160 0 15 (dk_at dksX0_layTabled_2 14 rfl rfl)
theorem dX0_layTabled_65 : decode cX0_layTabled 65 = .ok (.aload_n 0, 1) := dk_42 (dk_at dksX0_layTabled_2 17 rfl rfl)
theorem dX0_layTabled_66 : decode cX0_layTabled 66 = .ok (.iload_n 3, 1) := dk_29 (dk_at dksX0_layTabled_2 18 rfl rfl)
theorem dX0_layTabled_67 : decode cX0_layTabled 67 = .ok (.invokevirtual 88, 3) := dk_182 0 88 (dk_at dksX0_layTabled_2 19 rfl rfl)
theorem dX0_layTabled_70 : decode cX0_layTabled 70 = .ok (.ifCond .le 7, 3) := dk_158 0 7 (dk_at dksX0_layTabled_3 0 rfl rfl)
theorem dX0_layTabled_73 : decode cX0_layTabled 73 = .ok (.iconst 1, 1) := dk_4 (dk_at dksX0_layTabled_3 3 rfl rfl)
theorem dX0_layTabled_74 : decode cX0_layTabled 74 = .ok (.goto 4, 3) := dk_167 0 4 (dk_at dksX0_layTabled_3 4 rfl rfl)
theorem dX0_layTabled_77 : decode cX0_layTabled 77 = .ok (.iconst 0, 1) := dk_3 (dk_at dksX0_layTabled_3 7 rfl rfl)
theorem dX0_layTabled_78 : decode cX0_layTabled 78 = .ok (.istore 4, 2) := dk_54 4 (dk_at dksX0_layTabled_3 8 rfl rfl)
theorem dX0_layTabled_80 : decode cX0_layTabled 80 = .ok (.iload 4, 2) := dk_21 4 (dk_at dksX0_layTabled_3 10 rfl rfl)
theorem dX0_layTabled_82 : decode cX0_layTabled 82 = .ok (.ifCond .eq 26, 3) := dk_153 0 26 (dk_at dksX0_layTabled_3 12 rfl rfl)
theorem dX0_layTabled_85 : decode cX0_layTabled 85 = .ok (.iload_n 2, 1) := dk_28 (dk_at dksX0_layTabled_3 15 rfl rfl)
theorem dX0_layTabled_86 : decode cX0_layTabled 86 = .ok (.bipush (-4), 2) := dk_16 252 (dk_at dksX0_layTabled_3 16 rfl rfl)
theorem dX0_layTabled_88 : decode cX0_layTabled 88 = .ok (.if_icmp .eq 16, 3) := dk_159 0 16 (dk_at dksX0_layTabled_3 18 rfl rfl)
theorem dX0_layTabled_91 : decode cX0_layTabled 91 = .ok (.aload_n 0, 1) := dk_42 (dk_at dksX0_layTabled_3 21 rfl rfl)
theorem dX0_layTabled_92 : decode cX0_layTabled 92 = .ok (.iload_n 3, 1) := dk_29 (dk_at dksX0_layTabled_3 22 rfl rfl)
theorem dX0_layTabled_93 : decode cX0_layTabled 93 = .ok (.invokevirtual 88, 3) := dk_182 0 88 (dk_at dksX0_layTabled_4 0 rfl rfl)
theorem dX0_layTabled_96 : decode cX0_layTabled 96 = .ok (.aload_n 0, 1) := dk_42 (dk_at dksX0_layTabled_4 3 rfl rfl)
theorem dX0_layTabled_97 : decode cX0_layTabled 97 = .ok (.iload_n 2, 1) := dk_28 (dk_at dksX0_layTabled_4 4 rfl rfl)
theorem dX0_layTabled_98 : decode cX0_layTabled 98 = .ok (.invokevirtual 88, 3) := dk_182 0 88 (dk_at dksX0_layTabled_4 5 rfl rfl)
theorem dX0_layTabled_101 : decode cX0_layTabled 101 = .ok (.if_icmp .le 7, 3) := dk_164 0 7 (dk_at dksX0_layTabled_4 8 rfl rfl)
theorem dX0_layTabled_104 : decode cX0_layTabled 104 = .ok (.iload_n 3, 1) := dk_29 (dk_at dksX0_layTabled_4 11 rfl rfl)
theorem dX0_layTabled_105 : decode cX0_layTabled 105 = .ok (.goto 4, 3) := dk_167 0 4 (dk_at dksX0_layTabled_4 12 rfl rfl)
theorem dX0_layTabled_108 : decode cX0_layTabled 108 = .ok (.iload_n 2, 1) := dk_28 (dk_at dksX0_layTabled_4 15 rfl rfl)
theorem dX0_layTabled_109 : decode cX0_layTabled 109 = .ok (.istore_n 2, 1) := dk_61 (dk_at dksX0_layTabled_4 16 rfl rfl)
theorem dX0_layTabled_110 : decode cX0_layTabled 110 = .ok (.iinc 3 1, 3) := dk_132 3 1 (dk_at dksX0_layTabled_4 17 rfl rfl)
theorem dX0_layTabled_113 : decode cX0_layTabled 113 = .ok (.goto (-75), 3) := dk_167 255 181 (dk_at dksX0_layTabled_4 20 rfl rfl)
theorem dX0_layTabled_116 : decode cX0_layTabled 116 = .ok (.iload_n 2, 1) := dk_28 (dk_at dksX0_layTabled_4 23 rfl rfl)
theorem dX0_layTabled_117 : decode cX0_layTabled 117 = .ok (.bipush (-4), 2) := dk_16 252 (dk_at dksX0_layTabled_5 0 rfl rfl)
theorem dX0_layTabled_119 : decode cX0_layTabled 119 = .ok (.if_icmp .eq 7, 3) := dk_159 0 7 (dk_at dksX0_layTabled_5 2 rfl rfl)
theorem dX0_layTabled_122 : decode cX0_layTabled 122 = .ok (.iconst 1, 1) := dk_4 (dk_at dksX0_layTabled_5 5 rfl rfl)
theorem dX0_layTabled_123 : decode cX0_layTabled 123 = .ok (.goto 4, 3) := dk_167 0 4 (dk_at dksX0_layTabled_5 6 rfl rfl)
theorem dX0_layTabled_126 : decode cX0_layTabled 126 = .ok (.iconst 0, 1) := dk_3 (dk_at dksX0_layTabled_5 9 rfl rfl)
theorem dX0_layTabled_127 : decode cX0_layTabled 127 = .ok (.istore_n 1, 1) := dk_60 (dk_at dksX0_layTabled_5 10 rfl rfl)
theorem dX0_layTabled_128 : decode cX0_layTabled 128 = .ok (.iload_n 1, 1) := dk_27 (dk_at dksX0_layTabled_5 11 rfl rfl)
theorem dX0_layTabled_129 : decode cX0_layTabled 129 = .ok (.ifCond .eq 33, 3) := dk_153 0 33 (dk_at dksX0_layTabled_5 12 rfl rfl)
theorem dX0_layTabled_132 : decode cX0_layTabled 132 = .ok (.aload_n 0, 1) := dk_42 (dk_at dksX0_layTabled_5 15 rfl rfl)
theorem dX0_layTabled_133 : decode cX0_layTabled 133 = .ok (.getfield 266, 3) := dk_180 1 10 (dk_at dksX0_layTabled_5 16 rfl rfl)
theorem dX0_layTabled_136 : decode cX0_layTabled 136 = .ok (.iload_n 2, 1) := dk_28 (dk_at dksX0_layTabled_5 19 rfl rfl)
theorem dX0_layTabled_137 : decode cX0_layTabled 137 = .ok (.aload_n 0, 1) := dk_42 (dk_at dksX0_layTabled_5 20 rfl rfl)
theorem dX0_layTabled_138 : decode cX0_layTabled 138 = .ok (.getfield 269, 3) := dk_180 1 13 (dk_at dksX0_layTabled_5 21 rfl rfl)
theorem dX0_layTabled_141 : decode cX0_layTabled 141 = .ok (.iastore, 1) := dk_79 (dk_at dksX0_layTabled_6 0 rfl rfl)
theorem dX0_layTabled_142 : decode cX0_layTabled 142 = .ok (.aload_n 0, 1) := dk_42 (dk_at dksX0_layTabled_6 1 rfl rfl)
theorem dX0_layTabled_143 : decode cX0_layTabled 143 = .ok (.getfield 272, 3) := dk_180 1 16 (dk_at dksX0_layTabled_6 2 rfl rfl)
theorem dX0_layTabled_146 : decode cX0_layTabled 146 = .ok (.aload_n 0, 1) := dk_42 (dk_at dksX0_layTabled_6 5 rfl rfl)
theorem dX0_layTabled_147 : decode cX0_layTabled 147 = .ok (.getfield 269, 3) := dk_180 1 13 (dk_at dksX0_layTabled_6 6 rfl rfl)
theorem dX0_layTabled_150 : decode cX0_layTabled 150 = .ok (.iload_n 2, 1) := dk_28 (dk_at dksX0_layTabled_6 9 rfl rfl)
theorem dX0_layTabled_151 : decode cX0_layTabled 151 = .ok (.iastore, 1) := dk_79 (dk_at dksX0_layTabled_6 10 rfl rfl)
theorem dX0_layTabled_152 : decode cX0_layTabled 152 = .ok (.aload_n 0, 1) := dk_42 (dk_at dksX0_layTabled_6 11 rfl rfl)
theorem dX0_layTabled_153 : decode cX0_layTabled 153 = .ok (.dup, 1) := dk_89 (dk_at dksX0_layTabled_6 12 rfl rfl)
theorem dX0_layTabled_154 : decode cX0_layTabled 154 = .ok (.getfield 269, 3) := dk_180 1 13 (dk_at dksX0_layTabled_6 13 rfl rfl)
theorem dX0_layTabled_157 : decode cX0_layTabled 157 = .ok (.iconst 1, 1) := dk_4 (dk_at dksX0_layTabled_6 16 rfl rfl)
theorem dX0_layTabled_158 : decode cX0_layTabled 158 = .ok (.iadd, 1) := dk_96 (dk_at dksX0_layTabled_6 17 rfl rfl)
theorem dX0_layTabled_159 : decode cX0_layTabled 159 = .ok (.putfield 269, 3) := dk_181 1 13 (dk_at dksX0_layTabled_6 18 rfl rfl)
theorem dX0_layTabled_162 : decode cX0_layTabled 162 = .ok (.goto (-142), 3) := dk_167 255 114 (dk_at dksX0_layTabled_6 21 rfl rfl)
theorem dX0_layTabled_165 : decode cX0_layTabled 165 = .ok (.return_, 1) := dk_177 (dk_at dksX0_layTabled_7 0 rfl rfl)
abbrev cX0_read : ByteArray := prog_1_method_54_code
def yX0_read : MethodName := ⟨RX0, "read", "(II)I"⟩
def dkwX0_read_2 : List UInt8 := [172]
abbrev dktX0_read_2 : List UInt8 := dkwX0_read_2 ++ []
def dkwX0_read_1 : List UInt8 := [100, 133, 184, 0, 5, 154, 0, 5, 2, 172, 42, 27, 182, 1, 38, 42, 28, 182, 1, 41, 42, 182, 1, 44]
abbrev dktX0_read_1 : List UInt8 := dkwX0_read_1 ++ dktX0_read_2
def dkwX0_read_0 : List UInt8 := [42, 182, 1, 21, 42, 27, 182, 1, 35, 153, 0, 23, 28, 133, 9, 4, 5, 42, 180, 1, 13, 104, 120, 4]
abbrev dktX0_read_0 : List UInt8 := dkwX0_read_0 ++ dktX0_read_1
theorem dksX0_read_0 : cX0_read.data.toList.drop 0 = dktX0_read_0 := by decide +kernel
theorem dksX0_read_1 : cX0_read.data.toList.drop 24 = dktX0_read_1 := dk_seg dksX0_read_0 24 rfl rfl
theorem dksX0_read_2 : cX0_read.data.toList.drop 48 = dktX0_read_2 := dk_seg dksX0_read_1 24 rfl rfl
theorem dX0_read_0 : decode cX0_read 0 = .ok (.aload_n 0, 1) := dk_42 (dk_at dksX0_read_0 0 rfl rfl)
theorem dX0_read_1 : decode cX0_read 1 = .ok (.invokevirtual 277, 3) := dk_182 1 21 (dk_at dksX0_read_0 1 rfl rfl)
theorem dX0_read_4 : decode cX0_read 4 = .ok (.aload_n 0, 1) := dk_42 (dk_at dksX0_read_0 4 rfl rfl)
theorem dX0_read_5 : decode cX0_read 5 = .ok (.iload_n 1, 1) := dk_27 (dk_at dksX0_read_0 5 rfl rfl)
theorem dX0_read_6 : decode cX0_read 6 = .ok (.invokevirtual 291, 3) := dk_182 1 35 (dk_at dksX0_read_0 6 rfl rfl)
theorem dX0_read_9 : decode cX0_read 9 = .ok (.ifCond .eq 23, 3) := dk_153 0 23 (dk_at dksX0_read_0 9 rfl rfl)
theorem dX0_read_12 : decode cX0_read 12 = .ok (.iload_n 2, 1) := dk_28 (dk_at dksX0_read_0 12 rfl rfl)
theorem dX0_read_13 : decode cX0_read 13 = .ok (.i2l, 1) := dk_133 (dk_at dksX0_read_0 13 rfl rfl)
theorem dX0_read_14 : decode cX0_read 14 = .ok (.lconst 0, 1) := dk_9 (dk_at dksX0_read_0 14 rfl rfl)
theorem dX0_read_15 : decode cX0_read 15 = .ok (.iconst 1, 1) := dk_4 (dk_at dksX0_read_0 15 rfl rfl)
theorem dX0_read_16 : decode cX0_read 16 = .ok (.iconst 2, 1) := dk_5 (dk_at dksX0_read_0 16 rfl rfl)
theorem dX0_read_17 : decode cX0_read 17 = .ok (.aload_n 0, 1) := dk_42 (dk_at dksX0_read_0 17 rfl rfl)
theorem dX0_read_18 : decode cX0_read 18 = .ok (.getfield 269, 3) := dk_180 1 13 (dk_at dksX0_read_0 18 rfl rfl)
theorem dX0_read_21 : decode cX0_read 21 = .ok (.imul, 1) := dk_104 (dk_at dksX0_read_0 21 rfl rfl)
theorem dX0_read_22 : decode cX0_read 22 = .ok (.ishl, 1) := dk_120 (dk_at dksX0_read_0 22 rfl rfl)
theorem dX0_read_23 : decode cX0_read 23 = .ok (.iconst 1, 1) := dk_4 (dk_at dksX0_read_0 23 rfl rfl)
theorem dX0_read_24 : decode cX0_read 24 = .ok (.isub, 1) := dk_100 (dk_at dksX0_read_1 0 rfl rfl)
theorem dX0_read_25 : decode cX0_read 25 = .ok (.i2l, 1) := dk_133 (dk_at dksX0_read_1 1 rfl rfl)
theorem dX0_read_26 : decode cX0_read 26 = .ok (.invokestatic 5, 3) := dk_184 0 5 (dk_at dksX0_read_1 2 rfl rfl)
theorem dX0_read_29 : decode cX0_read 29 = .ok (.ifCond .ne 5, 3) := dk_154 0 5 (dk_at dksX0_read_1 5 rfl rfl)
theorem dX0_read_32 : decode cX0_read 32 = .ok (.iconst (-1), 1) := dk_2 (dk_at dksX0_read_1 8 rfl rfl)
theorem dX0_read_33 : decode cX0_read 33 = .ok (.ireturn, 1) := dk_172 (dk_at dksX0_read_1 9 rfl rfl)
theorem dX0_read_34 : decode cX0_read 34 = .ok (.aload_n 0, 1) := dk_42 (dk_at dksX0_read_1 10 rfl rfl)
theorem dX0_read_35 : decode cX0_read 35 = .ok (.iload_n 1, 1) := dk_27 (dk_at dksX0_read_1 11 rfl rfl)
theorem dX0_read_36 : decode cX0_read 36 = .ok (.invokevirtual 294, 3) := dk_182 1 38 (dk_at dksX0_read_1 12 rfl rfl)
theorem dX0_read_39 : decode cX0_read 39 = .ok (.aload_n 0, 1) := dk_42 (dk_at dksX0_read_1 15 rfl rfl)
theorem dX0_read_40 : decode cX0_read 40 = .ok (.iload_n 2, 1) := dk_28 (dk_at dksX0_read_1 16 rfl rfl)
theorem dX0_read_41 : decode cX0_read 41 = .ok (.invokevirtual 297, 3) := dk_182 1 41 (dk_at dksX0_read_1 17 rfl rfl)
theorem dX0_read_44 : decode cX0_read 44 = .ok (.aload_n 0, 1) := dk_42 (dk_at dksX0_read_1 20 rfl rfl)
theorem dX0_read_45 : decode cX0_read 45 = .ok (.invokevirtual 300, 3) := dk_182 1 44 (dk_at dksX0_read_1 21 rfl rfl)
theorem dX0_read_48 : decode cX0_read 48 = .ok (.ireturn, 1) := dk_172 (dk_at dksX0_read_2 0 rfl rfl)
abbrev cX0_areTexts : ByteArray := prog_1_method_51_code
def yX0_areTexts : MethodName := ⟨RX0, "areTexts", "(I)Z"⟩
def dkwX0_areTexts_0 : List UInt8 := [27, 133, 9, 4, 42, 180, 0, 50, 120, 4, 100, 133, 184, 0, 5, 172]
abbrev dktX0_areTexts_0 : List UInt8 := dkwX0_areTexts_0 ++ []
theorem dksX0_areTexts_0 : cX0_areTexts.data.toList.drop 0 = dktX0_areTexts_0 := by decide +kernel
theorem dX0_areTexts_0 : decode cX0_areTexts 0 = .ok (.iload_n 1, 1) := dk_27 (dk_at dksX0_areTexts_0 0 rfl rfl)
theorem dX0_areTexts_1 : decode cX0_areTexts 1 = .ok (.i2l, 1) := dk_133 (dk_at dksX0_areTexts_0 1 rfl rfl)
theorem dX0_areTexts_2 : decode cX0_areTexts 2 = .ok (.lconst 0, 1) := dk_9 (dk_at dksX0_areTexts_0 2 rfl rfl)
theorem dX0_areTexts_3 : decode cX0_areTexts 3 = .ok (.iconst 1, 1) := dk_4 (dk_at dksX0_areTexts_0 3 rfl rfl)
theorem dX0_areTexts_4 : decode cX0_areTexts 4 = .ok (.aload_n 0, 1) := dk_42 (dk_at dksX0_areTexts_0 4 rfl rfl)
theorem dX0_areTexts_5 : decode cX0_areTexts 5 = .ok (.getfield 50, 3) := dk_180 0 50 (dk_at dksX0_areTexts_0 5 rfl rfl)
theorem dX0_areTexts_8 : decode cX0_areTexts 8 = .ok (.ishl, 1) := dk_120 (dk_at dksX0_areTexts_0 8 rfl rfl)
theorem dX0_areTexts_9 : decode cX0_areTexts 9 = .ok (.iconst 1, 1) := dk_4 (dk_at dksX0_areTexts_0 9 rfl rfl)
theorem dX0_areTexts_10 : decode cX0_areTexts 10 = .ok (.isub, 1) := dk_100 (dk_at dksX0_areTexts_0 10 rfl rfl)
theorem dX0_areTexts_11 : decode cX0_areTexts 11 = .ok (.i2l, 1) := dk_133 (dk_at dksX0_areTexts_0 11 rfl rfl)
theorem dX0_areTexts_12 : decode cX0_areTexts 12 = .ok (.invokestatic 5, 3) := dk_184 0 5 (dk_at dksX0_areTexts_0 12 rfl rfl)
theorem dX0_areTexts_15 : decode cX0_areTexts 15 = .ok (.ireturn, 1) := dk_172 (dk_at dksX0_areTexts_0 15 rfl rfl)
abbrev cX0_spell : ByteArray := prog_1_method_48_code
def yX0_spell : MethodName := ⟨RX0, "spell", "(I)V"⟩
def dkwX0_spell_8 : List UInt8 := [132, 2, 1, 167, 255, 78, 177]
abbrev dktX0_spell_8 : List UInt8 := dkwX0_spell_8 ++ []
def dkwX0_spell_7 : List UInt8 := [180, 1, 24, 25, 5, 83, 42, 89, 180, 1, 24, 4, 96, 181, 1, 24, 132, 3, 1, 167, 255, 94]
abbrev dktX0_spell_7 : List UInt8 := dkwX0_spell_7 ++ dktX0_spell_8
def dkwX0_spell_6 : List UInt8 := [167, 0, 4, 3, 54, 6, 132, 7, 1, 167, 255, 198, 21, 6, 153, 0, 24, 42, 180, 1, 27, 42]
abbrev dktX0_spell_6 : List UInt8 := dkwX0_spell_6 ++ dktX0_spell_7
def dkwX0_spell_5 : List UInt8 := [182, 0, 71, 46, 79, 21, 6, 153, 0, 19, 25, 5, 21, 7, 29, 100, 46, 16, 252, 159, 0, 7, 4]
abbrev dktX0_spell_5 : List UInt8 := dkwX0_spell_5 ++ dktX0_spell_6
def dkwX0_spell_4 : List UInt8 := [162, 0, 57, 25, 5, 21, 7, 29, 100, 42, 180, 1, 10, 42, 42, 180, 0, 61, 28, 50, 21, 7]
abbrev dktX0_spell_4 : List UInt8 := dkwX0_spell_4 ++ dktX0_spell_5
def dkwX0_spell_3 : List UInt8 := [16, 6, 163, 0, 104, 21, 4, 29, 100, 188, 10, 58, 5, 4, 54, 6, 29, 54, 7, 21, 7, 21, 4]
abbrev dktX0_spell_3 : List UInt8 := dkwX0_spell_3 ++ dktX0_spell_4
def dkwX0_spell_2 : List UInt8 := [182, 0, 75, 54, 4, 42, 180, 0, 61, 28, 50, 29, 21, 4, 182, 0, 78, 153, 0, 113, 21, 4, 29, 100]
abbrev dktX0_spell_2 : List UInt8 := dkwX0_spell_2 ++ dktX0_spell_3
def dkwX0_spell_1 : List UInt8 := [182, 0, 67, 162, 0, 155, 27, 28, 122, 4, 126, 4, 160, 0, 146, 42, 180, 0, 61, 28, 50, 29]
abbrev dktX0_spell_1 : List UInt8 := dkwX0_spell_1 ++ dktX0_spell_2
def dkwX0_spell_0 : List UInt8 := [42, 3, 181, 1, 24, 3, 61, 28, 42, 180, 0, 50, 162, 0, 176, 3, 62, 29, 42, 180, 0, 61, 28, 50]
abbrev dktX0_spell_0 : List UInt8 := dkwX0_spell_0 ++ dktX0_spell_1
theorem dksX0_spell_0 : cX0_spell.data.toList.drop 0 = dktX0_spell_0 := by decide +kernel
theorem dksX0_spell_1 : cX0_spell.data.toList.drop 24 = dktX0_spell_1 := dk_seg dksX0_spell_0 24 rfl rfl
theorem dksX0_spell_2 : cX0_spell.data.toList.drop 46 = dktX0_spell_2 := dk_seg dksX0_spell_1 22 rfl rfl
theorem dksX0_spell_3 : cX0_spell.data.toList.drop 70 = dktX0_spell_3 := dk_seg dksX0_spell_2 24 rfl rfl
theorem dksX0_spell_4 : cX0_spell.data.toList.drop 93 = dktX0_spell_4 := dk_seg dksX0_spell_3 23 rfl rfl
theorem dksX0_spell_5 : cX0_spell.data.toList.drop 115 = dktX0_spell_5 := dk_seg dksX0_spell_4 22 rfl rfl
theorem dksX0_spell_6 : cX0_spell.data.toList.drop 138 = dktX0_spell_6 := dk_seg dksX0_spell_5 23 rfl rfl
theorem dksX0_spell_7 : cX0_spell.data.toList.drop 160 = dktX0_spell_7 := dk_seg dksX0_spell_6 22 rfl rfl
theorem dksX0_spell_8 : cX0_spell.data.toList.drop 182 = dktX0_spell_8 := dk_seg dksX0_spell_7 22 rfl rfl
theorem dX0_spell_0 : decode cX0_spell 0 = .ok (.aload_n 0, 1) := dk_42 (dk_at dksX0_spell_0 0 rfl rfl)
theorem dX0_spell_1 : decode cX0_spell 1 = .ok (.iconst 0, 1) := dk_3 (dk_at dksX0_spell_0 1 rfl rfl)
theorem dX0_spell_2 : decode cX0_spell 2 = .ok (.putfield 280, 3) := dk_181 1 24 (dk_at dksX0_spell_0 2 rfl rfl)
theorem dX0_spell_5 : decode cX0_spell 5 = .ok (.iconst 0, 1) := dk_3 (dk_at dksX0_spell_0 5 rfl rfl)
theorem dX0_spell_6 : decode cX0_spell 6 = .ok (.istore_n 2, 1) := dk_61 (dk_at dksX0_spell_0 6 rfl rfl)
theorem dX0_spell_7 : decode cX0_spell 7 = .ok (.iload_n 2, 1) := dk_28 (dk_at dksX0_spell_0 7 rfl rfl)
theorem dX0_spell_8 : decode cX0_spell 8 = .ok (.aload_n 0, 1) := dk_42 (dk_at dksX0_spell_0 8 rfl rfl)
theorem dX0_spell_9 : decode cX0_spell 9 = .ok (.getfield 50, 3) := dk_180 0 50 (dk_at dksX0_spell_0 9 rfl rfl)
theorem dX0_spell_12 : decode cX0_spell 12 = .ok (.if_icmp .ge 176, 3) := dk_162 0 176 (dk_at dksX0_spell_0 12 rfl rfl)
theorem dX0_spell_15 : decode cX0_spell 15 = .ok (.iconst 0, 1) := dk_3 (dk_at dksX0_spell_0 15 rfl rfl)
theorem dX0_spell_16 : decode cX0_spell 16 = .ok (.istore_n 3, 1) := dk_62 (dk_at dksX0_spell_0 16 rfl rfl)
theorem dX0_spell_17 : decode cX0_spell 17 = .ok (.iload_n 3, 1) := dk_29 (dk_at dksX0_spell_0 17 rfl rfl)
theorem dX0_spell_18 : decode cX0_spell 18 = .ok (.aload_n 0, 1) := dk_42 (dk_at dksX0_spell_0 18 rfl rfl)
theorem dX0_spell_19 : decode cX0_spell 19 = .ok (.getfield 61, 3) := dk_180 0 61 (dk_at dksX0_spell_0 19 rfl rfl)
theorem dX0_spell_22 : decode cX0_spell 22 = .ok (.iload_n 2, 1) := dk_28 (dk_at dksX0_spell_0 22 rfl rfl)
theorem dX0_spell_23 : decode cX0_spell 23 = .ok (.aaload, 1) := dk_50 (dk_at dksX0_spell_0 23 rfl rfl)
theorem dX0_spell_24 : decode cX0_spell 24 = .ok (.invokevirtual 67, 3) := dk_182 0 67 (dk_at dksX0_spell_1 0 rfl rfl)
theorem dX0_spell_27 : decode cX0_spell 27 = .ok (.if_icmp .ge 155, 3) := dk_162 0 155 (dk_at dksX0_spell_1 3 rfl rfl)
theorem dX0_spell_30 : decode cX0_spell 30 = .ok (.iload_n 1, 1) := dk_27 (dk_at dksX0_spell_1 6 rfl rfl)
theorem dX0_spell_31 : decode cX0_spell 31 = .ok (.iload_n 2, 1) := dk_28 (dk_at dksX0_spell_1 7 rfl rfl)
theorem dX0_spell_32 : decode cX0_spell 32 = .ok (.ishr, 1) := dk_122 (dk_at dksX0_spell_1 8 rfl rfl)
theorem dX0_spell_33 : decode cX0_spell 33 = .ok (.iconst 1, 1) := dk_4 (dk_at dksX0_spell_1 9 rfl rfl)
theorem dX0_spell_34 : decode cX0_spell 34 = .ok (.iand, 1) := dk_126 (dk_at dksX0_spell_1 10 rfl rfl)
theorem dX0_spell_35 : decode cX0_spell 35 = .ok (.iconst 1, 1) := dk_4 (dk_at dksX0_spell_1 11 rfl rfl)
theorem dX0_spell_36 : decode cX0_spell 36 = .ok (.if_icmp .ne 146, 3) := dk_160 0 146 (dk_at dksX0_spell_1 12 rfl rfl)
theorem dX0_spell_39 : decode cX0_spell 39 = .ok (.aload_n 0, 1) := dk_42 (dk_at dksX0_spell_1 15 rfl rfl)
theorem dX0_spell_40 : decode cX0_spell 40 = .ok (.getfield 61, 3) := dk_180 0 61 (dk_at dksX0_spell_1 16 rfl rfl)
theorem dX0_spell_43 : decode cX0_spell 43 = .ok (.iload_n 2, 1) := dk_28 (dk_at dksX0_spell_1 19 rfl rfl)
theorem dX0_spell_44 : decode cX0_spell 44 = .ok (.aaload, 1) := dk_50 (dk_at dksX0_spell_1 20 rfl rfl)
theorem dX0_spell_45 : decode cX0_spell 45 = .ok (.iload_n 3, 1) := dk_29 (dk_at dksX0_spell_1 21 rfl rfl)
theorem dX0_spell_46 : decode cX0_spell 46 = .ok (.invokevirtual 75, 3) := dk_182 0 75 (dk_at dksX0_spell_2 0 rfl rfl)
theorem dX0_spell_49 : decode cX0_spell 49 = .ok (.istore 4, 2) := dk_54 4 (dk_at dksX0_spell_2 3 rfl rfl)
theorem dX0_spell_51 : decode cX0_spell 51 = .ok (.aload_n 0, 1) := dk_42 (dk_at dksX0_spell_2 5 rfl rfl)
theorem dX0_spell_52 : decode cX0_spell 52 = .ok (.getfield 61, 3) := dk_180 0 61 (dk_at dksX0_spell_2 6 rfl rfl)
theorem dX0_spell_55 : decode cX0_spell 55 = .ok (.iload_n 2, 1) := dk_28 (dk_at dksX0_spell_2 9 rfl rfl)
theorem dX0_spell_56 : decode cX0_spell 56 = .ok (.aaload, 1) := dk_50 (dk_at dksX0_spell_2 10 rfl rfl)
theorem dX0_spell_57 : decode cX0_spell 57 = .ok (.iload_n 3, 1) := dk_29 (dk_at dksX0_spell_2 11 rfl rfl)
theorem dX0_spell_58 : decode cX0_spell 58 = .ok (.iload 4, 2) := dk_21 4 (dk_at dksX0_spell_2 12 rfl rfl)
theorem dX0_spell_60 : decode cX0_spell 60 = .ok (.invokevirtual 78, 3) := dk_182 0 78 (dk_at dksX0_spell_2 14 rfl rfl)
theorem dX0_spell_63 : decode cX0_spell 63 = .ok (.ifCond .eq 113, 3) := dk_153 0 113 (dk_at dksX0_spell_2 17 rfl rfl)
theorem dX0_spell_66 : decode cX0_spell 66 = .ok (.iload 4, 2) := dk_21 4 (dk_at dksX0_spell_2 20 rfl rfl)
theorem dX0_spell_68 : decode cX0_spell 68 = .ok (.iload_n 3, 1) := dk_29 (dk_at dksX0_spell_2 22 rfl rfl)
theorem dX0_spell_69 : decode cX0_spell 69 = .ok (.isub, 1) := dk_100 (dk_at dksX0_spell_2 23 rfl rfl)
theorem dX0_spell_70 : decode cX0_spell 70 = .ok (.bipush 6, 2) := dk_16 6 (dk_at dksX0_spell_3 0 rfl rfl)
theorem dX0_spell_72 : decode cX0_spell 72 = .ok (.if_icmp .gt 104, 3) := dk_163 0 104 (dk_at dksX0_spell_3 2 rfl rfl)
theorem dX0_spell_75 : decode cX0_spell 75 = .ok (.iload 4, 2) := dk_21 4 (dk_at dksX0_spell_3 5 rfl rfl)
theorem dX0_spell_77 : decode cX0_spell 77 = .ok (.iload_n 3, 1) := dk_29 (dk_at dksX0_spell_3 7 rfl rfl)
theorem dX0_spell_78 : decode cX0_spell 78 = .ok (.isub, 1) := dk_100 (dk_at dksX0_spell_3 8 rfl rfl)
theorem dX0_spell_79 : decode cX0_spell 79 = .ok (.newarray .int, 2) := dk_188_10 (dk_at dksX0_spell_3 9 rfl rfl)
theorem dX0_spell_81 : decode cX0_spell 81 = .ok (.astore 5, 2) := dk_58 5 (dk_at dksX0_spell_3 11 rfl rfl)
theorem dX0_spell_83 : decode cX0_spell 83 = .ok (.iconst 1, 1) := dk_4 (dk_at dksX0_spell_3 13 rfl rfl)
theorem dX0_spell_84 : decode cX0_spell 84 = .ok (.istore 6, 2) := dk_54 6 (dk_at dksX0_spell_3 14 rfl rfl)
theorem dX0_spell_86 : decode cX0_spell 86 = .ok (.iload_n 3, 1) := dk_29 (dk_at dksX0_spell_3 16 rfl rfl)
theorem dX0_spell_87 : decode cX0_spell 87 = .ok (.istore 7, 2) := dk_54 7 (dk_at dksX0_spell_3 17 rfl rfl)
theorem dX0_spell_89 : decode cX0_spell 89 = .ok (.iload 7, 2) := dk_21 7 (dk_at dksX0_spell_3 19 rfl rfl)
theorem dX0_spell_91 : decode cX0_spell 91 = .ok (.iload 4, 2) := dk_21 4 (dk_at dksX0_spell_3 21 rfl rfl)
theorem dX0_spell_93 : decode cX0_spell 93 = .ok (.if_icmp .ge 57, 3) := dk_162 0 57 (dk_at dksX0_spell_4 0 rfl rfl)
theorem dX0_spell_96 : decode cX0_spell 96 = .ok (.aload 5, 2) := dk_25 5 (dk_at dksX0_spell_4 3 rfl rfl)
theorem dX0_spell_98 : decode cX0_spell 98 = .ok (.iload 7, 2) := dk_21 7 (dk_at dksX0_spell_4 5 rfl rfl)
theorem dX0_spell_100 : decode cX0_spell 100 = .ok (.iload_n 3, 1) := dk_29 (dk_at dksX0_spell_4 7 rfl rfl)
theorem dX0_spell_101 : decode cX0_spell 101 = .ok (.isub, 1) := dk_100 (dk_at dksX0_spell_4 8 rfl rfl)
theorem dX0_spell_102 : decode cX0_spell 102 = .ok (.aload_n 0, 1) := dk_42 (dk_at dksX0_spell_4 9 rfl rfl)
theorem dX0_spell_103 : decode cX0_spell 103 = .ok (.getfield 266, 3) := dk_180 1 10 (dk_at dksX0_spell_4 10 rfl rfl)
theorem dX0_spell_106 : decode cX0_spell 106 = .ok (.aload_n 0, 1) := dk_42 (dk_at dksX0_spell_4 13 rfl rfl)
theorem dX0_spell_107 : decode cX0_spell 107 = .ok (.aload_n 0, 1) := dk_42 (dk_at dksX0_spell_4 14 rfl rfl)
theorem dX0_spell_108 : decode cX0_spell 108 = .ok (.getfield 61, 3) := dk_180 0 61 (dk_at dksX0_spell_4 15 rfl rfl)
theorem dX0_spell_111 : decode cX0_spell 111 = .ok (.iload_n 2, 1) := dk_28 (dk_at dksX0_spell_4 18 rfl rfl)
theorem dX0_spell_112 : decode cX0_spell 112 = .ok (.aaload, 1) := dk_50 (dk_at dksX0_spell_4 19 rfl rfl)
theorem dX0_spell_113 : decode cX0_spell 113 = .ok (.iload 7, 2) := dk_21 7 (dk_at dksX0_spell_4 20 rfl rfl)
theorem dX0_spell_115 : decode cX0_spell 115 = .ok (.invokevirtual 71, 3) := dk_182 0 71 (dk_at dksX0_spell_5 0 rfl rfl)
theorem dX0_spell_118 : decode cX0_spell 118 = .ok (.iaload, 1) := dk_46 (dk_at dksX0_spell_5 3 rfl rfl)
theorem dX0_spell_119 : decode cX0_spell 119 = .ok (.iastore, 1) := dk_79 (dk_at dksX0_spell_5 4 rfl rfl)
theorem dX0_spell_120 : decode cX0_spell 120 = .ok (.iload 6, 2) := dk_21 6 (dk_at dksX0_spell_5 5 rfl rfl)
theorem dX0_spell_122 : decode cX0_spell 122 = .ok (.ifCond .eq 19, 3) := dk_153 0 19 (dk_at dksX0_spell_5 7 rfl rfl)
theorem dX0_spell_125 : decode cX0_spell 125 = .ok (.aload 5, 2) := dk_25 5 (dk_at dksX0_spell_5 10 rfl rfl)
theorem dX0_spell_127 : decode cX0_spell 127 = .ok (.iload 7, 2) := dk_21 7 (dk_at dksX0_spell_5 12 rfl rfl)
theorem dX0_spell_129 : decode cX0_spell 129 = .ok (.iload_n 3, 1) := dk_29 (dk_at dksX0_spell_5 14 rfl rfl)
theorem dX0_spell_130 : decode cX0_spell 130 = .ok (.isub, 1) := dk_100 (dk_at dksX0_spell_5 15 rfl rfl)
theorem dX0_spell_131 : decode cX0_spell 131 = .ok (.iaload, 1) := dk_46 (dk_at dksX0_spell_5 16 rfl rfl)
theorem dX0_spell_132 : decode cX0_spell 132 = .ok (.bipush (-4), 2) := dk_16 252 (dk_at dksX0_spell_5 17 rfl rfl)
theorem dX0_spell_134 : decode cX0_spell 134 = .ok (.if_icmp .eq 7, 3) := dk_159 0 7 (dk_at dksX0_spell_5 19 rfl rfl)
theorem dX0_spell_137 : decode cX0_spell 137 = .ok (.iconst 1, 1) := dk_4 (dk_at dksX0_spell_5 22 rfl rfl)
theorem dX0_spell_138 : decode cX0_spell 138 = .ok (.goto 4, 3) := dk_167 0 4 (dk_at dksX0_spell_6 0 rfl rfl)
theorem dX0_spell_141 : decode cX0_spell 141 = .ok (.iconst 0, 1) := dk_3 (dk_at dksX0_spell_6 3 rfl rfl)
theorem dX0_spell_142 : decode cX0_spell 142 = .ok (.istore 6, 2) := dk_54 6 (dk_at dksX0_spell_6 4 rfl rfl)
theorem dX0_spell_144 : decode cX0_spell 144 = .ok (.iinc 7 1, 3) := dk_132 7 1 (dk_at dksX0_spell_6 6 rfl rfl)
theorem dX0_spell_147 : decode cX0_spell 147 = .ok (.goto (-58), 3) := dk_167 255 198 (dk_at dksX0_spell_6 9 rfl rfl)
theorem dX0_spell_150 : decode cX0_spell 150 = .ok (.iload 6, 2) := dk_21 6 (dk_at dksX0_spell_6 12 rfl rfl)
theorem dX0_spell_152 : decode cX0_spell 152 = .ok (.ifCond .eq 24, 3) := dk_153 0 24 (dk_at dksX0_spell_6 14 rfl rfl)
theorem dX0_spell_155 : decode cX0_spell 155 = .ok (.aload_n 0, 1) := dk_42 (dk_at dksX0_spell_6 17 rfl rfl)
theorem dX0_spell_156 : decode cX0_spell 156 = .ok (.getfield 283, 3) := dk_180 1 27 (dk_at dksX0_spell_6 18 rfl rfl)
theorem dX0_spell_159 : decode cX0_spell 159 = .ok (.aload_n 0, 1) := dk_42 (dk_at dksX0_spell_6 21 rfl rfl)
theorem dX0_spell_160 : decode cX0_spell 160 = .ok (.getfield 280, 3) := dk_180 1 24 (dk_at dksX0_spell_7 0 rfl rfl)
theorem dX0_spell_163 : decode cX0_spell 163 = .ok (.aload 5, 2) := dk_25 5 (dk_at dksX0_spell_7 3 rfl rfl)
theorem dX0_spell_165 : decode cX0_spell 165 = .ok (.aastore, 1) := dk_83 (dk_at dksX0_spell_7 5 rfl rfl)
theorem dX0_spell_166 : decode cX0_spell 166 = .ok (.aload_n 0, 1) := dk_42 (dk_at dksX0_spell_7 6 rfl rfl)
theorem dX0_spell_167 : decode cX0_spell 167 = .ok (.dup, 1) := dk_89 (dk_at dksX0_spell_7 7 rfl rfl)
theorem dX0_spell_168 : decode cX0_spell 168 = .ok (.getfield 280, 3) := dk_180 1 24 (dk_at dksX0_spell_7 8 rfl rfl)
theorem dX0_spell_171 : decode cX0_spell 171 = .ok (.iconst 1, 1) := dk_4 (dk_at dksX0_spell_7 11 rfl rfl)
theorem dX0_spell_172 : decode cX0_spell 172 = .ok (.iadd, 1) := dk_96 (dk_at dksX0_spell_7 12 rfl rfl)
theorem dX0_spell_173 : decode cX0_spell 173 = .ok (.putfield 280, 3) := dk_181 1 24 (dk_at dksX0_spell_7 13 rfl rfl)
theorem dX0_spell_176 : decode cX0_spell 176 = .ok (.iinc 3 1, 3) := dk_132 3 1 (dk_at dksX0_spell_7 16 rfl rfl)
theorem dX0_spell_179 : decode cX0_spell 179 = .ok (.goto (-162), 3) := dk_167 255 94 (dk_at dksX0_spell_7 19 rfl rfl)
theorem dX0_spell_182 : decode cX0_spell 182 = .ok (.iinc 2 1, 3) := dk_132 2 1 (dk_at dksX0_spell_8 0 rfl rfl)
theorem dX0_spell_185 : decode cX0_spell 185 = .ok (.goto (-178), 3) := dk_167 255 78 (dk_at dksX0_spell_8 3 rfl rfl)
theorem dX0_spell_188 : decode cX0_spell 188 = .ok (.return_, 1) := dk_177 (dk_at dksX0_spell_8 6 rfl rfl)
abbrev cX0_take : ByteArray := prog_1_method_52_code
def yX0_take : MethodName := ⟨RX0, "take", "(I)V"⟩
def dkwX0_take_1 : List UInt8 := [132, 2, 1, 167, 255, 232, 177]
abbrev dktX0_take_1 : List UInt8 := dkwX0_take_1 ++ []
def dkwX0_take_0 : List UInt8 := [3, 61, 28, 42, 180, 1, 13, 162, 0, 22, 42, 180, 1, 30, 28, 27, 5, 28, 104, 122, 6, 126, 79]
abbrev dktX0_take_0 : List UInt8 := dkwX0_take_0 ++ dktX0_take_1
theorem dksX0_take_0 : cX0_take.data.toList.drop 0 = dktX0_take_0 := by decide +kernel
theorem dksX0_take_1 : cX0_take.data.toList.drop 23 = dktX0_take_1 := dk_seg dksX0_take_0 23 rfl rfl
theorem dX0_take_0 : decode cX0_take 0 = .ok (.iconst 0, 1) := dk_3 (dk_at dksX0_take_0 0 rfl rfl)
theorem dX0_take_1 : decode cX0_take 1 = .ok (.istore_n 2, 1) := dk_61 (dk_at dksX0_take_0 1 rfl rfl)
theorem dX0_take_2 : decode cX0_take 2 = .ok (.iload_n 2, 1) := dk_28 (dk_at dksX0_take_0 2 rfl rfl)
theorem dX0_take_3 : decode cX0_take 3 = .ok (.aload_n 0, 1) := dk_42 (dk_at dksX0_take_0 3 rfl rfl)
theorem dX0_take_4 : decode cX0_take 4 = .ok (.getfield 269, 3) := dk_180 1 13 (dk_at dksX0_take_0 4 rfl rfl)
theorem dX0_take_7 : decode cX0_take 7 = .ok (.if_icmp .ge 22, 3) := dk_162 0 22 (dk_at dksX0_take_0 7 rfl rfl)
theorem dX0_take_10 : decode cX0_take 10 = .ok (.aload_n 0, 1) := dk_42 (dk_at dksX0_take_0 10 rfl rfl)
theorem dX0_take_11 : decode cX0_take 11 = .ok (.getfield 286, 3) := dk_180 1 30 (dk_at dksX0_take_0 11 rfl rfl)
theorem dX0_take_14 : decode cX0_take 14 = .ok (.iload_n 2, 1) := dk_28 (dk_at dksX0_take_0 14 rfl rfl)
theorem dX0_take_15 : decode cX0_take 15 = .ok (.iload_n 1, 1) := dk_27 (dk_at dksX0_take_0 15 rfl rfl)
theorem dX0_take_16 : decode cX0_take 16 = .ok (.iconst 2, 1) := dk_5 (dk_at dksX0_take_0 16 rfl rfl)
theorem dX0_take_17 : decode cX0_take 17 = .ok (.iload_n 2, 1) := dk_28 (dk_at dksX0_take_0 17 rfl rfl)
theorem dX0_take_18 : decode cX0_take 18 = .ok (.imul, 1) := dk_104 (dk_at dksX0_take_0 18 rfl rfl)
theorem dX0_take_19 : decode cX0_take 19 = .ok (.ishr, 1) := dk_122 (dk_at dksX0_take_0 19 rfl rfl)
theorem dX0_take_20 : decode cX0_take 20 = .ok (.iconst 3, 1) := dk_6 (dk_at dksX0_take_0 20 rfl rfl)
theorem dX0_take_21 : decode cX0_take 21 = .ok (.iand, 1) := dk_126 (dk_at dksX0_take_0 21 rfl rfl)
theorem dX0_take_22 : decode cX0_take 22 = .ok (.iastore, 1) := dk_79 (dk_at dksX0_take_0 22 rfl rfl)
theorem dX0_take_23 : decode cX0_take 23 = .ok (.iinc 2 1, 3) := dk_132 2 1 (dk_at dksX0_take_1 0 rfl rfl)
theorem dX0_take_26 : decode cX0_take 26 = .ok (.goto (-24), 3) := dk_167 255 232 (dk_at dksX0_take_1 3 rfl rfl)
theorem dX0_take_29 : decode cX0_take 29 = .ok (.return_, 1) := dk_177 (dk_at dksX0_take_1 6 rfl rfl)
abbrev cX0_reads : ByteArray := prog_1_method_50_code
def yX0_reads : MethodName := ⟨RX0, "reads", "()I"⟩
def dkwX0_reads_1 : List UInt8 := [153, 0, 7, 4, 167, 0, 4, 3, 96, 60, 132, 2, 1, 167, 255, 224, 27, 172]
abbrev dktX0_reads_1 : List UInt8 := dkwX0_reads_1 ++ []
def dkwX0_reads_0 : List UInt8 := [3, 60, 3, 61, 28, 42, 180, 1, 24, 162, 0, 30, 27, 42, 42, 180, 1, 27, 28, 50, 182, 1, 31]
abbrev dktX0_reads_0 : List UInt8 := dkwX0_reads_0 ++ dktX0_reads_1
theorem dksX0_reads_0 : cX0_reads.data.toList.drop 0 = dktX0_reads_0 := by decide +kernel
theorem dksX0_reads_1 : cX0_reads.data.toList.drop 23 = dktX0_reads_1 := dk_seg dksX0_reads_0 23 rfl rfl
theorem dX0_reads_0 : decode cX0_reads 0 = .ok (.iconst 0, 1) := dk_3 (dk_at dksX0_reads_0 0 rfl rfl)
theorem dX0_reads_1 : decode cX0_reads 1 = .ok (.istore_n 1, 1) := dk_60 (dk_at dksX0_reads_0 1 rfl rfl)
theorem dX0_reads_2 : decode cX0_reads 2 = .ok (.iconst 0, 1) := dk_3 (dk_at dksX0_reads_0 2 rfl rfl)
theorem dX0_reads_3 : decode cX0_reads 3 = .ok (.istore_n 2, 1) := dk_61 (dk_at dksX0_reads_0 3 rfl rfl)
theorem dX0_reads_4 : decode cX0_reads 4 = .ok (.iload_n 2, 1) := dk_28 (dk_at dksX0_reads_0 4 rfl rfl)
theorem dX0_reads_5 : decode cX0_reads 5 = .ok (.aload_n 0, 1) := dk_42 (dk_at dksX0_reads_0 5 rfl rfl)
theorem dX0_reads_6 : decode cX0_reads 6 = .ok (.getfield 280, 3) := dk_180 1 24 (dk_at dksX0_reads_0 6 rfl rfl)
theorem dX0_reads_9 : decode cX0_reads 9 = .ok (.if_icmp .ge 30, 3) := dk_162 0 30 (dk_at dksX0_reads_0 9 rfl rfl)
theorem dX0_reads_12 : decode cX0_reads 12 = .ok (.iload_n 1, 1) := dk_27 (dk_at dksX0_reads_0 12 rfl rfl)
theorem dX0_reads_13 : decode cX0_reads 13 = .ok (.aload_n 0, 1) := dk_42 (dk_at dksX0_reads_0 13 rfl rfl)
theorem dX0_reads_14 : decode cX0_reads 14 = .ok (.aload_n 0, 1) := dk_42 (dk_at dksX0_reads_0 14 rfl rfl)
theorem dX0_reads_15 : decode cX0_reads 15 = .ok (.getfield 283, 3) := dk_180 1 27 (dk_at dksX0_reads_0 15 rfl rfl)
theorem dX0_reads_18 : decode cX0_reads 18 = .ok (.iload_n 2, 1) := dk_28 (dk_at dksX0_reads_0 18 rfl rfl)
theorem dX0_reads_19 : decode cX0_reads 19 = .ok (.aaload, 1) := dk_50 (dk_at dksX0_reads_0 19 rfl rfl)
theorem dX0_reads_20 : decode cX0_reads 20 = .ok (.invokevirtual 287, 3) := dk_182 1 31 (dk_at dksX0_reads_0 20 rfl rfl)
theorem dX0_reads_23 : decode cX0_reads 23 = .ok (.ifCond .eq 7, 3) := dk_153 0 7 (dk_at dksX0_reads_1 0 rfl rfl)
theorem dX0_reads_26 : decode cX0_reads 26 = .ok (.iconst 1, 1) := dk_4 (dk_at dksX0_reads_1 3 rfl rfl)
theorem dX0_reads_27 : decode cX0_reads 27 = .ok (.goto 4, 3) := dk_167 0 4 (dk_at dksX0_reads_1 4 rfl rfl)
theorem dX0_reads_30 : decode cX0_reads 30 = .ok (.iconst 0, 1) := dk_3 (dk_at dksX0_reads_1 7 rfl rfl)
theorem dX0_reads_31 : decode cX0_reads 31 = .ok (.iadd, 1) := dk_96 (dk_at dksX0_reads_1 8 rfl rfl)
theorem dX0_reads_32 : decode cX0_reads 32 = .ok (.istore_n 1, 1) := dk_60 (dk_at dksX0_reads_1 9 rfl rfl)
theorem dX0_reads_33 : decode cX0_reads 33 = .ok (.iinc 2 1, 3) := dk_132 2 1 (dk_at dksX0_reads_1 10 rfl rfl)
theorem dX0_reads_36 : decode cX0_reads 36 = .ok (.goto (-32), 3) := dk_167 255 224 (dk_at dksX0_reads_1 13 rfl rfl)
theorem dX0_reads_39 : decode cX0_reads 39 = .ok (.iload_n 1, 1) := dk_27 (dk_at dksX0_reads_1 16 rfl rfl)
theorem dX0_reads_40 : decode cX0_reads 40 = .ok (.ireturn, 1) := dk_172 (dk_at dksX0_reads_1 17 rfl rfl)
abbrev cX0_isWord : ByteArray := prog_1_method_49_code
def yX0_isWord : MethodName := ⟨RX0, "isWord", "([I)Z"⟩
def dkwX0_isWord_2 : List UInt8 := [50, 28, 51, 172]
abbrev dktX0_isWord_2 : List UInt8 := dkwX0_isWord_2 ++ []
def dkwX0_isWord_1 : List UInt8 := [28, 5, 120, 42, 180, 1, 30, 21, 6, 46, 128, 61, 132, 5, 1, 167, 255, 228, 42, 180, 0, 249, 43, 190]
abbrev dktX0_isWord_1 : List UInt8 := dkwX0_isWord_1 ++ dktX0_isWord_2
def dkwX0_isWord_0 : List UInt8 := [3, 61, 43, 78, 45, 190, 54, 4, 3, 54, 5, 21, 5, 21, 4, 162, 0, 27, 45, 21, 5, 46, 54, 6]
abbrev dktX0_isWord_0 : List UInt8 := dkwX0_isWord_0 ++ dktX0_isWord_1
theorem dksX0_isWord_0 : cX0_isWord.data.toList.drop 0 = dktX0_isWord_0 := by decide +kernel
theorem dksX0_isWord_1 : cX0_isWord.data.toList.drop 24 = dktX0_isWord_1 := dk_seg dksX0_isWord_0 24 rfl rfl
theorem dksX0_isWord_2 : cX0_isWord.data.toList.drop 48 = dktX0_isWord_2 := dk_seg dksX0_isWord_1 24 rfl rfl
theorem dX0_isWord_0 : decode cX0_isWord 0 = .ok (.iconst 0, 1) := dk_3 (dk_at dksX0_isWord_0 0 rfl rfl)
theorem dX0_isWord_1 : decode cX0_isWord 1 = .ok (.istore_n 2, 1) := dk_61 (dk_at dksX0_isWord_0 1 rfl rfl)
theorem dX0_isWord_2 : decode cX0_isWord 2 = .ok (.aload_n 1, 1) := dk_43 (dk_at dksX0_isWord_0 2 rfl rfl)
theorem dX0_isWord_3 : decode cX0_isWord 3 = .ok (.astore_n 3, 1) := dk_78 (dk_at dksX0_isWord_0 3 rfl rfl)
theorem dX0_isWord_4 : decode cX0_isWord 4 = .ok (.aload_n 3, 1) := dk_45 (dk_at dksX0_isWord_0 4 rfl rfl)
theorem dX0_isWord_5 : decode cX0_isWord 5 = .ok (.arraylength, 1) := dk_190 (dk_at dksX0_isWord_0 5 rfl rfl)
theorem dX0_isWord_6 : decode cX0_isWord 6 = .ok (.istore 4, 2) := dk_54 4 (dk_at dksX0_isWord_0 6 rfl rfl)
theorem dX0_isWord_8 : decode cX0_isWord 8 = .ok (.iconst 0, 1) := dk_3 (dk_at dksX0_isWord_0 8 rfl rfl)
theorem dX0_isWord_9 : decode cX0_isWord 9 = .ok (.istore 5, 2) := dk_54 5 (dk_at dksX0_isWord_0 9 rfl rfl)
theorem dX0_isWord_11 : decode cX0_isWord 11 = .ok (.iload 5, 2) := dk_21 5 (dk_at dksX0_isWord_0 11 rfl rfl)
theorem dX0_isWord_13 : decode cX0_isWord 13 = .ok (.iload 4, 2) := dk_21 4 (dk_at dksX0_isWord_0 13 rfl rfl)
theorem dX0_isWord_15 : decode cX0_isWord 15 = .ok (.if_icmp .ge 27, 3) := dk_162 0 27 (dk_at dksX0_isWord_0 15 rfl rfl)
theorem dX0_isWord_18 : decode cX0_isWord 18 = .ok (.aload_n 3, 1) := dk_45 (dk_at dksX0_isWord_0 18 rfl rfl)
theorem dX0_isWord_19 : decode cX0_isWord 19 = .ok (.iload 5, 2) := dk_21 5 (dk_at dksX0_isWord_0 19 rfl rfl)
theorem dX0_isWord_21 : decode cX0_isWord 21 = .ok (.iaload, 1) := dk_46 (dk_at dksX0_isWord_0 21 rfl rfl)
theorem dX0_isWord_22 : decode cX0_isWord 22 = .ok (.istore 6, 2) := dk_54 6 (dk_at dksX0_isWord_0 22 rfl rfl)
theorem dX0_isWord_24 : decode cX0_isWord 24 = .ok (.iload_n 2, 1) := dk_28 (dk_at dksX0_isWord_1 0 rfl rfl)
theorem dX0_isWord_25 : decode cX0_isWord 25 = .ok (.iconst 2, 1) := dk_5 (dk_at dksX0_isWord_1 1 rfl rfl)
theorem dX0_isWord_26 : decode cX0_isWord 26 = .ok (.ishl, 1) := dk_120 (dk_at dksX0_isWord_1 2 rfl rfl)
theorem dX0_isWord_27 : decode cX0_isWord 27 = .ok (.aload_n 0, 1) := dk_42 (dk_at dksX0_isWord_1 3 rfl rfl)
theorem dX0_isWord_28 : decode cX0_isWord 28 = .ok (.getfield 286, 3) := dk_180 1 30 (dk_at dksX0_isWord_1 4 rfl rfl)
theorem dX0_isWord_31 : decode cX0_isWord 31 = .ok (.iload 6, 2) := dk_21 6 (dk_at dksX0_isWord_1 7 rfl rfl)
theorem dX0_isWord_33 : decode cX0_isWord 33 = .ok (.iaload, 1) := dk_46 (dk_at dksX0_isWord_1 9 rfl rfl)
theorem dX0_isWord_34 : decode cX0_isWord 34 = .ok (.ior, 1) := dk_128 (dk_at dksX0_isWord_1 10 rfl rfl)
theorem dX0_isWord_35 : decode cX0_isWord 35 = .ok (.istore_n 2, 1) := dk_61 (dk_at dksX0_isWord_1 11 rfl rfl)
theorem dX0_isWord_36 : decode cX0_isWord 36 = .ok (.iinc 5 1, 3) := dk_132 5 1 (dk_at dksX0_isWord_1 12 rfl rfl)
theorem dX0_isWord_39 : decode cX0_isWord 39 = .ok (.goto (-28), 3) := dk_167 255 228 (dk_at dksX0_isWord_1 15 rfl rfl)
theorem dX0_isWord_42 : decode cX0_isWord 42 = .ok (.aload_n 0, 1) := dk_42 (dk_at dksX0_isWord_1 18 rfl rfl)
theorem dX0_isWord_43 : decode cX0_isWord 43 = .ok (.getfield 249, 3) := dk_180 0 249 (dk_at dksX0_isWord_1 19 rfl rfl)
theorem dX0_isWord_46 : decode cX0_isWord 46 = .ok (.aload_n 1, 1) := dk_43 (dk_at dksX0_isWord_1 22 rfl rfl)
theorem dX0_isWord_47 : decode cX0_isWord 47 = .ok (.arraylength, 1) := dk_190 (dk_at dksX0_isWord_1 23 rfl rfl)
theorem dX0_isWord_48 : decode cX0_isWord 48 = .ok (.aaload, 1) := dk_50 (dk_at dksX0_isWord_2 0 rfl rfl)
theorem dX0_isWord_49 : decode cX0_isWord 49 = .ok (.iload_n 2, 1) := dk_28 (dk_at dksX0_isWord_2 1 rfl rfl)
theorem dX0_isWord_50 : decode cX0_isWord 50 = .ok (.baload, 1) := dk_51 (dk_at dksX0_isWord_2 2 rfl rfl)
theorem dX0_isWord_51 : decode cX0_isWord 51 = .ok (.ireturn, 1) := dk_172 (dk_at dksX0_isWord_2 3 rfl rfl)
abbrev cX0_best : ByteArray := prog_1_method_56_code
def yX0_best : MethodName := ⟨RX0, "best", "(II)I"⟩
def dkwX0_best_2 : List UInt8 := [167, 0, 7, 42, 180, 1, 50, 172]
abbrev dktX0_best_2 : List UInt8 := dkwX0_best_2 ++ []
def dkwX0_best_1 : List UInt8 := [182, 1, 57, 28, 154, 0, 10, 42, 180, 1, 54, 167, 0, 19, 28, 4, 160, 0, 10, 42, 180, 1, 47]
abbrev dktX0_best_1 : List UInt8 := dkwX0_best_1 ++ dktX0_best_2
def dkwX0_best_0 : List UInt8 := [42, 27, 182, 1, 35, 153, 0, 15, 28, 133, 9, 20, 0, 99, 184, 0, 5, 154, 0, 5, 2, 172, 42, 27]
abbrev dktX0_best_0 : List UInt8 := dkwX0_best_0 ++ dktX0_best_1
theorem dksX0_best_0 : cX0_best.data.toList.drop 0 = dktX0_best_0 := by decide +kernel
theorem dksX0_best_1 : cX0_best.data.toList.drop 24 = dktX0_best_1 := dk_seg dksX0_best_0 24 rfl rfl
theorem dksX0_best_2 : cX0_best.data.toList.drop 47 = dktX0_best_2 := dk_seg dksX0_best_1 23 rfl rfl
theorem dX0_best_0 : decode cX0_best 0 = .ok (.aload_n 0, 1) := dk_42 (dk_at dksX0_best_0 0 rfl rfl)
theorem dX0_best_1 : decode cX0_best 1 = .ok (.iload_n 1, 1) := dk_27 (dk_at dksX0_best_0 1 rfl rfl)
theorem dX0_best_2 : decode cX0_best 2 = .ok (.invokevirtual 291, 3) := dk_182 1 35 (dk_at dksX0_best_0 2 rfl rfl)
theorem dX0_best_5 : decode cX0_best 5 = .ok (.ifCond .eq 15, 3) := dk_153 0 15 (dk_at dksX0_best_0 5 rfl rfl)
theorem dX0_best_8 : decode cX0_best 8 = .ok (.iload_n 2, 1) := dk_28 (dk_at dksX0_best_0 8 rfl rfl)
theorem dX0_best_9 : decode cX0_best 9 = .ok (.i2l, 1) := dk_133 (dk_at dksX0_best_0 9 rfl rfl)
theorem dX0_best_10 : decode cX0_best 10 = .ok (.lconst 0, 1) := dk_9 (dk_at dksX0_best_0 10 rfl rfl)
theorem dX0_best_11 : decode cX0_best 11 = .ok (.ldc2_w 99, 3) := dk_20 0 99 (dk_at dksX0_best_0 11 rfl rfl)
theorem dX0_best_14 : decode cX0_best 14 = .ok (.invokestatic 5, 3) := dk_184 0 5 (dk_at dksX0_best_0 14 rfl rfl)
theorem dX0_best_17 : decode cX0_best 17 = .ok (.ifCond .ne 5, 3) := dk_154 0 5 (dk_at dksX0_best_0 17 rfl rfl)
theorem dX0_best_20 : decode cX0_best 20 = .ok (.iconst (-1), 1) := dk_2 (dk_at dksX0_best_0 20 rfl rfl)
theorem dX0_best_21 : decode cX0_best 21 = .ok (.ireturn, 1) := dk_172 (dk_at dksX0_best_0 21 rfl rfl)
theorem dX0_best_22 : decode cX0_best 22 = .ok (.aload_n 0, 1) := dk_42 (dk_at dksX0_best_0 22 rfl rfl)
theorem dX0_best_23 : decode cX0_best 23 = .ok (.iload_n 1, 1) := dk_27 (dk_at dksX0_best_0 23 rfl rfl)
theorem dX0_best_24 : decode cX0_best 24 = .ok (.invokevirtual 313, 3) := dk_182 1 57 (dk_at dksX0_best_1 0 rfl rfl)
theorem dX0_best_27 : decode cX0_best 27 = .ok (.iload_n 2, 1) := dk_28 (dk_at dksX0_best_1 3 rfl rfl)
theorem dX0_best_28 : decode cX0_best 28 = .ok (.ifCond .ne 10, 3) := dk_154 0 10 (dk_at dksX0_best_1 4 rfl rfl)
theorem dX0_best_31 : decode cX0_best 31 = .ok (.aload_n 0, 1) := dk_42 (dk_at dksX0_best_1 7 rfl rfl)
theorem dX0_best_32 : decode cX0_best 32 = .ok (.getfield 310, 3) := dk_180 1 54 (dk_at dksX0_best_1 8 rfl rfl)
theorem dX0_best_35 : decode cX0_best 35 = .ok (.goto 19, 3) := dk_167 0 19 (dk_at dksX0_best_1 11 rfl rfl)
theorem dX0_best_38 : decode cX0_best 38 = .ok (.iload_n 2, 1) := dk_28 (dk_at dksX0_best_1 14 rfl rfl)
theorem dX0_best_39 : decode cX0_best 39 = .ok (.iconst 1, 1) := dk_4 (dk_at dksX0_best_1 15 rfl rfl)
theorem dX0_best_40 : decode cX0_best 40 = .ok (.if_icmp .ne 10, 3) := dk_160 0 10 (dk_at dksX0_best_1 16 rfl rfl)
theorem dX0_best_43 : decode cX0_best 43 = .ok (.aload_n 0, 1) := dk_42 (dk_at dksX0_best_1 19 rfl rfl)
theorem dX0_best_44 : decode cX0_best 44 = .ok (.getfield 303, 3) := dk_180 1 47 (dk_at dksX0_best_1 20 rfl rfl)
theorem dX0_best_47 : decode cX0_best 47 = .ok (.goto 7, 3) := dk_167 0 7 (dk_at dksX0_best_2 0 rfl rfl)
theorem dX0_best_50 : decode cX0_best 50 = .ok (.aload_n 0, 1) := dk_42 (dk_at dksX0_best_2 3 rfl rfl)
theorem dX0_best_51 : decode cX0_best 51 = .ok (.getfield 306, 3) := dk_180 1 50 (dk_at dksX0_best_2 4 rfl rfl)
theorem dX0_best_54 : decode cX0_best 54 = .ok (.ireturn, 1) := dk_172 (dk_at dksX0_best_2 7 rfl rfl)
abbrev cX0_layBest : ByteArray := prog_1_method_55_code
def yX0_layBest : MethodName := ⟨RX0, "layBest", "(I)V"⟩
def dkwX0_layBest_5 : List UInt8 := [167, 0, 4, 3, 96, 181, 1, 50, 132, 2, 1, 167, 255, 152, 177]
abbrev dktX0_layBest_5 : List UInt8 := dkwX0_layBest_5 ++ []
def dkwX0_layBest_4 : List UInt8 := [181, 1, 54, 42, 3, 181, 1, 50, 42, 89, 180, 1, 50, 29, 42, 180, 1, 47, 160, 0, 7, 4]
abbrev dktX0_layBest_4 : List UInt8 := dkwX0_layBest_4 ++ dktX0_layBest_5
def dkwX0_layBest_3 : List UInt8 := [182, 1, 44, 62, 29, 42, 180, 1, 47, 164, 0, 21, 42, 29, 181, 1, 47, 42, 42, 182, 1, 53]
abbrev dktX0_layBest_3 : List UInt8 := dkwX0_layBest_3 ++ dktX0_layBest_4
def dkwX0_layBest_2 : List UInt8 := [28, 5, 42, 180, 1, 13, 4, 100, 29, 100, 104, 122, 6, 126, 79, 132, 3, 1, 167, 255, 225, 42]
abbrev dktX0_layBest_2 : List UInt8 := dkwX0_layBest_2 ++ dktX0_layBest_3
def dkwX0_layBest_1 : List UInt8 := [42, 180, 1, 13, 104, 120, 162, 0, 98, 3, 62, 29, 42, 180, 1, 13, 162, 0, 29, 42, 180, 1, 30, 29]
abbrev dktX0_layBest_1 : List UInt8 := dkwX0_layBest_1 ++ dktX0_layBest_2
def dkwX0_layBest_0 : List UInt8 := [42, 182, 1, 21, 42, 27, 182, 1, 38, 42, 2, 181, 1, 47, 42, 3, 181, 1, 50, 3, 61, 28, 4, 5]
abbrev dktX0_layBest_0 : List UInt8 := dkwX0_layBest_0 ++ dktX0_layBest_1
theorem dksX0_layBest_0 : cX0_layBest.data.toList.drop 0 = dktX0_layBest_0 := by decide +kernel
theorem dksX0_layBest_1 : cX0_layBest.data.toList.drop 24 = dktX0_layBest_1 := dk_seg dksX0_layBest_0 24 rfl rfl
theorem dksX0_layBest_2 : cX0_layBest.data.toList.drop 48 = dktX0_layBest_2 := dk_seg dksX0_layBest_1 24 rfl rfl
theorem dksX0_layBest_3 : cX0_layBest.data.toList.drop 70 = dktX0_layBest_3 := dk_seg dksX0_layBest_2 22 rfl rfl
theorem dksX0_layBest_4 : cX0_layBest.data.toList.drop 92 = dktX0_layBest_4 := dk_seg dksX0_layBest_3 22 rfl rfl
theorem dksX0_layBest_5 : cX0_layBest.data.toList.drop 114 = dktX0_layBest_5 := dk_seg dksX0_layBest_4 22 rfl rfl
theorem dX0_layBest_0 : decode cX0_layBest 0 = .ok (.aload_n 0, 1) := dk_42 (dk_at dksX0_layBest_0 0 rfl rfl)
theorem dX0_layBest_1 : decode cX0_layBest 1 = .ok (.invokevirtual 277, 3) := dk_182 1 21 (dk_at dksX0_layBest_0 1 rfl rfl)
theorem dX0_layBest_4 : decode cX0_layBest 4 = .ok (.aload_n 0, 1) := dk_42 (dk_at dksX0_layBest_0 4 rfl rfl)
theorem dX0_layBest_5 : decode cX0_layBest 5 = .ok (.iload_n 1, 1) := dk_27 (dk_at dksX0_layBest_0 5 rfl rfl)
theorem dX0_layBest_6 : decode cX0_layBest 6 = .ok (.invokevirtual 294, 3) := dk_182 1 38 (dk_at dksX0_layBest_0 6 rfl rfl)
theorem dX0_layBest_9 : decode cX0_layBest 9 = .ok (.aload_n 0, 1) := dk_42 (dk_at dksX0_layBest_0 9 rfl rfl)
theorem dX0_layBest_10 : decode cX0_layBest 10 = .ok (.iconst (-1), 1) := dk_2 (dk_at dksX0_layBest_0 10 rfl rfl)
theorem dX0_layBest_11 : decode cX0_layBest 11 = .ok (.putfield 303, 3) := dk_181 1 47 (dk_at dksX0_layBest_0 11 rfl rfl)
theorem dX0_layBest_14 : decode cX0_layBest 14 = .ok (.aload_n 0, 1) := dk_42 (dk_at dksX0_layBest_0 14 rfl rfl)
theorem dX0_layBest_15 : decode cX0_layBest 15 = .ok (.iconst 0, 1) := dk_3 (dk_at dksX0_layBest_0 15 rfl rfl)
theorem dX0_layBest_16 : decode cX0_layBest 16 = .ok (.putfield 306, 3) := dk_181 1 50 (dk_at dksX0_layBest_0 16 rfl rfl)
theorem dX0_layBest_19 : decode cX0_layBest 19 = .ok (.iconst 0, 1) := dk_3 (dk_at dksX0_layBest_0 19 rfl rfl)
theorem dX0_layBest_20 : decode cX0_layBest 20 = .ok (.istore_n 2, 1) := dk_61 (dk_at dksX0_layBest_0 20 rfl rfl)
theorem dX0_layBest_21 : decode cX0_layBest 21 = .ok (.iload_n 2, 1) := dk_28 (dk_at dksX0_layBest_0 21 rfl rfl)
theorem dX0_layBest_22 : decode cX0_layBest 22 = .ok (.iconst 1, 1) := dk_4 (dk_at dksX0_layBest_0 22 rfl rfl)
theorem dX0_layBest_23 : decode cX0_layBest 23 = .ok (.iconst 2, 1) := dk_5 (dk_at dksX0_layBest_0 23 rfl rfl)
theorem dX0_layBest_24 : decode cX0_layBest 24 = .ok (.aload_n 0, 1) := dk_42 (dk_at dksX0_layBest_1 0 rfl rfl)
theorem dX0_layBest_25 : decode cX0_layBest 25 = .ok (.getfield 269, 3) := dk_180 1 13 (dk_at dksX0_layBest_1 1 rfl rfl)
theorem dX0_layBest_28 : decode cX0_layBest 28 = .ok (.imul, 1) := dk_104 (dk_at dksX0_layBest_1 4 rfl rfl)
theorem dX0_layBest_29 : decode cX0_layBest 29 = .ok (.ishl, 1) := dk_120 (dk_at dksX0_layBest_1 5 rfl rfl)
theorem dX0_layBest_30 : decode cX0_layBest 30 = .ok (.if_icmp .ge 98, 3) := dk_162 0 98 (dk_at dksX0_layBest_1 6 rfl rfl)
theorem dX0_layBest_33 : decode cX0_layBest 33 = .ok (.iconst 0, 1) := dk_3 (dk_at dksX0_layBest_1 9 rfl rfl)
theorem dX0_layBest_34 : decode cX0_layBest 34 = .ok (.istore_n 3, 1) := dk_62 (dk_at dksX0_layBest_1 10 rfl rfl)
theorem dX0_layBest_35 : decode cX0_layBest 35 = .ok (.iload_n 3, 1) := dk_29 (dk_at dksX0_layBest_1 11 rfl rfl)
theorem dX0_layBest_36 : decode cX0_layBest 36 = .ok (.aload_n 0, 1) := dk_42 (dk_at dksX0_layBest_1 12 rfl rfl)
theorem dX0_layBest_37 : decode cX0_layBest 37 = .ok (.getfield 269, 3) := dk_180 1 13 (dk_at dksX0_layBest_1 13 rfl rfl)
theorem dX0_layBest_40 : decode cX0_layBest 40 = .ok (.if_icmp .ge 29, 3) := dk_162 0 29 (dk_at dksX0_layBest_1 16 rfl rfl)
theorem dX0_layBest_43 : decode cX0_layBest 43 = .ok (.aload_n 0, 1) := dk_42 (dk_at dksX0_layBest_1 19 rfl rfl)
theorem dX0_layBest_44 : decode cX0_layBest 44 = .ok (.getfield 286, 3) := dk_180 1 30 (dk_at dksX0_layBest_1 20 rfl rfl)
theorem dX0_layBest_47 : decode cX0_layBest 47 = .ok (.iload_n 3, 1) := dk_29 (dk_at dksX0_layBest_1 23 rfl rfl)
theorem dX0_layBest_48 : decode cX0_layBest 48 = .ok (.iload_n 2, 1) := dk_28 (dk_at dksX0_layBest_2 0 rfl rfl)
theorem dX0_layBest_49 : decode cX0_layBest 49 = .ok (.iconst 2, 1) := dk_5 (dk_at dksX0_layBest_2 1 rfl rfl)
theorem dX0_layBest_50 : decode cX0_layBest 50 = .ok (.aload_n 0, 1) := dk_42 (dk_at dksX0_layBest_2 2 rfl rfl)
theorem dX0_layBest_51 : decode cX0_layBest 51 = .ok (.getfield 269, 3) := dk_180 1 13 (dk_at dksX0_layBest_2 3 rfl rfl)
theorem dX0_layBest_54 : decode cX0_layBest 54 = .ok (.iconst 1, 1) := dk_4 (dk_at dksX0_layBest_2 6 rfl rfl)
theorem dX0_layBest_55 : decode cX0_layBest 55 = .ok (.isub, 1) := dk_100 (dk_at dksX0_layBest_2 7 rfl rfl)
theorem dX0_layBest_56 : decode cX0_layBest 56 = .ok (.iload_n 3, 1) := dk_29 (dk_at dksX0_layBest_2 8 rfl rfl)
theorem dX0_layBest_57 : decode cX0_layBest 57 = .ok (.isub, 1) := dk_100 (dk_at dksX0_layBest_2 9 rfl rfl)
theorem dX0_layBest_58 : decode cX0_layBest 58 = .ok (.imul, 1) := dk_104 (dk_at dksX0_layBest_2 10 rfl rfl)
theorem dX0_layBest_59 : decode cX0_layBest 59 = .ok (.ishr, 1) := dk_122 (dk_at dksX0_layBest_2 11 rfl rfl)
theorem dX0_layBest_60 : decode cX0_layBest 60 = .ok (.iconst 3, 1) := dk_6 (dk_at dksX0_layBest_2 12 rfl rfl)
theorem dX0_layBest_61 : decode cX0_layBest 61 = .ok (.iand, 1) := dk_126 (dk_at dksX0_layBest_2 13 rfl rfl)
theorem dX0_layBest_62 : decode cX0_layBest 62 = .ok (.iastore, 1) := dk_79 (dk_at dksX0_layBest_2 14 rfl rfl)
theorem dX0_layBest_63 : decode cX0_layBest 63 = .ok (.iinc 3 1, 3) := dk_132 3 1 (dk_at dksX0_layBest_2 15 rfl rfl)
theorem dX0_layBest_66 : decode cX0_layBest 66 = .ok (.goto (-31), 3) := dk_167 255 225 (dk_at dksX0_layBest_2 18 rfl rfl)
theorem dX0_layBest_69 : decode cX0_layBest 69 = .ok (.aload_n 0, 1) := dk_42 (dk_at dksX0_layBest_2 21 rfl rfl)
theorem dX0_layBest_70 : decode cX0_layBest 70 = .ok (.invokevirtual 300, 3) := dk_182 1 44 (dk_at dksX0_layBest_3 0 rfl rfl)
theorem dX0_layBest_73 : decode cX0_layBest 73 = .ok (.istore_n 3, 1) := dk_62 (dk_at dksX0_layBest_3 3 rfl rfl)
theorem dX0_layBest_74 : decode cX0_layBest 74 = .ok (.iload_n 3, 1) := dk_29 (dk_at dksX0_layBest_3 4 rfl rfl)
theorem dX0_layBest_75 : decode cX0_layBest 75 = .ok (.aload_n 0, 1) := dk_42 (dk_at dksX0_layBest_3 5 rfl rfl)
theorem dX0_layBest_76 : decode cX0_layBest 76 = .ok (.getfield 303, 3) := dk_180 1 47 (dk_at dksX0_layBest_3 6 rfl rfl)
theorem dX0_layBest_79 : decode cX0_layBest 79 = .ok (.if_icmp .le 21, 3) := dk_164 0 21 (dk_at dksX0_layBest_3 9 rfl rfl)
theorem dX0_layBest_82 : decode cX0_layBest 82 = .ok (.aload_n 0, 1) := dk_42 (dk_at dksX0_layBest_3 12 rfl rfl)
theorem dX0_layBest_83 : decode cX0_layBest 83 = .ok (.iload_n 3, 1) := dk_29 (dk_at dksX0_layBest_3 13 rfl rfl)
theorem dX0_layBest_84 : decode cX0_layBest 84 = .ok (.putfield 303, 3) := dk_181 1 47 (dk_at dksX0_layBest_3 14 rfl rfl)
theorem dX0_layBest_87 : decode cX0_layBest 87 = .ok (.aload_n 0, 1) := dk_42 (dk_at dksX0_layBest_3 17 rfl rfl)
theorem dX0_layBest_88 : decode cX0_layBest 88 = .ok (.aload_n 0, 1) := dk_42 (dk_at dksX0_layBest_3 18 rfl rfl)
theorem dX0_layBest_89 : decode cX0_layBest 89 = .ok (.invokevirtual 309, 3) := dk_182 1 53 (dk_at dksX0_layBest_3 19 rfl rfl)
theorem dX0_layBest_92 : decode cX0_layBest 92 = .ok (.putfield 310, 3) := dk_181 1 54 (dk_at dksX0_layBest_4 0 rfl rfl)
theorem dX0_layBest_95 : decode cX0_layBest 95 = .ok (.aload_n 0, 1) := dk_42 (dk_at dksX0_layBest_4 3 rfl rfl)
theorem dX0_layBest_96 : decode cX0_layBest 96 = .ok (.iconst 0, 1) := dk_3 (dk_at dksX0_layBest_4 4 rfl rfl)
theorem dX0_layBest_97 : decode cX0_layBest 97 = .ok (.putfield 306, 3) := dk_181 1 50 (dk_at dksX0_layBest_4 5 rfl rfl)
theorem dX0_layBest_100 : decode cX0_layBest 100 = .ok (.aload_n 0, 1) := dk_42 (dk_at dksX0_layBest_4 8 rfl rfl)
theorem dX0_layBest_101 : decode cX0_layBest 101 = .ok (.dup, 1) := dk_89 (dk_at dksX0_layBest_4 9 rfl rfl)
theorem dX0_layBest_102 : decode cX0_layBest 102 = .ok (.getfield 306, 3) := dk_180 1 50 (dk_at dksX0_layBest_4 10 rfl rfl)
theorem dX0_layBest_105 : decode cX0_layBest 105 = .ok (.iload_n 3, 1) := dk_29 (dk_at dksX0_layBest_4 13 rfl rfl)
theorem dX0_layBest_106 : decode cX0_layBest 106 = .ok (.aload_n 0, 1) := dk_42 (dk_at dksX0_layBest_4 14 rfl rfl)
theorem dX0_layBest_107 : decode cX0_layBest 107 = .ok (.getfield 303, 3) := dk_180 1 47 (dk_at dksX0_layBest_4 15 rfl rfl)
theorem dX0_layBest_110 : decode cX0_layBest 110 = .ok (.if_icmp .ne 7, 3) := dk_160 0 7 (dk_at dksX0_layBest_4 18 rfl rfl)
theorem dX0_layBest_113 : decode cX0_layBest 113 = .ok (.iconst 1, 1) := dk_4 (dk_at dksX0_layBest_4 21 rfl rfl)
theorem dX0_layBest_114 : decode cX0_layBest 114 = .ok (.goto 4, 3) := dk_167 0 4 (dk_at dksX0_layBest_5 0 rfl rfl)
theorem dX0_layBest_117 : decode cX0_layBest 117 = .ok (.iconst 0, 1) := dk_3 (dk_at dksX0_layBest_5 3 rfl rfl)
theorem dX0_layBest_118 : decode cX0_layBest 118 = .ok (.iadd, 1) := dk_96 (dk_at dksX0_layBest_5 4 rfl rfl)
theorem dX0_layBest_119 : decode cX0_layBest 119 = .ok (.putfield 306, 3) := dk_181 1 50 (dk_at dksX0_layBest_5 5 rfl rfl)
theorem dX0_layBest_122 : decode cX0_layBest 122 = .ok (.iinc 2 1, 3) := dk_132 2 1 (dk_at dksX0_layBest_5 8 rfl rfl)
theorem dX0_layBest_125 : decode cX0_layBest 125 = .ok (.goto (-104), 3) := dk_167 255 152 (dk_at dksX0_layBest_5 11 rfl rfl)
theorem dX0_layBest_128 : decode cX0_layBest 128 = .ok (.return_, 1) := dk_177 (dk_at dksX0_layBest_5 14 rfl rfl)
abbrev cX0_number : ByteArray := prog_1_method_53_code
def yX0_number : MethodName := ⟨RX0, "number", "()I"⟩
def dkwX0_number_1 : List UInt8 := [60, 132, 2, 1, 167, 255, 232, 27, 172]
abbrev dktX0_number_1 : List UInt8 := dkwX0_number_1 ++ []
def dkwX0_number_0 : List UInt8 := [3, 60, 3, 61, 28, 42, 180, 1, 13, 162, 0, 22, 27, 42, 180, 1, 30, 28, 46, 5, 28, 104, 120, 128]
abbrev dktX0_number_0 : List UInt8 := dkwX0_number_0 ++ dktX0_number_1
theorem dksX0_number_0 : cX0_number.data.toList.drop 0 = dktX0_number_0 := by decide +kernel
theorem dksX0_number_1 : cX0_number.data.toList.drop 24 = dktX0_number_1 := dk_seg dksX0_number_0 24 rfl rfl
theorem dX0_number_0 : decode cX0_number 0 = .ok (.iconst 0, 1) := dk_3 (dk_at dksX0_number_0 0 rfl rfl)
theorem dX0_number_1 : decode cX0_number 1 = .ok (.istore_n 1, 1) := dk_60 (dk_at dksX0_number_0 1 rfl rfl)
theorem dX0_number_2 : decode cX0_number 2 = .ok (.iconst 0, 1) := dk_3 (dk_at dksX0_number_0 2 rfl rfl)
theorem dX0_number_3 : decode cX0_number 3 = .ok (.istore_n 2, 1) := dk_61 (dk_at dksX0_number_0 3 rfl rfl)
theorem dX0_number_4 : decode cX0_number 4 = .ok (.iload_n 2, 1) := dk_28 (dk_at dksX0_number_0 4 rfl rfl)
theorem dX0_number_5 : decode cX0_number 5 = .ok (.aload_n 0, 1) := dk_42 (dk_at dksX0_number_0 5 rfl rfl)
theorem dX0_number_6 : decode cX0_number 6 = .ok (.getfield 269, 3) := dk_180 1 13 (dk_at dksX0_number_0 6 rfl rfl)
theorem dX0_number_9 : decode cX0_number 9 = .ok (.if_icmp .ge 22, 3) := dk_162 0 22 (dk_at dksX0_number_0 9 rfl rfl)
theorem dX0_number_12 : decode cX0_number 12 = .ok (.iload_n 1, 1) := dk_27 (dk_at dksX0_number_0 12 rfl rfl)
theorem dX0_number_13 : decode cX0_number 13 = .ok (.aload_n 0, 1) := dk_42 (dk_at dksX0_number_0 13 rfl rfl)
theorem dX0_number_14 : decode cX0_number 14 = .ok (.getfield 286, 3) := dk_180 1 30 (dk_at dksX0_number_0 14 rfl rfl)
theorem dX0_number_17 : decode cX0_number 17 = .ok (.iload_n 2, 1) := dk_28 (dk_at dksX0_number_0 17 rfl rfl)
theorem dX0_number_18 : decode cX0_number 18 = .ok (.iaload, 1) := dk_46 (dk_at dksX0_number_0 18 rfl rfl)
theorem dX0_number_19 : decode cX0_number 19 = .ok (.iconst 2, 1) := dk_5 (dk_at dksX0_number_0 19 rfl rfl)
theorem dX0_number_20 : decode cX0_number 20 = .ok (.iload_n 2, 1) := dk_28 (dk_at dksX0_number_0 20 rfl rfl)
theorem dX0_number_21 : decode cX0_number 21 = .ok (.imul, 1) := dk_104 (dk_at dksX0_number_0 21 rfl rfl)
theorem dX0_number_22 : decode cX0_number 22 = .ok (.ishl, 1) := dk_120 (dk_at dksX0_number_0 22 rfl rfl)
theorem dX0_number_23 : decode cX0_number 23 = .ok (.ior, 1) := dk_128 (dk_at dksX0_number_0 23 rfl rfl)
theorem dX0_number_24 : decode cX0_number 24 = .ok (.istore_n 1, 1) := dk_60 (dk_at dksX0_number_1 0 rfl rfl)
theorem dX0_number_25 : decode cX0_number 25 = .ok (.iinc 2 1, 3) := dk_132 2 1 (dk_at dksX0_number_1 1 rfl rfl)
theorem dX0_number_28 : decode cX0_number 28 = .ok (.goto (-24), 3) := dk_167 255 232 (dk_at dksX0_number_1 4 rfl rfl)
theorem dX0_number_31 : decode cX0_number 31 = .ok (.iload_n 1, 1) := dk_27 (dk_at dksX0_number_1 7 rfl rfl)
theorem dX0_number_32 : decode cX0_number 32 = .ok (.ireturn, 1) := dk_172 (dk_at dksX0_number_1 8 rfl rfl)
abbrev cX0_judge : ByteArray := prog_1_method_58_code
def yX0_judge : MethodName := ⟨RX0, "judge", "(III)I"⟩
def dkwX0_judge_4 : List UInt8 := [42, 180, 1, 66, 167, 0, 7, 42, 180, 1, 63, 172]
abbrev dktX0_judge_4 : List UInt8 := dkwX0_judge_4 ++ []
def dkwX0_judge_3 : List UInt8 := [3, 42, 180, 1, 54, 21, 4, 182, 1, 69, 29, 154, 0, 8, 21, 4, 167, 0, 19, 29, 4, 160, 0, 10]
abbrev dktX0_judge_3 : List UInt8 := dkwX0_judge_3 ++ dktX0_judge_4
def dkwX0_judge_2 : List UInt8 := [180, 1, 54, 182, 1, 41, 42, 182, 1, 44, 54, 4, 42, 3, 181, 1, 63, 42, 3, 181, 1, 66, 42, 3]
abbrev dktX0_judge_2 : List UInt8 := dkwX0_judge_2 ++ dktX0_judge_3
def dkwX0_judge_1 : List UInt8 := [9, 20, 0, 99, 184, 0, 5, 154, 0, 5, 2, 172, 42, 27, 182, 1, 57, 42, 28, 182, 1, 38, 42, 42]
abbrev dktX0_judge_1 : List UInt8 := dkwX0_judge_1 ++ dktX0_judge_2
def dkwX0_judge_0 : List UInt8 := [42, 27, 182, 1, 35, 153, 0, 29, 42, 28, 182, 1, 35, 153, 0, 21, 27, 28, 126, 154, 0, 15, 29, 133]
abbrev dktX0_judge_0 : List UInt8 := dkwX0_judge_0 ++ dktX0_judge_1
theorem dksX0_judge_0 : cX0_judge.data.toList.drop 0 = dktX0_judge_0 := by decide +kernel
theorem dksX0_judge_1 : cX0_judge.data.toList.drop 24 = dktX0_judge_1 := dk_seg dksX0_judge_0 24 rfl rfl
theorem dksX0_judge_2 : cX0_judge.data.toList.drop 48 = dktX0_judge_2 := dk_seg dksX0_judge_1 24 rfl rfl
theorem dksX0_judge_3 : cX0_judge.data.toList.drop 72 = dktX0_judge_3 := dk_seg dksX0_judge_2 24 rfl rfl
theorem dksX0_judge_4 : cX0_judge.data.toList.drop 96 = dktX0_judge_4 := dk_seg dksX0_judge_3 24 rfl rfl
theorem dX0_judge_0 : decode cX0_judge 0 = .ok (.aload_n 0, 1) := dk_42 (dk_at dksX0_judge_0 0 rfl rfl)
theorem dX0_judge_1 : decode cX0_judge 1 = .ok (.iload_n 1, 1) := dk_27 (dk_at dksX0_judge_0 1 rfl rfl)
theorem dX0_judge_2 : decode cX0_judge 2 = .ok (.invokevirtual 291, 3) := dk_182 1 35 (dk_at dksX0_judge_0 2 rfl rfl)
theorem dX0_judge_5 : decode cX0_judge 5 = .ok (.ifCond .eq 29, 3) := dk_153 0 29 (dk_at dksX0_judge_0 5 rfl rfl)
theorem dX0_judge_8 : decode cX0_judge 8 = .ok (.aload_n 0, 1) := dk_42 (dk_at dksX0_judge_0 8 rfl rfl)
theorem dX0_judge_9 : decode cX0_judge 9 = .ok (.iload_n 2, 1) := dk_28 (dk_at dksX0_judge_0 9 rfl rfl)
theorem dX0_judge_10 : decode cX0_judge 10 = .ok (.invokevirtual 291, 3) := dk_182 1 35 (dk_at dksX0_judge_0 10 rfl rfl)
theorem dX0_judge_13 : decode cX0_judge 13 = .ok (.ifCond .eq 21, 3) := dk_153 0 21 (dk_at dksX0_judge_0 13 rfl rfl)
theorem dX0_judge_16 : decode cX0_judge 16 = .ok (.iload_n 1, 1) := dk_27 (dk_at dksX0_judge_0 16 rfl rfl)
theorem dX0_judge_17 : decode cX0_judge 17 = .ok (.iload_n 2, 1) := dk_28 (dk_at dksX0_judge_0 17 rfl rfl)
theorem dX0_judge_18 : decode cX0_judge 18 = .ok (.iand, 1) := dk_126 (dk_at dksX0_judge_0 18 rfl rfl)
theorem dX0_judge_19 : decode cX0_judge 19 = .ok (.ifCond .ne 15, 3) := dk_154 0 15 (dk_at dksX0_judge_0 19 rfl rfl)
theorem dX0_judge_22 : decode cX0_judge 22 = .ok (.iload_n 3, 1) := dk_29 (dk_at dksX0_judge_0 22 rfl rfl)
theorem dX0_judge_23 : decode cX0_judge 23 = .ok (.i2l, 1) := dk_133 (dk_at dksX0_judge_0 23 rfl rfl)
theorem dX0_judge_24 : decode cX0_judge 24 = .ok (.lconst 0, 1) := dk_9 (dk_at dksX0_judge_1 0 rfl rfl)
theorem dX0_judge_25 : decode cX0_judge 25 = .ok (.ldc2_w 99, 3) := dk_20 0 99 (dk_at dksX0_judge_1 1 rfl rfl)
theorem dX0_judge_28 : decode cX0_judge 28 = .ok (.invokestatic 5, 3) := dk_184 0 5 (dk_at dksX0_judge_1 4 rfl rfl)
theorem dX0_judge_31 : decode cX0_judge 31 = .ok (.ifCond .ne 5, 3) := dk_154 0 5 (dk_at dksX0_judge_1 7 rfl rfl)
theorem dX0_judge_34 : decode cX0_judge 34 = .ok (.iconst (-1), 1) := dk_2 (dk_at dksX0_judge_1 10 rfl rfl)
theorem dX0_judge_35 : decode cX0_judge 35 = .ok (.ireturn, 1) := dk_172 (dk_at dksX0_judge_1 11 rfl rfl)
theorem dX0_judge_36 : decode cX0_judge 36 = .ok (.aload_n 0, 1) := dk_42 (dk_at dksX0_judge_1 12 rfl rfl)
theorem dX0_judge_37 : decode cX0_judge 37 = .ok (.iload_n 1, 1) := dk_27 (dk_at dksX0_judge_1 13 rfl rfl)
theorem dX0_judge_38 : decode cX0_judge 38 = .ok (.invokevirtual 313, 3) := dk_182 1 57 (dk_at dksX0_judge_1 14 rfl rfl)
theorem dX0_judge_41 : decode cX0_judge 41 = .ok (.aload_n 0, 1) := dk_42 (dk_at dksX0_judge_1 17 rfl rfl)
theorem dX0_judge_42 : decode cX0_judge 42 = .ok (.iload_n 2, 1) := dk_28 (dk_at dksX0_judge_1 18 rfl rfl)
theorem dX0_judge_43 : decode cX0_judge 43 = .ok (.invokevirtual 294, 3) := dk_182 1 38 (dk_at dksX0_judge_1 19 rfl rfl)
theorem dX0_judge_46 : decode cX0_judge 46 = .ok (.aload_n 0, 1) := dk_42 (dk_at dksX0_judge_1 22 rfl rfl)
theorem dX0_judge_47 : decode cX0_judge 47 = .ok (.aload_n 0, 1) := dk_42 (dk_at dksX0_judge_1 23 rfl rfl)
theorem dX0_judge_48 : decode cX0_judge 48 = .ok (.getfield 310, 3) := dk_180 1 54 (dk_at dksX0_judge_2 0 rfl rfl)
theorem dX0_judge_51 : decode cX0_judge 51 = .ok (.invokevirtual 297, 3) := dk_182 1 41 (dk_at dksX0_judge_2 3 rfl rfl)
theorem dX0_judge_54 : decode cX0_judge 54 = .ok (.aload_n 0, 1) := dk_42 (dk_at dksX0_judge_2 6 rfl rfl)
theorem dX0_judge_55 : decode cX0_judge 55 = .ok (.invokevirtual 300, 3) := dk_182 1 44 (dk_at dksX0_judge_2 7 rfl rfl)
theorem dX0_judge_58 : decode cX0_judge 58 = .ok (.istore 4, 2) := dk_54 4 (dk_at dksX0_judge_2 10 rfl rfl)
theorem dX0_judge_60 : decode cX0_judge 60 = .ok (.aload_n 0, 1) := dk_42 (dk_at dksX0_judge_2 12 rfl rfl)
theorem dX0_judge_61 : decode cX0_judge 61 = .ok (.iconst 0, 1) := dk_3 (dk_at dksX0_judge_2 13 rfl rfl)
theorem dX0_judge_62 : decode cX0_judge 62 = .ok (.putfield 319, 3) := dk_181 1 63 (dk_at dksX0_judge_2 14 rfl rfl)
theorem dX0_judge_65 : decode cX0_judge 65 = .ok (.aload_n 0, 1) := dk_42 (dk_at dksX0_judge_2 17 rfl rfl)
theorem dX0_judge_66 : decode cX0_judge 66 = .ok (.iconst 0, 1) := dk_3 (dk_at dksX0_judge_2 18 rfl rfl)
theorem dX0_judge_67 : decode cX0_judge 67 = .ok (.putfield 322, 3) := dk_181 1 66 (dk_at dksX0_judge_2 19 rfl rfl)
theorem dX0_judge_70 : decode cX0_judge 70 = .ok (.aload_n 0, 1) := dk_42 (dk_at dksX0_judge_2 22 rfl rfl)
theorem dX0_judge_71 : decode cX0_judge 71 = .ok (.iconst 0, 1) := dk_3 (dk_at dksX0_judge_2 23 rfl rfl)
theorem dX0_judge_72 : decode cX0_judge 72 = .ok (.iconst 0, 1) := dk_3 (dk_at dksX0_judge_3 0 rfl rfl)
theorem dX0_judge_73 : decode cX0_judge 73 = .ok (.aload_n 0, 1) := dk_42 (dk_at dksX0_judge_3 1 rfl rfl)
theorem dX0_judge_74 : decode cX0_judge 74 = .ok (.getfield 310, 3) := dk_180 1 54 (dk_at dksX0_judge_3 2 rfl rfl)
theorem dX0_judge_77 : decode cX0_judge 77 = .ok (.iload 4, 2) := dk_21 4 (dk_at dksX0_judge_3 5 rfl rfl)
theorem dX0_judge_79 : decode cX0_judge 79 = .ok (.invokevirtual 325, 3) := dk_182 1 69 (dk_at dksX0_judge_3 7 rfl rfl)
theorem dX0_judge_82 : decode cX0_judge 82 = .ok (.iload_n 3, 1) := dk_29 (dk_at dksX0_judge_3 10 rfl rfl)
theorem dX0_judge_83 : decode cX0_judge 83 = .ok (.ifCond .ne 8, 3) := dk_154 0 8 (dk_at dksX0_judge_3 11 rfl rfl)
theorem dX0_judge_86 : decode cX0_judge 86 = .ok (.iload 4, 2) := dk_21 4 (dk_at dksX0_judge_3 14 rfl rfl)
theorem dX0_judge_88 : decode cX0_judge 88 = .ok (.goto 19, 3) := dk_167 0 19 (dk_at dksX0_judge_3 16 rfl rfl)
theorem dX0_judge_91 : decode cX0_judge 91 = .ok (.iload_n 3, 1) := dk_29 (dk_at dksX0_judge_3 19 rfl rfl)
theorem dX0_judge_92 : decode cX0_judge 92 = .ok (.iconst 1, 1) := dk_4 (dk_at dksX0_judge_3 20 rfl rfl)
theorem dX0_judge_93 : decode cX0_judge 93 = .ok (.if_icmp .ne 10, 3) := dk_160 0 10 (dk_at dksX0_judge_3 21 rfl rfl)
theorem dX0_judge_96 : decode cX0_judge 96 = .ok (.aload_n 0, 1) := dk_42 (dk_at dksX0_judge_4 0 rfl rfl)
theorem dX0_judge_97 : decode cX0_judge 97 = .ok (.getfield 322, 3) := dk_180 1 66 (dk_at dksX0_judge_4 1 rfl rfl)
theorem dX0_judge_100 : decode cX0_judge 100 = .ok (.goto 7, 3) := dk_167 0 7 (dk_at dksX0_judge_4 4 rfl rfl)
theorem dX0_judge_103 : decode cX0_judge 103 = .ok (.aload_n 0, 1) := dk_42 (dk_at dksX0_judge_4 7 rfl rfl)
theorem dX0_judge_104 : decode cX0_judge 104 = .ok (.getfield 319, 3) := dk_180 1 63 (dk_at dksX0_judge_4 8 rfl rfl)
theorem dX0_judge_107 : decode cX0_judge 107 = .ok (.ireturn, 1) := dk_172 (dk_at dksX0_judge_4 11 rfl rfl)
abbrev cX0_shuffle : ByteArray := prog_1_method_57_code
def yX0_shuffle : MethodName := ⟨RX0, "shuffle", "(IIII)V"⟩
def dkwX0_shuffle_5 : List UInt8 := [29, 21, 4, 182, 1, 69, 132, 5, 1, 167, 255, 211, 177]
abbrev dktX0_shuffle_5 : List UInt8 := dkwX0_shuffle_5 ++ []
def dkwX0_shuffle_4 : List UInt8 := [122, 4, 126, 154, 0, 27, 42, 180, 1, 60, 27, 21, 5, 79, 42, 27, 4, 96, 28, 4, 21, 5, 120, 128]
abbrev dktX0_shuffle_4 : List UInt8 := dkwX0_shuffle_4 ++ dktX0_shuffle_5
def dkwX0_shuffle_3 : List UInt8 := [167, 0, 4, 3, 96, 181, 1, 66, 177, 3, 54, 5, 21, 5, 42, 180, 1, 13, 162, 0, 42, 28, 21, 5]
abbrev dktX0_shuffle_3 : List UInt8 := dkwX0_shuffle_3 ++ dktX0_shuffle_4
def dkwX0_shuffle_2 : List UInt8 := [180, 1, 63, 4, 96, 181, 1, 63, 42, 89, 180, 1, 66, 42, 182, 1, 44, 21, 4, 161, 0, 7, 4]
abbrev dktX0_shuffle_2 : List UInt8 := dkwX0_shuffle_2 ++ dktX0_shuffle_3
def dkwX0_shuffle_1 : List UInt8 := [21, 5, 29, 5, 42, 180, 1, 60, 21, 5, 46, 104, 122, 6, 126, 79, 132, 5, 1, 167, 255, 224, 42, 89]
abbrev dktX0_shuffle_1 : List UInt8 := dkwX0_shuffle_1 ++ dktX0_shuffle_2
def dkwX0_shuffle_0 : List UInt8 := [27, 42, 180, 1, 13, 160, 0, 75, 3, 54, 5, 21, 5, 42, 180, 1, 13, 162, 0, 29, 42, 180, 1, 30]
abbrev dktX0_shuffle_0 : List UInt8 := dkwX0_shuffle_0 ++ dktX0_shuffle_1
theorem dksX0_shuffle_0 : cX0_shuffle.data.toList.drop 0 = dktX0_shuffle_0 := by decide +kernel
theorem dksX0_shuffle_1 : cX0_shuffle.data.toList.drop 24 = dktX0_shuffle_1 := dk_seg dksX0_shuffle_0 24 rfl rfl
theorem dksX0_shuffle_2 : cX0_shuffle.data.toList.drop 48 = dktX0_shuffle_2 := dk_seg dksX0_shuffle_1 24 rfl rfl
theorem dksX0_shuffle_3 : cX0_shuffle.data.toList.drop 71 = dktX0_shuffle_3 := dk_seg dksX0_shuffle_2 23 rfl rfl
theorem dksX0_shuffle_4 : cX0_shuffle.data.toList.drop 95 = dktX0_shuffle_4 := dk_seg dksX0_shuffle_3 24 rfl rfl
theorem dksX0_shuffle_5 : cX0_shuffle.data.toList.drop 119 = dktX0_shuffle_5 := dk_seg dksX0_shuffle_4 24 rfl rfl
theorem dX0_shuffle_0 : decode cX0_shuffle 0 = .ok (.iload_n 1, 1) := dk_27 (dk_at dksX0_shuffle_0 0 rfl rfl)
theorem dX0_shuffle_1 : decode cX0_shuffle 1 = .ok (.aload_n 0, 1) := dk_42 (dk_at dksX0_shuffle_0 1 rfl rfl)
theorem dX0_shuffle_2 : decode cX0_shuffle 2 = .ok (.getfield 269, 3) := dk_180 1 13 (dk_at dksX0_shuffle_0 2 rfl rfl)
theorem dX0_shuffle_5 : decode cX0_shuffle 5 = .ok (.if_icmp .ne 75, 3) := dk_160 0 75 (dk_at dksX0_shuffle_0 5 rfl rfl)
theorem dX0_shuffle_8 : decode cX0_shuffle 8 = .ok (.iconst 0, 1) := dk_3 (dk_at dksX0_shuffle_0 8 rfl rfl)
theorem dX0_shuffle_9 : decode cX0_shuffle 9 = .ok (.istore 5, 2) := dk_54 5 (dk_at dksX0_shuffle_0 9 rfl rfl)
theorem dX0_shuffle_11 : decode cX0_shuffle 11 = .ok (.iload 5, 2) := dk_21 5 (dk_at dksX0_shuffle_0 11 rfl rfl)
theorem dX0_shuffle_13 : decode cX0_shuffle 13 = .ok (.aload_n 0, 1) := dk_42 (dk_at dksX0_shuffle_0 13 rfl rfl)
theorem dX0_shuffle_14 : decode cX0_shuffle 14 = .ok (.getfield 269, 3) := dk_180 1 13 (dk_at dksX0_shuffle_0 14 rfl rfl)
theorem dX0_shuffle_17 : decode cX0_shuffle 17 = .ok (.if_icmp .ge 29, 3) := dk_162 0 29 (dk_at dksX0_shuffle_0 17 rfl rfl)
theorem dX0_shuffle_20 : decode cX0_shuffle 20 = .ok (.aload_n 0, 1) := dk_42 (dk_at dksX0_shuffle_0 20 rfl rfl)
theorem dX0_shuffle_21 : decode cX0_shuffle 21 = .ok (.getfield 286, 3) := dk_180 1 30 (dk_at dksX0_shuffle_0 21 rfl rfl)
theorem dX0_shuffle_24 : decode cX0_shuffle 24 = .ok (.iload 5, 2) := dk_21 5 (dk_at dksX0_shuffle_1 0 rfl rfl)
theorem dX0_shuffle_26 : decode cX0_shuffle 26 = .ok (.iload_n 3, 1) := dk_29 (dk_at dksX0_shuffle_1 2 rfl rfl)
theorem dX0_shuffle_27 : decode cX0_shuffle 27 = .ok (.iconst 2, 1) := dk_5 (dk_at dksX0_shuffle_1 3 rfl rfl)
theorem dX0_shuffle_28 : decode cX0_shuffle 28 = .ok (.aload_n 0, 1) := dk_42 (dk_at dksX0_shuffle_1 4 rfl rfl)
theorem dX0_shuffle_29 : decode cX0_shuffle 29 = .ok (.getfield 316, 3) := dk_180 1 60 (dk_at dksX0_shuffle_1 5 rfl rfl)
theorem dX0_shuffle_32 : decode cX0_shuffle 32 = .ok (.iload 5, 2) := dk_21 5 (dk_at dksX0_shuffle_1 8 rfl rfl)
theorem dX0_shuffle_34 : decode cX0_shuffle 34 = .ok (.iaload, 1) := dk_46 (dk_at dksX0_shuffle_1 10 rfl rfl)
theorem dX0_shuffle_35 : decode cX0_shuffle 35 = .ok (.imul, 1) := dk_104 (dk_at dksX0_shuffle_1 11 rfl rfl)
theorem dX0_shuffle_36 : decode cX0_shuffle 36 = .ok (.ishr, 1) := dk_122 (dk_at dksX0_shuffle_1 12 rfl rfl)
theorem dX0_shuffle_37 : decode cX0_shuffle 37 = .ok (.iconst 3, 1) := dk_6 (dk_at dksX0_shuffle_1 13 rfl rfl)
theorem dX0_shuffle_38 : decode cX0_shuffle 38 = .ok (.iand, 1) := dk_126 (dk_at dksX0_shuffle_1 14 rfl rfl)
theorem dX0_shuffle_39 : decode cX0_shuffle 39 = .ok (.iastore, 1) := dk_79 (dk_at dksX0_shuffle_1 15 rfl rfl)
theorem dX0_shuffle_40 : decode cX0_shuffle 40 = .ok (.iinc 5 1, 3) := dk_132 5 1 (dk_at dksX0_shuffle_1 16 rfl rfl)
theorem dX0_shuffle_43 : decode cX0_shuffle 43 = .ok (.goto (-32), 3) := dk_167 255 224 (dk_at dksX0_shuffle_1 19 rfl rfl)
theorem dX0_shuffle_46 : decode cX0_shuffle 46 = .ok (.aload_n 0, 1) := dk_42 (dk_at dksX0_shuffle_1 22 rfl rfl)
theorem dX0_shuffle_47 : decode cX0_shuffle 47 = .ok (.dup, 1) := dk_89 (dk_at dksX0_shuffle_1 23 rfl rfl)
theorem dX0_shuffle_48 : decode cX0_shuffle 48 = .ok (.getfield 319, 3) := dk_180 1 63 (dk_at dksX0_shuffle_2 0 rfl rfl)
theorem dX0_shuffle_51 : decode cX0_shuffle 51 = .ok (.iconst 1, 1) := dk_4 (dk_at dksX0_shuffle_2 3 rfl rfl)
theorem dX0_shuffle_52 : decode cX0_shuffle 52 = .ok (.iadd, 1) := dk_96 (dk_at dksX0_shuffle_2 4 rfl rfl)
theorem dX0_shuffle_53 : decode cX0_shuffle 53 = .ok (.putfield 319, 3) := dk_181 1 63 (dk_at dksX0_shuffle_2 5 rfl rfl)
theorem dX0_shuffle_56 : decode cX0_shuffle 56 = .ok (.aload_n 0, 1) := dk_42 (dk_at dksX0_shuffle_2 8 rfl rfl)
theorem dX0_shuffle_57 : decode cX0_shuffle 57 = .ok (.dup, 1) := dk_89 (dk_at dksX0_shuffle_2 9 rfl rfl)
theorem dX0_shuffle_58 : decode cX0_shuffle 58 = .ok (.getfield 322, 3) := dk_180 1 66 (dk_at dksX0_shuffle_2 10 rfl rfl)
theorem dX0_shuffle_61 : decode cX0_shuffle 61 = .ok (.aload_n 0, 1) := dk_42 (dk_at dksX0_shuffle_2 13 rfl rfl)
theorem dX0_shuffle_62 : decode cX0_shuffle 62 = .ok (.invokevirtual 300, 3) := dk_182 1 44 (dk_at dksX0_shuffle_2 14 rfl rfl)
theorem dX0_shuffle_65 : decode cX0_shuffle 65 = .ok (.iload 4, 2) := dk_21 4 (dk_at dksX0_shuffle_2 17 rfl rfl)
theorem dX0_shuffle_67 : decode cX0_shuffle 67 = .ok (.if_icmp .lt 7, 3) := dk_161 0 7 (dk_at dksX0_shuffle_2 19 rfl rfl)
theorem dX0_shuffle_70 : decode cX0_shuffle 70 = .ok (.iconst 1, 1) := dk_4 (dk_at dksX0_shuffle_2 22 rfl rfl)
theorem dX0_shuffle_71 : decode cX0_shuffle 71 = .ok (.goto 4, 3) := dk_167 0 4 (dk_at dksX0_shuffle_3 0 rfl rfl)
theorem dX0_shuffle_74 : decode cX0_shuffle 74 = .ok (.iconst 0, 1) := dk_3 (dk_at dksX0_shuffle_3 3 rfl rfl)
theorem dX0_shuffle_75 : decode cX0_shuffle 75 = .ok (.iadd, 1) := dk_96 (dk_at dksX0_shuffle_3 4 rfl rfl)
theorem dX0_shuffle_76 : decode cX0_shuffle 76 = .ok (.putfield 322, 3) := dk_181 1 66 (dk_at dksX0_shuffle_3 5 rfl rfl)
theorem dX0_shuffle_79 : decode cX0_shuffle 79 = .ok (.return_, 1) := dk_177 (dk_at dksX0_shuffle_3 8 rfl rfl)
theorem dX0_shuffle_80 : decode cX0_shuffle 80 = .ok (.iconst 0, 1) := dk_3 (dk_at dksX0_shuffle_3 9 rfl rfl)
theorem dX0_shuffle_81 : decode cX0_shuffle 81 = .ok (.istore 5, 2) := dk_54 5 (dk_at dksX0_shuffle_3 10 rfl rfl)
theorem dX0_shuffle_83 : decode cX0_shuffle 83 = .ok (.iload 5, 2) := dk_21 5 (dk_at dksX0_shuffle_3 12 rfl rfl)
theorem dX0_shuffle_85 : decode cX0_shuffle 85 = .ok (.aload_n 0, 1) := dk_42 (dk_at dksX0_shuffle_3 14 rfl rfl)
theorem dX0_shuffle_86 : decode cX0_shuffle 86 = .ok (.getfield 269, 3) := dk_180 1 13 (dk_at dksX0_shuffle_3 15 rfl rfl)
theorem dX0_shuffle_89 : decode cX0_shuffle 89 = .ok (.if_icmp .ge 42, 3) := dk_162 0 42 (dk_at dksX0_shuffle_3 18 rfl rfl)
theorem dX0_shuffle_92 : decode cX0_shuffle 92 = .ok (.iload_n 2, 1) := dk_28 (dk_at dksX0_shuffle_3 21 rfl rfl)
theorem dX0_shuffle_93 : decode cX0_shuffle 93 = .ok (.iload 5, 2) := dk_21 5 (dk_at dksX0_shuffle_3 22 rfl rfl)
theorem dX0_shuffle_95 : decode cX0_shuffle 95 = .ok (.ishr, 1) := dk_122 (dk_at dksX0_shuffle_4 0 rfl rfl)
theorem dX0_shuffle_96 : decode cX0_shuffle 96 = .ok (.iconst 1, 1) := dk_4 (dk_at dksX0_shuffle_4 1 rfl rfl)
theorem dX0_shuffle_97 : decode cX0_shuffle 97 = .ok (.iand, 1) := dk_126 (dk_at dksX0_shuffle_4 2 rfl rfl)
theorem dX0_shuffle_98 : decode cX0_shuffle 98 = .ok (.ifCond .ne 27, 3) := dk_154 0 27 (dk_at dksX0_shuffle_4 3 rfl rfl)
theorem dX0_shuffle_101 : decode cX0_shuffle 101 = .ok (.aload_n 0, 1) := dk_42 (dk_at dksX0_shuffle_4 6 rfl rfl)
theorem dX0_shuffle_102 : decode cX0_shuffle 102 = .ok (.getfield 316, 3) := dk_180 1 60 (dk_at dksX0_shuffle_4 7 rfl rfl)
theorem dX0_shuffle_105 : decode cX0_shuffle 105 = .ok (.iload_n 1, 1) := dk_27 (dk_at dksX0_shuffle_4 10 rfl rfl)
theorem dX0_shuffle_106 : decode cX0_shuffle 106 = .ok (.iload 5, 2) := dk_21 5 (dk_at dksX0_shuffle_4 11 rfl rfl)
theorem dX0_shuffle_108 : decode cX0_shuffle 108 = .ok (.iastore, 1) := dk_79 (dk_at dksX0_shuffle_4 13 rfl rfl)
theorem dX0_shuffle_109 : decode cX0_shuffle 109 = .ok (.aload_n 0, 1) := dk_42 (dk_at dksX0_shuffle_4 14 rfl rfl)
theorem dX0_shuffle_110 : decode cX0_shuffle 110 = .ok (.iload_n 1, 1) := dk_27 (dk_at dksX0_shuffle_4 15 rfl rfl)
theorem dX0_shuffle_111 : decode cX0_shuffle 111 = .ok (.iconst 1, 1) := dk_4 (dk_at dksX0_shuffle_4 16 rfl rfl)
theorem dX0_shuffle_112 : decode cX0_shuffle 112 = .ok (.iadd, 1) := dk_96 (dk_at dksX0_shuffle_4 17 rfl rfl)
theorem dX0_shuffle_113 : decode cX0_shuffle 113 = .ok (.iload_n 2, 1) := dk_28 (dk_at dksX0_shuffle_4 18 rfl rfl)
theorem dX0_shuffle_114 : decode cX0_shuffle 114 = .ok (.iconst 1, 1) := dk_4 (dk_at dksX0_shuffle_4 19 rfl rfl)
theorem dX0_shuffle_115 : decode cX0_shuffle 115 = .ok (.iload 5, 2) := dk_21 5 (dk_at dksX0_shuffle_4 20 rfl rfl)
theorem dX0_shuffle_117 : decode cX0_shuffle 117 = .ok (.ishl, 1) := dk_120 (dk_at dksX0_shuffle_4 22 rfl rfl)
theorem dX0_shuffle_118 : decode cX0_shuffle 118 = .ok (.ior, 1) := dk_128 (dk_at dksX0_shuffle_4 23 rfl rfl)
theorem dX0_shuffle_119 : decode cX0_shuffle 119 = .ok (.iload_n 3, 1) := dk_29 (dk_at dksX0_shuffle_5 0 rfl rfl)
theorem dX0_shuffle_120 : decode cX0_shuffle 120 = .ok (.iload 4, 2) := dk_21 4 (dk_at dksX0_shuffle_5 1 rfl rfl)
theorem dX0_shuffle_122 : decode cX0_shuffle 122 = .ok (.invokevirtual 325, 3) := dk_182 1 69 (dk_at dksX0_shuffle_5 3 rfl rfl)
theorem dX0_shuffle_125 : decode cX0_shuffle 125 = .ok (.iinc 5 1, 3) := dk_132 5 1 (dk_at dksX0_shuffle_5 6 rfl rfl)
