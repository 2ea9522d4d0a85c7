set_option maxRecDepth 100000
theorem dX2_findAkins_105 : decode cX2_findAkins 105 = .ok (.invokevirtual 210, 3) := dk_182 0 210 (dk_at dksX2_findAkins_4 13 rfl rfl)
theorem dX2_findAkins_108 : decode cX2_findAkins 108 = .ok (.ifCond .eq 57, 3) := dk_153 0 57 (dk_at dksX2_findAkins_4 16 rfl rfl)
theorem dX2_findAkins_111 : decode cX2_findAkins 111 = .ok (.aload_n 0, 1) := dk_42 (dk_at dksX2_findAkins_4 19 rfl rfl)
theorem dX2_findAkins_112 : decode cX2_findAkins 112 = .ok (.iload_n 1, 1) := dk_27 (dk_at dksX2_findAkins_4 20 rfl rfl)
theorem dX2_findAkins_113 : decode cX2_findAkins 113 = .ok (.iload_n 3, 1) := dk_29 (dk_at dksX2_findAkins_4 21 rfl rfl)
theorem dX2_findAkins_114 : decode cX2_findAkins 114 = .ok (.iconst 1, 1) := dk_4 (dk_at dksX2_findAkins_4 22 rfl rfl)
theorem dX2_findAkins_115 : decode cX2_findAkins 115 = .ok (.isub, 1) := dk_100 (dk_at dksX2_findAkins_4 23 rfl rfl)
theorem dX2_findAkins_116 : decode cX2_findAkins 116 = .ok (.invokevirtual 200, 3) := dk_182 0 200 (dk_at dksX2_findAkins_5 0 rfl rfl)
theorem dX2_findAkins_119 : decode cX2_findAkins 119 = .ok (.istore 4, 2) := dk_54 4 (dk_at dksX2_findAkins_5 3 rfl rfl)
theorem dX2_findAkins_121 : decode cX2_findAkins 121 = .ok (.aload_n 0, 1) := dk_42 (dk_at dksX2_findAkins_5 5 rfl rfl)
theorem dX2_findAkins_122 : decode cX2_findAkins 122 = .ok (.iload_n 2, 1) := dk_28 (dk_at dksX2_findAkins_5 6 rfl rfl)
theorem dX2_findAkins_123 : decode cX2_findAkins 123 = .ok (.iload_n 3, 1) := dk_29 (dk_at dksX2_findAkins_5 7 rfl rfl)
theorem dX2_findAkins_124 : decode cX2_findAkins 124 = .ok (.iconst 1, 1) := dk_4 (dk_at dksX2_findAkins_5 8 rfl rfl)
theorem dX2_findAkins_125 : decode cX2_findAkins 125 = .ok (.isub, 1) := dk_100 (dk_at dksX2_findAkins_5 9 rfl rfl)
theorem dX2_findAkins_126 : decode cX2_findAkins 126 = .ok (.invokevirtual 200, 3) := dk_182 0 200 (dk_at dksX2_findAkins_5 10 rfl rfl)
theorem dX2_findAkins_129 : decode cX2_findAkins 129 = .ok (.istore 5, 2) := dk_54 5 (dk_at dksX2_findAkins_5 13 rfl rfl)
theorem dX2_findAkins_131 : decode cX2_findAkins 131 = .ok (.aload_n 0, 1) := dk_42 (dk_at dksX2_findAkins_5 15 rfl rfl)
theorem dX2_findAkins_132 : decode cX2_findAkins 132 = .ok (.getfield 45, 3) := dk_180 0 45 (dk_at dksX2_findAkins_5 16 rfl rfl)
theorem dX2_findAkins_135 : decode cX2_findAkins 135 = .ok (.bipush 24, 2) := dk_16 24 (dk_at dksX2_findAkins_5 19 rfl rfl)
theorem dX2_findAkins_137 : decode cX2_findAkins 137 = .ok (.iload 4, 2) := dk_21 4 (dk_at dksX2_findAkins_5 21 rfl rfl)
theorem dX2_findAkins_139 : decode cX2_findAkins 139 = .ok (.imul, 1) := dk_104 (dk_at dksX2_findAkins_5 23 rfl rfl)
theorem dX2_findAkins_140 : decode cX2_findAkins 140 = .ok (.iload 5, 2) := dk_21 5 (dk_at dksX2_findAkins_6 0 rfl rfl)
theorem dX2_findAkins_142 : decode cX2_findAkins 142 = .ok (.iadd, 1) := dk_96 (dk_at dksX2_findAkins_6 2 rfl rfl)
theorem dX2_findAkins_143 : decode cX2_findAkins 143 = .ok (.dup2, 1) := dk_92 (dk_at dksX2_findAkins_6 3 rfl rfl)
theorem dX2_findAkins_144 : decode cX2_findAkins 144 = .ok (.iaload, 1) := dk_46 (dk_at dksX2_findAkins_6 4 rfl rfl)
theorem dX2_findAkins_145 : decode cX2_findAkins 145 = .ok (.iconst 1, 1) := dk_4 (dk_at dksX2_findAkins_6 5 rfl rfl)
theorem dX2_findAkins_146 : decode cX2_findAkins 146 = .ok (.iadd, 1) := dk_96 (dk_at dksX2_findAkins_6 6 rfl rfl)
theorem dX2_findAkins_147 : decode cX2_findAkins 147 = .ok (.iastore, 1) := dk_79 (dk_at dksX2_findAkins_6 7 rfl rfl)
theorem dX2_findAkins_148 : decode cX2_findAkins 148 = .ok (.aload_n 0, 1) := dk_42 (dk_at dksX2_findAkins_6 8 rfl rfl)
theorem dX2_findAkins_149 : decode cX2_findAkins 149 = .ok (.getfield 45, 3) := dk_180 0 45 (dk_at dksX2_findAkins_6 9 rfl rfl)
theorem dX2_findAkins_152 : decode cX2_findAkins 152 = .ok (.bipush 24, 2) := dk_16 24 (dk_at dksX2_findAkins_6 12 rfl rfl)
theorem dX2_findAkins_154 : decode cX2_findAkins 154 = .ok (.iload 5, 2) := dk_21 5 (dk_at dksX2_findAkins_6 14 rfl rfl)
theorem dX2_findAkins_156 : decode cX2_findAkins 156 = .ok (.imul, 1) := dk_104 (dk_at dksX2_findAkins_6 16 rfl rfl)
theorem dX2_findAkins_157 : decode cX2_findAkins 157 = .ok (.iload 4, 2) := dk_21 4 (dk_at dksX2_findAkins_6 17 rfl rfl)
theorem dX2_findAkins_159 : decode cX2_findAkins 159 = .ok (.iadd, 1) := dk_96 (dk_at dksX2_findAkins_6 19 rfl rfl)
theorem dX2_findAkins_160 : decode cX2_findAkins 160 = .ok (.dup2, 1) := dk_92 (dk_at dksX2_findAkins_6 20 rfl rfl)
theorem dX2_findAkins_161 : decode cX2_findAkins 161 = .ok (.iaload, 1) := dk_46 (dk_at dksX2_findAkins_6 21 rfl rfl)
theorem dX2_findAkins_162 : decode cX2_findAkins 162 = .ok (.iconst 1, 1) := dk_4 (dk_at dksX2_findAkins_6 22 rfl rfl)
theorem dX2_findAkins_163 : decode cX2_findAkins 163 = .ok (.iadd, 1) := dk_96 (dk_at dksX2_findAkins_6 23 rfl rfl)
theorem dX2_findAkins_164 : decode cX2_findAkins 164 = .ok (.iastore, 1) := dk_79 (dk_at dksX2_findAkins_7 0 rfl rfl)
theorem dX2_findAkins_165 : decode cX2_findAkins 165 = .ok (.iinc 2 1, 3) := dk_132 2 1 (dk_at dksX2_findAkins_7 1 rfl rfl)
theorem dX2_findAkins_168 : decode cX2_findAkins 168 = .ok (.goto (-130), 3) := dk_167 255 126 (dk_at dksX2_findAkins_7 4 rfl rfl)
theorem dX2_findAkins_171 : decode cX2_findAkins 171 = .ok (.iinc 1 1, 3) := dk_132 1 1 (dk_at dksX2_findAkins_7 7 rfl rfl)
theorem dX2_findAkins_174 : decode cX2_findAkins 174 = .ok (.goto (-146), 3) := dk_167 255 110 (dk_at dksX2_findAkins_7 10 rfl rfl)
theorem dX2_findAkins_177 : decode cX2_findAkins 177 = .ok (.return_, 1) := dk_177 (dk_at dksX2_findAkins_7 13 rfl rfl)
abbrev cX2_alikeTo : ByteArray := prog_11_method_27_code
def yX2_alikeTo : MethodName := ⟨RX2, "alikeTo", "(II)I"⟩
def dkwX2_alikeTo_1 : List UInt8 := [160, 0, 9, 132, 3, 1, 167, 255, 228, 29, 172]
abbrev dktX2_alikeTo_1 : List UInt8 := dkwX2_alikeTo_1 ++ []
def dkwX2_alikeTo_0 : List UInt8 := [3, 62, 29, 42, 180, 0, 32, 27, 46, 162, 0, 24, 42, 27, 29, 182, 0, 200, 42, 28, 29, 182, 0, 200]
abbrev dktX2_alikeTo_0 : List UInt8 := dkwX2_alikeTo_0 ++ dktX2_alikeTo_1
theorem dksX2_alikeTo_0 : cX2_alikeTo.data.toList.drop 0 = dktX2_alikeTo_0 := by decide +kernel
theorem dksX2_alikeTo_1 : cX2_alikeTo.data.toList.drop 24 = dktX2_alikeTo_1 := dk_seg dksX2_alikeTo_0 24 rfl rfl
theorem dX2_alikeTo_0 : decode cX2_alikeTo 0 = .ok (.iconst 0, 1) := dk_3 (dk_at dksX2_alikeTo_0 0 rfl rfl)
theorem dX2_alikeTo_1 : decode cX2_alikeTo 1 = .ok (.istore_n 3, 1) := dk_62 (dk_at dksX2_alikeTo_0 1 rfl rfl)
theorem dX2_alikeTo_2 : decode cX2_alikeTo 2 = .ok (.iload_n 3, 1) := dk_29 (dk_at dksX2_alikeTo_0 2 rfl rfl)
theorem dX2_alikeTo_3 : decode cX2_alikeTo 3 = .ok (.aload_n 0, 1) := dk_42 (dk_at dksX2_alikeTo_0 3 rfl rfl)
theorem dX2_alikeTo_4 : decode cX2_alikeTo 4 = .ok (.getfield 32, 3) := dk_180 0 32 (dk_at dksX2_alikeTo_0 4 rfl rfl)
theorem dX2_alikeTo_7 : decode cX2_alikeTo 7 = .ok (.iload_n 1, 1) := dk_27 (dk_at dksX2_alikeTo_0 7 rfl rfl)
theorem dX2_alikeTo_8 : decode cX2_alikeTo 8 = .ok (.iaload, 1) := dk_46 (dk_at dksX2_alikeTo_0 8 rfl rfl)
theorem dX2_alikeTo_9 : decode cX2_alikeTo 9 = .ok (.if_icmp .ge 24, 3) := dk_162 0 24 (dk_at dksX2_alikeTo_0 9 rfl rfl)
theorem dX2_alikeTo_12 : decode cX2_alikeTo 12 = .ok (.aload_n 0, 1) := dk_42 (dk_at dksX2_alikeTo_0 12 rfl rfl)
theorem dX2_alikeTo_13 : decode cX2_alikeTo 13 = .ok (.iload_n 1, 1) := dk_27 (dk_at dksX2_alikeTo_0 13 rfl rfl)
theorem dX2_alikeTo_14 : decode cX2_alikeTo 14 = .ok (.iload_n 3, 1) := dk_29 (dk_at dksX2_alikeTo_0 14 rfl rfl)
theorem dX2_alikeTo_15 : decode cX2_alikeTo 15 = .ok (.invokevirtual 200, 3) := dk_182 0 200 (dk_at dksX2_alikeTo_0 15 rfl rfl)
theorem dX2_alikeTo_18 : decode cX2_alikeTo 18 = .ok (.aload_n 0, 1) := dk_42 (dk_at dksX2_alikeTo_0 18 rfl rfl)
theorem dX2_alikeTo_19 : decode cX2_alikeTo 19 = .ok (.iload_n 2, 1) := dk_28 (dk_at dksX2_alikeTo_0 19 rfl rfl)
theorem dX2_alikeTo_20 : decode cX2_alikeTo 20 = .ok (.iload_n 3, 1) := dk_29 (dk_at dksX2_alikeTo_0 20 rfl rfl)
theorem dX2_alikeTo_21 : decode cX2_alikeTo 21 = .ok (.invokevirtual 200, 3) := dk_182 0 200 (dk_at dksX2_alikeTo_0 21 rfl rfl)
theorem dX2_alikeTo_24 : decode cX2_alikeTo 24 = .ok (.if_icmp .ne 9, 3) := dk_160 0 9 (dk_at dksX2_alikeTo_1 0 rfl rfl)
theorem dX2_alikeTo_27 : decode cX2_alikeTo 27 = .ok (.iinc 3 1, 3) := dk_132 3 1 (dk_at dksX2_alikeTo_1 3 rfl rfl)
theorem dX2_alikeTo_30 : decode cX2_alikeTo 30 = .ok (.goto (-28), 3) := dk_167 255 228 (dk_at dksX2_alikeTo_1 6 rfl rfl)
theorem dX2_alikeTo_33 : decode cX2_alikeTo 33 = .ok (.iload_n 3, 1) := dk_29 (dk_at dksX2_alikeTo_1 9 rfl rfl)
theorem dX2_alikeTo_34 : decode cX2_alikeTo 34 = .ok (.ireturn, 1) := dk_172 (dk_at dksX2_alikeTo_1 10 rfl rfl)
abbrev cX2_isFirstOfItsRow : ByteArray := prog_11_method_28_code
def yX2_isFirstOfItsRow : MethodName := ⟨RX2, "isFirstOfItsRow", "(I)Z"⟩
def dkwX2_isFirstOfItsRow_2 : List UInt8 := [27, 46, 162, 0, 7, 4, 167, 0, 4, 3, 61, 132, 3, 1, 167, 255, 199, 28, 172]
abbrev dktX2_isFirstOfItsRow_2 : List UInt8 := dkwX2_isFirstOfItsRow_2 ++ []
def dkwX2_isFirstOfItsRow_1 : List UInt8 := [180, 0, 32, 29, 46, 42, 180, 0, 32, 27, 46, 160, 0, 18, 42, 27, 29, 182, 0, 207, 42, 180, 0, 32]
abbrev dktX2_isFirstOfItsRow_1 : List UInt8 := dkwX2_isFirstOfItsRow_1 ++ dktX2_isFirstOfItsRow_2
def dkwX2_isFirstOfItsRow_0 : List UInt8 := [4, 61, 3, 62, 29, 27, 162, 0, 58, 28, 153, 0, 54, 42, 180, 0, 35, 29, 51, 153, 0, 33, 42]
abbrev dktX2_isFirstOfItsRow_0 : List UInt8 := dkwX2_isFirstOfItsRow_0 ++ dktX2_isFirstOfItsRow_1
theorem dksX2_isFirstOfItsRow_0 : cX2_isFirstOfItsRow.data.toList.drop 0 = dktX2_isFirstOfItsRow_0 := by decide +kernel
theorem dksX2_isFirstOfItsRow_1 : cX2_isFirstOfItsRow.data.toList.drop 23 = dktX2_isFirstOfItsRow_1 := dk_seg dksX2_isFirstOfItsRow_0 23 rfl rfl
theorem dksX2_isFirstOfItsRow_2 : cX2_isFirstOfItsRow.data.toList.drop 47 = dktX2_isFirstOfItsRow_2 := dk_seg dksX2_isFirstOfItsRow_1 24 rfl rfl
theorem dX2_isFirstOfItsRow_0 : decode cX2_isFirstOfItsRow 0 = .ok (.iconst 1, 1) := dk_4 (dk_at dksX2_isFirstOfItsRow_0 0 rfl rfl)
theorem dX2_isFirstOfItsRow_1 : decode cX2_isFirstOfItsRow 1 = .ok (.istore_n 2, 1) := dk_61 (dk_at dksX2_isFirstOfItsRow_0 1 rfl rfl)
theorem dX2_isFirstOfItsRow_2 : decode cX2_isFirstOfItsRow 2 = .ok (.iconst 0, 1) := dk_3 (dk_at dksX2_isFirstOfItsRow_0 2 rfl rfl)
theorem dX2_isFirstOfItsRow_3 : decode cX2_isFirstOfItsRow 3 = .ok (.istore_n 3, 1) := dk_62 (dk_at dksX2_isFirstOfItsRow_0 3 rfl rfl)
theorem dX2_isFirstOfItsRow_4 : decode cX2_isFirstOfItsRow 4 = .ok (.iload_n 3, 1) := dk_29 (dk_at dksX2_isFirstOfItsRow_0 4 rfl rfl)
theorem dX2_isFirstOfItsRow_5 : decode cX2_isFirstOfItsRow 5 = .ok (.iload_n 1, 1) := dk_27 (dk_at dksX2_isFirstOfItsRow_0 5 rfl rfl)
theorem dX2_isFirstOfItsRow_6 : decode cX2_isFirstOfItsRow 6 = .ok (.if_icmp .ge 58, 3) := dk_162 0 58 (dk_at dksX2_isFirstOfItsRow_0 6 rfl rfl)
theorem dX2_isFirstOfItsRow_9 : decode cX2_isFirstOfItsRow 9 = .ok (.iload_n 2, 1) := dk_28 (dk_at dksX2_isFirstOfItsRow_0 9 rfl rfl)
theorem dX2_isFirstOfItsRow_10 : decode cX2_isFirstOfItsRow 10 = .ok (.ifCond .eq 54, 3) := dk_153 0 54 (dk_at dksX2_isFirstOfItsRow_0 10 rfl rfl)
theorem dX2_isFirstOfItsRow_13 : decode cX2_isFirstOfItsRow 13 = .ok (.aload_n 0, 1) := dk_42 (dk_at dksX2_isFirstOfItsRow_0 13 rfl rfl)
theorem dX2_isFirstOfItsRow_14 : decode cX2_isFirstOfItsRow 14 = .ok (.getfield 35, 3) := dk_180 0 35 (dk_at dksX2_isFirstOfItsRow_0 14 rfl rfl)
theorem dX2_isFirstOfItsRow_17 : decode cX2_isFirstOfItsRow 17 = .ok (.iload_n 3, 1) := dk_29 (dk_at dksX2_isFirstOfItsRow_0 17 rfl rfl)
theorem dX2_isFirstOfItsRow_18 : decode cX2_isFirstOfItsRow 18 = .ok (.baload, 1) := dk_51 (dk_at dksX2_isFirstOfItsRow_0 18 rfl rfl)
theorem dX2_isFirstOfItsRow_19 : decode cX2_isFirstOfItsRow 19 = .ok (.ifCond .eq 33, 3) := dk_153 0 33 (dk_at dksX2_isFirstOfItsRow_0 19 rfl rfl)
theorem dX2_isFirstOfItsRow_22 : decode cX2_isFirstOfItsRow 22 = .ok (.aload_n 0, 1) := dk_42 (dk_at dksX2_isFirstOfItsRow_0 22 rfl rfl)
theorem dX2_isFirstOfItsRow_23 : decode cX2_isFirstOfItsRow 23 = .ok (.getfield 32, 3) := dk_180 0 32 (dk_at dksX2_isFirstOfItsRow_1 0 rfl rfl)
theorem dX2_isFirstOfItsRow_26 : decode cX2_isFirstOfItsRow 26 = .ok (.iload_n 3, 1) := dk_29 (dk_at dksX2_isFirstOfItsRow_1 3 rfl rfl)
theorem dX2_isFirstOfItsRow_27 : decode cX2_isFirstOfItsRow 27 = .ok (.iaload, 1) := dk_46 (dk_at dksX2_isFirstOfItsRow_1 4 rfl rfl)
theorem dX2_isFirstOfItsRow_28 : decode cX2_isFirstOfItsRow 28 = .ok (.aload_n 0, 1) := dk_42 (dk_at dksX2_isFirstOfItsRow_1 5 rfl rfl)
theorem dX2_isFirstOfItsRow_29 : decode cX2_isFirstOfItsRow 29 = .ok (.getfield 32, 3) := dk_180 0 32 (dk_at dksX2_isFirstOfItsRow_1 6 rfl rfl)
theorem dX2_isFirstOfItsRow_32 : decode cX2_isFirstOfItsRow 32 = .ok (.iload_n 1, 1) := dk_27 (dk_at dksX2_isFirstOfItsRow_1 9 rfl rfl)
theorem dX2_isFirstOfItsRow_33 : decode cX2_isFirstOfItsRow 33 = .ok (.iaload, 1) := dk_46 (dk_at dksX2_isFirstOfItsRow_1 10 rfl rfl)
theorem dX2_isFirstOfItsRow_34 : decode cX2_isFirstOfItsRow 34 = .ok (.if_icmp .ne 18, 3) := dk_160 0 18 (dk_at dksX2_isFirstOfItsRow_1 11 rfl rfl)
theorem dX2_isFirstOfItsRow_37 : decode cX2_isFirstOfItsRow 37 = .ok (.aload_n 0, 1) := dk_42 (dk_at dksX2_isFirstOfItsRow_1 14 rfl rfl)
theorem dX2_isFirstOfItsRow_38 : decode cX2_isFirstOfItsRow 38 = .ok (.iload_n 1, 1) := dk_27 (dk_at dksX2_isFirstOfItsRow_1 15 rfl rfl)
theorem dX2_isFirstOfItsRow_39 : decode cX2_isFirstOfItsRow 39 = .ok (.iload_n 3, 1) := dk_29 (dk_at dksX2_isFirstOfItsRow_1 16 rfl rfl)
theorem dX2_isFirstOfItsRow_40 : decode cX2_isFirstOfItsRow 40 = .ok (.invokevirtual 207, 3) := dk_182 0 207 (dk_at dksX2_isFirstOfItsRow_1 17 rfl rfl)
theorem dX2_isFirstOfItsRow_43 : decode cX2_isFirstOfItsRow 43 = .ok (.aload_n 0, 1) := dk_42 (dk_at dksX2_isFirstOfItsRow_1 20 rfl rfl)
theorem dX2_isFirstOfItsRow_44 : decode cX2_isFirstOfItsRow 44 = .ok (.getfield 32, 3) := dk_180 0 32 (dk_at dksX2_isFirstOfItsRow_1 21 rfl rfl)
theorem dX2_isFirstOfItsRow_47 : decode cX2_isFirstOfItsRow 47 = .ok (.iload_n 1, 1) := dk_27 (dk_at dksX2_isFirstOfItsRow_2 0 rfl rfl)
theorem dX2_isFirstOfItsRow_48 : decode cX2_isFirstOfItsRow 48 = .ok (.iaload, 1) := dk_46 (dk_at dksX2_isFirstOfItsRow_2 1 rfl rfl)
theorem dX2_isFirstOfItsRow_49 : decode cX2_isFirstOfItsRow 49 = .ok (.if_icmp .ge 7, 3) := dk_162 0 7 (dk_at dksX2_isFirstOfItsRow_2 2 rfl rfl)
theorem dX2_isFirstOfItsRow_52 : decode cX2_isFirstOfItsRow 52 = .ok (.iconst 1, 1) := dk_4 (dk_at dksX2_isFirstOfItsRow_2 5 rfl rfl)
theorem dX2_isFirstOfItsRow_53 : decode cX2_isFirstOfItsRow 53 = .ok (.goto 4, 3) := dk_167 0 4 (dk_at dksX2_isFirstOfItsRow_2 6 rfl rfl)
theorem dX2_isFirstOfItsRow_56 : decode cX2_isFirstOfItsRow 56 = .ok (.iconst 0, 1) := dk_3 (dk_at dksX2_isFirstOfItsRow_2 9 rfl rfl)
theorem dX2_isFirstOfItsRow_57 : decode cX2_isFirstOfItsRow 57 = .ok (.istore_n 2, 1) := dk_61 (dk_at dksX2_isFirstOfItsRow_2 10 rfl rfl)
theorem dX2_isFirstOfItsRow_58 : decode cX2_isFirstOfItsRow 58 = .ok (.iinc 3 1, 3) := dk_132 3 1 (dk_at dksX2_isFirstOfItsRow_2 11 rfl rfl)
theorem dX2_isFirstOfItsRow_61 : decode cX2_isFirstOfItsRow 61 = .ok (.goto (-57), 3) := dk_167 255 199 (dk_at dksX2_isFirstOfItsRow_2 14 rfl rfl)
theorem dX2_isFirstOfItsRow_64 : decode cX2_isFirstOfItsRow 64 = .ok (.iload_n 2, 1) := dk_28 (dk_at dksX2_isFirstOfItsRow_2 17 rfl rfl)
theorem dX2_isFirstOfItsRow_65 : decode cX2_isFirstOfItsRow 65 = .ok (.ireturn, 1) := dk_172 (dk_at dksX2_isFirstOfItsRow_2 18 rfl rfl)
abbrev cX2_apart : ByteArray := prog_11_method_31_code
def yX2_apart : MethodName := ⟨RX2, "apart", "(III)I"⟩
def dkwX2_apart_3 : List UInt8 := [21, 4, 172]
abbrev dktX2_apart_3 : List UInt8 := dkwX2_apart_3 ++ []
def dkwX2_apart_2 : List UInt8 := [42, 180, 0, 42, 16, 24, 27, 104, 28, 96, 29, 79, 42, 180, 0, 42, 16, 24, 28, 104, 27, 96, 29, 79]
abbrev dktX2_apart_2 : List UInt8 := dkwX2_apart_2 ++ dktX2_apart_3
def dkwX2_apart_1 : List UInt8 := [20, 0, 216, 184, 0, 138, 154, 0, 5, 2, 172, 42, 180, 0, 42, 16, 24, 27, 104, 28, 96, 46, 54, 4]
abbrev dktX2_apart_1 : List UInt8 := dkwX2_apart_1 ++ dktX2_apart_2
def dkwX2_apart_0 : List UInt8 := [42, 27, 182, 0, 154, 153, 0, 28, 42, 28, 182, 0, 154, 153, 0, 20, 27, 28, 159, 0, 15, 29, 133, 9]
abbrev dktX2_apart_0 : List UInt8 := dkwX2_apart_0 ++ dktX2_apart_1
theorem dksX2_apart_0 : cX2_apart.data.toList.drop 0 = dktX2_apart_0 := by decide +kernel
theorem dksX2_apart_1 : cX2_apart.data.toList.drop 24 = dktX2_apart_1 := dk_seg dksX2_apart_0 24 rfl rfl
theorem dksX2_apart_2 : cX2_apart.data.toList.drop 48 = dktX2_apart_2 := dk_seg dksX2_apart_1 24 rfl rfl
theorem dksX2_apart_3 : cX2_apart.data.toList.drop 72 = dktX2_apart_3 := dk_seg dksX2_apart_2 24 rfl rfl
theorem dX2_apart_0 : decode cX2_apart 0 = .ok (.aload_n 0, 1) := dk_42 (dk_at dksX2_apart_0 0 rfl rfl)
theorem dX2_apart_1 : decode cX2_apart 1 = .ok (.iload_n 1, 1) := dk_27 (dk_at dksX2_apart_0 1 rfl rfl)
theorem dX2_apart_2 : decode cX2_apart 2 = .ok (.invokevirtual 154, 3) := dk_182 0 154 (dk_at dksX2_apart_0 2 rfl rfl)
theorem dX2_apart_5 : decode cX2_apart 5 = .ok (.ifCond .eq 28, 3) := dk_153 0 28 (dk_at dksX2_apart_0 5 rfl rfl)
theorem dX2_apart_8 : decode cX2_apart 8 = .ok (.aload_n 0, 1) := dk_42 (dk_at dksX2_apart_0 8 rfl rfl)
theorem dX2_apart_9 : decode cX2_apart 9 = .ok (.iload_n 2, 1) := dk_28 (dk_at dksX2_apart_0 9 rfl rfl)
theorem dX2_apart_10 : decode cX2_apart 10 = .ok (.invokevirtual 154, 3) := dk_182 0 154 (dk_at dksX2_apart_0 10 rfl rfl)
theorem dX2_apart_13 : decode cX2_apart 13 = .ok (.ifCond .eq 20, 3) := dk_153 0 20 (dk_at dksX2_apart_0 13 rfl rfl)
theorem dX2_apart_16 : decode cX2_apart 16 = .ok (.iload_n 1, 1) := dk_27 (dk_at dksX2_apart_0 16 rfl rfl)
theorem dX2_apart_17 : decode cX2_apart 17 = .ok (.iload_n 2, 1) := dk_28 (dk_at dksX2_apart_0 17 rfl rfl)
theorem dX2_apart_18 : decode cX2_apart 18 = .ok (.if_icmp .eq 15, 3) := dk_159 0 15 (dk_at dksX2_apart_0 18 rfl rfl)
theorem dX2_apart_21 : decode cX2_apart 21 = .ok (.iload_n 3, 1) := dk_29 (dk_at dksX2_apart_0 21 rfl rfl)
theorem dX2_apart_22 : decode cX2_apart 22 = .ok (.i2l, 1) := dk_133 (dk_at dksX2_apart_0 22 rfl rfl)
theorem dX2_apart_23 : decode cX2_apart 23 = .ok (.lconst 0, 1) := dk_9 (dk_at dksX2_apart_0 23 rfl rfl)
theorem dX2_apart_24 : decode cX2_apart 24 = .ok (.ldc2_w 216, 3) := dk_20 0 216 (dk_at dksX2_apart_1 0 rfl rfl)
theorem dX2_apart_27 : decode cX2_apart 27 = .ok (.invokestatic 138, 3) := dk_184 0 138 (dk_at dksX2_apart_1 3 rfl rfl)
theorem dX2_apart_30 : decode cX2_apart 30 = .ok (.ifCond .ne 5, 3) := dk_154 0 5 (dk_at dksX2_apart_1 6 rfl rfl)
theorem dX2_apart_33 : decode cX2_apart 33 = .ok (.iconst (-1), 1) := dk_2 (dk_at dksX2_apart_1 9 rfl rfl)
theorem dX2_apart_34 : decode cX2_apart 34 = .ok (.ireturn, 1) := dk_172 (dk_at dksX2_apart_1 10 rfl rfl)
theorem dX2_apart_35 : decode cX2_apart 35 = .ok (.aload_n 0, 1) := dk_42 (dk_at dksX2_apart_1 11 rfl rfl)
theorem dX2_apart_36 : decode cX2_apart 36 = .ok (.getfield 42, 3) := dk_180 0 42 (dk_at dksX2_apart_1 12 rfl rfl)
theorem dX2_apart_39 : decode cX2_apart 39 = .ok (.bipush 24, 2) := dk_16 24 (dk_at dksX2_apart_1 15 rfl rfl)
theorem dX2_apart_41 : decode cX2_apart 41 = .ok (.iload_n 1, 1) := dk_27 (dk_at dksX2_apart_1 17 rfl rfl)
theorem dX2_apart_42 : decode cX2_apart 42 = .ok (.imul, 1) := dk_104 (dk_at dksX2_apart_1 18 rfl rfl)
theorem dX2_apart_43 : decode cX2_apart 43 = .ok (.iload_n 2, 1) := dk_28 (dk_at dksX2_apart_1 19 rfl rfl)
theorem dX2_apart_44 : decode cX2_apart 44 = .ok (.iadd, 1) := dk_96 (dk_at dksX2_apart_1 20 rfl rfl)
theorem dX2_apart_45 : decode cX2_apart 45 = .ok (.iaload, 1) := dk_46 (dk_at dksX2_apart_1 21 rfl rfl)
theorem dX2_apart_46 : decode cX2_apart 46 = .ok (.istore 4, 2) := dk_54 4 (dk_at dksX2_apart_1 22 rfl rfl)
theorem dX2_apart_48 : decode cX2_apart 48 = .ok (.aload_n 0, 1) := dk_42 (dk_at dksX2_apart_2 0 rfl rfl)
theorem dX2_apart_49 : decode cX2_apart 49 = .ok (.getfield 42, 3) := dk_180 0 42 (dk_at dksX2_apart_2 1 rfl rfl)
theorem dX2_apart_52 : decode cX2_apart 52 = .ok (.bipush 24, 2) := dk_16 24 (dk_at dksX2_apart_2 4 rfl rfl)
theorem dX2_apart_54 : decode cX2_apart 54 = .ok (.iload_n 1, 1) := dk_27 (dk_at dksX2_apart_2 6 rfl rfl)
theorem dX2_apart_55 : decode cX2_apart 55 = .ok (.imul, 1) := dk_104 (dk_at dksX2_apart_2 7 rfl rfl)
theorem dX2_apart_56 : decode cX2_apart 56 = .ok (.iload_n 2, 1) := dk_28 (dk_at dksX2_apart_2 8 rfl rfl)
theorem dX2_apart_57 : decode cX2_apart 57 = .ok (.iadd, 1) := dk_96 (dk_at dksX2_apart_2 9 rfl rfl)
theorem dX2_apart_58 : decode cX2_apart 58 = .ok (.iload_n 3, 1) := dk_29 (dk_at dksX2_apart_2 10 rfl rfl)
theorem dX2_apart_59 : decode cX2_apart 59 = .ok (.iastore, 1) := dk_79 (dk_at dksX2_apart_2 11 rfl rfl)
theorem dX2_apart_60 : decode cX2_apart 60 = .ok (.aload_n 0, 1) := dk_42 (dk_at dksX2_apart_2 12 rfl rfl)
theorem dX2_apart_61 : decode cX2_apart 61 = .ok (.getfield 42, 3) := dk_180 0 42 (dk_at dksX2_apart_2 13 rfl rfl)
theorem dX2_apart_64 : decode cX2_apart 64 = .ok (.bipush 24, 2) := dk_16 24 (dk_at dksX2_apart_2 16 rfl rfl)
theorem dX2_apart_66 : decode cX2_apart 66 = .ok (.iload_n 2, 1) := dk_28 (dk_at dksX2_apart_2 18 rfl rfl)
theorem dX2_apart_67 : decode cX2_apart 67 = .ok (.imul, 1) := dk_104 (dk_at dksX2_apart_2 19 rfl rfl)
theorem dX2_apart_68 : decode cX2_apart 68 = .ok (.iload_n 1, 1) := dk_27 (dk_at dksX2_apart_2 20 rfl rfl)
theorem dX2_apart_69 : decode cX2_apart 69 = .ok (.iadd, 1) := dk_96 (dk_at dksX2_apart_2 21 rfl rfl)
theorem dX2_apart_70 : decode cX2_apart 70 = .ok (.iload_n 3, 1) := dk_29 (dk_at dksX2_apart_2 22 rfl rfl)
theorem dX2_apart_71 : decode cX2_apart 71 = .ok (.iastore, 1) := dk_79 (dk_at dksX2_apart_2 23 rfl rfl)
theorem dX2_apart_72 : decode cX2_apart 72 = .ok (.iload 4, 2) := dk_21 4 (dk_at dksX2_apart_3 0 rfl rfl)
theorem dX2_apart_74 : decode cX2_apart 74 = .ok (.ireturn, 1) := dk_172 (dk_at dksX2_apart_3 2 rfl rfl)
abbrev cX2_grid : ByteArray := prog_11_method_36_code
def yX2_grid : MethodName := ⟨RX2, "grid", "(II)I"⟩
def dkwX2_grid_4 : List UInt8 := [16, 30, 100, 46, 167, 0, 4, 2, 172]
abbrev dktX2_grid_4 : List UInt8 := dkwX2_grid_4 ++ []
def dkwX2_grid_3 : List UInt8 := [133, 20, 0, 233, 16, 29, 42, 180, 0, 218, 96, 133, 184, 0, 138, 153, 0, 15, 42, 180, 0, 57, 28]
abbrev dktX2_grid_3 : List UInt8 := dkwX2_grid_3 ++ dktX2_grid_4
def dkwX2_grid_2 : List UInt8 := [180, 0, 218, 96, 133, 184, 0, 138, 153, 0, 15, 42, 180, 0, 48, 28, 16, 10, 100, 46, 167, 0, 35, 28]
abbrev dktX2_grid_2 : List UInt8 := dkwX2_grid_2 ++ dktX2_grid_3
def dkwX2_grid_1 : List UInt8 := [29, 167, 0, 78, 28, 4, 160, 0, 10, 42, 180, 0, 218, 167, 0, 66, 28, 133, 20, 0, 179, 16, 9, 42]
abbrev dktX2_grid_1 : List UInt8 := dkwX2_grid_1 ++ dktX2_grid_2
def dkwX2_grid_0 : List UInt8 := [27, 133, 10, 20, 0, 158, 184, 0, 138, 154, 0, 5, 2, 172, 42, 27, 182, 0, 230, 62, 28, 154, 0, 7]
abbrev dktX2_grid_0 : List UInt8 := dkwX2_grid_0 ++ dktX2_grid_1
theorem dksX2_grid_0 : cX2_grid.data.toList.drop 0 = dktX2_grid_0 := by decide +kernel
theorem dksX2_grid_1 : cX2_grid.data.toList.drop 24 = dktX2_grid_1 := dk_seg dksX2_grid_0 24 rfl rfl
theorem dksX2_grid_2 : cX2_grid.data.toList.drop 48 = dktX2_grid_2 := dk_seg dksX2_grid_1 24 rfl rfl
theorem dksX2_grid_3 : cX2_grid.data.toList.drop 72 = dktX2_grid_3 := dk_seg dksX2_grid_2 24 rfl rfl
theorem dksX2_grid_4 : cX2_grid.data.toList.drop 95 = dktX2_grid_4 := dk_seg dksX2_grid_3 23 rfl rfl
theorem dX2_grid_0 : decode cX2_grid 0 = .ok (.iload_n 1, 1) := dk_27 (dk_at dksX2_grid_0 0 rfl rfl)
theorem dX2_grid_1 : decode cX2_grid 1 = .ok (.i2l, 1) := dk_133 (dk_at dksX2_grid_0 1 rfl rfl)
theorem dX2_grid_2 : decode cX2_grid 2 = .ok (.lconst 1, 1) := dk_10 (dk_at dksX2_grid_0 2 rfl rfl)
theorem dX2_grid_3 : decode cX2_grid 3 = .ok (.ldc2_w 158, 3) := dk_20 0 158 (dk_at dksX2_grid_0 3 rfl rfl)
theorem dX2_grid_6 : decode cX2_grid 6 = .ok (.invokestatic 138, 3) := dk_184 0 138 (dk_at dksX2_grid_0 6 rfl rfl)
theorem dX2_grid_9 : decode cX2_grid 9 = .ok (.ifCond .ne 5, 3) := dk_154 0 5 (dk_at dksX2_grid_0 9 rfl rfl)
theorem dX2_grid_12 : decode cX2_grid 12 = .ok (.iconst (-1), 1) := dk_2 (dk_at dksX2_grid_0 12 rfl rfl)
theorem dX2_grid_13 : decode cX2_grid 13 = .ok (.ireturn, 1) := dk_172 (dk_at dksX2_grid_0 13 rfl rfl)
theorem dX2_grid_14 : decode cX2_grid 14 = .ok (.aload_n 0, 1) := dk_42 (dk_at dksX2_grid_0 14 rfl rfl)
theorem dX2_grid_15 : decode cX2_grid 15 = .ok (.iload_n 1, 1) := dk_27 (dk_at dksX2_grid_0 15 rfl rfl)
theorem dX2_grid_16 : decode cX2_grid 16 = .ok (.invokevirtual 230, 3) := dk_182 0 230 (dk_at dksX2_grid_0 16 rfl rfl)
theorem dX2_grid_19 : decode cX2_grid 19 = .ok (.istore_n 3, 1) := dk_62 (dk_at dksX2_grid_0 19 rfl rfl)
theorem dX2_grid_20 : decode cX2_grid 20 = .ok (.iload_n 2, 1) := dk_28 (dk_at dksX2_grid_0 20 rfl rfl)
theorem dX2_grid_21 : decode cX2_grid 21 = .ok (.ifCond .ne 7, 3) := dk_154 0 7 (dk_at dksX2_grid_0 21 rfl rfl)
theorem dX2_grid_24 : decode cX2_grid 24 = .ok (.iload_n 3, 1) := dk_29 (dk_at dksX2_grid_1 0 rfl rfl)
theorem dX2_grid_25 : decode cX2_grid 25 = .ok (.goto 78, 3) := dk_167 0 78 (dk_at dksX2_grid_1 1 rfl rfl)
theorem dX2_grid_28 : decode cX2_grid 28 = .ok (.iload_n 2, 1) := dk_28 (dk_at dksX2_grid_1 4 rfl rfl)
theorem dX2_grid_29 : decode cX2_grid 29 = .ok (.iconst 1, 1) := dk_4 (dk_at dksX2_grid_1 5 rfl rfl)
theorem dX2_grid_30 : decode cX2_grid 30 = .ok (.if_icmp .ne 10, 3) := dk_160 0 10 (dk_at dksX2_grid_1 6 rfl rfl)
theorem dX2_grid_33 : decode cX2_grid 33 = .ok (.aload_n 0, 1) := dk_42 (dk_at dksX2_grid_1 9 rfl rfl)
theorem dX2_grid_34 : decode cX2_grid 34 = .ok (.getfield 218, 3) := dk_180 0 218 (dk_at dksX2_grid_1 10 rfl rfl)
theorem dX2_grid_37 : decode cX2_grid 37 = .ok (.goto 66, 3) := dk_167 0 66 (dk_at dksX2_grid_1 13 rfl rfl)
theorem dX2_grid_40 : decode cX2_grid 40 = .ok (.iload_n 2, 1) := dk_28 (dk_at dksX2_grid_1 16 rfl rfl)
theorem dX2_grid_41 : decode cX2_grid 41 = .ok (.i2l, 1) := dk_133 (dk_at dksX2_grid_1 17 rfl rfl)
theorem dX2_grid_42 : decode cX2_grid 42 = .ok (.ldc2_w 179, 3) := dk_20 0 179 (dk_at dksX2_grid_1 18 rfl rfl)
theorem dX2_grid_45 : decode cX2_grid 45 = .ok (.bipush 9, 2) := dk_16 9 (dk_at dksX2_grid_1 21 rfl rfl)
theorem dX2_grid_47 : decode cX2_grid 47 = .ok (.aload_n 0, 1) := dk_42 (dk_at dksX2_grid_1 23 rfl rfl)
theorem dX2_grid_48 : decode cX2_grid 48 = .ok (.getfield 218, 3) := dk_180 0 218 (dk_at dksX2_grid_2 0 rfl rfl)
theorem dX2_grid_51 : decode cX2_grid 51 = .ok (.iadd, 1) := dk_96 (dk_at dksX2_grid_2 3 rfl rfl)
theorem dX2_grid_52 : decode cX2_grid 52 = .ok (.i2l, 1) := dk_133 (dk_at dksX2_grid_2 4 rfl rfl)
theorem dX2_grid_53 : decode cX2_grid 53 = .ok (.invokestatic 138, 3) := dk_184 0 138 (dk_at dksX2_grid_2 5 rfl rfl)
theorem dX2_grid_56 : decode cX2_grid 56 = .ok (.ifCond .eq 15, 3) := dk_153 0 15 (dk_at dksX2_grid_2 8 rfl rfl)
theorem dX2_grid_59 : decode cX2_grid 59 = .ok (.aload_n 0, 1) := dk_42 (dk_at dksX2_grid_2 11 rfl rfl)
theorem dX2_grid_60 : decode cX2_grid 60 = .ok (.getfield 48, 3) := dk_180 0 48 (dk_at dksX2_grid_2 12 rfl rfl)
theorem dX2_grid_63 : decode cX2_grid 63 = .ok (.iload_n 2, 1) := dk_28 (dk_at dksX2_grid_2 15 rfl rfl)
theorem dX2_grid_64 : decode cX2_grid 64 = .ok (.bipush 10, 2) := dk_16 10 (dk_at dksX2_grid_2 16 rfl rfl)
theorem dX2_grid_66 : decode cX2_grid 66 = .ok (.isub, 1) := dk_100 (dk_at dksX2_grid_2 18 rfl rfl)
theorem dX2_grid_67 : decode cX2_grid 67 = .ok (.iaload, 1) := dk_46 (dk_at dksX2_grid_2 19 rfl rfl)
theorem dX2_grid_68 : decode cX2_grid 68 = .ok (.goto 35, 3) := dk_167 0 35 (dk_at dksX2_grid_2 20 rfl rfl)
theorem dX2_grid_71 : decode cX2_grid 71 = .ok (.iload_n 2, 1) := dk_28 (dk_at dksX2_grid_2 23 rfl rfl)
theorem dX2_grid_72 : decode cX2_grid 72 = .ok (.i2l, 1) := dk_133 (dk_at dksX2_grid_3 0 rfl rfl)
theorem dX2_grid_73 : decode cX2_grid 73 = .ok (.ldc2_w 233, 3) := dk_20 0 233 (dk_at dksX2_grid_3 1 rfl rfl)
theorem dX2_grid_76 : decode cX2_grid 76 = .ok (.bipush 29, 2) := dk_16 29 (dk_at dksX2_grid_3 4 rfl rfl)
theorem dX2_grid_78 : decode cX2_grid 78 = .ok (.aload_n 0, 1) := dk_42 (dk_at dksX2_grid_3 6 rfl rfl)
theorem dX2_grid_79 : decode cX2_grid 79 = .ok (.getfield 218, 3) := dk_180 0 218 (dk_at dksX2_grid_3 7 rfl rfl)
theorem dX2_grid_82 : decode cX2_grid 82 = .ok (.iadd, 1) := dk_96 (dk_at dksX2_grid_3 10 rfl rfl)
theorem dX2_grid_83 : decode cX2_grid 83 = .ok (.i2l, 1) := dk_133 (dk_at dksX2_grid_3 11 rfl rfl)
theorem dX2_grid_84 : decode cX2_grid 84 = .ok (.invokestatic 138, 3) := dk_184 0 138 (dk_at dksX2_grid_3 12 rfl rfl)
theorem dX2_grid_87 : decode cX2_grid 87 = .ok (.ifCond .eq 15, 3) := dk_153 0 15 (dk_at dksX2_grid_3 15 rfl rfl)
theorem dX2_grid_90 : decode cX2_grid 90 = .ok (.aload_n 0, 1) := dk_42 (dk_at dksX2_grid_3 18 rfl rfl)
theorem dX2_grid_91 : decode cX2_grid 91 = .ok (.getfield 57, 3) := dk_180 0 57 (dk_at dksX2_grid_3 19 rfl rfl)
theorem dX2_grid_94 : decode cX2_grid 94 = .ok (.iload_n 2, 1) := dk_28 (dk_at dksX2_grid_3 22 rfl rfl)
theorem dX2_grid_95 : decode cX2_grid 95 = .ok (.bipush 30, 2) := dk_16 30 (dk_at dksX2_grid_4 0 rfl rfl)
theorem dX2_grid_97 : decode cX2_grid 97 = .ok (.isub, 1) := dk_100 (dk_at dksX2_grid_4 2 rfl rfl)
theorem dX2_grid_98 : decode cX2_grid 98 = .ok (.iaload, 1) := dk_46 (dk_at dksX2_grid_4 3 rfl rfl)
theorem dX2_grid_99 : decode cX2_grid 99 = .ok (.goto 4, 3) := dk_167 0 4 (dk_at dksX2_grid_4 4 rfl rfl)
theorem dX2_grid_102 : decode cX2_grid 102 = .ok (.iconst (-1), 1) := dk_2 (dk_at dksX2_grid_4 7 rfl rfl)
theorem dX2_grid_103 : decode cX2_grid 103 = .ok (.ireturn, 1) := dk_172 (dk_at dksX2_grid_4 8 rfl rfl)
abbrev cX2_findGrid : ByteArray := prog_11_method_35_code
def yX2_findGrid : MethodName := ⟨RX2, "findGrid", "(I)I"⟩
def dkwX2_findGrid_6 : List UInt8 := [180, 0, 54, 21, 5, 92, 46, 4, 96, 79, 167, 255, 137, 28, 172]
abbrev dktX2_findGrid_6 : List UInt8 := dkwX2_findGrid_6 ++ []
def dkwX2_findGrid_5 : List UInt8 := [132, 5, 255, 167, 255, 227, 21, 5, 155, 0, 7, 4, 167, 0, 4, 3, 62, 29, 153, 0, 14, 42]
abbrev dktX2_findGrid_5 : List UInt8 := dkwX2_findGrid_5 ++ dktX2_findGrid_6
def dkwX2_findGrid_4 : List UInt8 := [155, 0, 30, 42, 180, 0, 54, 21, 5, 46, 27, 4, 100, 160, 0, 17, 42, 180, 0, 54, 21, 5, 3, 79]
abbrev dktX2_findGrid_4 : List UInt8 := dkwX2_findGrid_4 ++ dktX2_findGrid_5
def dkwX2_findGrid_3 : List UInt8 := [180, 0, 54, 21, 5, 46, 79, 132, 5, 1, 167, 255, 232, 42, 180, 0, 218, 4, 100, 54, 5, 21, 5]
abbrev dktX2_findGrid_3 : List UInt8 := dkwX2_findGrid_3 ++ dktX2_findGrid_4
def dkwX2_findGrid_2 : List UInt8 := [162, 0, 36, 21, 4, 61, 3, 54, 5, 21, 5, 16, 8, 162, 0, 23, 42, 180, 0, 57, 21, 5, 42]
abbrev dktX2_findGrid_2 : List UInt8 := dkwX2_findGrid_2 ++ dktX2_findGrid_3
def dkwX2_findGrid_1 : List UInt8 := [167, 255, 240, 2, 61, 4, 62, 29, 153, 0, 121, 42, 182, 0, 227, 54, 4, 28, 155, 0, 9, 21, 4, 28]
abbrev dktX2_findGrid_1 : List UInt8 := dkwX2_findGrid_1 ++ dktX2_findGrid_2
def dkwX2_findGrid_0 : List UInt8 := [42, 182, 0, 224, 3, 61, 28, 16, 8, 162, 0, 16, 42, 180, 0, 54, 28, 3, 79, 132, 2, 1]
abbrev dktX2_findGrid_0 : List UInt8 := dkwX2_findGrid_0 ++ dktX2_findGrid_1
theorem dksX2_findGrid_0 : cX2_findGrid.data.toList.drop 0 = dktX2_findGrid_0 := by decide +kernel
theorem dksX2_findGrid_1 : cX2_findGrid.data.toList.drop 22 = dktX2_findGrid_1 := dk_seg dksX2_findGrid_0 22 rfl rfl
theorem dksX2_findGrid_2 : cX2_findGrid.data.toList.drop 46 = dktX2_findGrid_2 := dk_seg dksX2_findGrid_1 24 rfl rfl
theorem dksX2_findGrid_3 : cX2_findGrid.data.toList.drop 69 = dktX2_findGrid_3 := dk_seg dksX2_findGrid_2 23 rfl rfl
theorem dksX2_findGrid_4 : cX2_findGrid.data.toList.drop 92 = dktX2_findGrid_4 := dk_seg dksX2_findGrid_3 23 rfl rfl
theorem dksX2_findGrid_5 : cX2_findGrid.data.toList.drop 116 = dktX2_findGrid_5 := dk_seg dksX2_findGrid_4 24 rfl rfl
theorem dksX2_findGrid_6 : cX2_findGrid.data.toList.drop 138 = dktX2_findGrid_6 := dk_seg dksX2_findGrid_5 22 rfl rfl
theorem dX2_findGrid_0 : decode cX2_findGrid 0 = .ok (.aload_n 0, 1) := dk_42 (dk_at dksX2_findGrid_0 0 rfl rfl)
theorem dX2_findGrid_1 : decode cX2_findGrid 1 = .ok (.invokevirtual 224, 3) := dk_182 0 224 (dk_at dksX2_findGrid_0 1 rfl rfl)
theorem dX2_findGrid_4 : decode cX2_findGrid 4 = .ok (.iconst 0, 1) := dk_3 (dk_at dksX2_findGrid_0 4 rfl rfl)
theorem dX2_findGrid_5 : decode cX2_findGrid 5 = .ok (.istore_n 2, 1) := dk_61 (dk_at dksX2_findGrid_0 5 rfl rfl)
theorem dX2_findGrid_6 : decode cX2_findGrid 6 = .ok (.iload_n 2, 1) := dk_28 (dk_at dksX2_findGrid_0 6 rfl rfl)
theorem dX2_findGrid_7 : decode cX2_findGrid 7 = .ok (.bipush 8, 2) := dk_16 8 (dk_at dksX2_findGrid_0 7 rfl rfl)
theorem dX2_findGrid_9 : decode cX2_findGrid 9 = .ok (.if_icmp .ge 16, 3) := dk_162 0 16 (dk_at dksX2_findGrid_0 9 rfl rfl)
theorem dX2_findGrid_12 : decode cX2_findGrid 12 = .ok (.aload_n 0, 1) := dk_42 (dk_at dksX2_findGrid_0 12 rfl rfl)
theorem dX2_findGrid_13 : decode cX2_findGrid 13 = .ok (.getfield 54, 3) := dk_180 0 54 (dk_at dksX2_findGrid_0 13 rfl rfl)
theorem dX2_findGrid_16 : decode cX2_findGrid 16 = .ok (.iload_n 2, 1) := dk_28 (dk_at dksX2_findGrid_0 16 rfl rfl)
theorem dX2_findGrid_17 : decode cX2_findGrid 17 = .ok (.iconst 0, 1) := dk_3 (dk_at dksX2_findGrid_0 17 rfl rfl)
theorem dX2_findGrid_18 : decode cX2_findGrid 18 = .ok (.iastore, 1) := dk_79 (dk_at dksX2_findGrid_0 18 rfl rfl)
theorem dX2_findGrid_19 : decode cX2_findGrid 19 = .ok (.iinc 2 1, 3) := dk_132 2 1 (dk_at dksX2_findGrid_0 19 rfl rfl)
theorem dX2_findGrid_22 : decode cX2_findGrid 22 = .ok (.goto (-16), 3) := dk_167 255 240 (dk_at dksX2_findGrid_1 0 rfl rfl)
theorem dX2_findGrid_25 : decode cX2_findGrid 25 = .ok (.iconst (-1), 1) := dk_2 (dk_at dksX2_findGrid_1 3 rfl rfl)
theorem dX2_findGrid_26 : decode cX2_findGrid 26 = .ok (.istore_n 2, 1) := dk_61 (dk_at dksX2_findGrid_1 4 rfl rfl)
theorem dX2_findGrid_27 : decode cX2_findGrid 27 = .ok (.iconst 1, 1) := dk_4 (dk_at dksX2_findGrid_1 5 rfl rfl)
theorem dX2_findGrid_28 : decode cX2_findGrid 28 = .ok (.istore_n 3, 1) := dk_62 (dk_at dksX2_findGrid_1 6 rfl rfl)
theorem dX2_findGrid_29 : decode cX2_findGrid 29 = .ok (.iload_n 3, 1) := dk_29 (dk_at dksX2_findGrid_1 7 rfl rfl)
theorem dX2_findGrid_30 : decode cX2_findGrid 30 = .ok (.ifCond .eq 121, 3) := dk_153 0 121 (dk_at dksX2_findGrid_1 8 rfl rfl)
theorem dX2_findGrid_33 : decode cX2_findGrid 33 = .ok (.aload_n 0, 1) := dk_42 (dk_at dksX2_findGrid_1 11 rfl rfl)
theorem dX2_findGrid_34 : decode cX2_findGrid 34 = .ok (.invokevirtual 227, 3) := dk_182 0 227 (dk_at dksX2_findGrid_1 12 rfl rfl)
theorem dX2_findGrid_37 : decode cX2_findGrid 37 = .ok (.istore 4, 2) := dk_54 4 (dk_at dksX2_findGrid_1 15 rfl rfl)
theorem dX2_findGrid_39 : decode cX2_findGrid 39 = .ok (.iload_n 2, 1) := dk_28 (dk_at dksX2_findGrid_1 17 rfl rfl)
theorem dX2_findGrid_40 : decode cX2_findGrid 40 = .ok (.ifCond .lt 9, 3) := dk_155 0 9 (dk_at dksX2_findGrid_1 18 rfl rfl)
theorem dX2_findGrid_43 : decode cX2_findGrid 43 = .ok (.iload 4, 2) := dk_21 4 (dk_at dksX2_findGrid_1 21 rfl rfl)
theorem dX2_findGrid_45 : decode cX2_findGrid 45 = .ok (.iload_n 2, 1) := dk_28 (dk_at dksX2_findGrid_1 23 rfl rfl)
theorem dX2_findGrid_46 : decode cX2_findGrid 46 = .ok (.if_icmp .ge 36, 3) := dk_162 0 36 (dk_at dksX2_findGrid_2 0 rfl rfl)
theorem dX2_findGrid_49 : decode cX2_findGrid 49 = .ok (.iload 4, 2) := dk_21 4 (dk_at dksX2_findGrid_2 3 rfl rfl)
theorem dX2_findGrid_51 : decode cX2_findGrid 51 = .ok (.istore_n 2, 1) := dk_61 (dk_at dksX2_findGrid_2 5 rfl rfl)
theorem dX2_findGrid_52 : decode cX2_findGrid 52 = .ok (.iconst 0, 1) := dk_3 (dk_at dksX2_findGrid_2 6 rfl rfl)
theorem dX2_findGrid_53 : decode cX2_findGrid 53 = .ok (.istore 5, 2) := dk_54 5 (dk_at dksX2_findGrid_2 7 rfl rfl)
theorem dX2_findGrid_55 : decode cX2_findGrid 55 = .ok (.iload 5, 2) := dk_21 5 (dk_at dksX2_findGrid_2 9 rfl rfl)
theorem dX2_findGrid_57 : decode cX2_findGrid 57 = .ok (.bipush 8, 2) := dk_16 8 (dk_at dksX2_findGrid_2 11 rfl rfl)
theorem dX2_findGrid_59 : decode cX2_findGrid 59 = .ok (.if_icmp .ge 23, 3) := dk_162 0 23 (dk_at dksX2_findGrid_2 13 rfl rfl)
theorem dX2_findGrid_62 : decode cX2_findGrid 62 = .ok (.aload_n 0, 1) := dk_42 (dk_at dksX2_findGrid_2 16 rfl rfl)
theorem dX2_findGrid_63 : decode cX2_findGrid 63 = .ok (.getfield 57, 3) := dk_180 0 57 (dk_at dksX2_findGrid_2 17 rfl rfl)
theorem dX2_findGrid_66 : decode cX2_findGrid 66 = .ok (.iload 5, 2) := dk_21 5 (dk_at dksX2_findGrid_2 20 rfl rfl)
theorem dX2_findGrid_68 : decode cX2_findGrid 68 = .ok (.aload_n 0, 1) := dk_42 (dk_at dksX2_findGrid_2 22 rfl rfl)
theorem dX2_findGrid_69 : decode cX2_findGrid 69 = .ok (.getfield 54, 3) := dk_180 0 54 (dk_at dksX2_findGrid_3 0 rfl rfl)
theorem dX2_findGrid_72 : decode cX2_findGrid 72 = .ok (.iload 5, 2) := dk_21 5 (dk_at dksX2_findGrid_3 3 rfl rfl)
theorem dX2_findGrid_74 : decode cX2_findGrid 74 = .ok (.iaload, 1) := dk_46 (dk_at dksX2_findGrid_3 5 rfl rfl)
theorem dX2_findGrid_75 : decode cX2_findGrid 75 = .ok (.iastore, 1) := dk_79 (dk_at dksX2_findGrid_3 6 rfl rfl)
theorem dX2_findGrid_76 : decode cX2_findGrid 76 = .ok (.iinc 5 1, 3) := dk_132 5 1 (dk_at dksX2_findGrid_3 7 rfl rfl)
theorem dX2_findGrid_79 : decode cX2_findGrid 79 = .ok (.goto (-24), 3) := dk_167 255 232 (dk_at dksX2_findGrid_3 10 rfl rfl)
theorem dX2_findGrid_82 : decode cX2_findGrid 82 = .ok (.aload_n 0, 1) := dk_42 (dk_at dksX2_findGrid_3 13 rfl rfl)
theorem dX2_findGrid_83 : decode cX2_findGrid 83 = .ok (.getfield 218, 3) := dk_180 0 218 (dk_at dksX2_findGrid_3 14 rfl rfl)
theorem dX2_findGrid_86 : decode cX2_findGrid 86 = .ok (.iconst 1, 1) := dk_4 (dk_at dksX2_findGrid_3 17 rfl rfl)
theorem dX2_findGrid_87 : decode cX2_findGrid 87 = .ok (.isub, 1) := dk_100 (dk_at dksX2_findGrid_3 18 rfl rfl)
theorem dX2_findGrid_88 : decode cX2_findGrid 88 = .ok (.istore 5, 2) := dk_54 5 (dk_at dksX2_findGrid_3 19 rfl rfl)
theorem dX2_findGrid_90 : decode cX2_findGrid 90 = .ok (.iload 5, 2) := dk_21 5 (dk_at dksX2_findGrid_3 21 rfl rfl)
theorem dX2_findGrid_92 : decode cX2_findGrid 92 = .ok (.ifCond .lt 30, 3) := dk_155 0 30 (dk_at dksX2_findGrid_4 0 rfl rfl)
theorem dX2_findGrid_95 : decode cX2_findGrid 95 = .ok (.aload_n 0, 1) := dk_42 (dk_at dksX2_findGrid_4 3 rfl rfl)
theorem dX2_findGrid_96 : decode cX2_findGrid 96 = .ok (.getfield 54, 3) := dk_180 0 54 (dk_at dksX2_findGrid_4 4 rfl rfl)
theorem dX2_findGrid_99 : decode cX2_findGrid 99 = .ok (.iload 5, 2) := dk_21 5 (dk_at dksX2_findGrid_4 7 rfl rfl)
theorem dX2_findGrid_101 : decode cX2_findGrid 101 = .ok (.iaload, 1) := dk_46 (dk_at dksX2_findGrid_4 9 rfl rfl)
theorem dX2_findGrid_102 : decode cX2_findGrid 102 = .ok (.iload_n 1, 1) := dk_27 (dk_at dksX2_findGrid_4 10 rfl rfl)
theorem dX2_findGrid_103 : decode cX2_findGrid 103 = .ok (.iconst 1, 1) := dk_4 (dk_at dksX2_findGrid_4 11 rfl rfl)
theorem dX2_findGrid_104 : decode cX2_findGrid 104 = .ok (.isub, 1) := dk_100 (dk_at dksX2_findGrid_4 12 rfl rfl)
theorem dX2_findGrid_105 : decode cX2_findGrid 105 = .ok (.if_icmp .ne 17, 3) := dk_160 0 17 (dk_at dksX2_findGrid_4 13 rfl rfl)
theorem dX2_findGrid_108 : decode cX2_findGrid 108 = .ok (.aload_n 0, 1) := dk_42 (dk_at dksX2_findGrid_4 16 rfl rfl)
theorem dX2_findGrid_109 : decode cX2_findGrid 109 = .ok (.getfield 54, 3) := dk_180 0 54 (dk_at dksX2_findGrid_4 17 rfl rfl)
theorem dX2_findGrid_112 : decode cX2_findGrid 112 = .ok (.iload 5, 2) := dk_21 5 (dk_at dksX2_findGrid_4 20 rfl rfl)
theorem dX2_findGrid_114 : decode cX2_findGrid 114 = .ok (.iconst 0, 1) := dk_3 (dk_at dksX2_findGrid_4 22 rfl rfl)
theorem dX2_findGrid_115 : decode cX2_findGrid 115 = .ok (.iastore, 1) := dk_79 (dk_at dksX2_findGrid_4 23 rfl rfl)
theorem dX2_findGrid_116 : decode cX2_findGrid 116 = .ok (.iinc 5 (-1), 3) := dk_132 5 255 (dk_at dksX2_findGrid_5 0 rfl rfl)
theorem dX2_findGrid_119 : decode cX2_findGrid 119 = .ok (.goto (-29), 3) := dk_167 255 227 (dk_at dksX2_findGrid_5 3 rfl rfl)
theorem dX2_findGrid_122 : decode cX2_findGrid 122 = .ok (.iload 5, 2) := dk_21 5 (dk_at dksX2_findGrid_5 6 rfl rfl)
theorem dX2_findGrid_124 : decode cX2_findGrid 124 = .ok (.ifCond .lt 7, 3) := dk_155 0 7 (dk_at dksX2_findGrid_5 8 rfl rfl)
theorem dX2_findGrid_127 : decode cX2_findGrid 127 = .ok (.iconst 1, 1) := dk_4 (dk_at dksX2_findGrid_5 11 rfl rfl)
theorem dX2_findGrid_128 : decode cX2_findGrid 128 = .ok (.goto 4, 3) := dk_167 0 4 (dk_at dksX2_findGrid_5 12 rfl rfl)
theorem dX2_findGrid_131 : decode cX2_findGrid 131 = .ok (.iconst 0, 1) := dk_3 (dk_at dksX2_findGrid_5 15 rfl rfl)
theorem dX2_findGrid_132 : decode cX2_findGrid 132 = .ok (.istore_n 3, 1) := dk_62 (dk_at dksX2_findGrid_5 16 rfl rfl)
theorem dX2_findGrid_133 : decode cX2_findGrid 133 = .ok (.iload_n 3, 1) := dk_29 (dk_at dksX2_findGrid_5 17 rfl rfl)
theorem dX2_findGrid_134 : decode cX2_findGrid 134 = .ok (.ifCond .eq 14, 3) := dk_153 0 14 (dk_at dksX2_findGrid_5 18 rfl rfl)
theorem dX2_findGrid_137 : decode cX2_findGrid 137 = .ok (.aload_n 0, 1) := dk_42 (dk_at dksX2_findGrid_5 21 rfl rfl)
theorem dX2_findGrid_138 : decode cX2_findGrid 138 = .ok (.getfield 54, 3) := dk_180 0 54 (dk_at dksX2_findGrid_6 0 rfl rfl)
theorem dX2_findGrid_141 : decode cX2_findGrid 141 = .ok (.iload 5, 2) := dk_21 5 (dk_at dksX2_findGrid_6 3 rfl rfl)
theorem dX2_findGrid_143 : decode cX2_findGrid 143 = .ok (.dup2, 1) := dk_92 (dk_at dksX2_findGrid_6 5 rfl rfl)
theorem dX2_findGrid_144 : decode cX2_findGrid 144 = .ok (.iaload, 1) := dk_46 (dk_at dksX2_findGrid_6 6 rfl rfl)
theorem dX2_findGrid_145 : decode cX2_findGrid 145 = .ok (.iconst 1, 1) := dk_4 (dk_at dksX2_findGrid_6 7 rfl rfl)
theorem dX2_findGrid_146 : decode cX2_findGrid 146 = .ok (.iadd, 1) := dk_96 (dk_at dksX2_findGrid_6 8 rfl rfl)
theorem dX2_findGrid_147 : decode cX2_findGrid 147 = .ok (.iastore, 1) := dk_79 (dk_at dksX2_findGrid_6 9 rfl rfl)
theorem dX2_findGrid_148 : decode cX2_findGrid 148 = .ok (.goto (-119), 3) := dk_167 255 137 (dk_at dksX2_findGrid_6 10 rfl rfl)
theorem dX2_findGrid_151 : decode cX2_findGrid 151 = .ok (.iload_n 2, 1) := dk_28 (dk_at dksX2_findGrid_6 13 rfl rfl)
theorem dX2_findGrid_152 : decode cX2_findGrid 152 = .ok (.ireturn, 1) := dk_172 (dk_at dksX2_findGrid_6 14 rfl rfl)
abbrev cX2_findGridSigns : ByteArray := prog_11_method_33_code
def yX2_findGridSigns : MethodName := ⟨RX2, "findGridSigns", "()V"⟩
def dkwX2_findGridSigns_8 : List UInt8 := [182, 0, 221, 79, 132, 2, 1, 167, 255, 209, 132, 1, 1, 167, 255, 193, 177]
abbrev dktX2_findGridSigns_8 : List UInt8 := dkwX2_findGridSigns_8 ++ []
def dkwX2_findGridSigns_7 : List UInt8 := [28, 96, 27, 28, 160, 0, 7, 3, 167, 0, 19, 42, 42, 180, 0, 48, 27, 46, 42, 180, 0, 48, 28, 46]
abbrev dktX2_findGridSigns_7 : List UInt8 := dkwX2_findGridSigns_7 ++ dktX2_findGridSigns_8
def dkwX2_findGridSigns_6 : List UInt8 := [180, 0, 218, 162, 0, 61, 3, 61, 28, 42, 180, 0, 218, 162, 0, 45, 42, 180, 0, 51, 16, 8, 27, 104]
abbrev dktX2_findGridSigns_6 : List UInt8 := dkwX2_findGridSigns_6 ++ dktX2_findGridSigns_7
def dkwX2_findGridSigns_5 : List UInt8 := [27, 79, 42, 89, 180, 0, 218, 4, 96, 181, 0, 218, 132, 1, 1, 167, 255, 136, 3, 60, 27, 42]
abbrev dktX2_findGridSigns_5 : List UInt8 := dkwX2_findGridSigns_5 ++ dktX2_findGridSigns_6
def dkwX2_findGridSigns_4 : List UInt8 := [167, 255, 187, 28, 153, 0, 32, 42, 180, 0, 218, 16, 8, 162, 0, 23, 42, 180, 0, 48, 42, 180, 0, 218]
abbrev dktX2_findGridSigns_4 : List UInt8 := dkwX2_findGridSigns_4 ++ dktX2_findGridSigns_5
def dkwX2_findGridSigns_3 : List UInt8 := [46, 157, 0, 12, 42, 27, 29, 182, 0, 221, 158, 0, 7, 4, 167, 0, 4, 3, 61, 132, 3, 1]
abbrev dktX2_findGridSigns_3 : List UInt8 := dkwX2_findGridSigns_3 ++ dktX2_findGridSigns_4
def dkwX2_findGridSigns_2 : List UInt8 := [180, 0, 17, 29, 46, 29, 160, 0, 35, 29, 27, 159, 0, 30, 42, 180, 0, 45, 16, 24, 27, 104, 29, 96]
abbrev dktX2_findGridSigns_2 : List UInt8 := dkwX2_findGridSigns_2 ++ dktX2_findGridSigns_3
def dkwX2_findGridSigns_1 : List UInt8 := [42, 180, 0, 135, 162, 0, 67, 42, 180, 0, 17, 27, 46, 27, 160, 0, 57, 28, 154, 0, 41, 42]
abbrev dktX2_findGridSigns_1 : List UInt8 := dkwX2_findGridSigns_1 ++ dktX2_findGridSigns_2
def dkwX2_findGridSigns_0 : List UInt8 := [42, 182, 0, 213, 42, 3, 181, 0, 218, 3, 60, 27, 42, 180, 0, 135, 162, 0, 118, 3, 61, 3, 62, 29]
abbrev dktX2_findGridSigns_0 : List UInt8 := dkwX2_findGridSigns_0 ++ dktX2_findGridSigns_1
theorem dksX2_findGridSigns_0 : cX2_findGridSigns.data.toList.drop 0 = dktX2_findGridSigns_0 := by decide +kernel
theorem dksX2_findGridSigns_1 : cX2_findGridSigns.data.toList.drop 24 = dktX2_findGridSigns_1 := dk_seg dksX2_findGridSigns_0 24 rfl rfl
theorem dksX2_findGridSigns_2 : cX2_findGridSigns.data.toList.drop 46 = dktX2_findGridSigns_2 := dk_seg dksX2_findGridSigns_1 22 rfl rfl
theorem dksX2_findGridSigns_3 : cX2_findGridSigns.data.toList.drop 70 = dktX2_findGridSigns_3 := dk_seg dksX2_findGridSigns_2 24 rfl rfl
theorem dksX2_findGridSigns_4 : cX2_findGridSigns.data.toList.drop 92 = dktX2_findGridSigns_4 := dk_seg dksX2_findGridSigns_3 22 rfl rfl
theorem dksX2_findGridSigns_5 : cX2_findGridSigns.data.toList.drop 116 = dktX2_findGridSigns_5 := dk_seg dksX2_findGridSigns_4 24 rfl rfl
theorem dksX2_findGridSigns_6 : cX2_findGridSigns.data.toList.drop 138 = dktX2_findGridSigns_6 := dk_seg dksX2_findGridSigns_5 22 rfl rfl
theorem dksX2_findGridSigns_7 : cX2_findGridSigns.data.toList.drop 162 = dktX2_findGridSigns_7 := dk_seg dksX2_findGridSigns_6 24 rfl rfl
theorem dksX2_findGridSigns_8 : cX2_findGridSigns.data.toList.drop 186 = dktX2_findGridSigns_8 := dk_seg dksX2_findGridSigns_7 24 rfl rfl
theorem dX2_findGridSigns_0 : decode cX2_findGridSigns 0 = .ok (.aload_n 0, 1) := dk_42 (dk_at dksX2_findGridSigns_0 0 rfl rfl)
theorem dX2_findGridSigns_1 : decode cX2_findGridSigns 1 = .ok (.invokevirtual 213, 3) := dk_182 0 213 (dk_at dksX2_findGridSigns_0 1 rfl rfl)
theorem dX2_findGridSigns_4 : decode cX2_findGridSigns 4 = .ok (.aload_n 0, 1) := dk_42 (dk_at dksX2_findGridSigns_0 4 rfl rfl)
theorem dX2_findGridSigns_5 : decode cX2_findGridSigns 5 = .ok (.iconst 0, 1) := dk_3 (dk_at dksX2_findGridSigns_0 5 rfl rfl)
theorem dX2_findGridSigns_6 : decode cX2_findGridSigns 6 = .ok (.putfield 218, 3) := dk_181 0 218 (dk_at dksX2_findGridSigns_0 6 rfl rfl)
theorem dX2_findGridSigns_9 : decode cX2_findGridSigns 9 = .ok (.iconst 0, 1) := dk_3 (dk_at dksX2_findGridSigns_0 9 rfl rfl)
theorem dX2_findGridSigns_10 : decode cX2_findGridSigns 10 = .ok (.istore_n 1, 1) := dk_60 (dk_at dksX2_findGridSigns_0 10 rfl rfl)
theorem dX2_findGridSigns_11 : decode cX2_findGridSigns 11 = .ok (.iload_n 1, 1) := dk_27 (dk_at dksX2_findGridSigns_0 11 rfl rfl)
theorem dX2_findGridSigns_12 : decode cX2_findGridSigns 12 = .ok (.aload_n 0, 1) := dk_42 (dk_at dksX2_findGridSigns_0 12 rfl rfl)
theorem dX2_findGridSigns_13 : decode cX2_findGridSigns 13 = .ok (.getfield 135, 3) := dk_180 0 135 (dk_at dksX2_findGridSigns_0 13 rfl rfl)
theorem dX2_findGridSigns_16 : decode cX2_findGridSigns 16 = .ok (.if_icmp .ge 118, 3) := dk_162 0 118 (dk_at dksX2_findGridSigns_0 16 rfl rfl)
theorem dX2_findGridSigns_19 : decode cX2_findGridSigns 19 = .ok (.iconst 0, 1) := dk_3 (dk_at dksX2_findGridSigns_0 19 rfl rfl)
theorem dX2_findGridSigns_20 : decode cX2_findGridSigns 20 = .ok (.istore_n 2, 1) := dk_61 (dk_at dksX2_findGridSigns_0 20 rfl rfl)
theorem dX2_findGridSigns_21 : decode cX2_findGridSigns 21 = .ok (.iconst 0, 1) := dk_3 (dk_at dksX2_findGridSigns_0 21 rfl rfl)
theorem dX2_findGridSigns_22 : decode cX2_findGridSigns 22 = .ok (.istore_n 3, 1) := dk_62 (dk_at dksX2_findGridSigns_0 22 rfl rfl)
theorem dX2_findGridSigns_23 : decode cX2_findGridSigns 23 = .ok (.iload_n 3, 1) := dk_29 (dk_at dksX2_findGridSigns_0 23 rfl rfl)
theorem dX2_findGridSigns_24 : decode cX2_findGridSigns 24 = .ok (.aload_n 0, 1) := dk_42 (dk_at dksX2_findGridSigns_1 0 rfl rfl)
theorem dX2_findGridSigns_25 : decode cX2_findGridSigns 25 = .ok (.getfield 135, 3) := dk_180 0 135 (dk_at dksX2_findGridSigns_1 1 rfl rfl)
theorem dX2_findGridSigns_28 : decode cX2_findGridSigns 28 = .ok (.if_icmp .ge 67, 3) := dk_162 0 67 (dk_at dksX2_findGridSigns_1 4 rfl rfl)
theorem dX2_findGridSigns_31 : decode cX2_findGridSigns 31 = .ok (.aload_n 0, 1) := dk_42 (dk_at dksX2_findGridSigns_1 7 rfl rfl)
theorem dX2_findGridSigns_32 : decode cX2_findGridSigns 32 = .ok (.getfield 17, 3) := dk_180 0 17 (dk_at dksX2_findGridSigns_1 8 rfl rfl)
theorem dX2_findGridSigns_35 : decode cX2_findGridSigns 35 = .ok (.iload_n 1, 1) := dk_27 (dk_at dksX2_findGridSigns_1 11 rfl rfl)
theorem dX2_findGridSigns_36 : decode cX2_findGridSigns 36 = .ok (.iaload, 1) := dk_46 (dk_at dksX2_findGridSigns_1 12 rfl rfl)
theorem dX2_findGridSigns_37 : decode cX2_findGridSigns 37 = .ok (.iload_n 1, 1) := dk_27 (dk_at dksX2_findGridSigns_1 13 rfl rfl)
theorem dX2_findGridSigns_38 : decode cX2_findGridSigns 38 = .ok (.if_icmp .ne 57, 3) := dk_160 0 57 (dk_at dksX2_findGridSigns_1 14 rfl rfl)
theorem dX2_findGridSigns_41 : decode cX2_findGridSigns 41 = .ok (.iload_n 2, 1) := dk_28 (dk_at dksX2_findGridSigns_1 17 rfl rfl)
theorem dX2_findGridSigns_42 : decode cX2_findGridSigns 42 = .ok (.ifCond .ne 41, 3) := dk_154 0 41 (dk_at dksX2_findGridSigns_1 18 rfl rfl)
theorem dX2_findGridSigns_45 : decode cX2_findGridSigns 45 = .ok (.aload_n 0, 1) := dk_42 (dk_at dksX2_findGridSigns_1 21 rfl rfl)
theorem dX2_findGridSigns_46 : decode cX2_findGridSigns 46 = .ok (.getfield 17, 3) := dk_180 0 17 (dk_at dksX2_findGridSigns_2 0 rfl rfl)
theorem dX2_findGridSigns_49 : decode cX2_findGridSigns 49 = .ok (.iload_n 3, 1) := dk_29 (dk_at dksX2_findGridSigns_2 3 rfl rfl)
theorem dX2_findGridSigns_50 : decode cX2_findGridSigns 50 = .ok (.iaload, 1) := dk_46 (dk_at dksX2_findGridSigns_2 4 rfl rfl)
theorem dX2_findGridSigns_51 : decode cX2_findGridSigns 51 = .ok (.iload_n 3, 1) := dk_29 (dk_at dksX2_findGridSigns_2 5 rfl rfl)
theorem dX2_findGridSigns_52 : decode cX2_findGridSigns 52 = .ok (.if_icmp .ne 35, 3) := dk_160 0 35 (dk_at dksX2_findGridSigns_2 6 rfl rfl)
theorem dX2_findGridSigns_55 : decode cX2_findGridSigns 55 = .ok (.iload_n 3, 1) := dk_29 (dk_at dksX2_findGridSigns_2 9 rfl rfl)
theorem dX2_findGridSigns_56 : decode cX2_findGridSigns 56 = .ok (.iload_n 1, 1) := dk_27 (dk_at dksX2_findGridSigns_2 10 rfl rfl)
theorem dX2_findGridSigns_57 : decode cX2_findGridSigns 57 = .ok (.if_icmp .eq 30, 3) := dk_159 0 30 (dk_at dksX2_findGridSigns_2 11 rfl rfl)
theorem dX2_findGridSigns_60 : decode cX2_findGridSigns 60 = .ok (.aload_n 0, 1) := dk_42 (dk_at dksX2_findGridSigns_2 14 rfl rfl)
theorem dX2_findGridSigns_61 : decode cX2_findGridSigns 61 = .ok (.getfield 45, 3) := dk_180 0 45 (dk_at dksX2_findGridSigns_2 15 rfl rfl)
theorem dX2_findGridSigns_64 : decode cX2_findGridSigns 64 = .ok (.bipush 24, 2) := dk_16 24 (dk_at dksX2_findGridSigns_2 18 rfl rfl)
theorem dX2_findGridSigns_66 : decode cX2_findGridSigns 66 = .ok (.iload_n 1, 1) := dk_27 (dk_at dksX2_findGridSigns_2 20 rfl rfl)
theorem dX2_findGridSigns_67 : decode cX2_findGridSigns 67 = .ok (.imul, 1) := dk_104 (dk_at dksX2_findGridSigns_2 21 rfl rfl)
theorem dX2_findGridSigns_68 : decode cX2_findGridSigns 68 = .ok (.iload_n 3, 1) := dk_29 (dk_at dksX2_findGridSigns_2 22 rfl rfl)
theorem dX2_findGridSigns_69 : decode cX2_findGridSigns 69 = .ok (.iadd, 1) := dk_96 (dk_at dksX2_findGridSigns_2 23 rfl rfl)
theorem dX2_findGridSigns_70 : decode cX2_findGridSigns 70 = .ok (.iaload, 1) := dk_46 (dk_at dksX2_findGridSigns_3 0 rfl rfl)
theorem dX2_findGridSigns_71 : decode cX2_findGridSigns 71 = .ok (.ifCond .gt 12, 3) := dk_157 0 12 (dk_at dksX2_findGridSigns_3 1 rfl rfl)
theorem dX2_findGridSigns_74 : decode cX2_findGridSigns 74 = .ok (.aload_n 0, 1) := dk_42 (dk_at dksX2_findGridSigns_3 4 rfl rfl)
theorem dX2_findGridSigns_75 : decode cX2_findGridSigns 75 = .ok (.iload_n 1, 1) := dk_27 (dk_at dksX2_findGridSigns_3 5 rfl rfl)
theorem dX2_findGridSigns_76 : decode cX2_findGridSigns 76 = .ok (.iload_n 3, 1) := dk_29 (dk_at dksX2_findGridSigns_3 6 rfl rfl)
theorem dX2_findGridSigns_77 : decode cX2_findGridSigns 77 = .ok (.invokevirtual 221, 3) := dk_182 0 221 (dk_at dksX2_findGridSigns_3 7 rfl rfl)
theorem dX2_findGridSigns_80 : decode cX2_findGridSigns 80 = .ok (.ifCond .le 7, 3) := dk_158 0 7 (dk_at dksX2_findGridSigns_3 10 rfl rfl)
theorem dX2_findGridSigns_83 : decode cX2_findGridSigns 83 = .ok (.iconst 1, 1) := dk_4 (dk_at dksX2_findGridSigns_3 13 rfl rfl)
theorem dX2_findGridSigns_84 : decode cX2_findGridSigns 84 = .ok (.goto 4, 3) := dk_167 0 4 (dk_at dksX2_findGridSigns_3 14 rfl rfl)
theorem dX2_findGridSigns_87 : decode cX2_findGridSigns 87 = .ok (.iconst 0, 1) := dk_3 (dk_at dksX2_findGridSigns_3 17 rfl rfl)
theorem dX2_findGridSigns_88 : decode cX2_findGridSigns 88 = .ok (.istore_n 2, 1) := dk_61 (dk_at dksX2_findGridSigns_3 18 rfl rfl)
theorem dX2_findGridSigns_89 : decode cX2_findGridSigns 89 = .ok (.iinc 3 1, 3) := dk_132 3 1 (dk_at dksX2_findGridSigns_3 19 rfl rfl)
theorem dX2_findGridSigns_92 : decode cX2_findGridSigns 92 = .ok (.goto (-69), 3) := dk_167 255 187 (dk_at dksX2_findGridSigns_4 0 rfl rfl)
theorem dX2_findGridSigns_95 : decode cX2_findGridSigns 95 = .ok (.iload_n 2, 1) := dk_28 (dk_at dksX2_findGridSigns_4 3 rfl rfl)
theorem dX2_findGridSigns_96 : decode cX2_findGridSigns 96 = .ok (.ifCond .eq 32, 3) := dk_153 0 32 (dk_at dksX2_findGridSigns_4 4 rfl rfl)
theorem dX2_findGridSigns_99 : decode cX2_findGridSigns 99 = .ok (.aload_n 0, 1) := dk_42 (dk_at dksX2_findGridSigns_4 7 rfl rfl)
theorem dX2_findGridSigns_100 : decode cX2_findGridSigns 100 = .ok (.getfield 218, 3) := dk_180 0 218 (dk_at dksX2_findGridSigns_4 8 rfl rfl)
theorem dX2_findGridSigns_103 : decode cX2_findGridSigns 103 = .ok (.bipush 8, 2) := dk_16 8 (dk_at dksX2_findGridSigns_4 11 rfl rfl)
theorem dX2_findGridSigns_105 : decode cX2_findGridSigns 105 = .ok (.if_icmp .ge 23, 3) := dk_162 0 23 (dk_at dksX2_findGridSigns_4 13 rfl rfl)
theorem dX2_findGridSigns_108 : decode cX2_findGridSigns 108 = .ok (.aload_n 0, 1) := dk_42 (dk_at dksX2_findGridSigns_4 16 rfl rfl)
theorem dX2_findGridSigns_109 : decode cX2_findGridSigns 109 = .ok (.getfield 48, 3) := dk_180 0 48 (dk_at dksX2_findGridSigns_4 17 rfl rfl)
theorem dX2_findGridSigns_112 : decode cX2_findGridSigns 112 = .ok (.aload_n 0, 1) := dk_42 (dk_at dksX2_findGridSigns_4 20 rfl rfl)
theorem dX2_findGridSigns_113 : decode cX2_findGridSigns 113 = .ok (.getfield 218, 3) := dk_180 0 218 (dk_at dksX2_findGridSigns_4 21 rfl rfl)
theorem dX2_findGridSigns_116 : decode cX2_findGridSigns 116 = .ok (.iload_n 1, 1) := dk_27 (dk_at dksX2_findGridSigns_5 0 rfl rfl)
theorem dX2_findGridSigns_117 : decode cX2_findGridSigns 117 = .ok (.iastore, 1) := dk_79 (dk_at dksX2_findGridSigns_5 1 rfl rfl)
theorem dX2_findGridSigns_118 : decode cX2_findGridSigns 118 = .ok (.aload_n 0, 1) := dk_42 (dk_at dksX2_findGridSigns_5 2 rfl rfl)
theorem dX2_findGridSigns_119 : decode cX2_findGridSigns 119 = .ok (.dup, 1) := dk_89 (dk_at dksX2_findGridSigns_5 3 rfl rfl)
theorem dX2_findGridSigns_120 : decode cX2_findGridSigns 120 = .ok (.getfield 218, 3) := dk_180 0 218 (dk_at dksX2_findGridSigns_5 4 rfl rfl)
theorem dX2_findGridSigns_123 : decode cX2_findGridSigns 123 = .ok (.iconst 1, 1) := dk_4 (dk_at dksX2_findGridSigns_5 7 rfl rfl)
theorem dX2_findGridSigns_124 : decode cX2_findGridSigns 124 = .ok (.iadd, 1) := dk_96 (dk_at dksX2_findGridSigns_5 8 rfl rfl)
theorem dX2_findGridSigns_125 : decode cX2_findGridSigns 125 = .ok (.putfield 218, 3) := dk_181 0 218 (dk_at dksX2_findGridSigns_5 9 rfl rfl)
theorem dX2_findGridSigns_128 : decode cX2_findGridSigns 128 = .ok (.iinc 1 1, 3) := dk_132 1 1 (dk_at dksX2_findGridSigns_5 12 rfl rfl)
theorem dX2_findGridSigns_131 : decode cX2_findGridSigns 131 = .ok (.goto (-120), 3) := dk_167 255 136 (dk_at dksX2_findGridSigns_5 15 rfl rfl)
theorem dX2_findGridSigns_134 : decode cX2_findGridSigns 134 = .ok (.iconst 0, 1) := dk_3 (dk_at dksX2_findGridSigns_5 18 rfl rfl)
theorem dX2_findGridSigns_135 : decode cX2_findGridSigns 135 = .ok (.istore_n 1, 1) := dk_60 (dk_at dksX2_findGridSigns_5 19 rfl rfl)
theorem dX2_findGridSigns_136 : decode cX2_findGridSigns 136 = .ok (.iload_n 1, 1) := dk_27 (dk_at dksX2_findGridSigns_5 20 rfl rfl)
theorem dX2_findGridSigns_137 : decode cX2_findGridSigns 137 = .ok (.aload_n 0, 1) := dk_42 (dk_at dksX2_findGridSigns_5 21 rfl rfl)
theorem dX2_findGridSigns_138 : decode cX2_findGridSigns 138 = .ok (.getfield 218, 3) := dk_180 0 218 (dk_at dksX2_findGridSigns_6 0 rfl rfl)
theorem dX2_findGridSigns_141 : decode cX2_findGridSigns 141 = .ok (.if_icmp .ge 61, 3) := dk_162 0 61 (dk_at dksX2_findGridSigns_6 3 rfl rfl)
theorem dX2_findGridSigns_144 : decode cX2_findGridSigns 144 = .ok (.iconst 0, 1) := dk_3 (dk_at dksX2_findGridSigns_6 6 rfl rfl)
theorem dX2_findGridSigns_145 : decode cX2_findGridSigns 145 = .ok (.istore_n 2, 1) := dk_61 (dk_at dksX2_findGridSigns_6 7 rfl rfl)
theorem dX2_findGridSigns_146 : decode cX2_findGridSigns 146 = .ok (.iload_n 2, 1) := dk_28 (dk_at dksX2_findGridSigns_6 8 rfl rfl)
theorem dX2_findGridSigns_147 : decode cX2_findGridSigns 147 = .ok (.aload_n 0, 1) := dk_42 (dk_at dksX2_findGridSigns_6 9 rfl rfl)
theorem dX2_findGridSigns_148 : decode cX2_findGridSigns 148 = .ok (.getfield 218, 3) := dk_180 0 218 (dk_at dksX2_findGridSigns_6 10 rfl rfl)
theorem dX2_findGridSigns_151 : decode cX2_findGridSigns 151 = .ok (.if_icmp .ge 45, 3) := dk_162 0 45 (dk_at dksX2_findGridSigns_6 13 rfl rfl)
theorem dX2_findGridSigns_154 : decode cX2_findGridSigns 154 = .ok (.aload_n 0, 1) := dk_42 (dk_at dksX2_findGridSigns_6 16 rfl rfl)
theorem dX2_findGridSigns_155 : decode cX2_findGridSigns 155 = .ok (.getfield 51, 3) := dk_180 0 51 (dk_at dksX2_findGridSigns_6 17 rfl rfl)
theorem dX2_findGridSigns_158 : decode cX2_findGridSigns 158 = .ok (.bipush 8, 2) := dk_16 8 (dk_at dksX2_findGridSigns_6 20 rfl rfl)
theorem dX2_findGridSigns_160 : decode cX2_findGridSigns 160 = .ok (.iload_n 1, 1) := dk_27 (dk_at dksX2_findGridSigns_6 22 rfl rfl)
theorem dX2_findGridSigns_161 : decode cX2_findGridSigns 161 = .ok (.imul, 1) := dk_104 (dk_at dksX2_findGridSigns_6 23 rfl rfl)
theorem dX2_findGridSigns_162 : decode cX2_findGridSigns 162 = .ok (.iload_n 2, 1) := dk_28 (dk_at dksX2_findGridSigns_7 0 rfl rfl)
theorem dX2_findGridSigns_163 : decode cX2_findGridSigns 163 = .ok (.iadd, 1) := dk_96 (dk_at dksX2_findGridSigns_7 1 rfl rfl)
theorem dX2_findGridSigns_164 : decode cX2_findGridSigns 164 = .ok (.iload_n 1, 1) := dk_27 (dk_at dksX2_findGridSigns_7 2 rfl rfl)
theorem dX2_findGridSigns_165 : decode cX2_findGridSigns 165 = .ok (.iload_n 2, 1) := dk_28 (dk_at dksX2_findGridSigns_7 3 rfl rfl)
theorem dX2_findGridSigns_166 : decode cX2_findGridSigns 166 = .ok (.if_icmp .ne 7, 3) := dk_160 0 7 (dk_at dksX2_findGridSigns_7 4 rfl rfl)
theorem dX2_findGridSigns_169 : decode cX2_findGridSigns 169 = .ok (.iconst 0, 1) := dk_3 (dk_at dksX2_findGridSigns_7 7 rfl rfl)
theorem dX2_findGridSigns_170 : decode cX2_findGridSigns 170 = .ok (.goto 19, 3) := dk_167 0 19 (dk_at dksX2_findGridSigns_7 8 rfl rfl)
theorem dX2_findGridSigns_173 : decode cX2_findGridSigns 173 = .ok (.aload_n 0, 1) := dk_42 (dk_at dksX2_findGridSigns_7 11 rfl rfl)
theorem dX2_findGridSigns_174 : decode cX2_findGridSigns 174 = .ok (.aload_n 0, 1) := dk_42 (dk_at dksX2_findGridSigns_7 12 rfl rfl)
theorem dX2_findGridSigns_175 : decode cX2_findGridSigns 175 = .ok (.getfield 48, 3) := dk_180 0 48 (dk_at dksX2_findGridSigns_7 13 rfl rfl)
theorem dX2_findGridSigns_178 : decode cX2_findGridSigns 178 = .ok (.iload_n 1, 1) := dk_27 (dk_at dksX2_findGridSigns_7 16 rfl rfl)
theorem dX2_findGridSigns_179 : decode cX2_findGridSigns 179 = .ok (.iaload, 1) := dk_46 (dk_at dksX2_findGridSigns_7 17 rfl rfl)
theorem dX2_findGridSigns_180 : decode cX2_findGridSigns 180 = .ok (.aload_n 0, 1) := dk_42 (dk_at dksX2_findGridSigns_7 18 rfl rfl)
theorem dX2_findGridSigns_181 : decode cX2_findGridSigns 181 = .ok (.getfield 48, 3) := dk_180 0 48 (dk_at dksX2_findGridSigns_7 19 rfl rfl)
theorem dX2_findGridSigns_184 : decode cX2_findGridSigns 184 = .ok (.iload_n 2, 1) := dk_28 (dk_at dksX2_findGridSigns_7 22 rfl rfl)
theorem dX2_findGridSigns_185 : decode cX2_findGridSigns 185 = .ok (.iaload, 1) := dk_46 (dk_at dksX2_findGridSigns_7 23 rfl rfl)
theorem dX2_findGridSigns_186 : decode cX2_findGridSigns 186 = .ok (.invokevirtual 221, 3) := dk_182 0 221 (dk_at dksX2_findGridSigns_8 0 rfl rfl)
theorem dX2_findGridSigns_189 : decode cX2_findGridSigns 189 = .ok (.iastore, 1) := dk_79 (dk_at dksX2_findGridSigns_8 3 rfl rfl)
theorem dX2_findGridSigns_190 : decode cX2_findGridSigns 190 = .ok (.iinc 2 1, 3) := dk_132 2 1 (dk_at dksX2_findGridSigns_8 4 rfl rfl)
theorem dX2_findGridSigns_193 : decode cX2_findGridSigns 193 = .ok (.goto (-47), 3) := dk_167 255 209 (dk_at dksX2_findGridSigns_8 7 rfl rfl)
theorem dX2_findGridSigns_196 : decode cX2_findGridSigns 196 = .ok (.iinc 1 1, 3) := dk_132 1 1 (dk_at dksX2_findGridSigns_8 10 rfl rfl)
theorem dX2_findGridSigns_199 : decode cX2_findGridSigns 199 = .ok (.goto (-63), 3) := dk_167 255 193 (dk_at dksX2_findGridSigns_8 13 rfl rfl)
theorem dX2_findGridSigns_202 : decode cX2_findGridSigns 202 = .ok (.return_, 1) := dk_177 (dk_at dksX2_findGridSigns_8 16 rfl rfl)
abbrev cX2_apartOf : ByteArray := prog_11_method_32_code
def yX2_apartOf : MethodName := ⟨RX2, "apartOf", "(II)I"⟩
def dkwX2_apartOf_4 : List UInt8 := [172]
abbrev dktX2_apartOf_4 : List UInt8 := dkwX2_apartOf_4 ++ []
def dkwX2_apartOf_3 : List UInt8 := [29, 164, 0, 8, 21, 6, 167, 0, 4, 29, 62, 132, 5, 1, 167, 255, 190, 132, 4, 1, 167, 255, 172, 29]
abbrev dktX2_apartOf_3 : List UInt8 := dkwX2_apartOf_3 ++ dktX2_apartOf_4
def dkwX2_apartOf_2 : List UInt8 := [160, 0, 19, 42, 180, 0, 42, 16, 24, 21, 4, 104, 21, 5, 96, 46, 167, 0, 4, 3, 54, 6, 21, 6]
abbrev dktX2_apartOf_2 : List UInt8 := dkwX2_apartOf_2 ++ dktX2_apartOf_3
def dkwX2_apartOf_1 : List UInt8 := [162, 0, 63, 42, 180, 0, 17, 21, 4, 46, 27, 160, 0, 30, 42, 180, 0, 17, 21, 5, 46, 28]
abbrev dktX2_apartOf_1 : List UInt8 := dkwX2_apartOf_1 ++ dktX2_apartOf_2
def dkwX2_apartOf_0 : List UInt8 := [3, 62, 3, 54, 4, 21, 4, 42, 180, 0, 135, 162, 0, 81, 3, 54, 5, 21, 5, 42, 180, 0, 135]
abbrev dktX2_apartOf_0 : List UInt8 := dkwX2_apartOf_0 ++ dktX2_apartOf_1
theorem dksX2_apartOf_0 : cX2_apartOf.data.toList.drop 0 = dktX2_apartOf_0 := by decide +kernel
theorem dksX2_apartOf_1 : cX2_apartOf.data.toList.drop 23 = dktX2_apartOf_1 := dk_seg dksX2_apartOf_0 23 rfl rfl
theorem dksX2_apartOf_2 : cX2_apartOf.data.toList.drop 45 = dktX2_apartOf_2 := dk_seg dksX2_apartOf_1 22 rfl rfl
theorem dksX2_apartOf_3 : cX2_apartOf.data.toList.drop 69 = dktX2_apartOf_3 := dk_seg dksX2_apartOf_2 24 rfl rfl
theorem dksX2_apartOf_4 : cX2_apartOf.data.toList.drop 93 = dktX2_apartOf_4 := dk_seg dksX2_apartOf_3 24 rfl rfl
theorem dX2_apartOf_0 : decode cX2_apartOf 0 = .ok (.iconst 0, 1) := dk_3 (dk_at dksX2_apartOf_0 0 rfl rfl)
theorem dX2_apartOf_1 : decode cX2_apartOf 1 = .ok (.istore_n 3, 1) := dk_62 (dk_at dksX2_apartOf_0 1 rfl rfl)
theorem dX2_apartOf_2 : decode cX2_apartOf 2 = .ok (.iconst 0, 1) := dk_3 (dk_at dksX2_apartOf_0 2 rfl rfl)
theorem dX2_apartOf_3 : decode cX2_apartOf 3 = .ok (.istore 4, 2) := dk_54 4 (dk_at dksX2_apartOf_0 3 rfl rfl)
theorem dX2_apartOf_5 : decode cX2_apartOf 5 = .ok (.iload 4, 2) := dk_21 4 (dk_at dksX2_apartOf_0 5 rfl rfl)
theorem dX2_apartOf_7 : decode cX2_apartOf 7 = .ok (.aload_n 0, 1) := dk_42 (dk_at dksX2_apartOf_0 7 rfl rfl)
theorem dX2_apartOf_8 : decode cX2_apartOf 8 = .ok (.getfield 135, 3) := dk_180 0 135 (dk_at dksX2_apartOf_0 8 rfl rfl)
theorem dX2_apartOf_11 : decode cX2_apartOf 11 = .ok (.if_icmp .ge 81, 3) := dk_162 0 81 (dk_at dksX2_apartOf_0 11 rfl rfl)
theorem dX2_apartOf_14 : decode cX2_apartOf 14 = .ok (.iconst 0, 1) := dk_3 (dk_at dksX2_apartOf_0 14 rfl rfl)
theorem dX2_apartOf_15 : decode cX2_apartOf 15 = .ok (.istore 5, 2) := dk_54 5 (dk_at dksX2_apartOf_0 15 rfl rfl)
theorem dX2_apartOf_17 : decode cX2_apartOf 17 = .ok (.iload 5, 2) := dk_21 5 (dk_at dksX2_apartOf_0 17 rfl rfl)
theorem dX2_apartOf_19 : decode cX2_apartOf 19 = .ok (.aload_n 0, 1) := dk_42 (dk_at dksX2_apartOf_0 19 rfl rfl)
theorem dX2_apartOf_20 : decode cX2_apartOf 20 = .ok (.getfield 135, 3) := dk_180 0 135 (dk_at dksX2_apartOf_0 20 rfl rfl)
theorem dX2_apartOf_23 : decode cX2_apartOf 23 = .ok (.if_icmp .ge 63, 3) := dk_162 0 63 (dk_at dksX2_apartOf_1 0 rfl rfl)
theorem dX2_apartOf_26 : decode cX2_apartOf 26 = .ok (.aload_n 0, 1) := dk_42 (dk_at dksX2_apartOf_1 3 rfl rfl)
theorem dX2_apartOf_27 : decode cX2_apartOf 27 = .ok (.getfield 17, 3) := dk_180 0 17 (dk_at dksX2_apartOf_1 4 rfl rfl)
theorem dX2_apartOf_30 : decode cX2_apartOf 30 = .ok (.iload 4, 2) := dk_21 4 (dk_at dksX2_apartOf_1 7 rfl rfl)
theorem dX2_apartOf_32 : decode cX2_apartOf 32 = .ok (.iaload, 1) := dk_46 (dk_at dksX2_apartOf_1 9 rfl rfl)
theorem dX2_apartOf_33 : decode cX2_apartOf 33 = .ok (.iload_n 1, 1) := dk_27 (dk_at dksX2_apartOf_1 10 rfl rfl)
theorem dX2_apartOf_34 : decode cX2_apartOf 34 = .ok (.if_icmp .ne 30, 3) := dk_160 0 30 (dk_at dksX2_apartOf_1 11 rfl rfl)
theorem dX2_apartOf_37 : decode cX2_apartOf 37 = .ok (.aload_n 0, 1) := dk_42 (dk_at dksX2_apartOf_1 14 rfl rfl)
theorem dX2_apartOf_38 : decode cX2_apartOf 38 = .ok (.getfield 17, 3) := dk_180 0 17 (dk_at dksX2_apartOf_1 15 rfl rfl)
theorem dX2_apartOf_41 : decode cX2_apartOf 41 = .ok (.iload 5, 2) := dk_21 5 (dk_at dksX2_apartOf_1 18 rfl rfl)
theorem dX2_apartOf_43 : decode cX2_apartOf 43 = .ok (.iaload, 1) := dk_46 (dk_at dksX2_apartOf_1 20 rfl rfl)
theorem dX2_apartOf_44 : decode cX2_apartOf 44 = .ok (.iload_n 2, 1) := dk_28 (dk_at dksX2_apartOf_1 21 rfl rfl)
theorem dX2_apartOf_45 : decode cX2_apartOf 45 = .ok (.if_icmp .ne 19, 3) := dk_160 0 19 (dk_at dksX2_apartOf_2 0 rfl rfl)
theorem dX2_apartOf_48 : decode cX2_apartOf 48 = .ok (.aload_n 0, 1) := dk_42 (dk_at dksX2_apartOf_2 3 rfl rfl)
theorem dX2_apartOf_49 : decode cX2_apartOf 49 = .ok (.getfield 42, 3) := dk_180 0 42 (dk_at dksX2_apartOf_2 4 rfl rfl)
theorem dX2_apartOf_52 : decode cX2_apartOf 52 = .ok (.bipush 24, 2) := dk_16 24 (dk_at dksX2_apartOf_2 7 rfl rfl)
theorem dX2_apartOf_54 : decode cX2_apartOf 54 = .ok (.iload 4, 2) := dk_21 4 (dk_at dksX2_apartOf_2 9 rfl rfl)
theorem dX2_apartOf_56 : decode cX2_apartOf 56 = .ok (.imul, 1) := dk_104 (dk_at dksX2_apartOf_2 11 rfl rfl)
theorem dX2_apartOf_57 : decode cX2_apartOf 57 = .ok (.iload 5, 2) := dk_21 5 (dk_at dksX2_apartOf_2 12 rfl rfl)
theorem dX2_apartOf_59 : decode cX2_apartOf 59 = .ok (.iadd, 1) := dk_96 (dk_at dksX2_apartOf_2 14 rfl rfl)
theorem dX2_apartOf_60 : decode cX2_apartOf 60 = .ok (.iaload, 1) := dk_46 (dk_at dksX2_apartOf_2 15 rfl rfl)
theorem dX2_apartOf_61 : decode cX2_apartOf 61 = .ok (.goto 4, 3) := dk_167 0 4 (dk_at dksX2_apartOf_2 16 rfl rfl)
theorem dX2_apartOf_64 : decode cX2_apartOf 64 = .ok (.iconst 0, 1) := dk_3 (dk_at dksX2_apartOf_2 19 rfl rfl)
theorem dX2_apartOf_65 : decode cX2_apartOf 65 = .ok (.istore 6, 2) := dk_54 6 (dk_at dksX2_apartOf_2 20 rfl rfl)
theorem dX2_apartOf_67 : decode cX2_apartOf 67 = .ok (.iload 6, 2) := dk_21 6 (dk_at dksX2_apartOf_2 22 rfl rfl)
theorem dX2_apartOf_69 : decode cX2_apartOf 69 = .ok (.iload_n 3, 1) := dk_29 (dk_at dksX2_apartOf_3 0 rfl rfl)
theorem dX2_apartOf_70 : decode cX2_apartOf 70 = .ok (.if_icmp .le 8, 3) := dk_164 0 8 (dk_at dksX2_apartOf_3 1 rfl rfl)
theorem dX2_apartOf_73 : decode cX2_apartOf 73 = .ok (.iload 6, 2) := dk_21 6 (dk_at dksX2_apartOf_3 4 rfl rfl)
theorem dX2_apartOf_75 : decode cX2_apartOf 75 = .ok (.goto 4, 3) := dk_167 0 4 (dk_at dksX2_apartOf_3 6 rfl rfl)
theorem dX2_apartOf_78 : decode cX2_apartOf 78 = .ok (.iload_n 3, 1) := dk_29 (dk_at dksX2_apartOf_3 9 rfl rfl)
theorem dX2_apartOf_79 : decode cX2_apartOf 79 = .ok (.istore_n 3, 1) := dk_62 (dk_at dksX2_apartOf_3 10 rfl rfl)
theorem dX2_apartOf_80 : decode cX2_apartOf 80 = .ok (.iinc 5 1, 3) := dk_132 5 1 (dk_at dksX2_apartOf_3 11 rfl rfl)
theorem dX2_apartOf_83 : decode cX2_apartOf 83 = .ok (.goto (-66), 3) := dk_167 255 190 (dk_at dksX2_apartOf_3 14 rfl rfl)
theorem dX2_apartOf_86 : decode cX2_apartOf 86 = .ok (.iinc 4 1, 3) := dk_132 4 1 (dk_at dksX2_apartOf_3 17 rfl rfl)
theorem dX2_apartOf_89 : decode cX2_apartOf 89 = .ok (.goto (-84), 3) := dk_167 255 172 (dk_at dksX2_apartOf_3 20 rfl rfl)
theorem dX2_apartOf_92 : decode cX2_apartOf 92 = .ok (.iload_n 3, 1) := dk_29 (dk_at dksX2_apartOf_3 23 rfl rfl)
theorem dX2_apartOf_93 : decode cX2_apartOf 93 = .ok (.ireturn, 1) := dk_172 (dk_at dksX2_apartOf_4 0 rfl rfl)
abbrev cX2_quarrel : ByteArray := prog_11_method_34_code
def yX2_quarrel : MethodName := ⟨RX2, "quarrel", "()I"⟩
def dkwX2_quarrel_3 : List UInt8 := [96, 60, 132, 3, 1, 167, 255, 195, 132, 2, 1, 167, 255, 179, 27, 172]
abbrev dktX2_quarrel_3 : List UInt8 := dkwX2_quarrel_3 ++ []
def dkwX2_quarrel_2 : List UInt8 := [167, 0, 24, 42, 180, 0, 45, 16, 24, 42, 180, 0, 48, 28, 46, 104, 42, 180, 0, 48, 29, 46, 96, 46]
abbrev dktX2_quarrel_2 : List UInt8 := dkwX2_quarrel_2 ++ dktX2_quarrel_3
def dkwX2_quarrel_1 : List UInt8 := [28, 46, 42, 180, 0, 54, 29, 46, 160, 0, 17, 42, 180, 0, 51, 16, 8, 28, 104, 29, 96, 46]
abbrev dktX2_quarrel_1 : List UInt8 := dkwX2_quarrel_1 ++ dktX2_quarrel_2
def dkwX2_quarrel_0 : List UInt8 := [3, 60, 3, 61, 28, 42, 180, 0, 218, 162, 0, 75, 3, 62, 29, 28, 162, 0, 62, 27, 42, 180, 0, 54]
abbrev dktX2_quarrel_0 : List UInt8 := dkwX2_quarrel_0 ++ dktX2_quarrel_1
theorem dksX2_quarrel_0 : cX2_quarrel.data.toList.drop 0 = dktX2_quarrel_0 := by decide +kernel
theorem dksX2_quarrel_1 : cX2_quarrel.data.toList.drop 24 = dktX2_quarrel_1 := dk_seg dksX2_quarrel_0 24 rfl rfl
theorem dksX2_quarrel_2 : cX2_quarrel.data.toList.drop 46 = dktX2_quarrel_2 := dk_seg dksX2_quarrel_1 22 rfl rfl
theorem dksX2_quarrel_3 : cX2_quarrel.data.toList.drop 70 = dktX2_quarrel_3 := dk_seg dksX2_quarrel_2 24 rfl rfl
theorem dX2_quarrel_0 : decode cX2_quarrel 0 = .ok (.iconst 0, 1) := dk_3 (dk_at dksX2_quarrel_0 0 rfl rfl)
theorem dX2_quarrel_1 : decode cX2_quarrel 1 = .ok (.istore_n 1, 1) := dk_60 (dk_at dksX2_quarrel_0 1 rfl rfl)
theorem dX2_quarrel_2 : decode cX2_quarrel 2 = .ok (.iconst 0, 1) := dk_3 (dk_at dksX2_quarrel_0 2 rfl rfl)
theorem dX2_quarrel_3 : decode cX2_quarrel 3 = .ok (.istore_n 2, 1) := dk_61 (dk_at dksX2_quarrel_0 3 rfl rfl)
theorem dX2_quarrel_4 : decode cX2_quarrel 4 = .ok (.iload_n 2, 1) := dk_28 (dk_at dksX2_quarrel_0 4 rfl rfl)
theorem dX2_quarrel_5 : decode cX2_quarrel 5 = .ok (.aload_n 0, 1) := dk_42 (dk_at dksX2_quarrel_0 5 rfl rfl)
theorem dX2_quarrel_6 : decode cX2_quarrel 6 = .ok (.getfield 218, 3) := dk_180 0 218 (dk_at dksX2_quarrel_0 6 rfl rfl)
theorem dX2_quarrel_9 : decode cX2_quarrel 9 = .ok (.if_icmp .ge 75, 3) := dk_162 0 75 (dk_at dksX2_quarrel_0 9 rfl rfl)
theorem dX2_quarrel_12 : decode cX2_quarrel 12 = .ok (.iconst 0, 1) := dk_3 (dk_at dksX2_quarrel_0 12 rfl rfl)
theorem dX2_quarrel_13 : decode cX2_quarrel 13 = .ok (.istore_n 3, 1) := dk_62 (dk_at dksX2_quarrel_0 13 rfl rfl)
theorem dX2_quarrel_14 : decode cX2_quarrel 14 = .ok (.iload_n 3, 1) := dk_29 (dk_at dksX2_quarrel_0 14 rfl rfl)
theorem dX2_quarrel_15 : decode cX2_quarrel 15 = .ok (.iload_n 2, 1) := dk_28 (dk_at dksX2_quarrel_0 15 rfl rfl)
theorem dX2_quarrel_16 : decode cX2_quarrel 16 = .ok (.if_icmp .ge 62, 3) := dk_162 0 62 (dk_at dksX2_quarrel_0 16 rfl rfl)
theorem dX2_quarrel_19 : decode cX2_quarrel 19 = .ok (.iload_n 1, 1) := dk_27 (dk_at dksX2_quarrel_0 19 rfl rfl)
theorem dX2_quarrel_20 : decode cX2_quarrel 20 = .ok (.aload_n 0, 1) := dk_42 (dk_at dksX2_quarrel_0 20 rfl rfl)
theorem dX2_quarrel_21 : decode cX2_quarrel 21 = .ok (.getfield 54, 3) := dk_180 0 54 (dk_at dksX2_quarrel_0 21 rfl rfl)
theorem dX2_quarrel_24 : decode cX2_quarrel 24 = .ok (.iload_n 2, 1) := dk_28 (dk_at dksX2_quarrel_1 0 rfl rfl)
theorem dX2_quarrel_25 : decode cX2_quarrel 25 = .ok (.iaload, 1) := dk_46 (dk_at dksX2_quarrel_1 1 rfl rfl)
theorem dX2_quarrel_26 : decode cX2_quarrel 26 = .ok (.aload_n 0, 1) := dk_42 (dk_at dksX2_quarrel_1 2 rfl rfl)
theorem dX2_quarrel_27 : decode cX2_quarrel 27 = .ok (.getfield 54, 3) := dk_180 0 54 (dk_at dksX2_quarrel_1 3 rfl rfl)
theorem dX2_quarrel_30 : decode cX2_quarrel 30 = .ok (.iload_n 3, 1) := dk_29 (dk_at dksX2_quarrel_1 6 rfl rfl)
theorem dX2_quarrel_31 : decode cX2_quarrel 31 = .ok (.iaload, 1) := dk_46 (dk_at dksX2_quarrel_1 7 rfl rfl)
theorem dX2_quarrel_32 : decode cX2_quarrel 32 = .ok (.if_icmp .ne 17, 3) := dk_160 0 17 (dk_at dksX2_quarrel_1 8 rfl rfl)
theorem dX2_quarrel_35 : decode cX2_quarrel 35 = .ok (.aload_n 0, 1) := dk_42 (dk_at dksX2_quarrel_1 11 rfl rfl)
theorem dX2_quarrel_36 : decode cX2_quarrel 36 = .ok (.getfield 51, 3) := dk_180 0 51 (dk_at dksX2_quarrel_1 12 rfl rfl)
theorem dX2_quarrel_39 : decode cX2_quarrel 39 = .ok (.bipush 8, 2) := dk_16 8 (dk_at dksX2_quarrel_1 15 rfl rfl)
theorem dX2_quarrel_41 : decode cX2_quarrel 41 = .ok (.iload_n 2, 1) := dk_28 (dk_at dksX2_quarrel_1 17 rfl rfl)
theorem dX2_quarrel_42 : decode cX2_quarrel 42 = .ok (.imul, 1) := dk_104 (dk_at dksX2_quarrel_1 18 rfl rfl)
theorem dX2_quarrel_43 : decode cX2_quarrel 43 = .ok (.iload_n 3, 1) := dk_29 (dk_at dksX2_quarrel_1 19 rfl rfl)
theorem dX2_quarrel_44 : decode cX2_quarrel 44 = .ok (.iadd, 1) := dk_96 (dk_at dksX2_quarrel_1 20 rfl rfl)
theorem dX2_quarrel_45 : decode cX2_quarrel 45 = .ok (.iaload, 1) := dk_46 (dk_at dksX2_quarrel_1 21 rfl rfl)
theorem dX2_quarrel_46 : decode cX2_quarrel 46 = .ok (.goto 24, 3) := dk_167 0 24 (dk_at dksX2_quarrel_2 0 rfl rfl)
theorem dX2_quarrel_49 : decode cX2_quarrel 49 = .ok (.aload_n 0, 1) := dk_42 (dk_at dksX2_quarrel_2 3 rfl rfl)
theorem dX2_quarrel_50 : decode cX2_quarrel 50 = .ok (.getfield 45, 3) := dk_180 0 45 (dk_at dksX2_quarrel_2 4 rfl rfl)
theorem dX2_quarrel_53 : decode cX2_quarrel 53 = .ok (.bipush 24, 2) := dk_16 24 (dk_at dksX2_quarrel_2 7 rfl rfl)
theorem dX2_quarrel_55 : decode cX2_quarrel 55 = .ok (.aload_n 0, 1) := dk_42 (dk_at dksX2_quarrel_2 9 rfl rfl)
theorem dX2_quarrel_56 : decode cX2_quarrel 56 = .ok (.getfield 48, 3) := dk_180 0 48 (dk_at dksX2_quarrel_2 10 rfl rfl)
theorem dX2_quarrel_59 : decode cX2_quarrel 59 = .ok (.iload_n 2, 1) := dk_28 (dk_at dksX2_quarrel_2 13 rfl rfl)
theorem dX2_quarrel_60 : decode cX2_quarrel 60 = .ok (.iaload, 1) := dk_46 (dk_at dksX2_quarrel_2 14 rfl rfl)
theorem dX2_quarrel_61 : decode cX2_quarrel 61 = .ok (.imul, 1) := dk_104 (dk_at dksX2_quarrel_2 15 rfl rfl)
theorem dX2_quarrel_62 : decode cX2_quarrel 62 = .ok (.aload_n 0, 1) := dk_42 (dk_at dksX2_quarrel_2 16 rfl rfl)
theorem dX2_quarrel_63 : decode cX2_quarrel 63 = .ok (.getfield 48, 3) := dk_180 0 48 (dk_at dksX2_quarrel_2 17 rfl rfl)
theorem dX2_quarrel_66 : decode cX2_quarrel 66 = .ok (.iload_n 3, 1) := dk_29 (dk_at dksX2_quarrel_2 20 rfl rfl)
theorem dX2_quarrel_67 : decode cX2_quarrel 67 = .ok (.iaload, 1) := dk_46 (dk_at dksX2_quarrel_2 21 rfl rfl)
theorem dX2_quarrel_68 : decode cX2_quarrel 68 = .ok (.iadd, 1) := dk_96 (dk_at dksX2_quarrel_2 22 rfl rfl)
theorem dX2_quarrel_69 : decode cX2_quarrel 69 = .ok (.iaload, 1) := dk_46 (dk_at dksX2_quarrel_2 23 rfl rfl)
theorem dX2_quarrel_70 : decode cX2_quarrel 70 = .ok (.iadd, 1) := dk_96 (dk_at dksX2_quarrel_3 0 rfl rfl)
theorem dX2_quarrel_71 : decode cX2_quarrel 71 = .ok (.istore_n 1, 1) := dk_60 (dk_at dksX2_quarrel_3 1 rfl rfl)
theorem dX2_quarrel_72 : decode cX2_quarrel 72 = .ok (.iinc 3 1, 3) := dk_132 3 1 (dk_at dksX2_quarrel_3 2 rfl rfl)
theorem dX2_quarrel_75 : decode cX2_quarrel 75 = .ok (.goto (-61), 3) := dk_167 255 195 (dk_at dksX2_quarrel_3 5 rfl rfl)
theorem dX2_quarrel_78 : decode cX2_quarrel 78 = .ok (.iinc 2 1, 3) := dk_132 2 1 (dk_at dksX2_quarrel_3 8 rfl rfl)
theorem dX2_quarrel_81 : decode cX2_quarrel 81 = .ok (.goto (-77), 3) := dk_167 255 179 (dk_at dksX2_quarrel_3 11 rfl rfl)
theorem dX2_quarrel_84 : decode cX2_quarrel 84 = .ok (.iload_n 1, 1) := dk_27 (dk_at dksX2_quarrel_3 14 rfl rfl)
theorem dX2_quarrel_85 : decode cX2_quarrel 85 = .ok (.ireturn, 1) := dk_172 (dk_at dksX2_quarrel_3 15 rfl rfl)
abbrev cX2_account : ByteArray := prog_11_method_38_code
def yX2_account : MethodName := ⟨RX2, "account", "(II)I"⟩
def dkwX2_account_2 : List UInt8 := [28, 79, 42, 89, 180, 0, 240, 4, 96, 181, 0, 240, 42, 180, 0, 240, 4, 100, 172]
abbrev dktX2_account_2 : List UInt8 := dkwX2_account_2 ++ []
def dkwX2_account_1 : List UInt8 := [160, 0, 6, 16, 253, 172, 42, 180, 0, 60, 42, 180, 0, 240, 27, 79, 42, 180, 0, 63, 42, 180, 0, 240]
abbrev dktX2_account_1 : List UInt8 := dkwX2_account_1 ++ dktX2_account_2
def dkwX2_account_0 : List UInt8 := [27, 184, 0, 237, 153, 0, 10, 28, 184, 0, 237, 154, 0, 5, 2, 172, 42, 180, 0, 240, 16, 8]
abbrev dktX2_account_0 : List UInt8 := dkwX2_account_0 ++ dktX2_account_1
theorem dksX2_account_0 : cX2_account.data.toList.drop 0 = dktX2_account_0 := by decide +kernel
theorem dksX2_account_1 : cX2_account.data.toList.drop 22 = dktX2_account_1 := dk_seg dksX2_account_0 22 rfl rfl
theorem dksX2_account_2 : cX2_account.data.toList.drop 46 = dktX2_account_2 := dk_seg dksX2_account_1 24 rfl rfl
theorem dX2_account_0 : decode cX2_account 0 = .ok (.iload_n 1, 1) := dk_27 (dk_at dksX2_account_0 0 rfl rfl)
theorem dX2_account_1 : decode cX2_account 1 = .ok (.invokestatic 237, 3) := dk_184 0 237 (dk_at dksX2_account_0 1 rfl rfl)
theorem dX2_account_4 : decode cX2_account 4 = .ok (.ifCond .eq 10, 3) := dk_153 0 10 (dk_at dksX2_account_0 4 rfl rfl)
theorem dX2_account_7 : decode cX2_account 7 = .ok (.iload_n 2, 1) := dk_28 (dk_at dksX2_account_0 7 rfl rfl)
theorem dX2_account_8 : decode cX2_account 8 = .ok (.invokestatic 237, 3) := dk_184 0 237 (dk_at dksX2_account_0 8 rfl rfl)
theorem dX2_account_11 : decode cX2_account 11 = .ok (.ifCond .ne 5, 3) := dk_154 0 5 (dk_at dksX2_account_0 11 rfl rfl)
theorem dX2_account_14 : decode cX2_account 14 = .ok (.iconst (-1), 1) := dk_2 (dk_at dksX2_account_0 14 rfl rfl)
theorem dX2_account_15 : decode cX2_account 15 = .ok (.ireturn, 1) := dk_172 (dk_at dksX2_account_0 15 rfl rfl)
theorem dX2_account_16 : decode cX2_account 16 = .ok (.aload_n 0, 1) := dk_42 (dk_at dksX2_account_0 16 rfl rfl)
theorem dX2_account_17 : decode cX2_account 17 = .ok (.getfield 240, 3) := dk_180 0 240 (dk_at dksX2_account_0 17 rfl rfl)
theorem dX2_account_20 : decode cX2_account 20 = .ok (.bipush 8, 2) := dk_16 8 (dk_at dksX2_account_0 20 rfl rfl)
theorem dX2_account_22 : decode cX2_account 22 = .ok (.if_icmp .ne 6, 3) := dk_160 0 6 (dk_at dksX2_account_1 0 rfl rfl)
theorem dX2_account_25 : decode cX2_account 25 = .ok (.bipush (-3), 2) := dk_16 253 (dk_at dksX2_account_1 3 rfl rfl)
theorem dX2_account_27 : decode cX2_account 27 = .ok (.ireturn, 1) := dk_172 (dk_at dksX2_account_1 5 rfl rfl)
theorem dX2_account_28 : decode cX2_account 28 = .ok (.aload_n 0, 1) := dk_42 (dk_at dksX2_account_1 6 rfl rfl)
theorem dX2_account_29 : decode cX2_account 29 = .ok (.getfield 60, 3) := dk_180 0 60 (dk_at dksX2_account_1 7 rfl rfl)
theorem dX2_account_32 : decode cX2_account 32 = .ok (.aload_n 0, 1) := dk_42 (dk_at dksX2_account_1 10 rfl rfl)
theorem dX2_account_33 : decode cX2_account 33 = .ok (.getfield 240, 3) := dk_180 0 240 (dk_at dksX2_account_1 11 rfl rfl)
theorem dX2_account_36 : decode cX2_account 36 = .ok (.iload_n 1, 1) := dk_27 (dk_at dksX2_account_1 14 rfl rfl)
theorem dX2_account_37 : decode cX2_account 37 = .ok (.iastore, 1) := dk_79 (dk_at dksX2_account_1 15 rfl rfl)
theorem dX2_account_38 : decode cX2_account 38 = .ok (.aload_n 0, 1) := dk_42 (dk_at dksX2_account_1 16 rfl rfl)
theorem dX2_account_39 : decode cX2_account 39 = .ok (.getfield 63, 3) := dk_180 0 63 (dk_at dksX2_account_1 17 rfl rfl)
theorem dX2_account_42 : decode cX2_account 42 = .ok (.aload_n 0, 1) := dk_42 (dk_at dksX2_account_1 20 rfl rfl)
theorem dX2_account_43 : decode cX2_account 43 = .ok (.getfield 240, 3) := dk_180 0 240 (dk_at dksX2_account_1 21 rfl rfl)
theorem dX2_account_46 : decode cX2_account 46 = .ok (.iload_n 2, 1) := dk_28 (dk_at dksX2_account_2 0 rfl rfl)
theorem dX2_account_47 : decode cX2_account 47 = .ok (.iastore, 1) := dk_79 (dk_at dksX2_account_2 1 rfl rfl)
theorem dX2_account_48 : decode cX2_account 48 = .ok (.aload_n 0, 1) := dk_42 (dk_at dksX2_account_2 2 rfl rfl)
theorem dX2_account_49 : decode cX2_account 49 = .ok (.dup, 1) := dk_89 (dk_at dksX2_account_2 3 rfl rfl)
theorem dX2_account_50 : decode cX2_account 50 = .ok (.getfield 240, 3) := dk_180 0 240 (dk_at dksX2_account_2 4 rfl rfl)
theorem dX2_account_53 : decode cX2_account 53 = .ok (.iconst 1, 1) := dk_4 (dk_at dksX2_account_2 7 rfl rfl)
theorem dX2_account_54 : decode cX2_account 54 = .ok (.iadd, 1) := dk_96 (dk_at dksX2_account_2 8 rfl rfl)
theorem dX2_account_55 : decode cX2_account 55 = .ok (.putfield 240, 3) := dk_181 0 240 (dk_at dksX2_account_2 9 rfl rfl)
theorem dX2_account_58 : decode cX2_account 58 = .ok (.aload_n 0, 1) := dk_42 (dk_at dksX2_account_2 12 rfl rfl)
theorem dX2_account_59 : decode cX2_account 59 = .ok (.getfield 240, 3) := dk_180 0 240 (dk_at dksX2_account_2 13 rfl rfl)
theorem dX2_account_62 : decode cX2_account 62 = .ok (.iconst 1, 1) := dk_4 (dk_at dksX2_account_2 16 rfl rfl)
theorem dX2_account_63 : decode cX2_account 63 = .ok (.isub, 1) := dk_100 (dk_at dksX2_account_2 17 rfl rfl)
theorem dX2_account_64 : decode cX2_account 64 = .ok (.ireturn, 1) := dk_172 (dk_at dksX2_account_2 18 rfl rfl)
abbrev cX2_isMarks : ByteArray := prog_11_method_37_code
def yX2_isMarks : MethodName := ⟨RX2, "isMarks", "(I)Z"⟩
def dkwX2_isMarks_1 : List UInt8 := [104, 122, 16, 31, 126, 16, 20, 163, 0, 7, 4, 167, 0, 4, 3, 60, 132, 2, 1, 167, 255, 225, 27, 172]
abbrev dktX2_isMarks_1 : List UInt8 := dkwX2_isMarks_1 ++ []
def dkwX2_isMarks_0 : List UInt8 := [26, 133, 9, 20, 0, 235, 184, 0, 138, 60, 3, 61, 28, 7, 162, 0, 32, 27, 153, 0, 20, 26, 8, 28]
abbrev dktX2_isMarks_0 : List UInt8 := dkwX2_isMarks_0 ++ dktX2_isMarks_1
theorem dksX2_isMarks_0 : cX2_isMarks.data.toList.drop 0 = dktX2_isMarks_0 := by decide +kernel
theorem dksX2_isMarks_1 : cX2_isMarks.data.toList.drop 24 = dktX2_isMarks_1 := dk_seg dksX2_isMarks_0 24 rfl rfl
theorem dX2_isMarks_0 : decode cX2_isMarks 0 = .ok (.iload_n 0, 1) := dk_26 (dk_at dksX2_isMarks_0 0 rfl rfl)
theorem dX2_isMarks_1 : decode cX2_isMarks 1 = .ok (.i2l, 1) := dk_133 (dk_at dksX2_isMarks_0 1 rfl rfl)
theorem dX2_isMarks_2 : decode cX2_isMarks 2 = .ok (.lconst 0, 1) := dk_9 (dk_at dksX2_isMarks_0 2 rfl rfl)
theorem dX2_isMarks_3 : decode cX2_isMarks 3 = .ok (.ldc2_w 235, 3) := dk_20 0 235 (dk_at dksX2_isMarks_0 3 rfl rfl)
theorem dX2_isMarks_6 : decode cX2_isMarks 6 = .ok (.invokestatic 138, 3) := dk_184 0 138 (dk_at dksX2_isMarks_0 6 rfl rfl)
theorem dX2_isMarks_9 : decode cX2_isMarks 9 = .ok (.istore_n 1, 1) := dk_60 (dk_at dksX2_isMarks_0 9 rfl rfl)
theorem dX2_isMarks_10 : decode cX2_isMarks 10 = .ok (.iconst 0, 1) := dk_3 (dk_at dksX2_isMarks_0 10 rfl rfl)
theorem dX2_isMarks_11 : decode cX2_isMarks 11 = .ok (.istore_n 2, 1) := dk_61 (dk_at dksX2_isMarks_0 11 rfl rfl)
theorem dX2_isMarks_12 : decode cX2_isMarks 12 = .ok (.iload_n 2, 1) := dk_28 (dk_at dksX2_isMarks_0 12 rfl rfl)
theorem dX2_isMarks_13 : decode cX2_isMarks 13 = .ok (.iconst 4, 1) := dk_7 (dk_at dksX2_isMarks_0 13 rfl rfl)
theorem dX2_isMarks_14 : decode cX2_isMarks 14 = .ok (.if_icmp .ge 32, 3) := dk_162 0 32 (dk_at dksX2_isMarks_0 14 rfl rfl)
theorem dX2_isMarks_17 : decode cX2_isMarks 17 = .ok (.iload_n 1, 1) := dk_27 (dk_at dksX2_isMarks_0 17 rfl rfl)
theorem dX2_isMarks_18 : decode cX2_isMarks 18 = .ok (.ifCond .eq 20, 3) := dk_153 0 20 (dk_at dksX2_isMarks_0 18 rfl rfl)
theorem dX2_isMarks_21 : decode cX2_isMarks 21 = .ok (.iload_n 0, 1) := dk_26 (dk_at dksX2_isMarks_0 21 rfl rfl)
theorem dX2_isMarks_22 : decode cX2_isMarks 22 = .ok (.iconst 5, 1) := dk_8 (dk_at dksX2_isMarks_0 22 rfl rfl)
theorem dX2_isMarks_23 : decode cX2_isMarks 23 = .ok (.iload_n 2, 1) := dk_28 (dk_at dksX2_isMarks_0 23 rfl rfl)
theorem dX2_isMarks_24 : decode cX2_isMarks 24 = .ok (.imul, 1) := dk_104 (dk_at dksX2_isMarks_1 0 rfl rfl)
theorem dX2_isMarks_25 : decode cX2_isMarks 25 = .ok (.ishr, 1) := dk_122 (dk_at dksX2_isMarks_1 1 rfl rfl)
theorem dX2_isMarks_26 : decode cX2_isMarks 26 = .ok (.bipush 31, 2) := dk_16 31 (dk_at dksX2_isMarks_1 2 rfl rfl)
theorem dX2_isMarks_28 : decode cX2_isMarks 28 = .ok (.iand, 1) := dk_126 (dk_at dksX2_isMarks_1 4 rfl rfl)
theorem dX2_isMarks_29 : decode cX2_isMarks 29 = .ok (.bipush 20, 2) := dk_16 20 (dk_at dksX2_isMarks_1 5 rfl rfl)
theorem dX2_isMarks_31 : decode cX2_isMarks 31 = .ok (.if_icmp .gt 7, 3) := dk_163 0 7 (dk_at dksX2_isMarks_1 7 rfl rfl)
theorem dX2_isMarks_34 : decode cX2_isMarks 34 = .ok (.iconst 1, 1) := dk_4 (dk_at dksX2_isMarks_1 10 rfl rfl)
theorem dX2_isMarks_35 : decode cX2_isMarks 35 = .ok (.goto 4, 3) := dk_167 0 4 (dk_at dksX2_isMarks_1 11 rfl rfl)
theorem dX2_isMarks_38 : decode cX2_isMarks 38 = .ok (.iconst 0, 1) := dk_3 (dk_at dksX2_isMarks_1 14 rfl rfl)
theorem dX2_isMarks_39 : decode cX2_isMarks 39 = .ok (.istore_n 1, 1) := dk_60 (dk_at dksX2_isMarks_1 15 rfl rfl)
theorem dX2_isMarks_40 : decode cX2_isMarks 40 = .ok (.iinc 2 1, 3) := dk_132 2 1 (dk_at dksX2_isMarks_1 16 rfl rfl)
theorem dX2_isMarks_43 : decode cX2_isMarks 43 = .ok (.goto (-31), 3) := dk_167 255 225 (dk_at dksX2_isMarks_1 19 rfl rfl)
theorem dX2_isMarks_46 : decode cX2_isMarks 46 = .ok (.iload_n 1, 1) := dk_27 (dk_at dksX2_isMarks_1 22 rfl rfl)
theorem dX2_isMarks_47 : decode cX2_isMarks 47 = .ok (.ireturn, 1) := dk_172 (dk_at dksX2_isMarks_1 23 rfl rfl)
abbrev cX2_values : ByteArray := prog_11_method_42_code
def yX2_values : MethodName := ⟨RX2, "values", "(I)I"⟩
def dkwX2_values_2 : List UInt8 := [100, 46, 184, 0, 243, 172]
abbrev dktX2_values_2 : List UInt8 := dkwX2_values_2 ++ []
def dkwX2_values_1 : List UInt8 := [180, 0, 246, 167, 0, 26, 42, 180, 0, 246, 154, 0, 8, 16, 252, 167, 0, 14, 42, 180, 0, 69, 27, 4]
abbrev dktX2_values_1 : List UInt8 := dkwX2_values_1 ++ dktX2_values_2
def dkwX2_values_0 : List UInt8 := [27, 133, 9, 20, 0, 253, 184, 0, 138, 154, 0, 5, 2, 172, 42, 182, 0, 255, 27, 154, 0, 10, 42]
abbrev dktX2_values_0 : List UInt8 := dkwX2_values_0 ++ dktX2_values_1
theorem dksX2_values_0 : cX2_values.data.toList.drop 0 = dktX2_values_0 := by decide +kernel
theorem dksX2_values_1 : cX2_values.data.toList.drop 23 = dktX2_values_1 := dk_seg dksX2_values_0 23 rfl rfl
theorem dksX2_values_2 : cX2_values.data.toList.drop 47 = dktX2_values_2 := dk_seg dksX2_values_1 24 rfl rfl
theorem dX2_values_0 : decode cX2_values 0 = .ok (.iload_n 1, 1) := dk_27 (dk_at dksX2_values_0 0 rfl rfl)
theorem dX2_values_1 : decode cX2_values 1 = .ok (.i2l, 1) := dk_133 (dk_at dksX2_values_0 1 rfl rfl)
theorem dX2_values_2 : decode cX2_values 2 = .ok (.lconst 0, 1) := dk_9 (dk_at dksX2_values_0 2 rfl rfl)
theorem dX2_values_3 : decode cX2_values 3 = .ok (.ldc2_w 253, 3) := dk_20 0 253 (dk_at dksX2_values_0 3 rfl rfl)
theorem dX2_values_6 : decode cX2_values 6 = .ok (.invokestatic 138, 3) := dk_184 0 138 (dk_at dksX2_values_0 6 rfl rfl)
theorem dX2_values_9 : decode cX2_values 9 = .ok (.ifCond .ne 5, 3) := dk_154 0 5 (dk_at dksX2_values_0 9 rfl rfl)
theorem dX2_values_12 : decode cX2_values 12 = .ok (.iconst (-1), 1) := dk_2 (dk_at dksX2_values_0 12 rfl rfl)
theorem dX2_values_13 : decode cX2_values 13 = .ok (.ireturn, 1) := dk_172 (dk_at dksX2_values_0 13 rfl rfl)
theorem dX2_values_14 : decode cX2_values 14 = .ok (.aload_n 0, 1) := dk_42 (dk_at dksX2_values_0 14 rfl rfl)
theorem dX2_values_15 : decode cX2_values 15 = .ok (.invokevirtual 255, 3) := dk_182 0 255 (dk_at dksX2_values_0 15 rfl rfl)
theorem dX2_values_18 : decode cX2_values 18 = .ok (.iload_n 1, 1) := dk_27 (dk_at dksX2_values_0 18 rfl rfl)
theorem dX2_values_19 : decode cX2_values 19 = .ok (.ifCond .ne 10, 3) := dk_154 0 10 (dk_at dksX2_values_0 19 rfl rfl)
theorem dX2_values_22 : decode cX2_values 22 = .ok (.aload_n 0, 1) := dk_42 (dk_at dksX2_values_0 22 rfl rfl)
theorem dX2_values_23 : decode cX2_values 23 = .ok (.getfield 246, 3) := dk_180 0 246 (dk_at dksX2_values_1 0 rfl rfl)
theorem dX2_values_26 : decode cX2_values 26 = .ok (.goto 26, 3) := dk_167 0 26 (dk_at dksX2_values_1 3 rfl rfl)
theorem dX2_values_29 : decode cX2_values 29 = .ok (.aload_n 0, 1) := dk_42 (dk_at dksX2_values_1 6 rfl rfl)
theorem dX2_values_30 : decode cX2_values 30 = .ok (.getfield 246, 3) := dk_180 0 246 (dk_at dksX2_values_1 7 rfl rfl)
theorem dX2_values_33 : decode cX2_values 33 = .ok (.ifCond .ne 8, 3) := dk_154 0 8 (dk_at dksX2_values_1 10 rfl rfl)
theorem dX2_values_36 : decode cX2_values 36 = .ok (.bipush (-4), 2) := dk_16 252 (dk_at dksX2_values_1 13 rfl rfl)
theorem dX2_values_38 : decode cX2_values 38 = .ok (.goto 14, 3) := dk_167 0 14 (dk_at dksX2_values_1 15 rfl rfl)
theorem dX2_values_41 : decode cX2_values 41 = .ok (.aload_n 0, 1) := dk_42 (dk_at dksX2_values_1 18 rfl rfl)
theorem dX2_values_42 : decode cX2_values 42 = .ok (.getfield 69, 3) := dk_180 0 69 (dk_at dksX2_values_1 19 rfl rfl)
theorem dX2_values_45 : decode cX2_values 45 = .ok (.iload_n 1, 1) := dk_27 (dk_at dksX2_values_1 22 rfl rfl)
theorem dX2_values_46 : decode cX2_values 46 = .ok (.iconst 1, 1) := dk_4 (dk_at dksX2_values_1 23 rfl rfl)
theorem dX2_values_47 : decode cX2_values 47 = .ok (.isub, 1) := dk_100 (dk_at dksX2_values_2 0 rfl rfl)
theorem dX2_values_48 : decode cX2_values 48 = .ok (.iaload, 1) := dk_46 (dk_at dksX2_values_2 1 rfl rfl)
theorem dX2_values_49 : decode cX2_values 49 = .ok (.invokestatic 243, 3) := dk_184 0 243 (dk_at dksX2_values_2 2 rfl rfl)
theorem dX2_values_52 : decode cX2_values 52 = .ok (.ireturn, 1) := dk_172 (dk_at dksX2_values_2 5 rfl rfl)
abbrev cX2_findValues : ByteArray := prog_11_method_41_code
def yX2_findValues : MethodName := ⟨RX2, "findValues", "()V"⟩
def dkwX2_findValues_8 : List UInt8 := [167, 255, 203, 42, 89, 180, 0, 246, 4, 96, 181, 0, 246, 132, 1, 1, 167, 255, 82, 177]
abbrev dktX2_findValues_8 : List UInt8 := dkwX2_findValues_8 ++ []
def dkwX2_findValues_7 : List UInt8 := [29, 46, 79, 42, 180, 0, 72, 16, 8, 29, 104, 42, 180, 0, 66, 29, 46, 96, 4, 84, 132, 3, 1]
abbrev dktX2_findValues_7 : List UInt8 := dkwX2_findValues_7 ++ dktX2_findValues_8
def dkwX2_findValues_6 : List UInt8 := [180, 0, 69, 29, 42, 180, 0, 246, 154, 0, 12, 42, 180, 0, 66, 29, 46, 167, 0, 9, 42, 180, 0, 69]
abbrev dktX2_findValues_6 : List UInt8 := dkwX2_findValues_6 ++ dktX2_findValues_7
def dkwX2_findValues_5 : List UInt8 := [167, 255, 207, 28, 153, 0, 78, 42, 182, 0, 249, 153, 0, 71, 3, 62, 29, 7, 162, 0, 54, 42]
abbrev dktX2_findValues_5 : List UInt8 := dkwX2_findValues_5 ++ dktX2_findValues_6
def dkwX2_findValues_4 : List UInt8 := [180, 0, 66, 21, 4, 46, 159, 0, 7, 4, 167, 0, 4, 3, 61, 132, 4, 1, 167, 255, 221, 132, 3, 1]
abbrev dktX2_findValues_4 : List UInt8 := dkwX2_findValues_4 ++ dktX2_findValues_5
def dkwX2_findValues_3 : List UInt8 := [162, 0, 50, 3, 54, 4, 21, 4, 29, 162, 0, 35, 28, 153, 0, 23, 42, 180, 0, 66, 29, 46, 42]
abbrev dktX2_findValues_3 : List UInt8 := dkwX2_findValues_3 ++ dktX2_findValues_4
def dkwX2_findValues_2 : List UInt8 := [27, 6, 6, 28, 100, 104, 122, 16, 7, 126, 79, 132, 2, 1, 167, 255, 232, 4, 61, 3, 62, 29, 7]
abbrev dktX2_findValues_2 : List UInt8 := dkwX2_findValues_2 ++ dktX2_findValues_3
def dkwX2_findValues_1 : List UInt8 := [167, 255, 240, 3, 60, 27, 17, 16, 0, 162, 0, 173, 3, 61, 28, 7, 162, 0, 25, 42, 180, 0, 66, 28]
abbrev dktX2_findValues_1 : List UInt8 := dkwX2_findValues_1 ++ dktX2_findValues_2
def dkwX2_findValues_0 : List UInt8 := [42, 3, 181, 0, 246, 3, 60, 27, 16, 32, 162, 0, 16, 42, 180, 0, 72, 27, 3, 84, 132, 1, 1]
abbrev dktX2_findValues_0 : List UInt8 := dkwX2_findValues_0 ++ dktX2_findValues_1
theorem dksX2_findValues_0 : cX2_findValues.data.toList.drop 0 = dktX2_findValues_0 := by decide +kernel
theorem dksX2_findValues_1 : cX2_findValues.data.toList.drop 23 = dktX2_findValues_1 := dk_seg dksX2_findValues_0 23 rfl rfl
theorem dksX2_findValues_2 : cX2_findValues.data.toList.drop 47 = dktX2_findValues_2 := dk_seg dksX2_findValues_1 24 rfl rfl
theorem dksX2_findValues_3 : cX2_findValues.data.toList.drop 70 = dktX2_findValues_3 := dk_seg dksX2_findValues_2 23 rfl rfl
theorem dksX2_findValues_4 : cX2_findValues.data.toList.drop 93 = dktX2_findValues_4 := dk_seg dksX2_findValues_3 23 rfl rfl
theorem dksX2_findValues_5 : cX2_findValues.data.toList.drop 117 = dktX2_findValues_5 := dk_seg dksX2_findValues_4 24 rfl rfl
theorem dksX2_findValues_6 : cX2_findValues.data.toList.drop 139 = dktX2_findValues_6 := dk_seg dksX2_findValues_5 22 rfl rfl
theorem dksX2_findValues_7 : cX2_findValues.data.toList.drop 163 = dktX2_findValues_7 := dk_seg dksX2_findValues_6 24 rfl rfl
theorem dksX2_findValues_8 : cX2_findValues.data.toList.drop 186 = dktX2_findValues_8 := dk_seg dksX2_findValues_7 23 rfl rfl
theorem dX2_findValues_0 : decode cX2_findValues 0 = .ok (.aload_n 0, 1) := dk_42 (dk_at dksX2_findValues_0 0 rfl rfl)
theorem dX2_findValues_1 : decode cX2_findValues 1 = .ok (.iconst 0, 1) := dk_3 (dk_at dksX2_findValues_0 1 rfl rfl)
theorem dX2_findValues_2 : decode cX2_findValues 2 = .ok (.putfield 246, 3) := dk_181 0 246 (dk_at dksX2_findValues_0 2 rfl rfl)
theorem dX2_findValues_5 : decode cX2_findValues 5 = .ok (.iconst 0, 1) := dk_3 (dk_at dksX2_findValues_0 5 rfl rfl)
theorem dX2_findValues_6 : decode cX2_findValues 6 = .ok (.istore_n 1, 1) := dk_60 (dk_at dksX2_findValues_0 6 rfl rfl)
theorem dX2_findValues_7 : decode cX2_findValues 7 = .ok (.iload_n 1, 1) := dk_27 (dk_at dksX2_findValues_0 7 rfl rfl)
theorem dX2_findValues_8 : decode cX2_findValues 8 = .ok (.bipush 32, 2) := dk_16 32 (dk_at dksX2_findValues_0 8 rfl rfl)
theorem dX2_findValues_10 : decode cX2_findValues 10 = .ok (.if_icmp .ge 16, 3) := dk_162 0 16 (dk_at dksX2_findValues_0 10 rfl rfl)
theorem dX2_findValues_13 : decode cX2_findValues 13 = .ok (.aload_n 0, 1) := dk_42 (dk_at dksX2_findValues_0 13 rfl rfl)
theorem dX2_findValues_14 : decode cX2_findValues 14 = .ok (.getfield 72, 3) := dk_180 0 72 (dk_at dksX2_findValues_0 14 rfl rfl)
theorem dX2_findValues_17 : decode cX2_findValues 17 = .ok (.iload_n 1, 1) := dk_27 (dk_at dksX2_findValues_0 17 rfl rfl)
theorem dX2_findValues_18 : decode cX2_findValues 18 = .ok (.iconst 0, 1) := dk_3 (dk_at dksX2_findValues_0 18 rfl rfl)
theorem dX2_findValues_19 : decode cX2_findValues 19 = .ok (.bastore, 1) := dk_84 (dk_at dksX2_findValues_0 19 rfl rfl)
theorem dX2_findValues_20 : decode cX2_findValues 20 = .ok (.iinc 1 1, 3) := dk_132 1 1 (dk_at dksX2_findValues_0 20 rfl rfl)
theorem dX2_findValues_23 : decode cX2_findValues 23 = .ok (.goto (-16), 3) := dk_167 255 240 (dk_at dksX2_findValues_1 0 rfl rfl)
theorem dX2_findValues_26 : decode cX2_findValues 26 = .ok (.iconst 0, 1) := dk_3 (dk_at dksX2_findValues_1 3 rfl rfl)
theorem dX2_findValues_27 : decode cX2_findValues 27 = .ok (.istore_n 1, 1) := dk_60 (dk_at dksX2_findValues_1 4 rfl rfl)
theorem dX2_findValues_28 : decode cX2_findValues 28 = .ok (.iload_n 1, 1) := dk_27 (dk_at dksX2_findValues_1 5 rfl rfl)
theorem dX2_findValues_29 : decode cX2_findValues 29 = .ok (.sipush 4096, 3) := dk_17 16 0 (dk_at dksX2_findValues_1 6 rfl rfl)
theorem dX2_findValues_32 : decode cX2_findValues 32 = .ok (.if_icmp .ge 173, 3) := dk_162 0 173 (dk_at dksX2_findValues_1 9 rfl rfl)
theorem dX2_findValues_35 : decode cX2_findValues 35 = .ok (.iconst 0, 1) := dk_3 (dk_at dksX2_findValues_1 12 rfl rfl)
theorem dX2_findValues_36 : decode cX2_findValues 36 = .ok (.istore_n 2, 1) := dk_61 (dk_at dksX2_findValues_1 13 rfl rfl)
theorem dX2_findValues_37 : decode cX2_findValues 37 = .ok (.iload_n 2, 1) := dk_28 (dk_at dksX2_findValues_1 14 rfl rfl)
theorem dX2_findValues_38 : decode cX2_findValues 38 = .ok (.iconst 4, 1) := dk_7 (dk_at dksX2_findValues_1 15 rfl rfl)
theorem dX2_findValues_39 : decode cX2_findValues 39 = .ok (.if_icmp .ge 25, 3) := dk_162 0 25 (dk_at dksX2_findValues_1 16 rfl rfl)
theorem dX2_findValues_42 : decode cX2_findValues 42 = .ok (.aload_n 0, 1) := dk_42 (dk_at dksX2_findValues_1 19 rfl rfl)
theorem dX2_findValues_43 : decode cX2_findValues 43 = .ok (.getfield 66, 3) := dk_180 0 66 (dk_at dksX2_findValues_1 20 rfl rfl)
theorem dX2_findValues_46 : decode cX2_findValues 46 = .ok (.iload_n 2, 1) := dk_28 (dk_at dksX2_findValues_1 23 rfl rfl)
theorem dX2_findValues_47 : decode cX2_findValues 47 = .ok (.iload_n 1, 1) := dk_27 (dk_at dksX2_findValues_2 0 rfl rfl)
theorem dX2_findValues_48 : decode cX2_findValues 48 = .ok (.iconst 3, 1) := dk_6 (dk_at dksX2_findValues_2 1 rfl rfl)
theorem dX2_findValues_49 : decode cX2_findValues 49 = .ok (.iconst 3, 1) := dk_6 (dk_at dksX2_findValues_2 2 rfl rfl)
theorem dX2_findValues_50 : decode cX2_findValues 50 = .ok (.iload_n 2, 1) := dk_28 (dk_at dksX2_findValues_2 3 rfl rfl)
theorem dX2_findValues_51 : decode cX2_findValues 51 = .ok (.isub, 1) := dk_100 (dk_at dksX2_findValues_2 4 rfl rfl)
theorem dX2_findValues_52 : decode cX2_findValues 52 = .ok (.imul, 1) := dk_104 (dk_at dksX2_findValues_2 5 rfl rfl)
theorem dX2_findValues_53 : decode cX2_findValues 53 = .ok (.ishr, 1) := dk_122 (dk_at dksX2_findValues_2 6 rfl rfl)
theorem dX2_findValues_54 : decode cX2_findValues 54 = .ok (.bipush 7, 2) := dk_16 7 (dk_at dksX2_findValues_2 7 rfl rfl)
theorem dX2_findValues_56 : decode cX2_findValues 56 = .ok (.iand, 1) := dk_126 (dk_at dksX2_findValues_2 9 rfl rfl)
theorem dX2_findValues_57 : decode cX2_findValues 57 = .ok (.iastore, 1) := dk_79 (dk_at dksX2_findValues_2 10 rfl rfl)
theorem dX2_findValues_58 : decode cX2_findValues 58 = .ok (.iinc 2 1, 3) := dk_132 2 1 (dk_at dksX2_findValues_2 11 rfl rfl)
theorem dX2_findValues_61 : decode cX2_findValues 61 = .ok (.goto (-24), 3) := dk_167 255 232 (dk_at dksX2_findValues_2 14 rfl rfl)
theorem dX2_findValues_64 : decode cX2_findValues 64 = .ok (.iconst 1, 1) := dk_4 (dk_at dksX2_findValues_2 17 rfl rfl)
theorem dX2_findValues_65 : decode cX2_findValues 65 = .ok (.istore_n 2, 1) := dk_61 (dk_at dksX2_findValues_2 18 rfl rfl)
theorem dX2_findValues_66 : decode cX2_findValues 66 = .ok (.iconst 0, 1) := dk_3 (dk_at dksX2_findValues_2 19 rfl rfl)
theorem dX2_findValues_67 : decode cX2_findValues 67 = .ok (.istore_n 3, 1) := dk_62 (dk_at dksX2_findValues_2 20 rfl rfl)
theorem dX2_findValues_68 : decode cX2_findValues 68 = .ok (.iload_n 3, 1) := dk_29 (dk_at dksX2_findValues_2 21 rfl rfl)
theorem dX2_findValues_69 : decode cX2_findValues 69 = .ok (.iconst 4, 1) := dk_7 (dk_at dksX2_findValues_2 22 rfl rfl)
theorem dX2_findValues_70 : decode cX2_findValues 70 = .ok (.if_icmp .ge 50, 3) := dk_162 0 50 (dk_at dksX2_findValues_3 0 rfl rfl)
theorem dX2_findValues_73 : decode cX2_findValues 73 = .ok (.iconst 0, 1) := dk_3 (dk_at dksX2_findValues_3 3 rfl rfl)
theorem dX2_findValues_74 : decode cX2_findValues 74 = .ok (.istore 4, 2) := dk_54 4 (dk_at dksX2_findValues_3 4 rfl rfl)
theorem dX2_findValues_76 : decode cX2_findValues 76 = .ok (.iload 4, 2) := dk_21 4 (dk_at dksX2_findValues_3 6 rfl rfl)
theorem dX2_findValues_78 : decode cX2_findValues 78 = .ok (.iload_n 3, 1) := dk_29 (dk_at dksX2_findValues_3 8 rfl rfl)
theorem dX2_findValues_79 : decode cX2_findValues 79 = .ok (.if_icmp .ge 35, 3) := dk_162 0 35 (dk_at dksX2_findValues_3 9 rfl rfl)
theorem dX2_findValues_82 : decode cX2_findValues 82 = .ok (.iload_n 2, 1) := dk_28 (dk_at dksX2_findValues_3 12 rfl rfl)
theorem dX2_findValues_83 : decode cX2_findValues 83 = .ok (.ifCond .eq 23, 3) := dk_153 0 23 (dk_at dksX2_findValues_3 13 rfl rfl)
theorem dX2_findValues_86 : decode cX2_findValues 86 = .ok (.aload_n 0, 1) := dk_42 (dk_at dksX2_findValues_3 16 rfl rfl)
theorem dX2_findValues_87 : decode cX2_findValues 87 = .ok (.getfield 66, 3) := dk_180 0 66 (dk_at dksX2_findValues_3 17 rfl rfl)
theorem dX2_findValues_90 : decode cX2_findValues 90 = .ok (.iload_n 3, 1) := dk_29 (dk_at dksX2_findValues_3 20 rfl rfl)
theorem dX2_findValues_91 : decode cX2_findValues 91 = .ok (.iaload, 1) := dk_46 (dk_at dksX2_findValues_3 21 rfl rfl)
theorem dX2_findValues_92 : decode cX2_findValues 92 = .ok (.aload_n 0, 1) := dk_42 (dk_at dksX2_findValues_3 22 rfl rfl)
theorem dX2_findValues_93 : decode cX2_findValues 93 = .ok (.getfield 66, 3) := dk_180 0 66 (dk_at dksX2_findValues_4 0 rfl rfl)
theorem dX2_findValues_96 : decode cX2_findValues 96 = .ok (.iload 4, 2) := dk_21 4 (dk_at dksX2_findValues_4 3 rfl rfl)
theorem dX2_findValues_98 : decode cX2_findValues 98 = .ok (.iaload, 1) := dk_46 (dk_at dksX2_findValues_4 5 rfl rfl)
theorem dX2_findValues_99 : decode cX2_findValues 99 = .ok (.if_icmp .eq 7, 3) := dk_159 0 7 (dk_at dksX2_findValues_4 6 rfl rfl)
theorem dX2_findValues_102 : decode cX2_findValues 102 = .ok (.iconst 1, 1) := dk_4 (dk_at dksX2_findValues_4 9 rfl rfl)
theorem dX2_findValues_103 : decode cX2_findValues 103 = .ok (.goto 4, 3) := dk_167 0 4 (dk_at dksX2_findValues_4 10 rfl rfl)
theorem dX2_findValues_106 : decode cX2_findValues 106 = .ok (.iconst 0, 1) := dk_3 (dk_at dksX2_findValues_4 13 rfl rfl)
theorem dX2_findValues_107 : decode cX2_findValues 107 = .ok (.istore_n 2, 1) := dk_61 (dk_at dksX2_findValues_4 14 rfl rfl)
theorem dX2_findValues_108 : decode cX2_findValues 108 = .ok (.iinc 4 1, 3) := dk_132 4 1 (dk_at dksX2_findValues_4 15 rfl rfl)
theorem dX2_findValues_111 : decode cX2_findValues 111 = .ok (.goto (-35), 3) := dk_167 255 221 (dk_at dksX2_findValues_4 18 rfl rfl)
theorem dX2_findValues_114 : decode cX2_findValues 114 = .ok (.iinc 3 1, 3) := dk_132 3 1 (dk_at dksX2_findValues_4 21 rfl rfl)
theorem dX2_findValues_117 : decode cX2_findValues 117 = .ok (.goto (-49), 3) := dk_167 255 207 (dk_at dksX2_findValues_5 0 rfl rfl)
theorem dX2_findValues_120 : decode cX2_findValues 120 = .ok (.iload_n 2, 1) := dk_28 (dk_at dksX2_findValues_5 3 rfl rfl)
theorem dX2_findValues_121 : decode cX2_findValues 121 = .ok (.ifCond .eq 78, 3) := dk_153 0 78 (dk_at dksX2_findValues_5 4 rfl rfl)
theorem dX2_findValues_124 : decode cX2_findValues 124 = .ok (.aload_n 0, 1) := dk_42 (dk_at dksX2_findValues_5 7 rfl rfl)
theorem dX2_findValues_125 : decode cX2_findValues 125 = .ok (.invokevirtual 249, 3) := dk_182 0 249 (dk_at dksX2_findValues_5 8 rfl rfl)
theorem dX2_findValues_128 : decode cX2_findValues 128 = .ok (.ifCond .eq 71, 3) := dk_153 0 71 (dk_at dksX2_findValues_5 11 rfl rfl)
theorem dX2_findValues_131 : decode cX2_findValues 131 = .ok (.iconst 0, 1) := dk_3 (dk_at dksX2_findValues_5 14 rfl rfl)
theorem dX2_findValues_132 : decode cX2_findValues 132 = .ok (.istore_n 3, 1) := dk_62 (dk_at dksX2_findValues_5 15 rfl rfl)
theorem dX2_findValues_133 : decode cX2_findValues 133 = .ok (.iload_n 3, 1) := dk_29 (dk_at dksX2_findValues_5 16 rfl rfl)
theorem dX2_findValues_134 : decode cX2_findValues 134 = .ok (.iconst 4, 1) := dk_7 (dk_at dksX2_findValues_5 17 rfl rfl)
theorem dX2_findValues_135 : decode cX2_findValues 135 = .ok (.if_icmp .ge 54, 3) := dk_162 0 54 (dk_at dksX2_findValues_5 18 rfl rfl)
theorem dX2_findValues_138 : decode cX2_findValues 138 = .ok (.aload_n 0, 1) := dk_42 (dk_at dksX2_findValues_5 21 rfl rfl)
theorem dX2_findValues_139 : decode cX2_findValues 139 = .ok (.getfield 69, 3) := dk_180 0 69 (dk_at dksX2_findValues_6 0 rfl rfl)
theorem dX2_findValues_142 : decode cX2_findValues 142 = .ok (.iload_n 3, 1) := dk_29 (dk_at dksX2_findValues_6 3 rfl rfl)
theorem dX2_findValues_143 : decode cX2_findValues 143 = .ok (.aload_n 0, 1) := dk_42 (dk_at dksX2_findValues_6 4 rfl rfl)
theorem dX2_findValues_144 : decode cX2_findValues 144 = .ok (.getfield 246, 3) := dk_180 0 246 (dk_at dksX2_findValues_6 5 rfl rfl)
theorem dX2_findValues_147 : decode cX2_findValues 147 = .ok (.ifCond .ne 12, 3) := dk_154 0 12 (dk_at dksX2_findValues_6 8 rfl rfl)
theorem dX2_findValues_150 : decode cX2_findValues 150 = .ok (.aload_n 0, 1) := dk_42 (dk_at dksX2_findValues_6 11 rfl rfl)
theorem dX2_findValues_151 : decode cX2_findValues 151 = .ok (.getfield 66, 3) := dk_180 0 66 (dk_at dksX2_findValues_6 12 rfl rfl)
theorem dX2_findValues_154 : decode cX2_findValues 154 = .ok (.iload_n 3, 1) := dk_29 (dk_at dksX2_findValues_6 15 rfl rfl)
theorem dX2_findValues_155 : decode cX2_findValues 155 = .ok (.iaload, 1) := dk_46 (dk_at dksX2_findValues_6 16 rfl rfl)
theorem dX2_findValues_156 : decode cX2_findValues 156 = .ok (.goto 9, 3) := dk_167 0 9 (dk_at dksX2_findValues_6 17 rfl rfl)
theorem dX2_findValues_159 : decode cX2_findValues 159 = .ok (.aload_n 0, 1) := dk_42 (dk_at dksX2_findValues_6 20 rfl rfl)
theorem dX2_findValues_160 : decode cX2_findValues 160 = .ok (.getfield 69, 3) := dk_180 0 69 (dk_at dksX2_findValues_6 21 rfl rfl)
theorem dX2_findValues_163 : decode cX2_findValues 163 = .ok (.iload_n 3, 1) := dk_29 (dk_at dksX2_findValues_7 0 rfl rfl)
theorem dX2_findValues_164 : decode cX2_findValues 164 = .ok (.iaload, 1) := dk_46 (dk_at dksX2_findValues_7 1 rfl rfl)
theorem dX2_findValues_165 : decode cX2_findValues 165 = .ok (.iastore, 1) := dk_79 (dk_at dksX2_findValues_7 2 rfl rfl)
theorem dX2_findValues_166 : decode cX2_findValues 166 = .ok (.aload_n 0, 1) := dk_42 (dk_at dksX2_findValues_7 3 rfl rfl)
theorem dX2_findValues_167 : decode cX2_findValues 167 = .ok (.getfield 72, 3) := dk_180 0 72 (dk_at dksX2_findValues_7 4 rfl rfl)
theorem dX2_findValues_170 : decode cX2_findValues 170 = .ok (.bipush 8, 2) := dk_16 8 (dk_at dksX2_findValues_7 7 rfl rfl)
theorem dX2_findValues_172 : decode cX2_findValues 172 = .ok (.iload_n 3, 1) := dk_29 (dk_at dksX2_findValues_7 9 rfl rfl)
theorem dX2_findValues_173 : decode cX2_findValues 173 = .ok (.imul, 1) := dk_104 (dk_at dksX2_findValues_7 10 rfl rfl)
theorem dX2_findValues_174 : decode cX2_findValues 174 = .ok (.aload_n 0, 1) := dk_42 (dk_at dksX2_findValues_7 11 rfl rfl)
theorem dX2_findValues_175 : decode cX2_findValues 175 = .ok (.getfield 66, 3) := dk_180 0 66 (dk_at dksX2_findValues_7 12 rfl rfl)
theorem dX2_findValues_178 : decode cX2_findValues 178 = .ok (.iload_n 3, 1) := dk_29 (dk_at dksX2_findValues_7 15 rfl rfl)
theorem dX2_findValues_179 : decode cX2_findValues 179 = .ok (.iaload, 1) := dk_46 (dk_at dksX2_findValues_7 16 rfl rfl)
theorem dX2_findValues_180 : decode cX2_findValues 180 = .ok (.iadd, 1) := dk_96 (dk_at dksX2_findValues_7 17 rfl rfl)
theorem dX2_findValues_181 : decode cX2_findValues 181 = .ok (.iconst 1, 1) := dk_4 (dk_at dksX2_findValues_7 18 rfl rfl)
theorem dX2_findValues_182 : decode cX2_findValues 182 = .ok (.bastore, 1) := dk_84 (dk_at dksX2_findValues_7 19 rfl rfl)
theorem dX2_findValues_183 : decode cX2_findValues 183 = .ok (.iinc 3 1, 3) := dk_132 3 1 (dk_at dksX2_findValues_7 20 rfl rfl)
theorem dX2_findValues_186 : decode cX2_findValues 186 = .ok (.goto (-53), 3) := dk_167 255 203 (dk_at dksX2_findValues_8 0 rfl rfl)
theorem dX2_findValues_189 : decode cX2_findValues 189 = .ok (.aload_n 0, 1) := dk_42 (dk_at dksX2_findValues_8 3 rfl rfl)
theorem dX2_findValues_190 : decode cX2_findValues 190 = .ok (.dup, 1) := dk_89 (dk_at dksX2_findValues_8 4 rfl rfl)
theorem dX2_findValues_191 : decode cX2_findValues 191 = .ok (.getfield 246, 3) := dk_180 0 246 (dk_at dksX2_findValues_8 5 rfl rfl)
theorem dX2_findValues_194 : decode cX2_findValues 194 = .ok (.iconst 1, 1) := dk_4 (dk_at dksX2_findValues_8 8 rfl rfl)
theorem dX2_findValues_195 : decode cX2_findValues 195 = .ok (.iadd, 1) := dk_96 (dk_at dksX2_findValues_8 9 rfl rfl)
theorem dX2_findValues_196 : decode cX2_findValues 196 = .ok (.putfield 246, 3) := dk_181 0 246 (dk_at dksX2_findValues_8 10 rfl rfl)
theorem dX2_findValues_199 : decode cX2_findValues 199 = .ok (.iinc 1 1, 3) := dk_132 1 1 (dk_at dksX2_findValues_8 13 rfl rfl)
theorem dX2_findValues_202 : decode cX2_findValues 202 = .ok (.goto (-174), 3) := dk_167 255 82 (dk_at dksX2_findValues_8 16 rfl rfl)
theorem dX2_findValues_205 : decode cX2_findValues 205 = .ok (.return_, 1) := dk_177 (dk_at dksX2_findValues_8 19 rfl rfl)
abbrev cX2_doAddUp : ByteArray := prog_11_method_40_code
def yX2_doAddUp : MethodName := ⟨RX2, "doAddUp", "()Z"⟩
def dkwX2_doAddUp_3 : List UInt8 := [132, 4, 1, 167, 255, 204, 29, 154, 0, 7, 4, 167, 0, 4, 3, 60, 132, 2, 1, 167, 255, 171, 27, 172]
abbrev dktX2_doAddUp_3 : List UInt8 := dkwX2_doAddUp_3 ++ []
def dkwX2_doAddUp_2 : List UInt8 := [122, 16, 31, 126, 42, 180, 0, 63, 28, 46, 8, 21, 4, 104, 122, 16, 31, 126, 100, 104, 96, 62]
abbrev dktX2_doAddUp_2 : List UInt8 := dkwX2_doAddUp_2 ++ dktX2_doAddUp_3
def dkwX2_doAddUp_1 : List UInt8 := [162, 0, 52, 29, 42, 180, 0, 66, 21, 4, 46, 184, 0, 243, 42, 180, 0, 60, 28, 46, 8, 21, 4, 104]
abbrev dktX2_doAddUp_1 : List UInt8 := dkwX2_doAddUp_1 ++ dktX2_doAddUp_2
def dkwX2_doAddUp_0 : List UInt8 := [4, 60, 3, 61, 28, 42, 180, 0, 240, 162, 0, 83, 27, 153, 0, 79, 3, 62, 3, 54, 4, 21, 4, 7]
abbrev dktX2_doAddUp_0 : List UInt8 := dkwX2_doAddUp_0 ++ dktX2_doAddUp_1
theorem dksX2_doAddUp_0 : cX2_doAddUp.data.toList.drop 0 = dktX2_doAddUp_0 := by decide +kernel
theorem dksX2_doAddUp_1 : cX2_doAddUp.data.toList.drop 24 = dktX2_doAddUp_1 := dk_seg dksX2_doAddUp_0 24 rfl rfl
theorem dksX2_doAddUp_2 : cX2_doAddUp.data.toList.drop 48 = dktX2_doAddUp_2 := dk_seg dksX2_doAddUp_1 24 rfl rfl
theorem dksX2_doAddUp_3 : cX2_doAddUp.data.toList.drop 70 = dktX2_doAddUp_3 := dk_seg dksX2_doAddUp_2 22 rfl rfl
theorem dX2_doAddUp_0 : decode cX2_doAddUp 0 = .ok (.iconst 1, 1) := dk_4 (dk_at dksX2_doAddUp_0 0 rfl rfl)
theorem dX2_doAddUp_1 : decode cX2_doAddUp 1 = .ok (.istore_n 1, 1) := dk_60 (dk_at dksX2_doAddUp_0 1 rfl rfl)
theorem dX2_doAddUp_2 : decode cX2_doAddUp 2 = .ok (.iconst 0, 1) := dk_3 (dk_at dksX2_doAddUp_0 2 rfl rfl)
theorem dX2_doAddUp_3 : decode cX2_doAddUp 3 = .ok (.istore_n 2, 1) := dk_61 (dk_at dksX2_doAddUp_0 3 rfl rfl)
theorem dX2_doAddUp_4 : decode cX2_doAddUp 4 = .ok (.iload_n 2, 1) := dk_28 (dk_at dksX2_doAddUp_0 4 rfl rfl)
theorem dX2_doAddUp_5 : decode cX2_doAddUp 5 = .ok (.aload_n 0, 1) := dk_42 (dk_at dksX2_doAddUp_0 5 rfl rfl)
theorem dX2_doAddUp_6 : decode cX2_doAddUp 6 = .ok (.getfield 240, 3) := dk_180 0 240 (dk_at dksX2_doAddUp_0 6 rfl rfl)
theorem dX2_doAddUp_9 : decode cX2_doAddUp 9 = .ok (.if_icmp .ge 83, 3) := dk_162 0 83 (dk_at dksX2_doAddUp_0 9 rfl rfl)
theorem dX2_doAddUp_12 : decode cX2_doAddUp 12 = .ok (.iload_n 1, 1) := dk_27 (dk_at dksX2_doAddUp_0 12 rfl rfl)
theorem dX2_doAddUp_13 : decode cX2_doAddUp 13 = .ok (.ifCond .eq 79, 3) := dk_153 0 79 (dk_at dksX2_doAddUp_0 13 rfl rfl)
theorem dX2_doAddUp_16 : decode cX2_doAddUp 16 = .ok (.iconst 0, 1) := dk_3 (dk_at dksX2_doAddUp_0 16 rfl rfl)
theorem dX2_doAddUp_17 : decode cX2_doAddUp 17 = .ok (.istore_n 3, 1) := dk_62 (dk_at dksX2_doAddUp_0 17 rfl rfl)
theorem dX2_doAddUp_18 : decode cX2_doAddUp 18 = .ok (.iconst 0, 1) := dk_3 (dk_at dksX2_doAddUp_0 18 rfl rfl)
theorem dX2_doAddUp_19 : decode cX2_doAddUp 19 = .ok (.istore 4, 2) := dk_54 4 (dk_at dksX2_doAddUp_0 19 rfl rfl)
theorem dX2_doAddUp_21 : decode cX2_doAddUp 21 = .ok (.iload 4, 2) := dk_21 4 (dk_at dksX2_doAddUp_0 21 rfl rfl)
theorem dX2_doAddUp_23 : decode cX2_doAddUp 23 = .ok (.iconst 4, 1) := dk_7 (dk_at dksX2_doAddUp_0 23 rfl rfl)
theorem dX2_doAddUp_24 : decode cX2_doAddUp 24 = .ok (.if_icmp .ge 52, 3) := dk_162 0 52 (dk_at dksX2_doAddUp_1 0 rfl rfl)
theorem dX2_doAddUp_27 : decode cX2_doAddUp 27 = .ok (.iload_n 3, 1) := dk_29 (dk_at dksX2_doAddUp_1 3 rfl rfl)
theorem dX2_doAddUp_28 : decode cX2_doAddUp 28 = .ok (.aload_n 0, 1) := dk_42 (dk_at dksX2_doAddUp_1 4 rfl rfl)
theorem dX2_doAddUp_29 : decode cX2_doAddUp 29 = .ok (.getfield 66, 3) := dk_180 0 66 (dk_at dksX2_doAddUp_1 5 rfl rfl)
theorem dX2_doAddUp_32 : decode cX2_doAddUp 32 = .ok (.iload 4, 2) := dk_21 4 (dk_at dksX2_doAddUp_1 8 rfl rfl)
theorem dX2_doAddUp_34 : decode cX2_doAddUp 34 = .ok (.iaload, 1) := dk_46 (dk_at dksX2_doAddUp_1 10 rfl rfl)
theorem dX2_doAddUp_35 : decode cX2_doAddUp 35 = .ok (.invokestatic 243, 3) := dk_184 0 243 (dk_at dksX2_doAddUp_1 11 rfl rfl)
theorem dX2_doAddUp_38 : decode cX2_doAddUp 38 = .ok (.aload_n 0, 1) := dk_42 (dk_at dksX2_doAddUp_1 14 rfl rfl)
theorem dX2_doAddUp_39 : decode cX2_doAddUp 39 = .ok (.getfield 60, 3) := dk_180 0 60 (dk_at dksX2_doAddUp_1 15 rfl rfl)
theorem dX2_doAddUp_42 : decode cX2_doAddUp 42 = .ok (.iload_n 2, 1) := dk_28 (dk_at dksX2_doAddUp_1 18 rfl rfl)
theorem dX2_doAddUp_43 : decode cX2_doAddUp 43 = .ok (.iaload, 1) := dk_46 (dk_at dksX2_doAddUp_1 19 rfl rfl)
theorem dX2_doAddUp_44 : decode cX2_doAddUp 44 = .ok (.iconst 5, 1) := dk_8 (dk_at dksX2_doAddUp_1 20 rfl rfl)
theorem dX2_doAddUp_45 : decode cX2_doAddUp 45 = .ok (.iload 4, 2) := dk_21 4 (dk_at dksX2_doAddUp_1 21 rfl rfl)
theorem dX2_doAddUp_47 : decode cX2_doAddUp 47 = .ok (.imul, 1) := dk_104 (dk_at dksX2_doAddUp_1 23 rfl rfl)
theorem dX2_doAddUp_48 : decode cX2_doAddUp 48 = .ok (.ishr, 1) := dk_122 (dk_at dksX2_doAddUp_2 0 rfl rfl)
theorem dX2_doAddUp_49 : decode cX2_doAddUp 49 = .ok (.bipush 31, 2) := dk_16 31 (dk_at dksX2_doAddUp_2 1 rfl rfl)
theorem dX2_doAddUp_51 : decode cX2_doAddUp 51 = .ok (.iand, 1) := dk_126 (dk_at dksX2_doAddUp_2 3 rfl rfl)
theorem dX2_doAddUp_52 : decode cX2_doAddUp 52 = .ok (.aload_n 0, 1) := dk_42 (dk_at dksX2_doAddUp_2 4 rfl rfl)
theorem dX2_doAddUp_53 : decode cX2_doAddUp 53 = .ok (.getfield 63, 3) := dk_180 0 63 (dk_at dksX2_doAddUp_2 5 rfl rfl)
theorem dX2_doAddUp_56 : decode cX2_doAddUp 56 = .ok (.iload_n 2, 1) := dk_28 (dk_at dksX2_doAddUp_2 8 rfl rfl)
theorem dX2_doAddUp_57 : decode cX2_doAddUp 57 = .ok (.iaload, 1) := dk_46 (dk_at dksX2_doAddUp_2 9 rfl rfl)
theorem dX2_doAddUp_58 : decode cX2_doAddUp 58 = .ok (.iconst 5, 1) := dk_8 (dk_at dksX2_doAddUp_2 10 rfl rfl)
theorem dX2_doAddUp_59 : decode cX2_doAddUp 59 = .ok (.iload 4, 2) := dk_21 4 (dk_at dksX2_doAddUp_2 11 rfl rfl)
theorem dX2_doAddUp_61 : decode cX2_doAddUp 61 = .ok (.imul, 1) := dk_104 (dk_at dksX2_doAddUp_2 13 rfl rfl)
theorem dX2_doAddUp_62 : decode cX2_doAddUp 62 = .ok (.ishr, 1) := dk_122 (dk_at dksX2_doAddUp_2 14 rfl rfl)
theorem dX2_doAddUp_63 : decode cX2_doAddUp 63 = .ok (.bipush 31, 2) := dk_16 31 (dk_at dksX2_doAddUp_2 15 rfl rfl)
theorem dX2_doAddUp_65 : decode cX2_doAddUp 65 = .ok (.iand, 1) := dk_126 (dk_at dksX2_doAddUp_2 17 rfl rfl)
theorem dX2_doAddUp_66 : decode cX2_doAddUp 66 = .ok (.isub, 1) := dk_100 (dk_at dksX2_doAddUp_2 18 rfl rfl)
theorem dX2_doAddUp_67 : decode cX2_doAddUp 67 = .ok (.imul, 1) := dk_104 (dk_at dksX2_doAddUp_2 19 rfl rfl)
theorem dX2_doAddUp_68 : decode cX2_doAddUp 68 = .ok (.iadd, 1) := dk_96 (dk_at dksX2_doAddUp_2 20 rfl rfl)
theorem dX2_doAddUp_69 : decode cX2_doAddUp 69 = .ok (.istore_n 3, 1) := dk_62 (dk_at dksX2_doAddUp_2 21 rfl rfl)
theorem dX2_doAddUp_70 : decode cX2_doAddUp 70 = .ok (.iinc 4 1, 3) := dk_132 4 1 (dk_at dksX2_doAddUp_3 0 rfl rfl)
theorem dX2_doAddUp_73 : decode cX2_doAddUp 73 = .ok (.goto (-52), 3) := dk_167 255 204 (dk_at dksX2_doAddUp_3 3 rfl rfl)
theorem dX2_doAddUp_76 : decode cX2_doAddUp 76 = .ok (.iload_n 3, 1) := dk_29 (dk_at dksX2_doAddUp_3 6 rfl rfl)
theorem dX2_doAddUp_77 : decode cX2_doAddUp 77 = .ok (.ifCond .ne 7, 3) := dk_154 0 7 (dk_at dksX2_doAddUp_3 7 rfl rfl)
theorem dX2_doAddUp_80 : decode cX2_doAddUp 80 = .ok (.iconst 1, 1) := dk_4 (dk_at dksX2_doAddUp_3 10 rfl rfl)
theorem dX2_doAddUp_81 : decode cX2_doAddUp 81 = .ok (.goto 4, 3) := dk_167 0 4 (dk_at dksX2_doAddUp_3 11 rfl rfl)
theorem dX2_doAddUp_84 : decode cX2_doAddUp 84 = .ok (.iconst 0, 1) := dk_3 (dk_at dksX2_doAddUp_3 14 rfl rfl)
theorem dX2_doAddUp_85 : decode cX2_doAddUp 85 = .ok (.istore_n 1, 1) := dk_60 (dk_at dksX2_doAddUp_3 15 rfl rfl)
theorem dX2_doAddUp_86 : decode cX2_doAddUp 86 = .ok (.iinc 2 1, 3) := dk_132 2 1 (dk_at dksX2_doAddUp_3 16 rfl rfl)
theorem dX2_doAddUp_89 : decode cX2_doAddUp 89 = .ok (.goto (-85), 3) := dk_167 255 171 (dk_at dksX2_doAddUp_3 19 rfl rfl)
theorem dX2_doAddUp_92 : decode cX2_doAddUp 92 = .ok (.iload_n 1, 1) := dk_27 (dk_at dksX2_doAddUp_3 22 rfl rfl)
theorem dX2_doAddUp_93 : decode cX2_doAddUp 93 = .ok (.ireturn, 1) := dk_172 (dk_at dksX2_doAddUp_3 23 rfl rfl)
abbrev cX2_listed : ByteArray := prog_11_method_39_code
def yX2_listed : MethodName := ⟨RX2, "listed", "(I)I"⟩
def dkwX2_listed_2 : List UInt8 := [160, 0, 8, 16, 10, 167, 0, 16, 26, 16, 6, 160, 0, 8, 16, 12, 167, 0, 5, 16, 60, 172]
abbrev dktX2_listed_2 : List UInt8 := dkwX2_listed_2 ++ []
def dkwX2_listed_1 : List UInt8 := [167, 0, 45, 26, 6, 160, 0, 7, 8, 167, 0, 36, 26, 7, 160, 0, 8, 16, 6, 167, 0, 26, 26, 8]
abbrev dktX2_listed_1 : List UInt8 := dkwX2_listed_1 ++ dktX2_listed_2
def dkwX2_listed_0 : List UInt8 := [26, 154, 0, 7, 4, 167, 0, 63, 26, 4, 160, 0, 7, 5, 167, 0, 54, 26, 5, 160, 0, 7, 7]
abbrev dktX2_listed_0 : List UInt8 := dkwX2_listed_0 ++ dktX2_listed_1
theorem dksX2_listed_0 : cX2_listed.data.toList.drop 0 = dktX2_listed_0 := by decide +kernel
theorem dksX2_listed_1 : cX2_listed.data.toList.drop 23 = dktX2_listed_1 := dk_seg dksX2_listed_0 23 rfl rfl
theorem dksX2_listed_2 : cX2_listed.data.toList.drop 47 = dktX2_listed_2 := dk_seg dksX2_listed_1 24 rfl rfl
theorem dX2_listed_0 : decode cX2_listed 0 = .ok (.iload_n 0, 1) := dk_26 (dk_at dksX2_listed_0 0 rfl rfl)
theorem dX2_listed_1 : decode cX2_listed 1 = .ok (.ifCond .ne 7, 3) := dk_154 0 7 (dk_at dksX2_listed_0 1 rfl rfl)
theorem dX2_listed_4 : decode cX2_listed 4 = .ok (.iconst 1, 1) := dk_4 (dk_at dksX2_listed_0 4 rfl rfl)
theorem dX2_listed_5 : decode cX2_listed 5 = .ok (.goto 63, 3) := dk_167 0 63 (dk_at dksX2_listed_0 5 rfl rfl)
theorem dX2_listed_8 : decode cX2_listed 8 = .ok (.iload_n 0, 1) := dk_26 (dk_at dksX2_listed_0 8 rfl rfl)
theorem dX2_listed_9 : decode cX2_listed 9 = .ok (.iconst 1, 1) := dk_4 (dk_at dksX2_listed_0 9 rfl rfl)
theorem dX2_listed_10 : decode cX2_listed 10 = .ok (.if_icmp .ne 7, 3) := dk_160 0 7 (dk_at dksX2_listed_0 10 rfl rfl)
theorem dX2_listed_13 : decode cX2_listed 13 = .ok (.iconst 2, 1) := dk_5 (dk_at dksX2_listed_0 13 rfl rfl)
theorem dX2_listed_14 : decode cX2_listed 14 = .ok (.goto 54, 3) := dk_167 0 54 (dk_at dksX2_listed_0 14 rfl rfl)
theorem dX2_listed_17 : decode cX2_listed 17 = .ok (.iload_n 0, 1) := dk_26 (dk_at dksX2_listed_0 17 rfl rfl)
theorem dX2_listed_18 : decode cX2_listed 18 = .ok (.iconst 2, 1) := dk_5 (dk_at dksX2_listed_0 18 rfl rfl)
theorem dX2_listed_19 : decode cX2_listed 19 = .ok (.if_icmp .ne 7, 3) := dk_160 0 7 (dk_at dksX2_listed_0 19 rfl rfl)
theorem dX2_listed_22 : decode cX2_listed 22 = .ok (.iconst 4, 1) := dk_7 (dk_at dksX2_listed_0 22 rfl rfl)
theorem dX2_listed_23 : decode cX2_listed 23 = .ok (.goto 45, 3) := dk_167 0 45 (dk_at dksX2_listed_1 0 rfl rfl)
theorem dX2_listed_26 : decode cX2_listed 26 = .ok (.iload_n 0, 1) := dk_26 (dk_at dksX2_listed_1 3 rfl rfl)
theorem dX2_listed_27 : decode cX2_listed 27 = .ok (.iconst 3, 1) := dk_6 (dk_at dksX2_listed_1 4 rfl rfl)
theorem dX2_listed_28 : decode cX2_listed 28 = .ok (.if_icmp .ne 7, 3) := dk_160 0 7 (dk_at dksX2_listed_1 5 rfl rfl)
theorem dX2_listed_31 : decode cX2_listed 31 = .ok (.iconst 5, 1) := dk_8 (dk_at dksX2_listed_1 8 rfl rfl)
theorem dX2_listed_32 : decode cX2_listed 32 = .ok (.goto 36, 3) := dk_167 0 36 (dk_at dksX2_listed_1 9 rfl rfl)
theorem dX2_listed_35 : decode cX2_listed 35 = .ok (.iload_n 0, 1) := dk_26 (dk_at dksX2_listed_1 12 rfl rfl)
theorem dX2_listed_36 : decode cX2_listed 36 = .ok (.iconst 4, 1) := dk_7 (dk_at dksX2_listed_1 13 rfl rfl)
theorem dX2_listed_37 : decode cX2_listed 37 = .ok (.if_icmp .ne 8, 3) := dk_160 0 8 (dk_at dksX2_listed_1 14 rfl rfl)
theorem dX2_listed_40 : decode cX2_listed 40 = .ok (.bipush 6, 2) := dk_16 6 (dk_at dksX2_listed_1 17 rfl rfl)
theorem dX2_listed_42 : decode cX2_listed 42 = .ok (.goto 26, 3) := dk_167 0 26 (dk_at dksX2_listed_1 19 rfl rfl)
theorem dX2_listed_45 : decode cX2_listed 45 = .ok (.iload_n 0, 1) := dk_26 (dk_at dksX2_listed_1 22 rfl rfl)
theorem dX2_listed_46 : decode cX2_listed 46 = .ok (.iconst 5, 1) := dk_8 (dk_at dksX2_listed_1 23 rfl rfl)
theorem dX2_listed_47 : decode cX2_listed 47 = .ok (.if_icmp .ne 8, 3) := dk_160 0 8 (dk_at dksX2_listed_2 0 rfl rfl)
theorem dX2_listed_50 : decode cX2_listed 50 = .ok (.bipush 10, 2) := dk_16 10 (dk_at dksX2_listed_2 3 rfl rfl)
theorem dX2_listed_52 : decode cX2_listed 52 = .ok (.goto 16, 3) := dk_167 0 16 (dk_at dksX2_listed_2 5 rfl rfl)
theorem dX2_listed_55 : decode cX2_listed 55 = .ok (.iload_n 0, 1) := dk_26 (dk_at dksX2_listed_2 8 rfl rfl)
theorem dX2_listed_56 : decode cX2_listed 56 = .ok (.bipush 6, 2) := dk_16 6 (dk_at dksX2_listed_2 9 rfl rfl)
theorem dX2_listed_58 : decode cX2_listed 58 = .ok (.if_icmp .ne 8, 3) := dk_160 0 8 (dk_at dksX2_listed_2 11 rfl rfl)
theorem dX2_listed_61 : decode cX2_listed 61 = .ok (.bipush 12, 2) := dk_16 12 (dk_at dksX2_listed_2 14 rfl rfl)
theorem dX2_listed_63 : decode cX2_listed 63 = .ok (.goto 5, 3) := dk_167 0 5 (dk_at dksX2_listed_2 16 rfl rfl)
theorem dX2_listed_66 : decode cX2_listed 66 = .ok (.bipush 60, 2) := dk_16 60 (dk_at dksX2_listed_2 19 rfl rfl)
theorem dX2_listed_68 : decode cX2_listed 68 = .ok (.ireturn, 1) := dk_172 (dk_at dksX2_listed_2 21 rfl rfl)
abbrev cX2_sure : ByteArray := prog_11_method_43_code
def yX2_sure : MethodName := ⟨RX2, "sure", "(I)I"⟩
def dkwX2_sure_2 : List UInt8 := [3, 96, 61, 132, 3, 1, 167, 255, 225, 28, 172]
abbrev dktX2_sure_2 : List UInt8 := dkwX2_sure_2 ++ []
def dkwX2_sure_1 : List UInt8 := [16, 8, 162, 0, 31, 28, 42, 180, 0, 72, 16, 8, 27, 104, 29, 96, 51, 153, 0, 7, 4, 167, 0, 4]
abbrev dktX2_sure_1 : List UInt8 := dkwX2_sure_1 ++ dktX2_sure_2
def dkwX2_sure_0 : List UInt8 := [27, 133, 9, 20, 0, 158, 184, 0, 138, 154, 0, 5, 2, 172, 42, 182, 0, 255, 3, 61, 3, 62, 29]
abbrev dktX2_sure_0 : List UInt8 := dkwX2_sure_0 ++ dktX2_sure_1
theorem dksX2_sure_0 : cX2_sure.data.toList.drop 0 = dktX2_sure_0 := by decide +kernel
theorem dksX2_sure_1 : cX2_sure.data.toList.drop 23 = dktX2_sure_1 := dk_seg dksX2_sure_0 23 rfl rfl
theorem dksX2_sure_2 : cX2_sure.data.toList.drop 47 = dktX2_sure_2 := dk_seg dksX2_sure_1 24 rfl rfl
theorem dX2_sure_0 : decode cX2_sure 0 = .ok (.iload_n 1, 1) := dk_27 (dk_at dksX2_sure_0 0 rfl rfl)
theorem dX2_sure_1 : decode cX2_sure 1 = .ok (.i2l, 1) := dk_133 (dk_at dksX2_sure_0 1 rfl rfl)
theorem dX2_sure_2 : decode cX2_sure 2 = .ok (.lconst 0, 1) := dk_9 (dk_at dksX2_sure_0 2 rfl rfl)
theorem dX2_sure_3 : decode cX2_sure 3 = .ok (.ldc2_w 158, 3) := dk_20 0 158 (dk_at dksX2_sure_0 3 rfl rfl)
theorem dX2_sure_6 : decode cX2_sure 6 = .ok (.invokestatic 138, 3) := dk_184 0 138 (dk_at dksX2_sure_0 6 rfl rfl)
theorem dX2_sure_9 : decode cX2_sure 9 = .ok (.ifCond .ne 5, 3) := dk_154 0 5 (dk_at dksX2_sure_0 9 rfl rfl)
theorem dX2_sure_12 : decode cX2_sure 12 = .ok (.iconst (-1), 1) := dk_2 (dk_at dksX2_sure_0 12 rfl rfl)
theorem dX2_sure_13 : decode cX2_sure 13 = .ok (.ireturn, 1) := dk_172 (dk_at dksX2_sure_0 13 rfl rfl)
theorem dX2_sure_14 : decode cX2_sure 14 = .ok (.aload_n 0, 1) := dk_42 (dk_at dksX2_sure_0 14 rfl rfl)
theorem dX2_sure_15 : decode cX2_sure 15 = .ok (.invokevirtual 255, 3) := dk_182 0 255 (dk_at dksX2_sure_0 15 rfl rfl)
theorem dX2_sure_18 : decode cX2_sure 18 = .ok (.iconst 0, 1) := dk_3 (dk_at dksX2_sure_0 18 rfl rfl)
theorem dX2_sure_19 : decode cX2_sure 19 = .ok (.istore_n 2, 1) := dk_61 (dk_at dksX2_sure_0 19 rfl rfl)
theorem dX2_sure_20 : decode cX2_sure 20 = .ok (.iconst 0, 1) := dk_3 (dk_at dksX2_sure_0 20 rfl rfl)
theorem dX2_sure_21 : decode cX2_sure 21 = .ok (.istore_n 3, 1) := dk_62 (dk_at dksX2_sure_0 21 rfl rfl)
theorem dX2_sure_22 : decode cX2_sure 22 = .ok (.iload_n 3, 1) := dk_29 (dk_at dksX2_sure_0 22 rfl rfl)
theorem dX2_sure_23 : decode cX2_sure 23 = .ok (.bipush 8, 2) := dk_16 8 (dk_at dksX2_sure_1 0 rfl rfl)
theorem dX2_sure_25 : decode cX2_sure 25 = .ok (.if_icmp .ge 31, 3) := dk_162 0 31 (dk_at dksX2_sure_1 2 rfl rfl)
theorem dX2_sure_28 : decode cX2_sure 28 = .ok (.iload_n 2, 1) := dk_28 (dk_at dksX2_sure_1 5 rfl rfl)
theorem dX2_sure_29 : decode cX2_sure 29 = .ok (.aload_n 0, 1) := dk_42 (dk_at dksX2_sure_1 6 rfl rfl)
theorem dX2_sure_30 : decode cX2_sure 30 = .ok (.getfield 72, 3) := dk_180 0 72 (dk_at dksX2_sure_1 7 rfl rfl)
theorem dX2_sure_33 : decode cX2_sure 33 = .ok (.bipush 8, 2) := dk_16 8 (dk_at dksX2_sure_1 10 rfl rfl)
theorem dX2_sure_35 : decode cX2_sure 35 = .ok (.iload_n 1, 1) := dk_27 (dk_at dksX2_sure_1 12 rfl rfl)
theorem dX2_sure_36 : decode cX2_sure 36 = .ok (.imul, 1) := dk_104 (dk_at dksX2_sure_1 13 rfl rfl)
theorem dX2_sure_37 : decode cX2_sure 37 = .ok (.iload_n 3, 1) := dk_29 (dk_at dksX2_sure_1 14 rfl rfl)
theorem dX2_sure_38 : decode cX2_sure 38 = .ok (.iadd, 1) := dk_96 (dk_at dksX2_sure_1 15 rfl rfl)
theorem dX2_sure_39 : decode cX2_sure 39 = .ok (.baload, 1) := dk_51 (dk_at dksX2_sure_1 16 rfl rfl)
theorem dX2_sure_40 : decode cX2_sure 40 = .ok (.ifCond .eq 7, 3) := dk_153 0 7 (dk_at dksX2_sure_1 17 rfl rfl)
theorem dX2_sure_43 : decode cX2_sure 43 = .ok (.iconst 1, 1) := dk_4 (dk_at dksX2_sure_1 20 rfl rfl)
theorem dX2_sure_44 : decode cX2_sure 44 = .ok (.goto 4, 3) := dk_167 0 4 (dk_at dksX2_sure_1 21 rfl rfl)
theorem dX2_sure_47 : decode cX2_sure 47 = .ok (.iconst 0, 1) := dk_3 (dk_at dksX2_sure_2 0 rfl rfl)
theorem dX2_sure_48 : decode cX2_sure 48 = .ok (.iadd, 1) := dk_96 (dk_at dksX2_sure_2 1 rfl rfl)
theorem dX2_sure_49 : decode cX2_sure 49 = .ok (.istore_n 2, 1) := dk_61 (dk_at dksX2_sure_2 2 rfl rfl)
theorem dX2_sure_50 : decode cX2_sure 50 = .ok (.iinc 3 1, 3) := dk_132 3 1 (dk_at dksX2_sure_2 3 rfl rfl)
theorem dX2_sure_53 : decode cX2_sure 53 = .ok (.goto (-31), 3) := dk_167 255 225 (dk_at dksX2_sure_2 6 rfl rfl)
theorem dX2_sure_56 : decode cX2_sure 56 = .ok (.iload_n 2, 1) := dk_28 (dk_at dksX2_sure_2 9 rfl rfl)
theorem dX2_sure_57 : decode cX2_sure 57 = .ok (.ireturn, 1) := dk_172 (dk_at dksX2_sure_2 10 rfl rfl)
abbrev cX2_name : ByteArray := prog_11_method_44_code
def yX2_name : MethodName := ⟨RX2, "name", "(II)I"⟩
def dkwX2_name_3 : List UInt8 := [181, 1, 4, 42, 180, 1, 4, 4, 100, 172]
abbrev dktX2_name_3 : List UInt8 := dkwX2_name_3 ++ []
def dkwX2_name_2 : List UInt8 := [180, 1, 4, 27, 79, 42, 180, 0, 78, 42, 180, 1, 4, 28, 79, 42, 89, 180, 1, 4, 4, 96]
abbrev dktX2_name_2 : List UInt8 := dkwX2_name_2 ++ dktX2_name_3
def dkwX2_name_1 : List UInt8 := [184, 0, 138, 154, 0, 5, 2, 172, 42, 180, 1, 4, 7, 160, 0, 6, 16, 253, 172, 42, 180, 0, 75, 42]
abbrev dktX2_name_1 : List UInt8 := dkwX2_name_1 ++ dktX2_name_2
def dkwX2_name_0 : List UInt8 := [27, 133, 10, 20, 1, 2, 184, 0, 138, 153, 0, 20, 28, 133, 9, 4, 5, 27, 104, 120, 4, 100, 133]
abbrev dktX2_name_0 : List UInt8 := dkwX2_name_0 ++ dktX2_name_1
theorem dksX2_name_0 : cX2_name.data.toList.drop 0 = dktX2_name_0 := by decide +kernel
theorem dksX2_name_1 : cX2_name.data.toList.drop 23 = dktX2_name_1 := dk_seg dksX2_name_0 23 rfl rfl
theorem dksX2_name_2 : cX2_name.data.toList.drop 47 = dktX2_name_2 := dk_seg dksX2_name_1 24 rfl rfl
theorem dksX2_name_3 : cX2_name.data.toList.drop 69 = dktX2_name_3 := dk_seg dksX2_name_2 22 rfl rfl
theorem dX2_name_0 : decode cX2_name 0 = .ok (.iload_n 1, 1) := dk_27 (dk_at dksX2_name_0 0 rfl rfl)
theorem dX2_name_1 : decode cX2_name 1 = .ok (.i2l, 1) := dk_133 (dk_at dksX2_name_0 1 rfl rfl)
theorem dX2_name_2 : decode cX2_name 2 = .ok (.lconst 1, 1) := dk_10 (dk_at dksX2_name_0 2 rfl rfl)
theorem dX2_name_3 : decode cX2_name 3 = .ok (.ldc2_w 258, 3) := dk_20 1 2 (dk_at dksX2_name_0 3 rfl rfl)
theorem dX2_name_6 : decode cX2_name 6 = .ok (.invokestatic 138, 3) := dk_184 0 138 (dk_at dksX2_name_0 6 rfl rfl)
theorem dX2_name_9 : decode cX2_name 9 = .ok (.ifCond .eq 20, 3) := dk_153 0 20 (dk_at dksX2_name_0 9 rfl rfl)
theorem dX2_name_12 : decode cX2_name 12 = .ok (.iload_n 2, 1) := dk_28 (dk_at dksX2_name_0 12 rfl rfl)
theorem dX2_name_13 : decode cX2_name 13 = .ok (.i2l, 1) := dk_133 (dk_at dksX2_name_0 13 rfl rfl)
theorem dX2_name_14 : decode cX2_name 14 = .ok (.lconst 0, 1) := dk_9 (dk_at dksX2_name_0 14 rfl rfl)
theorem dX2_name_15 : decode cX2_name 15 = .ok (.iconst 1, 1) := dk_4 (dk_at dksX2_name_0 15 rfl rfl)
theorem dX2_name_16 : decode cX2_name 16 = .ok (.iconst 2, 1) := dk_5 (dk_at dksX2_name_0 16 rfl rfl)
theorem dX2_name_17 : decode cX2_name 17 = .ok (.iload_n 1, 1) := dk_27 (dk_at dksX2_name_0 17 rfl rfl)
theorem dX2_name_18 : decode cX2_name 18 = .ok (.imul, 1) := dk_104 (dk_at dksX2_name_0 18 rfl rfl)
theorem dX2_name_19 : decode cX2_name 19 = .ok (.ishl, 1) := dk_120 (dk_at dksX2_name_0 19 rfl rfl)
theorem dX2_name_20 : decode cX2_name 20 = .ok (.iconst 1, 1) := dk_4 (dk_at dksX2_name_0 20 rfl rfl)
theorem dX2_name_21 : decode cX2_name 21 = .ok (.isub, 1) := dk_100 (dk_at dksX2_name_0 21 rfl rfl)
theorem dX2_name_22 : decode cX2_name 22 = .ok (.i2l, 1) := dk_133 (dk_at dksX2_name_0 22 rfl rfl)
theorem dX2_name_23 : decode cX2_name 23 = .ok (.invokestatic 138, 3) := dk_184 0 138 (dk_at dksX2_name_1 0 rfl rfl)
theorem dX2_name_26 : decode cX2_name 26 = .ok (.ifCond .ne 5, 3) := dk_154 0 5 (dk_at dksX2_name_1 3 rfl rfl)
theorem dX2_name_29 : decode cX2_name 29 = .ok (.iconst (-1), 1) := dk_2 (dk_at dksX2_name_1 6 rfl rfl)
theorem dX2_name_30 : decode cX2_name 30 = .ok (.ireturn, 1) := dk_172 (dk_at dksX2_name_1 7 rfl rfl)
theorem dX2_name_31 : decode cX2_name 31 = .ok (.aload_n 0, 1) := dk_42 (dk_at dksX2_name_1 8 rfl rfl)
theorem dX2_name_32 : decode cX2_name 32 = .ok (.getfield 260, 3) := dk_180 1 4 (dk_at dksX2_name_1 9 rfl rfl)
theorem dX2_name_35 : decode cX2_name 35 = .ok (.iconst 4, 1) := dk_7 (dk_at dksX2_name_1 12 rfl rfl)
theorem dX2_name_36 : decode cX2_name 36 = .ok (.if_icmp .ne 6, 3) := dk_160 0 6 (dk_at dksX2_name_1 13 rfl rfl)
theorem dX2_name_39 : decode cX2_name 39 = .ok (.bipush (-3), 2) := dk_16 253 (dk_at dksX2_name_1 16 rfl rfl)
theorem dX2_name_41 : decode cX2_name 41 = .ok (.ireturn, 1) := dk_172 (dk_at dksX2_name_1 18 rfl rfl)
theorem dX2_name_42 : decode cX2_name 42 = .ok (.aload_n 0, 1) := dk_42 (dk_at dksX2_name_1 19 rfl rfl)
theorem dX2_name_43 : decode cX2_name 43 = .ok (.getfield 75, 3) := dk_180 0 75 (dk_at dksX2_name_1 20 rfl rfl)
theorem dX2_name_46 : decode cX2_name 46 = .ok (.aload_n 0, 1) := dk_42 (dk_at dksX2_name_1 23 rfl rfl)
theorem dX2_name_47 : decode cX2_name 47 = .ok (.getfield 260, 3) := dk_180 1 4 (dk_at dksX2_name_2 0 rfl rfl)
theorem dX2_name_50 : decode cX2_name 50 = .ok (.iload_n 1, 1) := dk_27 (dk_at dksX2_name_2 3 rfl rfl)
theorem dX2_name_51 : decode cX2_name 51 = .ok (.iastore, 1) := dk_79 (dk_at dksX2_name_2 4 rfl rfl)
theorem dX2_name_52 : decode cX2_name 52 = .ok (.aload_n 0, 1) := dk_42 (dk_at dksX2_name_2 5 rfl rfl)
theorem dX2_name_53 : decode cX2_name 53 = .ok (.getfield 78, 3) := dk_180 0 78 (dk_at dksX2_name_2 6 rfl rfl)
theorem dX2_name_56 : decode cX2_name 56 = .ok (.aload_n 0, 1) := dk_42 (dk_at dksX2_name_2 9 rfl rfl)
theorem dX2_name_57 : decode cX2_name 57 = .ok (.getfield 260, 3) := dk_180 1 4 (dk_at dksX2_name_2 10 rfl rfl)
theorem dX2_name_60 : decode cX2_name 60 = .ok (.iload_n 2, 1) := dk_28 (dk_at dksX2_name_2 13 rfl rfl)
theorem dX2_name_61 : decode cX2_name 61 = .ok (.iastore, 1) := dk_79 (dk_at dksX2_name_2 14 rfl rfl)
theorem dX2_name_62 : decode cX2_name 62 = .ok (.aload_n 0, 1) := dk_42 (dk_at dksX2_name_2 15 rfl rfl)
theorem dX2_name_63 : decode cX2_name 63 = .ok (.dup, 1) := dk_89 (dk_at dksX2_name_2 16 rfl rfl)
theorem dX2_name_64 : decode cX2_name 64 = .ok (.getfield 260, 3) := dk_180 1 4 (dk_at dksX2_name_2 17 rfl rfl)
theorem dX2_name_67 : decode cX2_name 67 = .ok (.iconst 1, 1) := dk_4 (dk_at dksX2_name_2 20 rfl rfl)
theorem dX2_name_68 : decode cX2_name 68 = .ok (.iadd, 1) := dk_96 (dk_at dksX2_name_2 21 rfl rfl)
theorem dX2_name_69 : decode cX2_name 69 = .ok (.putfield 260, 3) := dk_181 1 4 (dk_at dksX2_name_3 0 rfl rfl)
theorem dX2_name_72 : decode cX2_name 72 = .ok (.aload_n 0, 1) := dk_42 (dk_at dksX2_name_3 3 rfl rfl)
theorem dX2_name_73 : decode cX2_name 73 = .ok (.getfield 260, 3) := dk_180 1 4 (dk_at dksX2_name_3 4 rfl rfl)
theorem dX2_name_76 : decode cX2_name 76 = .ok (.iconst 1, 1) := dk_4 (dk_at dksX2_name_3 7 rfl rfl)
theorem dX2_name_77 : decode cX2_name 77 = .ok (.isub, 1) := dk_100 (dk_at dksX2_name_3 8 rfl rfl)
theorem dX2_name_78 : decode cX2_name 78 = .ok (.ireturn, 1) := dk_172 (dk_at dksX2_name_3 9 rfl rfl)
abbrev cX2_dragged : ByteArray := prog_11_method_49_code
def yX2_dragged : MethodName := ⟨RX2, "dragged", "(III)I"⟩
def dkwX2_dragged_5 : List UInt8 := [160, 0, 8, 21, 5, 167, 0, 5, 21, 6, 172]
abbrev dktX2_dragged_5 : List UInt8 := dkwX2_dragged_5 ++ []
def dkwX2_dragged_4 : List UInt8 := [54, 5, 21, 7, 54, 6, 132, 7, 1, 167, 255, 208, 29, 154, 0, 8, 21, 4, 167, 0, 15, 29, 4]
abbrev dktX2_dragged_4 : List UInt8 := dkwX2_dragged_4 ++ dktX2_dragged_5
def dkwX2_dragged_3 : List UInt8 := [182, 1, 17, 153, 0, 26, 132, 4, 1, 21, 5, 16, 252, 160, 0, 8, 21, 7, 167, 0, 5, 21, 5]
abbrev dktX2_dragged_3 : List UInt8 := dkwX2_dragged_3 ++ dktX2_dragged_4
def dkwX2_dragged_2 : List UInt8 := [16, 252, 54, 6, 3, 54, 7, 21, 7, 42, 180, 0, 20, 28, 46, 162, 0, 43, 42, 27, 28, 21, 7]
abbrev dktX2_dragged_2 : List UInt8 := dkwX2_dragged_2 ++ dktX2_dragged_3
def dkwX2_dragged_1 : List UInt8 := [184, 0, 138, 154, 0, 5, 2, 172, 42, 42, 180, 0, 13, 182, 0, 150, 3, 54, 4, 16, 252, 54, 5]
abbrev dktX2_dragged_1 : List UInt8 := dkwX2_dragged_1 ++ dktX2_dragged_2
def dkwX2_dragged_0 : List UInt8 := [42, 27, 182, 1, 14, 153, 0, 23, 42, 28, 182, 0, 174, 153, 0, 15, 29, 133, 9, 20, 0, 198]
abbrev dktX2_dragged_0 : List UInt8 := dkwX2_dragged_0 ++ dktX2_dragged_1
theorem dksX2_dragged_0 : cX2_dragged.data.toList.drop 0 = dktX2_dragged_0 := by decide +kernel
theorem dksX2_dragged_1 : cX2_dragged.data.toList.drop 22 = dktX2_dragged_1 := dk_seg dksX2_dragged_0 22 rfl rfl
theorem dksX2_dragged_2 : cX2_dragged.data.toList.drop 45 = dktX2_dragged_2 := dk_seg dksX2_dragged_1 23 rfl rfl
theorem dksX2_dragged_3 : cX2_dragged.data.toList.drop 68 = dktX2_dragged_3 := dk_seg dksX2_dragged_2 23 rfl rfl
theorem dksX2_dragged_4 : cX2_dragged.data.toList.drop 91 = dktX2_dragged_4 := dk_seg dksX2_dragged_3 23 rfl rfl
theorem dksX2_dragged_5 : cX2_dragged.data.toList.drop 114 = dktX2_dragged_5 := dk_seg dksX2_dragged_4 23 rfl rfl
theorem dX2_dragged_0 : decode cX2_dragged 0 = .ok (.aload_n 0, 1) := dk_42 (dk_at dksX2_dragged_0 0 rfl rfl)
theorem dX2_dragged_1 : decode cX2_dragged 1 = .ok (.iload_n 1, 1) := dk_27 (dk_at dksX2_dragged_0 1 rfl rfl)
theorem dX2_dragged_2 : decode cX2_dragged 2 = .ok (.invokevirtual 270, 3) := dk_182 1 14 (dk_at dksX2_dragged_0 2 rfl rfl)
theorem dX2_dragged_5 : decode cX2_dragged 5 = .ok (.ifCond .eq 23, 3) := dk_153 0 23 (dk_at dksX2_dragged_0 5 rfl rfl)
theorem dX2_dragged_8 : decode cX2_dragged 8 = .ok (.aload_n 0, 1) := dk_42 (dk_at dksX2_dragged_0 8 rfl rfl)
theorem dX2_dragged_9 : decode cX2_dragged 9 = .ok (.iload_n 2, 1) := dk_28 (dk_at dksX2_dragged_0 9 rfl rfl)
theorem dX2_dragged_10 : decode cX2_dragged 10 = .ok (.invokevirtual 174, 3) := dk_182 0 174 (dk_at dksX2_dragged_0 10 rfl rfl)
theorem dX2_dragged_13 : decode cX2_dragged 13 = .ok (.ifCond .eq 15, 3) := dk_153 0 15 (dk_at dksX2_dragged_0 13 rfl rfl)
theorem dX2_dragged_16 : decode cX2_dragged 16 = .ok (.iload_n 3, 1) := dk_29 (dk_at dksX2_dragged_0 16 rfl rfl)
theorem dX2_dragged_17 : decode cX2_dragged 17 = .ok (.i2l, 1) := dk_133 (dk_at dksX2_dragged_0 17 rfl rfl)
theorem dX2_dragged_18 : decode cX2_dragged 18 = .ok (.lconst 0, 1) := dk_9 (dk_at dksX2_dragged_0 18 rfl rfl)
theorem dX2_dragged_19 : decode cX2_dragged 19 = .ok (.ldc2_w 198, 3) := dk_20 0 198 (dk_at dksX2_dragged_0 19 rfl rfl)
theorem dX2_dragged_22 : decode cX2_dragged 22 = .ok (.invokestatic 138, 3) := dk_184 0 138 (dk_at dksX2_dragged_1 0 rfl rfl)
theorem dX2_dragged_25 : decode cX2_dragged 25 = .ok (.ifCond .ne 5, 3) := dk_154 0 5 (dk_at dksX2_dragged_1 3 rfl rfl)
theorem dX2_dragged_28 : decode cX2_dragged 28 = .ok (.iconst (-1), 1) := dk_2 (dk_at dksX2_dragged_1 6 rfl rfl)
theorem dX2_dragged_29 : decode cX2_dragged 29 = .ok (.ireturn, 1) := dk_172 (dk_at dksX2_dragged_1 7 rfl rfl)
theorem dX2_dragged_30 : decode cX2_dragged 30 = .ok (.aload_n 0, 1) := dk_42 (dk_at dksX2_dragged_1 8 rfl rfl)
theorem dX2_dragged_31 : decode cX2_dragged 31 = .ok (.aload_n 0, 1) := dk_42 (dk_at dksX2_dragged_1 9 rfl rfl)
theorem dX2_dragged_32 : decode cX2_dragged 32 = .ok (.getfield 13, 3) := dk_180 0 13 (dk_at dksX2_dragged_1 10 rfl rfl)
theorem dX2_dragged_35 : decode cX2_dragged 35 = .ok (.invokevirtual 150, 3) := dk_182 0 150 (dk_at dksX2_dragged_1 13 rfl rfl)
theorem dX2_dragged_38 : decode cX2_dragged 38 = .ok (.iconst 0, 1) := dk_3 (dk_at dksX2_dragged_1 16 rfl rfl)
theorem dX2_dragged_39 : decode cX2_dragged 39 = .ok (.istore 4, 2) := dk_54 4 (dk_at dksX2_dragged_1 17 rfl rfl)
theorem dX2_dragged_41 : decode cX2_dragged 41 = .ok (.bipush (-4), 2) := dk_16 252 (dk_at dksX2_dragged_1 19 rfl rfl)
theorem dX2_dragged_43 : decode cX2_dragged 43 = .ok (.istore 5, 2) := dk_54 5 (dk_at dksX2_dragged_1 21 rfl rfl)
theorem dX2_dragged_45 : decode cX2_dragged 45 = .ok (.bipush (-4), 2) := dk_16 252 (dk_at dksX2_dragged_2 0 rfl rfl)
theorem dX2_dragged_47 : decode cX2_dragged 47 = .ok (.istore 6, 2) := dk_54 6 (dk_at dksX2_dragged_2 2 rfl rfl)
theorem dX2_dragged_49 : decode cX2_dragged 49 = .ok (.iconst 0, 1) := dk_3 (dk_at dksX2_dragged_2 4 rfl rfl)
theorem dX2_dragged_50 : decode cX2_dragged 50 = .ok (.istore 7, 2) := dk_54 7 (dk_at dksX2_dragged_2 5 rfl rfl)
theorem dX2_dragged_52 : decode cX2_dragged 52 = .ok (.iload 7, 2) := dk_21 7 (dk_at dksX2_dragged_2 7 rfl rfl)
theorem dX2_dragged_54 : decode cX2_dragged 54 = .ok (.aload_n 0, 1) := dk_42 (dk_at dksX2_dragged_2 9 rfl rfl)
theorem dX2_dragged_55 : decode cX2_dragged 55 = .ok (.getfield 20, 3) := dk_180 0 20 (dk_at dksX2_dragged_2 10 rfl rfl)
theorem dX2_dragged_58 : decode cX2_dragged 58 = .ok (.iload_n 2, 1) := dk_28 (dk_at dksX2_dragged_2 13 rfl rfl)
theorem dX2_dragged_59 : decode cX2_dragged 59 = .ok (.iaload, 1) := dk_46 (dk_at dksX2_dragged_2 14 rfl rfl)
theorem dX2_dragged_60 : decode cX2_dragged 60 = .ok (.if_icmp .ge 43, 3) := dk_162 0 43 (dk_at dksX2_dragged_2 15 rfl rfl)
theorem dX2_dragged_63 : decode cX2_dragged 63 = .ok (.aload_n 0, 1) := dk_42 (dk_at dksX2_dragged_2 18 rfl rfl)
theorem dX2_dragged_64 : decode cX2_dragged 64 = .ok (.iload_n 1, 1) := dk_27 (dk_at dksX2_dragged_2 19 rfl rfl)
theorem dX2_dragged_65 : decode cX2_dragged 65 = .ok (.iload_n 2, 1) := dk_28 (dk_at dksX2_dragged_2 20 rfl rfl)
theorem dX2_dragged_66 : decode cX2_dragged 66 = .ok (.iload 7, 2) := dk_21 7 (dk_at dksX2_dragged_2 21 rfl rfl)
theorem dX2_dragged_68 : decode cX2_dragged 68 = .ok (.invokevirtual 273, 3) := dk_182 1 17 (dk_at dksX2_dragged_3 0 rfl rfl)
theorem dX2_dragged_71 : decode cX2_dragged 71 = .ok (.ifCond .eq 26, 3) := dk_153 0 26 (dk_at dksX2_dragged_3 3 rfl rfl)
theorem dX2_dragged_74 : decode cX2_dragged 74 = .ok (.iinc 4 1, 3) := dk_132 4 1 (dk_at dksX2_dragged_3 6 rfl rfl)
theorem dX2_dragged_77 : decode cX2_dragged 77 = .ok (.iload 5, 2) := dk_21 5 (dk_at dksX2_dragged_3 9 rfl rfl)
theorem dX2_dragged_79 : decode cX2_dragged 79 = .ok (.bipush (-4), 2) := dk_16 252 (dk_at dksX2_dragged_3 11 rfl rfl)
theorem dX2_dragged_81 : decode cX2_dragged 81 = .ok (.if_icmp .ne 8, 3) := dk_160 0 8 (dk_at dksX2_dragged_3 13 rfl rfl)
theorem dX2_dragged_84 : decode cX2_dragged 84 = .ok (.iload 7, 2) := dk_21 7 (dk_at dksX2_dragged_3 16 rfl rfl)
theorem dX2_dragged_86 : decode cX2_dragged 86 = .ok (.goto 5, 3) := dk_167 0 5 (dk_at dksX2_dragged_3 18 rfl rfl)
theorem dX2_dragged_89 : decode cX2_dragged 89 = .ok (.iload 5, 2) := dk_21 5 (dk_at dksX2_dragged_3 21 rfl rfl)
theorem dX2_dragged_91 : decode cX2_dragged 91 = .ok (.istore 5, 2) := dk_54 5 (dk_at dksX2_dragged_4 0 rfl rfl)
theorem dX2_dragged_93 : decode cX2_dragged 93 = .ok (.iload 7, 2) := dk_21 7 (dk_at dksX2_dragged_4 2 rfl rfl)
theorem dX2_dragged_95 : decode cX2_dragged 95 = .ok (.istore 6, 2) := dk_54 6 (dk_at dksX2_dragged_4 4 rfl rfl)
theorem dX2_dragged_97 : decode cX2_dragged 97 = .ok (.iinc 7 1, 3) := dk_132 7 1 (dk_at dksX2_dragged_4 6 rfl rfl)
theorem dX2_dragged_100 : decode cX2_dragged 100 = .ok (.goto (-48), 3) := dk_167 255 208 (dk_at dksX2_dragged_4 9 rfl rfl)
theorem dX2_dragged_103 : decode cX2_dragged 103 = .ok (.iload_n 3, 1) := dk_29 (dk_at dksX2_dragged_4 12 rfl rfl)
theorem dX2_dragged_104 : decode cX2_dragged 104 = .ok (.ifCond .ne 8, 3) := dk_154 0 8 (dk_at dksX2_dragged_4 13 rfl rfl)
theorem dX2_dragged_107 : decode cX2_dragged 107 = .ok (.iload 4, 2) := dk_21 4 (dk_at dksX2_dragged_4 16 rfl rfl)
theorem dX2_dragged_109 : decode cX2_dragged 109 = .ok (.goto 15, 3) := dk_167 0 15 (dk_at dksX2_dragged_4 18 rfl rfl)
theorem dX2_dragged_112 : decode cX2_dragged 112 = .ok (.iload_n 3, 1) := dk_29 (dk_at dksX2_dragged_4 21 rfl rfl)
theorem dX2_dragged_113 : decode cX2_dragged 113 = .ok (.iconst 1, 1) := dk_4 (dk_at dksX2_dragged_4 22 rfl rfl)
theorem dX2_dragged_114 : decode cX2_dragged 114 = .ok (.if_icmp .ne 8, 3) := dk_160 0 8 (dk_at dksX2_dragged_5 0 rfl rfl)
theorem dX2_dragged_117 : decode cX2_dragged 117 = .ok (.iload 5, 2) := dk_21 5 (dk_at dksX2_dragged_5 3 rfl rfl)
theorem dX2_dragged_119 : decode cX2_dragged 119 = .ok (.goto 5, 3) := dk_167 0 5 (dk_at dksX2_dragged_5 5 rfl rfl)
theorem dX2_dragged_122 : decode cX2_dragged 122 = .ok (.iload 6, 2) := dk_21 6 (dk_at dksX2_dragged_5 8 rfl rfl)
theorem dX2_dragged_124 : decode cX2_dragged 124 = .ok (.ireturn, 1) := dk_172 (dk_at dksX2_dragged_5 10 rfl rfl)
abbrev cX2_isName : ByteArray := prog_11_method_45_code
def yX2_isName : MethodName := ⟨RX2, "isName", "(I)Z"⟩
def dkwX2_isName_0 : List UInt8 := [27, 133, 9, 42, 180, 1, 4, 4, 100, 133, 184, 0, 138, 172]
abbrev dktX2_isName_0 : List UInt8 := dkwX2_isName_0 ++ []
theorem dksX2_isName_0 : cX2_isName.data.toList.drop 0 = dktX2_isName_0 := by decide +kernel
theorem dX2_isName_0 : decode cX2_isName 0 = .ok (.iload_n 1, 1) := dk_27 (dk_at dksX2_isName_0 0 rfl rfl)
theorem dX2_isName_1 : decode cX2_isName 1 = .ok (.i2l, 1) := dk_133 (dk_at dksX2_isName_0 1 rfl rfl)
theorem dX2_isName_2 : decode cX2_isName 2 = .ok (.lconst 0, 1) := dk_9 (dk_at dksX2_isName_0 2 rfl rfl)
theorem dX2_isName_3 : decode cX2_isName 3 = .ok (.aload_n 0, 1) := dk_42 (dk_at dksX2_isName_0 3 rfl rfl)
theorem dX2_isName_4 : decode cX2_isName 4 = .ok (.getfield 260, 3) := dk_180 1 4 (dk_at dksX2_isName_0 4 rfl rfl)
theorem dX2_isName_7 : decode cX2_isName 7 = .ok (.iconst 1, 1) := dk_4 (dk_at dksX2_isName_0 7 rfl rfl)
theorem dX2_isName_8 : decode cX2_isName 8 = .ok (.isub, 1) := dk_100 (dk_at dksX2_isName_0 8 rfl rfl)
theorem dX2_isName_9 : decode cX2_isName 9 = .ok (.i2l, 1) := dk_133 (dk_at dksX2_isName_0 9 rfl rfl)
theorem dX2_isName_10 : decode cX2_isName 10 = .ok (.invokestatic 138, 3) := dk_184 0 138 (dk_at dksX2_isName_0 10 rfl rfl)
theorem dX2_isName_13 : decode cX2_isName 13 = .ok (.ireturn, 1) := dk_172 (dk_at dksX2_isName_0 13 rfl rfl)
abbrev cX2_doesFit : ByteArray := prog_11_method_48_code
def yX2_doesFit : MethodName := ⟨RX2, "doesFit", "(III)Z"⟩
def dkwX2_doesFit_2 : List UInt8 := [132, 4, 1, 167, 255, 228, 42, 27, 28, 29, 27, 28, 29, 182, 1, 10, 172]
abbrev dktX2_doesFit_2 : List UInt8 := dkwX2_doesFit_2 ++ []
def dkwX2_doesFit_1 : List UInt8 := [42, 180, 0, 75, 27, 46, 162, 0, 23, 42, 28, 29, 21, 4, 96, 182, 0, 170, 156, 0, 5, 3, 172]
abbrev dktX2_doesFit_1 : List UInt8 := dkwX2_doesFit_1 ++ dktX2_doesFit_2
def dkwX2_doesFit_0 : List UInt8 := [29, 42, 180, 0, 75, 27, 46, 96, 42, 180, 0, 20, 28, 46, 164, 0, 5, 3, 172, 3, 54, 4, 21, 4]
abbrev dktX2_doesFit_0 : List UInt8 := dkwX2_doesFit_0 ++ dktX2_doesFit_1
theorem dksX2_doesFit_0 : cX2_doesFit.data.toList.drop 0 = dktX2_doesFit_0 := by decide +kernel
theorem dksX2_doesFit_1 : cX2_doesFit.data.toList.drop 24 = dktX2_doesFit_1 := dk_seg dksX2_doesFit_0 24 rfl rfl
theorem dksX2_doesFit_2 : cX2_doesFit.data.toList.drop 47 = dktX2_doesFit_2 := dk_seg dksX2_doesFit_1 23 rfl rfl
theorem dX2_doesFit_0 : decode cX2_doesFit 0 = .ok (.iload_n 3, 1) := dk_29 (dk_at dksX2_doesFit_0 0 rfl rfl)
theorem dX2_doesFit_1 : decode cX2_doesFit 1 = .ok (.aload_n 0, 1) := dk_42 (dk_at dksX2_doesFit_0 1 rfl rfl)
theorem dX2_doesFit_2 : decode cX2_doesFit 2 = .ok (.getfield 75, 3) := dk_180 0 75 (dk_at dksX2_doesFit_0 2 rfl rfl)
theorem dX2_doesFit_5 : decode cX2_doesFit 5 = .ok (.iload_n 1, 1) := dk_27 (dk_at dksX2_doesFit_0 5 rfl rfl)
theorem dX2_doesFit_6 : decode cX2_doesFit 6 = .ok (.iaload, 1) := dk_46 (dk_at dksX2_doesFit_0 6 rfl rfl)
theorem dX2_doesFit_7 : decode cX2_doesFit 7 = .ok (.iadd, 1) := dk_96 (dk_at dksX2_doesFit_0 7 rfl rfl)
theorem dX2_doesFit_8 : decode cX2_doesFit 8 = .ok (.aload_n 0, 1) := dk_42 (dk_at dksX2_doesFit_0 8 rfl rfl)
theorem dX2_doesFit_9 : decode cX2_doesFit 9 = .ok (.getfield 20, 3) := dk_180 0 20 (dk_at dksX2_doesFit_0 9 rfl rfl)
theorem dX2_doesFit_12 : decode cX2_doesFit 12 = .ok (.iload_n 2, 1) := dk_28 (dk_at dksX2_doesFit_0 12 rfl rfl)
theorem dX2_doesFit_13 : decode cX2_doesFit 13 = .ok (.iaload, 1) := dk_46 (dk_at dksX2_doesFit_0 13 rfl rfl)
theorem dX2_doesFit_14 : decode cX2_doesFit 14 = .ok (.if_icmp .le 5, 3) := dk_164 0 5 (dk_at dksX2_doesFit_0 14 rfl rfl)
theorem dX2_doesFit_17 : decode cX2_doesFit 17 = .ok (.iconst 0, 1) := dk_3 (dk_at dksX2_doesFit_0 17 rfl rfl)
theorem dX2_doesFit_18 : decode cX2_doesFit 18 = .ok (.ireturn, 1) := dk_172 (dk_at dksX2_doesFit_0 18 rfl rfl)
theorem dX2_doesFit_19 : decode cX2_doesFit 19 = .ok (.iconst 0, 1) := dk_3 (dk_at dksX2_doesFit_0 19 rfl rfl)
theorem dX2_doesFit_20 : decode cX2_doesFit 20 = .ok (.istore 4, 2) := dk_54 4 (dk_at dksX2_doesFit_0 20 rfl rfl)
theorem dX2_doesFit_22 : decode cX2_doesFit 22 = .ok (.iload 4, 2) := dk_21 4 (dk_at dksX2_doesFit_0 22 rfl rfl)
theorem dX2_doesFit_24 : decode cX2_doesFit 24 = .ok (.aload_n 0, 1) := dk_42 (dk_at dksX2_doesFit_1 0 rfl rfl)
theorem dX2_doesFit_25 : decode cX2_doesFit 25 = .ok (.getfield 75, 3) := dk_180 0 75 (dk_at dksX2_doesFit_1 1 rfl rfl)
theorem dX2_doesFit_28 : decode cX2_doesFit 28 = .ok (.iload_n 1, 1) := dk_27 (dk_at dksX2_doesFit_1 4 rfl rfl)
theorem dX2_doesFit_29 : decode cX2_doesFit 29 = .ok (.iaload, 1) := dk_46 (dk_at dksX2_doesFit_1 5 rfl rfl)
theorem dX2_doesFit_30 : decode cX2_doesFit 30 = .ok (.if_icmp .ge 23, 3) := dk_162 0 23 (dk_at dksX2_doesFit_1 6 rfl rfl)
theorem dX2_doesFit_33 : decode cX2_doesFit 33 = .ok (.aload_n 0, 1) := dk_42 (dk_at dksX2_doesFit_1 9 rfl rfl)
theorem dX2_doesFit_34 : decode cX2_doesFit 34 = .ok (.iload_n 2, 1) := dk_28 (dk_at dksX2_doesFit_1 10 rfl rfl)
theorem dX2_doesFit_35 : decode cX2_doesFit 35 = .ok (.iload_n 3, 1) := dk_29 (dk_at dksX2_doesFit_1 11 rfl rfl)
theorem dX2_doesFit_36 : decode cX2_doesFit 36 = .ok (.iload 4, 2) := dk_21 4 (dk_at dksX2_doesFit_1 12 rfl rfl)
theorem dX2_doesFit_38 : decode cX2_doesFit 38 = .ok (.iadd, 1) := dk_96 (dk_at dksX2_doesFit_1 14 rfl rfl)
theorem dX2_doesFit_39 : decode cX2_doesFit 39 = .ok (.invokevirtual 170, 3) := dk_182 0 170 (dk_at dksX2_doesFit_1 15 rfl rfl)
theorem dX2_doesFit_42 : decode cX2_doesFit 42 = .ok (.ifCond .ge 5, 3) := dk_156 0 5 (dk_at dksX2_doesFit_1 18 rfl rfl)
theorem dX2_doesFit_45 : decode cX2_doesFit 45 = .ok (.iconst 0, 1) := dk_3 (dk_at dksX2_doesFit_1 21 rfl rfl)
theorem dX2_doesFit_46 : decode cX2_doesFit 46 = .ok (.ireturn, 1) := dk_172 (dk_at dksX2_doesFit_1 22 rfl rfl)
theorem dX2_doesFit_47 : decode cX2_doesFit 47 = .ok (.iinc 4 1, 3) := dk_132 4 1 (dk_at dksX2_doesFit_2 0 rfl rfl)
theorem dX2_doesFit_50 : decode cX2_doesFit 50 = .ok (.goto (-28), 3) := dk_167 255 228 (dk_at dksX2_doesFit_2 3 rfl rfl)
theorem dX2_doesFit_53 : decode cX2_doesFit 53 = .ok (.aload_n 0, 1) := dk_42 (dk_at dksX2_doesFit_2 6 rfl rfl)
theorem dX2_doesFit_54 : decode cX2_doesFit 54 = .ok (.iload_n 1, 1) := dk_27 (dk_at dksX2_doesFit_2 7 rfl rfl)
theorem dX2_doesFit_55 : decode cX2_doesFit 55 = .ok (.iload_n 2, 1) := dk_28 (dk_at dksX2_doesFit_2 8 rfl rfl)
theorem dX2_doesFit_56 : decode cX2_doesFit 56 = .ok (.iload_n 3, 1) := dk_29 (dk_at dksX2_doesFit_2 9 rfl rfl)
theorem dX2_doesFit_57 : decode cX2_doesFit 57 = .ok (.iload_n 1, 1) := dk_27 (dk_at dksX2_doesFit_2 10 rfl rfl)
theorem dX2_doesFit_58 : decode cX2_doesFit 58 = .ok (.iload_n 2, 1) := dk_28 (dk_at dksX2_doesFit_2 11 rfl rfl)
theorem dX2_doesFit_59 : decode cX2_doesFit 59 = .ok (.iload_n 3, 1) := dk_29 (dk_at dksX2_doesFit_2 12 rfl rfl)
theorem dX2_doesFit_60 : decode cX2_doesFit 60 = .ok (.invokevirtual 266, 3) := dk_182 1 10 (dk_at dksX2_doesFit_2 13 rfl rfl)
theorem dX2_doesFit_63 : decode cX2_doesFit 63 = .ok (.ireturn, 1) := dk_172 (dk_at dksX2_doesFit_2 16 rfl rfl)
abbrev cX2_doAgree : ByteArray := prog_11_method_47_code
def yX2_doAgree : MethodName := ⟨RX2, "doAgree", "(IIIIII)Z"⟩
def dkwX2_doAgree_4 : List UInt8 := [167, 0, 4, 3, 54, 7, 132, 9, 1, 167, 255, 175, 132, 8, 1, 167, 255, 155, 21, 7, 172]
abbrev dktX2_doAgree_4 : List UInt8 := dkwX2_doAgree_4 ++ []
def dkwX2_doAgree_3 : List UInt8 := [182, 1, 7, 42, 21, 4, 21, 9, 182, 1, 7, 160, 0, 7, 4, 167, 0, 4, 3, 160, 0, 7, 4]
abbrev dktX2_doAgree_3 : List UInt8 := dkwX2_doAgree_3 ++ dktX2_doAgree_4
def dkwX2_doAgree_2 : List UInt8 := [21, 5, 21, 6, 21, 9, 96, 182, 0, 170, 160, 0, 7, 4, 167, 0, 4, 3, 42, 27, 21, 8]
abbrev dktX2_doAgree_2 : List UInt8 := dkwX2_doAgree_2 ++ dktX2_doAgree_3
def dkwX2_doAgree_1 : List UInt8 := [180, 0, 75, 21, 4, 46, 162, 0, 75, 21, 7, 153, 0, 61, 42, 28, 29, 21, 8, 96, 182, 0, 170, 42]
abbrev dktX2_doAgree_1 : List UInt8 := dkwX2_doAgree_1 ++ dktX2_doAgree_2
def dkwX2_doAgree_0 : List UInt8 := [4, 54, 7, 3, 54, 8, 21, 8, 42, 180, 0, 75, 27, 46, 162, 0, 96, 3, 54, 9, 21, 9, 42]
abbrev dktX2_doAgree_0 : List UInt8 := dkwX2_doAgree_0 ++ dktX2_doAgree_1
theorem dksX2_doAgree_0 : cX2_doAgree.data.toList.drop 0 = dktX2_doAgree_0 := by decide +kernel
theorem dksX2_doAgree_1 : cX2_doAgree.data.toList.drop 23 = dktX2_doAgree_1 := dk_seg dksX2_doAgree_0 23 rfl rfl
theorem dksX2_doAgree_2 : cX2_doAgree.data.toList.drop 47 = dktX2_doAgree_2 := dk_seg dksX2_doAgree_1 24 rfl rfl
theorem dksX2_doAgree_3 : cX2_doAgree.data.toList.drop 69 = dktX2_doAgree_3 := dk_seg dksX2_doAgree_2 22 rfl rfl
theorem dksX2_doAgree_4 : cX2_doAgree.data.toList.drop 92 = dktX2_doAgree_4 := dk_seg dksX2_doAgree_3 23 rfl rfl
theorem dX2_doAgree_0 : decode cX2_doAgree 0 = .ok (.iconst 1, 1) := dk_4 (dk_at dksX2_doAgree_0 0 rfl rfl)
theorem dX2_doAgree_1 : decode cX2_doAgree 1 = .ok (.istore 7, 2) := dk_54 7 (dk_at dksX2_doAgree_0 1 rfl rfl)
theorem dX2_doAgree_3 : decode cX2_doAgree 3 = .ok (.iconst 0, 1) := dk_3 (dk_at dksX2_doAgree_0 3 rfl rfl)
theorem dX2_doAgree_4 : decode cX2_doAgree 4 = .ok (.istore 8, 2) := dk_54 8 (dk_at dksX2_doAgree_0 4 rfl rfl)
theorem dX2_doAgree_6 : decode cX2_doAgree 6 = .ok (.iload 8, 2) := dk_21 8 (dk_at dksX2_doAgree_0 6 rfl rfl)
theorem dX2_doAgree_8 : decode cX2_doAgree 8 = .ok (.aload_n 0, 1) := dk_42 (dk_at dksX2_doAgree_0 8 rfl rfl)
theorem dX2_doAgree_9 : decode cX2_doAgree 9 = .ok (.getfield 75, 3) := dk_180 0 75 (dk_at dksX2_doAgree_0 9 rfl rfl)
theorem dX2_doAgree_12 : decode cX2_doAgree 12 = .ok (.iload_n 1, 1) := dk_27 (dk_at dksX2_doAgree_0 12 rfl rfl)
theorem dX2_doAgree_13 : decode cX2_doAgree 13 = .ok (.iaload, 1) := dk_46 (dk_at dksX2_doAgree_0 13 rfl rfl)
theorem dX2_doAgree_14 : decode cX2_doAgree 14 = .ok (.if_icmp .ge 96, 3) := dk_162 0 96 (dk_at dksX2_doAgree_0 14 rfl rfl)
theorem dX2_doAgree_17 : decode cX2_doAgree 17 = .ok (.iconst 0, 1) := dk_3 (dk_at dksX2_doAgree_0 17 rfl rfl)
theorem dX2_doAgree_18 : decode cX2_doAgree 18 = .ok (.istore 9, 2) := dk_54 9 (dk_at dksX2_doAgree_0 18 rfl rfl)
theorem dX2_doAgree_20 : decode cX2_doAgree 20 = .ok (.iload 9, 2) := dk_21 9 (dk_at dksX2_doAgree_0 20 rfl rfl)
theorem dX2_doAgree_22 : decode cX2_doAgree 22 = .ok (.aload_n 0, 1) := dk_42 (dk_at dksX2_doAgree_0 22 rfl rfl)
theorem dX2_doAgree_23 : decode cX2_doAgree 23 = .ok (.getfield 75, 3) := dk_180 0 75 (dk_at dksX2_doAgree_1 0 rfl rfl)
theorem dX2_doAgree_26 : decode cX2_doAgree 26 = .ok (.iload 4, 2) := dk_21 4 (dk_at dksX2_doAgree_1 3 rfl rfl)
theorem dX2_doAgree_28 : decode cX2_doAgree 28 = .ok (.iaload, 1) := dk_46 (dk_at dksX2_doAgree_1 5 rfl rfl)
theorem dX2_doAgree_29 : decode cX2_doAgree 29 = .ok (.if_icmp .ge 75, 3) := dk_162 0 75 (dk_at dksX2_doAgree_1 6 rfl rfl)
theorem dX2_doAgree_32 : decode cX2_doAgree 32 = .ok (.iload 7, 2) := dk_21 7 (dk_at dksX2_doAgree_1 9 rfl rfl)
theorem dX2_doAgree_34 : decode cX2_doAgree 34 = .ok (.ifCond .eq 61, 3) := dk_153 0 61 (dk_at dksX2_doAgree_1 11 rfl rfl)
theorem dX2_doAgree_37 : decode cX2_doAgree 37 = .ok (.aload_n 0, 1) := dk_42 (dk_at dksX2_doAgree_1 14 rfl rfl)
theorem dX2_doAgree_38 : decode cX2_doAgree 38 = .ok (.iload_n 2, 1) := dk_28 (dk_at dksX2_doAgree_1 15 rfl rfl)
theorem dX2_doAgree_39 : decode cX2_doAgree 39 = .ok (.iload_n 3, 1) := dk_29 (dk_at dksX2_doAgree_1 16 rfl rfl)
theorem dX2_doAgree_40 : decode cX2_doAgree 40 = .ok (.iload 8, 2) := dk_21 8 (dk_at dksX2_doAgree_1 17 rfl rfl)
theorem dX2_doAgree_42 : decode cX2_doAgree 42 = .ok (.iadd, 1) := dk_96 (dk_at dksX2_doAgree_1 19 rfl rfl)
theorem dX2_doAgree_43 : decode cX2_doAgree 43 = .ok (.invokevirtual 170, 3) := dk_182 0 170 (dk_at dksX2_doAgree_1 20 rfl rfl)
theorem dX2_doAgree_46 : decode cX2_doAgree 46 = .ok (.aload_n 0, 1) := dk_42 (dk_at dksX2_doAgree_1 23 rfl rfl)
theorem dX2_doAgree_47 : decode cX2_doAgree 47 = .ok (.iload 5, 2) := dk_21 5 (dk_at dksX2_doAgree_2 0 rfl rfl)
theorem dX2_doAgree_49 : decode cX2_doAgree 49 = .ok (.iload 6, 2) := dk_21 6 (dk_at dksX2_doAgree_2 2 rfl rfl)
theorem dX2_doAgree_51 : decode cX2_doAgree 51 = .ok (.iload 9, 2) := dk_21 9 (dk_at dksX2_doAgree_2 4 rfl rfl)
theorem dX2_doAgree_53 : decode cX2_doAgree 53 = .ok (.iadd, 1) := dk_96 (dk_at dksX2_doAgree_2 6 rfl rfl)
theorem dX2_doAgree_54 : decode cX2_doAgree 54 = .ok (.invokevirtual 170, 3) := dk_182 0 170 (dk_at dksX2_doAgree_2 7 rfl rfl)
theorem dX2_doAgree_57 : decode cX2_doAgree 57 = .ok (.if_icmp .ne 7, 3) := dk_160 0 7 (dk_at dksX2_doAgree_2 10 rfl rfl)
theorem dX2_doAgree_60 : decode cX2_doAgree 60 = .ok (.iconst 1, 1) := dk_4 (dk_at dksX2_doAgree_2 13 rfl rfl)
theorem dX2_doAgree_61 : decode cX2_doAgree 61 = .ok (.goto 4, 3) := dk_167 0 4 (dk_at dksX2_doAgree_2 14 rfl rfl)
theorem dX2_doAgree_64 : decode cX2_doAgree 64 = .ok (.iconst 0, 1) := dk_3 (dk_at dksX2_doAgree_2 17 rfl rfl)
theorem dX2_doAgree_65 : decode cX2_doAgree 65 = .ok (.aload_n 0, 1) := dk_42 (dk_at dksX2_doAgree_2 18 rfl rfl)
theorem dX2_doAgree_66 : decode cX2_doAgree 66 = .ok (.iload_n 1, 1) := dk_27 (dk_at dksX2_doAgree_2 19 rfl rfl)
theorem dX2_doAgree_67 : decode cX2_doAgree 67 = .ok (.iload 8, 2) := dk_21 8 (dk_at dksX2_doAgree_2 20 rfl rfl)
theorem dX2_doAgree_69 : decode cX2_doAgree 69 = .ok (.invokevirtual 263, 3) := dk_182 1 7 (dk_at dksX2_doAgree_3 0 rfl rfl)
theorem dX2_doAgree_72 : decode cX2_doAgree 72 = .ok (.aload_n 0, 1) := dk_42 (dk_at dksX2_doAgree_3 3 rfl rfl)
theorem dX2_doAgree_73 : decode cX2_doAgree 73 = .ok (.iload 4, 2) := dk_21 4 (dk_at dksX2_doAgree_3 4 rfl rfl)
theorem dX2_doAgree_75 : decode cX2_doAgree 75 = .ok (.iload 9, 2) := dk_21 9 (dk_at dksX2_doAgree_3 6 rfl rfl)
theorem dX2_doAgree_77 : decode cX2_doAgree 77 = .ok (.invokevirtual 263, 3) := dk_182 1 7 (dk_at dksX2_doAgree_3 8 rfl rfl)
theorem dX2_doAgree_80 : decode cX2_doAgree 80 = .ok (.if_icmp .ne 7, 3) := dk_160 0 7 (dk_at dksX2_doAgree_3 11 rfl rfl)
theorem dX2_doAgree_83 : decode cX2_doAgree 83 = .ok (.iconst 1, 1) := dk_4 (dk_at dksX2_doAgree_3 14 rfl rfl)
theorem dX2_doAgree_84 : decode cX2_doAgree 84 = .ok (.goto 4, 3) := dk_167 0 4 (dk_at dksX2_doAgree_3 15 rfl rfl)
theorem dX2_doAgree_87 : decode cX2_doAgree 87 = .ok (.iconst 0, 1) := dk_3 (dk_at dksX2_doAgree_3 18 rfl rfl)
theorem dX2_doAgree_88 : decode cX2_doAgree 88 = .ok (.if_icmp .ne 7, 3) := dk_160 0 7 (dk_at dksX2_doAgree_3 19 rfl rfl)
theorem dX2_doAgree_91 : decode cX2_doAgree 91 = .ok (.iconst 1, 1) := dk_4 (dk_at dksX2_doAgree_3 22 rfl rfl)
theorem dX2_doAgree_92 : decode cX2_doAgree 92 = .ok (.goto 4, 3) := dk_167 0 4 (dk_at dksX2_doAgree_4 0 rfl rfl)
theorem dX2_doAgree_95 : decode cX2_doAgree 95 = .ok (.iconst 0, 1) := dk_3 (dk_at dksX2_doAgree_4 3 rfl rfl)
theorem dX2_doAgree_96 : decode cX2_doAgree 96 = .ok (.istore 7, 2) := dk_54 7 (dk_at dksX2_doAgree_4 4 rfl rfl)
theorem dX2_doAgree_98 : decode cX2_doAgree 98 = .ok (.iinc 9 1, 3) := dk_132 9 1 (dk_at dksX2_doAgree_4 6 rfl rfl)
theorem dX2_doAgree_101 : decode cX2_doAgree 101 = .ok (.goto (-81), 3) := dk_167 255 175 (dk_at dksX2_doAgree_4 9 rfl rfl)
theorem dX2_doAgree_104 : decode cX2_doAgree 104 = .ok (.iinc 8 1, 3) := dk_132 8 1 (dk_at dksX2_doAgree_4 12 rfl rfl)
theorem dX2_doAgree_107 : decode cX2_doAgree 107 = .ok (.goto (-101), 3) := dk_167 255 155 (dk_at dksX2_doAgree_4 15 rfl rfl)
theorem dX2_doAgree_110 : decode cX2_doAgree 110 = .ok (.iload 7, 2) := dk_21 7 (dk_at dksX2_doAgree_4 18 rfl rfl)
theorem dX2_doAgree_112 : decode cX2_doAgree 112 = .ok (.ireturn, 1) := dk_172 (dk_at dksX2_doAgree_4 20 rfl rfl)
abbrev cX2_soundAt : ByteArray := prog_11_method_46_code
def yX2_soundAt : MethodName := ⟨RX2, "soundAt", "(II)I"⟩
def dkwX2_soundAt_0 : List UInt8 := [42, 180, 0, 78, 27, 46, 5, 42, 180, 0, 75, 27, 46, 4, 100, 28, 100, 104, 122, 6, 126, 172]
abbrev dktX2_soundAt_0 : List UInt8 := dkwX2_soundAt_0 ++ []
theorem dksX2_soundAt_0 : cX2_soundAt.data.toList.drop 0 = dktX2_soundAt_0 := by decide +kernel
theorem dX2_soundAt_0 : decode cX2_soundAt 0 = .ok (.aload_n 0, 1) := dk_42 (dk_at dksX2_soundAt_0 0 rfl rfl)
theorem dX2_soundAt_1 : decode cX2_soundAt 1 = .ok (.getfield 78, 3) := dk_180 0 78 (dk_at dksX2_soundAt_0 1 rfl rfl)
theorem dX2_soundAt_4 : decode cX2_soundAt 4 = .ok (.iload_n 1, 1) := dk_27 (dk_at dksX2_soundAt_0 4 rfl rfl)
theorem dX2_soundAt_5 : decode cX2_soundAt 5 = .ok (.iaload, 1) := dk_46 (dk_at dksX2_soundAt_0 5 rfl rfl)
theorem dX2_soundAt_6 : decode cX2_soundAt 6 = .ok (.iconst 2, 1) := dk_5 (dk_at dksX2_soundAt_0 6 rfl rfl)
theorem dX2_soundAt_7 : decode cX2_soundAt 7 = .ok (.aload_n 0, 1) := dk_42 (dk_at dksX2_soundAt_0 7 rfl rfl)
theorem dX2_soundAt_8 : decode cX2_soundAt 8 = .ok (.getfield 75, 3) := dk_180 0 75 (dk_at dksX2_soundAt_0 8 rfl rfl)
theorem dX2_soundAt_11 : decode cX2_soundAt 11 = .ok (.iload_n 1, 1) := dk_27 (dk_at dksX2_soundAt_0 11 rfl rfl)
theorem dX2_soundAt_12 : decode cX2_soundAt 12 = .ok (.iaload, 1) := dk_46 (dk_at dksX2_soundAt_0 12 rfl rfl)
theorem dX2_soundAt_13 : decode cX2_soundAt 13 = .ok (.iconst 1, 1) := dk_4 (dk_at dksX2_soundAt_0 13 rfl rfl)
theorem dX2_soundAt_14 : decode cX2_soundAt 14 = .ok (.isub, 1) := dk_100 (dk_at dksX2_soundAt_0 14 rfl rfl)
theorem dX2_soundAt_15 : decode cX2_soundAt 15 = .ok (.iload_n 2, 1) := dk_28 (dk_at dksX2_soundAt_0 15 rfl rfl)
theorem dX2_soundAt_16 : decode cX2_soundAt 16 = .ok (.isub, 1) := dk_100 (dk_at dksX2_soundAt_0 16 rfl rfl)
theorem dX2_soundAt_17 : decode cX2_soundAt 17 = .ok (.imul, 1) := dk_104 (dk_at dksX2_soundAt_0 17 rfl rfl)
theorem dX2_soundAt_18 : decode cX2_soundAt 18 = .ok (.ishr, 1) := dk_122 (dk_at dksX2_soundAt_0 18 rfl rfl)
theorem dX2_soundAt_19 : decode cX2_soundAt 19 = .ok (.iconst 3, 1) := dk_6 (dk_at dksX2_soundAt_0 19 rfl rfl)
theorem dX2_soundAt_20 : decode cX2_soundAt 20 = .ok (.iand, 1) := dk_126 (dk_at dksX2_soundAt_0 20 rfl rfl)
theorem dX2_soundAt_21 : decode cX2_soundAt 21 = .ok (.ireturn, 1) := dk_172 (dk_at dksX2_soundAt_0 21 rfl rfl)
abbrev cX2_together : ByteArray := prog_11_method_50_code
def yX2_together : MethodName := ⟨RX2, "together", "(IIII)I"⟩
def dkwX2_together_5 : List UInt8 := [167, 0, 4, 3, 96, 54, 5, 132, 7, 1, 167, 255, 192, 132, 6, 1, 167, 255, 172, 21, 5, 172]
abbrev dktX2_together_5 : List UInt8 := dkwX2_together_5 ++ []
def dkwX2_together_4 : List UInt8 := [182, 1, 17, 153, 0, 23, 42, 27, 28, 21, 6, 29, 21, 4, 21, 7, 182, 1, 10, 153, 0, 7, 4]
abbrev dktX2_together_4 : List UInt8 := dkwX2_together_4 ++ dktX2_together_5
def dkwX2_together_3 : List UInt8 := [46, 162, 0, 58, 42, 27, 28, 21, 6, 182, 1, 17, 153, 0, 47, 21, 5, 42, 29, 21, 4, 21, 7]
abbrev dktX2_together_3 : List UInt8 := dkwX2_together_3 ++ dktX2_together_4
def dkwX2_together_2 : List UInt8 := [54, 6, 21, 6, 42, 180, 0, 20, 28, 46, 162, 0, 79, 3, 54, 7, 21, 7, 42, 180, 0, 20, 21, 4]
abbrev dktX2_together_2 : List UInt8 := dkwX2_together_2 ++ dktX2_together_3
def dkwX2_together_1 : List UInt8 := [42, 21, 4, 182, 0, 174, 154, 0, 5, 2, 172, 42, 42, 180, 0, 13, 182, 0, 150, 3, 54, 5, 3]
abbrev dktX2_together_1 : List UInt8 := dkwX2_together_1 ++ dktX2_together_2
def dkwX2_together_0 : List UInt8 := [42, 27, 182, 1, 14, 153, 0, 28, 42, 28, 182, 0, 174, 153, 0, 20, 42, 29, 182, 1, 14, 153, 0, 12]
abbrev dktX2_together_0 : List UInt8 := dkwX2_together_0 ++ dktX2_together_1
theorem dksX2_together_0 : cX2_together.data.toList.drop 0 = dktX2_together_0 := by decide +kernel
theorem dksX2_together_1 : cX2_together.data.toList.drop 24 = dktX2_together_1 := dk_seg dksX2_together_0 24 rfl rfl
theorem dksX2_together_2 : cX2_together.data.toList.drop 47 = dktX2_together_2 := dk_seg dksX2_together_1 23 rfl rfl
theorem dksX2_together_3 : cX2_together.data.toList.drop 71 = dktX2_together_3 := dk_seg dksX2_together_2 24 rfl rfl
theorem dksX2_together_4 : cX2_together.data.toList.drop 94 = dktX2_together_4 := dk_seg dksX2_together_3 23 rfl rfl
theorem dksX2_together_5 : cX2_together.data.toList.drop 117 = dktX2_together_5 := dk_seg dksX2_together_4 23 rfl rfl
theorem dX2_together_0 : decode cX2_together 0 = .ok (.aload_n 0, 1) := dk_42 (dk_at dksX2_together_0 0 rfl rfl)
theorem dX2_together_1 : decode cX2_together 1 = .ok (.iload_n 1, 1) := dk_27 (dk_at dksX2_together_0 1 rfl rfl)
theorem dX2_together_2 : decode cX2_together 2 = .ok (.invokevirtual 270, 3) := dk_182 1 14 (dk_at dksX2_together_0 2 rfl rfl)
theorem dX2_together_5 : decode cX2_together 5 = .ok (.ifCond .eq 28, 3) := dk_153 0 28 (dk_at dksX2_together_0 5 rfl rfl)
theorem dX2_together_8 : decode cX2_together 8 = .ok (.aload_n 0, 1) := dk_42 (dk_at dksX2_together_0 8 rfl rfl)
theorem dX2_together_9 : decode cX2_together 9 = .ok (.iload_n 2, 1) := dk_28 (dk_at dksX2_together_0 9 rfl rfl)
theorem dX2_together_10 : decode cX2_together 10 = .ok (.invokevirtual 174, 3) := dk_182 0 174 (dk_at dksX2_together_0 10 rfl rfl)
theorem dX2_together_13 : decode cX2_together 13 = .ok (.ifCond .eq 20, 3) := dk_153 0 20 (dk_at dksX2_together_0 13 rfl rfl)
theorem dX2_together_16 : decode cX2_together 16 = .ok (.aload_n 0, 1) := dk_42 (dk_at dksX2_together_0 16 rfl rfl)
theorem dX2_together_17 : decode cX2_together 17 = .ok (.iload_n 3, 1) := dk_29 (dk_at dksX2_together_0 17 rfl rfl)
theorem dX2_together_18 : decode cX2_together 18 = .ok (.invokevirtual 270, 3) := dk_182 1 14 (dk_at dksX2_together_0 18 rfl rfl)
theorem dX2_together_21 : decode cX2_together 21 = .ok (.ifCond .eq 12, 3) := dk_153 0 12 (dk_at dksX2_together_0 21 rfl rfl)
theorem dX2_together_24 : decode cX2_together 24 = .ok (.aload_n 0, 1) := dk_42 (dk_at dksX2_together_1 0 rfl rfl)
theorem dX2_together_25 : decode cX2_together 25 = .ok (.iload 4, 2) := dk_21 4 (dk_at dksX2_together_1 1 rfl rfl)
theorem dX2_together_27 : decode cX2_together 27 = .ok (.invokevirtual 174, 3) := dk_182 0 174 (dk_at dksX2_together_1 3 rfl rfl)
theorem dX2_together_30 : decode cX2_together 30 = .ok (.ifCond .ne 5, 3) := dk_154 0 5 (dk_at dksX2_together_1 6 rfl rfl)
theorem dX2_together_33 : decode cX2_together 33 = .ok (.iconst (-1), 1) := dk_2 (dk_at dksX2_together_1 9 rfl rfl)
theorem dX2_together_34 : decode cX2_together 34 = .ok (.ireturn, 1) := dk_172 (dk_at dksX2_together_1 10 rfl rfl)
theorem dX2_together_35 : decode cX2_together 35 = .ok (.aload_n 0, 1) := dk_42 (dk_at dksX2_together_1 11 rfl rfl)
theorem dX2_together_36 : decode cX2_together 36 = .ok (.aload_n 0, 1) := dk_42 (dk_at dksX2_together_1 12 rfl rfl)
theorem dX2_together_37 : decode cX2_together 37 = .ok (.getfield 13, 3) := dk_180 0 13 (dk_at dksX2_together_1 13 rfl rfl)
theorem dX2_together_40 : decode cX2_together 40 = .ok (.invokevirtual 150, 3) := dk_182 0 150 (dk_at dksX2_together_1 16 rfl rfl)
theorem dX2_together_43 : decode cX2_together 43 = .ok (.iconst 0, 1) := dk_3 (dk_at dksX2_together_1 19 rfl rfl)
theorem dX2_together_44 : decode cX2_together 44 = .ok (.istore 5, 2) := dk_54 5 (dk_at dksX2_together_1 20 rfl rfl)
theorem dX2_together_46 : decode cX2_together 46 = .ok (.iconst 0, 1) := dk_3 (dk_at dksX2_together_1 22 rfl rfl)
theorem dX2_together_47 : decode cX2_together 47 = .ok (.istore 6, 2) := dk_54 6 (dk_at dksX2_together_2 0 rfl rfl)
theorem dX2_together_49 : decode cX2_together 49 = .ok (.iload 6, 2) := dk_21 6 (dk_at dksX2_together_2 2 rfl rfl)
theorem dX2_together_51 : decode cX2_together 51 = .ok (.aload_n 0, 1) := dk_42 (dk_at dksX2_together_2 4 rfl rfl)
theorem dX2_together_52 : decode cX2_together 52 = .ok (.getfield 20, 3) := dk_180 0 20 (dk_at dksX2_together_2 5 rfl rfl)
theorem dX2_together_55 : decode cX2_together 55 = .ok (.iload_n 2, 1) := dk_28 (dk_at dksX2_together_2 8 rfl rfl)
theorem dX2_together_56 : decode cX2_together 56 = .ok (.iaload, 1) := dk_46 (dk_at dksX2_together_2 9 rfl rfl)
theorem dX2_together_57 : decode cX2_together 57 = .ok (.if_icmp .ge 79, 3) := dk_162 0 79 (dk_at dksX2_together_2 10 rfl rfl)
theorem dX2_together_60 : decode cX2_together 60 = .ok (.iconst 0, 1) := dk_3 (dk_at dksX2_together_2 13 rfl rfl)
theorem dX2_together_61 : decode cX2_together 61 = .ok (.istore 7, 2) := dk_54 7 (dk_at dksX2_together_2 14 rfl rfl)
theorem dX2_together_63 : decode cX2_together 63 = .ok (.iload 7, 2) := dk_21 7 (dk_at dksX2_together_2 16 rfl rfl)
theorem dX2_together_65 : decode cX2_together 65 = .ok (.aload_n 0, 1) := dk_42 (dk_at dksX2_together_2 18 rfl rfl)
theorem dX2_together_66 : decode cX2_together 66 = .ok (.getfield 20, 3) := dk_180 0 20 (dk_at dksX2_together_2 19 rfl rfl)
theorem dX2_together_69 : decode cX2_together 69 = .ok (.iload 4, 2) := dk_21 4 (dk_at dksX2_together_2 22 rfl rfl)
theorem dX2_together_71 : decode cX2_together 71 = .ok (.iaload, 1) := dk_46 (dk_at dksX2_together_3 0 rfl rfl)
theorem dX2_together_72 : decode cX2_together 72 = .ok (.if_icmp .ge 58, 3) := dk_162 0 58 (dk_at dksX2_together_3 1 rfl rfl)
theorem dX2_together_75 : decode cX2_together 75 = .ok (.aload_n 0, 1) := dk_42 (dk_at dksX2_together_3 4 rfl rfl)
theorem dX2_together_76 : decode cX2_together 76 = .ok (.iload_n 1, 1) := dk_27 (dk_at dksX2_together_3 5 rfl rfl)
theorem dX2_together_77 : decode cX2_together 77 = .ok (.iload_n 2, 1) := dk_28 (dk_at dksX2_together_3 6 rfl rfl)
theorem dX2_together_78 : decode cX2_together 78 = .ok (.iload 6, 2) := dk_21 6 (dk_at dksX2_together_3 7 rfl rfl)
theorem dX2_together_80 : decode cX2_together 80 = .ok (.invokevirtual 273, 3) := dk_182 1 17 (dk_at dksX2_together_3 9 rfl rfl)
theorem dX2_together_83 : decode cX2_together 83 = .ok (.ifCond .eq 47, 3) := dk_153 0 47 (dk_at dksX2_together_3 12 rfl rfl)
theorem dX2_together_86 : decode cX2_together 86 = .ok (.iload 5, 2) := dk_21 5 (dk_at dksX2_together_3 15 rfl rfl)
theorem dX2_together_88 : decode cX2_together 88 = .ok (.aload_n 0, 1) := dk_42 (dk_at dksX2_together_3 17 rfl rfl)
theorem dX2_together_89 : decode cX2_together 89 = .ok (.iload_n 3, 1) := dk_29 (dk_at dksX2_together_3 18 rfl rfl)
theorem dX2_together_90 : decode cX2_together 90 = .ok (.iload 4, 2) := dk_21 4 (dk_at dksX2_together_3 19 rfl rfl)
theorem dX2_together_92 : decode cX2_together 92 = .ok (.iload 7, 2) := dk_21 7 (dk_at dksX2_together_3 21 rfl rfl)
theorem dX2_together_94 : decode cX2_together 94 = .ok (.invokevirtual 273, 3) := dk_182 1 17 (dk_at dksX2_together_4 0 rfl rfl)
theorem dX2_together_97 : decode cX2_together 97 = .ok (.ifCond .eq 23, 3) := dk_153 0 23 (dk_at dksX2_together_4 3 rfl rfl)
theorem dX2_together_100 : decode cX2_together 100 = .ok (.aload_n 0, 1) := dk_42 (dk_at dksX2_together_4 6 rfl rfl)
theorem dX2_together_101 : decode cX2_together 101 = .ok (.iload_n 1, 1) := dk_27 (dk_at dksX2_together_4 7 rfl rfl)
theorem dX2_together_102 : decode cX2_together 102 = .ok (.iload_n 2, 1) := dk_28 (dk_at dksX2_together_4 8 rfl rfl)
theorem dX2_together_103 : decode cX2_together 103 = .ok (.iload 6, 2) := dk_21 6 (dk_at dksX2_together_4 9 rfl rfl)
theorem dX2_together_105 : decode cX2_together 105 = .ok (.iload_n 3, 1) := dk_29 (dk_at dksX2_together_4 11 rfl rfl)
theorem dX2_together_106 : decode cX2_together 106 = .ok (.iload 4, 2) := dk_21 4 (dk_at dksX2_together_4 12 rfl rfl)
theorem dX2_together_108 : decode cX2_together 108 = .ok (.iload 7, 2) := dk_21 7 (dk_at dksX2_together_4 14 rfl rfl)
theorem dX2_together_110 : decode cX2_together 110 = .ok (.invokevirtual 266, 3) := dk_182 1 10 (dk_at dksX2_together_4 16 rfl rfl)
theorem dX2_together_113 : decode cX2_together 113 = .ok (.ifCond .eq 7, 3) := dk_153 0 7 (dk_at dksX2_together_4 19 rfl rfl)
theorem dX2_together_116 : decode cX2_together 116 = .ok (.iconst 1, 1) := dk_4 (dk_at dksX2_together_4 22 rfl rfl)
theorem dX2_together_117 : decode cX2_together 117 = .ok (.goto 4, 3) := dk_167 0 4 (dk_at dksX2_together_5 0 rfl rfl)
theorem dX2_together_120 : decode cX2_together 120 = .ok (.iconst 0, 1) := dk_3 (dk_at dksX2_together_5 3 rfl rfl)
theorem dX2_together_121 : decode cX2_together 121 = .ok (.iadd, 1) := dk_96 (dk_at dksX2_together_5 4 rfl rfl)
theorem dX2_together_122 : decode cX2_together 122 = .ok (.istore 5, 2) := dk_54 5 (dk_at dksX2_together_5 5 rfl rfl)
theorem dX2_together_124 : decode cX2_together 124 = .ok (.iinc 7 1, 3) := dk_132 7 1 (dk_at dksX2_together_5 7 rfl rfl)
theorem dX2_together_127 : decode cX2_together 127 = .ok (.goto (-64), 3) := dk_167 255 192 (dk_at dksX2_together_5 10 rfl rfl)
theorem dX2_together_130 : decode cX2_together 130 = .ok (.iinc 6 1, 3) := dk_132 6 1 (dk_at dksX2_together_5 13 rfl rfl)
theorem dX2_together_133 : decode cX2_together 133 = .ok (.goto (-84), 3) := dk_167 255 172 (dk_at dksX2_together_5 16 rfl rfl)
theorem dX2_together_136 : decode cX2_together 136 = .ok (.iload 5, 2) := dk_21 5 (dk_at dksX2_together_5 19 rfl rfl)
theorem dX2_together_138 : decode cX2_together 138 = .ok (.ireturn, 1) := dk_172 (dk_at dksX2_together_5 21 rfl rfl)
abbrev cX2_word : ByteArray := prog_11_method_51_code
def yX2_word : MethodName := ⟨RX2, "word", "(II)I"⟩
def dkwX2_word_5 : List UInt8 := [100, 172]
abbrev dktX2_word_5 : List UInt8 := dkwX2_word_5 ++ []
def dkwX2_word_4 : List UInt8 := [180, 0, 84, 42, 180, 1, 23, 28, 79, 42, 89, 180, 1, 23, 4, 96, 181, 1, 23, 42, 180, 1, 23, 4]
abbrev dktX2_word_4 : List UInt8 := dkwX2_word_4 ++ dktX2_word_5
def dkwX2_word_3 : List UInt8 := [180, 1, 23, 16, 12, 160, 0, 6, 16, 253, 172, 42, 180, 0, 81, 42, 180, 1, 23, 27, 79, 42]
abbrev dktX2_word_3 : List UInt8 := dkwX2_word_3 ++ dktX2_word_4
def dkwX2_word_2 : List UInt8 := [27, 160, 0, 15, 42, 180, 0, 84, 29, 46, 28, 160, 0, 5, 2, 172, 132, 3, 1, 167, 255, 223, 42]
abbrev dktX2_word_2 : List UInt8 := dkwX2_word_2 ++ dktX2_word_3
def dkwX2_word_1 : List UInt8 := [184, 0, 138, 154, 0, 5, 2, 172, 3, 62, 29, 42, 180, 1, 23, 162, 0, 31, 42, 180, 0, 81, 29, 46]
abbrev dktX2_word_1 : List UInt8 := dkwX2_word_1 ++ dktX2_word_2
def dkwX2_word_0 : List UInt8 := [27, 133, 10, 20, 1, 21, 184, 0, 138, 153, 0, 20, 28, 133, 9, 4, 5, 27, 104, 120, 4, 100, 133]
abbrev dktX2_word_0 : List UInt8 := dkwX2_word_0 ++ dktX2_word_1
theorem dksX2_word_0 : cX2_word.data.toList.drop 0 = dktX2_word_0 := by decide +kernel
theorem dksX2_word_1 : cX2_word.data.toList.drop 23 = dktX2_word_1 := dk_seg dksX2_word_0 23 rfl rfl
theorem dksX2_word_2 : cX2_word.data.toList.drop 47 = dktX2_word_2 := dk_seg dksX2_word_1 24 rfl rfl
theorem dksX2_word_3 : cX2_word.data.toList.drop 70 = dktX2_word_3 := dk_seg dksX2_word_2 23 rfl rfl
theorem dksX2_word_4 : cX2_word.data.toList.drop 92 = dktX2_word_4 := dk_seg dksX2_word_3 22 rfl rfl
theorem dksX2_word_5 : cX2_word.data.toList.drop 116 = dktX2_word_5 := dk_seg dksX2_word_4 24 rfl rfl
theorem dX2_word_0 : decode cX2_word 0 = .ok (.iload_n 1, 1) := dk_27 (dk_at dksX2_word_0 0 rfl rfl)
theorem dX2_word_1 : decode cX2_word 1 = .ok (.i2l, 1) := dk_133 (dk_at dksX2_word_0 1 rfl rfl)
theorem dX2_word_2 : decode cX2_word 2 = .ok (.lconst 1, 1) := dk_10 (dk_at dksX2_word_0 2 rfl rfl)
theorem dX2_word_3 : decode cX2_word 3 = .ok (.ldc2_w 277, 3) := dk_20 1 21 (dk_at dksX2_word_0 3 rfl rfl)
theorem dX2_word_6 : decode cX2_word 6 = .ok (.invokestatic 138, 3) := dk_184 0 138 (dk_at dksX2_word_0 6 rfl rfl)
theorem dX2_word_9 : decode cX2_word 9 = .ok (.ifCond .eq 20, 3) := dk_153 0 20 (dk_at dksX2_word_0 9 rfl rfl)
theorem dX2_word_12 : decode cX2_word 12 = .ok (.iload_n 2, 1) := dk_28 (dk_at dksX2_word_0 12 rfl rfl)
theorem dX2_word_13 : decode cX2_word 13 = .ok (.i2l, 1) := dk_133 (dk_at dksX2_word_0 13 rfl rfl)
theorem dX2_word_14 : decode cX2_word 14 = .ok (.lconst 0, 1) := dk_9 (dk_at dksX2_word_0 14 rfl rfl)
theorem dX2_word_15 : decode cX2_word 15 = .ok (.iconst 1, 1) := dk_4 (dk_at dksX2_word_0 15 rfl rfl)
theorem dX2_word_16 : decode cX2_word 16 = .ok (.iconst 2, 1) := dk_5 (dk_at dksX2_word_0 16 rfl rfl)
theorem dX2_word_17 : decode cX2_word 17 = .ok (.iload_n 1, 1) := dk_27 (dk_at dksX2_word_0 17 rfl rfl)
theorem dX2_word_18 : decode cX2_word 18 = .ok (.imul, 1) := dk_104 (dk_at dksX2_word_0 18 rfl rfl)
theorem dX2_word_19 : decode cX2_word 19 = .ok (.ishl, 1) := dk_120 (dk_at dksX2_word_0 19 rfl rfl)
theorem dX2_word_20 : decode cX2_word 20 = .ok (.iconst 1, 1) := dk_4 (dk_at dksX2_word_0 20 rfl rfl)
theorem dX2_word_21 : decode cX2_word 21 = .ok (.isub, 1) := dk_100 (dk_at dksX2_word_0 21 rfl rfl)
theorem dX2_word_22 : decode cX2_word 22 = .ok (.i2l, 1) := dk_133 (dk_at dksX2_word_0 22 rfl rfl)
theorem dX2_word_23 : decode cX2_word 23 = .ok (.invokestatic 138, 3) := dk_184 0 138 (dk_at dksX2_word_1 0 rfl rfl)
theorem dX2_word_26 : decode cX2_word 26 = .ok (.ifCond .ne 5, 3) := dk_154 0 5 (dk_at dksX2_word_1 3 rfl rfl)
theorem dX2_word_29 : decode cX2_word 29 = .ok (.iconst (-1), 1) := dk_2 (dk_at dksX2_word_1 6 rfl rfl)
theorem dX2_word_30 : decode cX2_word 30 = .ok (.ireturn, 1) := dk_172 (dk_at dksX2_word_1 7 rfl rfl)
theorem dX2_word_31 : decode cX2_word 31 = .ok (.iconst 0, 1) := dk_3 (dk_at dksX2_word_1 8 rfl rfl)
theorem dX2_word_32 : decode cX2_word 32 = .ok (.istore_n 3, 1) := dk_62 (dk_at dksX2_word_1 9 rfl rfl)
theorem dX2_word_33 : decode cX2_word 33 = .ok (.iload_n 3, 1) := dk_29 (dk_at dksX2_word_1 10 rfl rfl)
theorem dX2_word_34 : decode cX2_word 34 = .ok (.aload_n 0, 1) := dk_42 (dk_at dksX2_word_1 11 rfl rfl)
theorem dX2_word_35 : decode cX2_word 35 = .ok (.getfield 279, 3) := dk_180 1 23 (dk_at dksX2_word_1 12 rfl rfl)
theorem dX2_word_38 : decode cX2_word 38 = .ok (.if_icmp .ge 31, 3) := dk_162 0 31 (dk_at dksX2_word_1 15 rfl rfl)
theorem dX2_word_41 : decode cX2_word 41 = .ok (.aload_n 0, 1) := dk_42 (dk_at dksX2_word_1 18 rfl rfl)
theorem dX2_word_42 : decode cX2_word 42 = .ok (.getfield 81, 3) := dk_180 0 81 (dk_at dksX2_word_1 19 rfl rfl)
theorem dX2_word_45 : decode cX2_word 45 = .ok (.iload_n 3, 1) := dk_29 (dk_at dksX2_word_1 22 rfl rfl)
theorem dX2_word_46 : decode cX2_word 46 = .ok (.iaload, 1) := dk_46 (dk_at dksX2_word_1 23 rfl rfl)
theorem dX2_word_47 : decode cX2_word 47 = .ok (.iload_n 1, 1) := dk_27 (dk_at dksX2_word_2 0 rfl rfl)
theorem dX2_word_48 : decode cX2_word 48 = .ok (.if_icmp .ne 15, 3) := dk_160 0 15 (dk_at dksX2_word_2 1 rfl rfl)
theorem dX2_word_51 : decode cX2_word 51 = .ok (.aload_n 0, 1) := dk_42 (dk_at dksX2_word_2 4 rfl rfl)
theorem dX2_word_52 : decode cX2_word 52 = .ok (.getfield 84, 3) := dk_180 0 84 (dk_at dksX2_word_2 5 rfl rfl)
theorem dX2_word_55 : decode cX2_word 55 = .ok (.iload_n 3, 1) := dk_29 (dk_at dksX2_word_2 8 rfl rfl)
theorem dX2_word_56 : decode cX2_word 56 = .ok (.iaload, 1) := dk_46 (dk_at dksX2_word_2 9 rfl rfl)
theorem dX2_word_57 : decode cX2_word 57 = .ok (.iload_n 2, 1) := dk_28 (dk_at dksX2_word_2 10 rfl rfl)
theorem dX2_word_58 : decode cX2_word 58 = .ok (.if_icmp .ne 5, 3) := dk_160 0 5 (dk_at dksX2_word_2 11 rfl rfl)
theorem dX2_word_61 : decode cX2_word 61 = .ok (.iconst (-1), 1) := dk_2 (dk_at dksX2_word_2 14 rfl rfl)
theorem dX2_word_62 : decode cX2_word 62 = .ok (.ireturn, 1) := dk_172 (dk_at dksX2_word_2 15 rfl rfl)
theorem dX2_word_63 : decode cX2_word 63 = .ok (.iinc 3 1, 3) := dk_132 3 1 (dk_at dksX2_word_2 16 rfl rfl)
theorem dX2_word_66 : decode cX2_word 66 = .ok (.goto (-33), 3) := dk_167 255 223 (dk_at dksX2_word_2 19 rfl rfl)
theorem dX2_word_69 : decode cX2_word 69 = .ok (.aload_n 0, 1) := dk_42 (dk_at dksX2_word_2 22 rfl rfl)
theorem dX2_word_70 : decode cX2_word 70 = .ok (.getfield 279, 3) := dk_180 1 23 (dk_at dksX2_word_3 0 rfl rfl)
theorem dX2_word_73 : decode cX2_word 73 = .ok (.bipush 12, 2) := dk_16 12 (dk_at dksX2_word_3 3 rfl rfl)
theorem dX2_word_75 : decode cX2_word 75 = .ok (.if_icmp .ne 6, 3) := dk_160 0 6 (dk_at dksX2_word_3 5 rfl rfl)
theorem dX2_word_78 : decode cX2_word 78 = .ok (.bipush (-3), 2) := dk_16 253 (dk_at dksX2_word_3 8 rfl rfl)
theorem dX2_word_80 : decode cX2_word 80 = .ok (.ireturn, 1) := dk_172 (dk_at dksX2_word_3 10 rfl rfl)
theorem dX2_word_81 : decode cX2_word 81 = .ok (.aload_n 0, 1) := dk_42 (dk_at dksX2_word_3 11 rfl rfl)
theorem dX2_word_82 : decode cX2_word 82 = .ok (.getfield 81, 3) := dk_180 0 81 (dk_at dksX2_word_3 12 rfl rfl)
theorem dX2_word_85 : decode cX2_word 85 = .ok (.aload_n 0, 1) := dk_42 (dk_at dksX2_word_3 15 rfl rfl)
theorem dX2_word_86 : decode cX2_word 86 = .ok (.getfield 279, 3) := dk_180 1 23 (dk_at dksX2_word_3 16 rfl rfl)
theorem dX2_word_89 : decode cX2_word 89 = .ok (.iload_n 1, 1) := dk_27 (dk_at dksX2_word_3 19 rfl rfl)
theorem dX2_word_90 : decode cX2_word 90 = .ok (.iastore, 1) := dk_79 (dk_at dksX2_word_3 20 rfl rfl)
theorem dX2_word_91 : decode cX2_word 91 = .ok (.aload_n 0, 1) := dk_42 (dk_at dksX2_word_3 21 rfl rfl)
theorem dX2_word_92 : decode cX2_word 92 = .ok (.getfield 84, 3) := dk_180 0 84 (dk_at dksX2_word_4 0 rfl rfl)
theorem dX2_word_95 : decode cX2_word 95 = .ok (.aload_n 0, 1) := dk_42 (dk_at dksX2_word_4 3 rfl rfl)
theorem dX2_word_96 : decode cX2_word 96 = .ok (.getfield 279, 3) := dk_180 1 23 (dk_at dksX2_word_4 4 rfl rfl)
theorem dX2_word_99 : decode cX2_word 99 = .ok (.iload_n 2, 1) := dk_28 (dk_at dksX2_word_4 7 rfl rfl)
theorem dX2_word_100 : decode cX2_word 100 = .ok (.iastore, 1) := dk_79 (dk_at dksX2_word_4 8 rfl rfl)
theorem dX2_word_101 : decode cX2_word 101 = .ok (.aload_n 0, 1) := dk_42 (dk_at dksX2_word_4 9 rfl rfl)
theorem dX2_word_102 : decode cX2_word 102 = .ok (.dup, 1) := dk_89 (dk_at dksX2_word_4 10 rfl rfl)
theorem dX2_word_103 : decode cX2_word 103 = .ok (.getfield 279, 3) := dk_180 1 23 (dk_at dksX2_word_4 11 rfl rfl)
theorem dX2_word_106 : decode cX2_word 106 = .ok (.iconst 1, 1) := dk_4 (dk_at dksX2_word_4 14 rfl rfl)
theorem dX2_word_107 : decode cX2_word 107 = .ok (.iadd, 1) := dk_96 (dk_at dksX2_word_4 15 rfl rfl)
theorem dX2_word_108 : decode cX2_word 108 = .ok (.putfield 279, 3) := dk_181 1 23 (dk_at dksX2_word_4 16 rfl rfl)
theorem dX2_word_111 : decode cX2_word 111 = .ok (.aload_n 0, 1) := dk_42 (dk_at dksX2_word_4 19 rfl rfl)
theorem dX2_word_112 : decode cX2_word 112 = .ok (.getfield 279, 3) := dk_180 1 23 (dk_at dksX2_word_4 20 rfl rfl)
theorem dX2_word_115 : decode cX2_word 115 = .ok (.iconst 1, 1) := dk_4 (dk_at dksX2_word_4 23 rfl rfl)
theorem dX2_word_116 : decode cX2_word 116 = .ok (.isub, 1) := dk_100 (dk_at dksX2_word_5 0 rfl rfl)
theorem dX2_word_117 : decode cX2_word 117 = .ok (.ireturn, 1) := dk_172 (dk_at dksX2_word_5 1 rfl rfl)
abbrev cX2_tabled : ByteArray := prog_11_method_53_code
def yX2_tabled : MethodName := ⟨RX2, "tabled", "(I)I"⟩
def dkwX2_tabled_1 : List UInt8 := [162, 0, 12, 42, 180, 0, 87, 27, 46, 167, 0, 5, 16, 252, 172]
abbrev dktX2_tabled_1 : List UInt8 := dkwX2_tabled_1 ++ []
def dkwX2_tabled_0 : List UInt8 := [27, 133, 9, 20, 0, 177, 184, 0, 138, 154, 0, 5, 2, 172, 42, 182, 1, 29, 27, 42, 180, 1, 26]
abbrev dktX2_tabled_0 : List UInt8 := dkwX2_tabled_0 ++ dktX2_tabled_1
theorem dksX2_tabled_0 : cX2_tabled.data.toList.drop 0 = dktX2_tabled_0 := by decide +kernel
