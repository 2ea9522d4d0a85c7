set_option maxRecDepth 100000
theorem dX2_readOn_49 : decode cX2_readOn 49 = .ok (.iload_n 1, 1) := dk_27 (dk_at dksX2_readOn_2 3 rfl rfl)
theorem dX2_readOn_50 : decode cX2_readOn 50 = .ok (.if_icmp .ge 32, 3) := dk_162 0 32 (dk_at dksX2_readOn_2 4 rfl rfl)
theorem dX2_readOn_53 : decode cX2_readOn 53 = .ok (.aload_n 0, 1) := dk_42 (dk_at dksX2_readOn_2 7 rfl rfl)
theorem dX2_readOn_54 : decode cX2_readOn 54 = .ok (.getfield 117, 3) := dk_180 0 117 (dk_at dksX2_readOn_2 8 rfl rfl)
theorem dX2_readOn_57 : decode cX2_readOn 57 = .ok (.aload_n 0, 1) := dk_42 (dk_at dksX2_readOn_2 11 rfl rfl)
theorem dX2_readOn_58 : decode cX2_readOn 58 = .ok (.getfield 354, 3) := dk_180 1 98 (dk_at dksX2_readOn_2 12 rfl rfl)
theorem dX2_readOn_61 : decode cX2_readOn 61 = .ok (.iaload, 1) := dk_46 (dk_at dksX2_readOn_2 15 rfl rfl)
theorem dX2_readOn_62 : decode cX2_readOn 62 = .ok (.bipush (-4), 2) := dk_16 252 (dk_at dksX2_readOn_2 16 rfl rfl)
theorem dX2_readOn_64 : decode cX2_readOn 64 = .ok (.if_icmp .ne 18, 3) := dk_160 0 18 (dk_at dksX2_readOn_2 18 rfl rfl)
theorem dX2_readOn_67 : decode cX2_readOn 67 = .ok (.iload_n 2, 1) := dk_28 (dk_at dksX2_readOn_2 21 rfl rfl)
theorem dX2_readOn_68 : decode cX2_readOn 68 = .ok (.aload_n 0, 1) := dk_42 (dk_at dksX2_readOn_2 22 rfl rfl)
theorem dX2_readOn_69 : decode cX2_readOn 69 = .ok (.getfield 354, 3) := dk_180 1 98 (dk_at dksX2_readOn_3 0 rfl rfl)
theorem dX2_readOn_72 : decode cX2_readOn 72 = .ok (.ishr, 1) := dk_122 (dk_at dksX2_readOn_3 3 rfl rfl)
theorem dX2_readOn_73 : decode cX2_readOn 73 = .ok (.iconst 1, 1) := dk_4 (dk_at dksX2_readOn_3 4 rfl rfl)
theorem dX2_readOn_74 : decode cX2_readOn 74 = .ok (.iand, 1) := dk_126 (dk_at dksX2_readOn_3 5 rfl rfl)
theorem dX2_readOn_75 : decode cX2_readOn 75 = .ok (.ifCond .ne 7, 3) := dk_154 0 7 (dk_at dksX2_readOn_3 6 rfl rfl)
theorem dX2_readOn_78 : decode cX2_readOn 78 = .ok (.iconst 1, 1) := dk_4 (dk_at dksX2_readOn_3 9 rfl rfl)
theorem dX2_readOn_79 : decode cX2_readOn 79 = .ok (.goto 4, 3) := dk_167 0 4 (dk_at dksX2_readOn_3 10 rfl rfl)
theorem dX2_readOn_82 : decode cX2_readOn 82 = .ok (.iconst 0, 1) := dk_3 (dk_at dksX2_readOn_3 13 rfl rfl)
theorem dX2_readOn_83 : decode cX2_readOn 83 = .ok (.iconst 3, 1) := dk_6 (dk_at dksX2_readOn_3 14 rfl rfl)
theorem dX2_readOn_84 : decode cX2_readOn 84 = .ok (.invokevirtual 357, 3) := dk_182 1 101 (dk_at dksX2_readOn_3 15 rfl rfl)
theorem dX2_readOn_87 : decode cX2_readOn 87 = .ok (.iload_n 2, 1) := dk_28 (dk_at dksX2_readOn_3 18 rfl rfl)
theorem dX2_readOn_88 : decode cX2_readOn 88 = .ok (.aload_n 0, 1) := dk_42 (dk_at dksX2_readOn_3 19 rfl rfl)
theorem dX2_readOn_89 : decode cX2_readOn 89 = .ok (.getfield 326, 3) := dk_180 1 70 (dk_at dksX2_readOn_3 20 rfl rfl)
theorem dX2_readOn_92 : decode cX2_readOn 92 = .ok (.ifCond .ne 12, 3) := dk_154 0 12 (dk_at dksX2_readOn_4 0 rfl rfl)
theorem dX2_readOn_95 : decode cX2_readOn 95 = .ok (.iconst 1, 1) := dk_4 (dk_at dksX2_readOn_4 3 rfl rfl)
theorem dX2_readOn_96 : decode cX2_readOn 96 = .ok (.aload_n 0, 1) := dk_42 (dk_at dksX2_readOn_4 4 rfl rfl)
theorem dX2_readOn_97 : decode cX2_readOn 97 = .ok (.getfield 354, 3) := dk_180 1 98 (dk_at dksX2_readOn_4 5 rfl rfl)
theorem dX2_readOn_100 : decode cX2_readOn 100 = .ok (.ishl, 1) := dk_120 (dk_at dksX2_readOn_4 8 rfl rfl)
theorem dX2_readOn_101 : decode cX2_readOn 101 = .ok (.goto 4, 3) := dk_167 0 4 (dk_at dksX2_readOn_4 9 rfl rfl)
theorem dX2_readOn_104 : decode cX2_readOn 104 = .ok (.iconst 0, 1) := dk_3 (dk_at dksX2_readOn_4 12 rfl rfl)
theorem dX2_readOn_105 : decode cX2_readOn 105 = .ok (.ior, 1) := dk_128 (dk_at dksX2_readOn_4 13 rfl rfl)
theorem dX2_readOn_106 : decode cX2_readOn 106 = .ok (.istore_n 2, 1) := dk_61 (dk_at dksX2_readOn_4 14 rfl rfl)
theorem dX2_readOn_107 : decode cX2_readOn 107 = .ok (.aload_n 0, 1) := dk_42 (dk_at dksX2_readOn_4 15 rfl rfl)
theorem dX2_readOn_108 : decode cX2_readOn 108 = .ok (.invokevirtual 365, 3) := dk_182 1 109 (dk_at dksX2_readOn_4 16 rfl rfl)
theorem dX2_readOn_111 : decode cX2_readOn 111 = .ok (.aload_n 0, 1) := dk_42 (dk_at dksX2_readOn_4 19 rfl rfl)
theorem dX2_readOn_112 : decode cX2_readOn 112 = .ok (.getfield 344, 3) := dk_180 1 88 (dk_at dksX2_readOn_4 20 rfl rfl)
theorem dX2_readOn_115 : decode cX2_readOn 115 = .ok (.iconst 4, 1) := dk_7 (dk_at dksX2_readOn_4 23 rfl rfl)
theorem dX2_readOn_116 : decode cX2_readOn 116 = .ok (.if_icmp .ne 7, 3) := dk_160 0 7 (dk_at dksX2_readOn_5 0 rfl rfl)
theorem dX2_readOn_119 : decode cX2_readOn 119 = .ok (.iconst 1, 1) := dk_4 (dk_at dksX2_readOn_5 3 rfl rfl)
theorem dX2_readOn_120 : decode cX2_readOn 120 = .ok (.goto 4, 3) := dk_167 0 4 (dk_at dksX2_readOn_5 4 rfl rfl)
theorem dX2_readOn_123 : decode cX2_readOn 123 = .ok (.iconst 0, 1) := dk_3 (dk_at dksX2_readOn_5 7 rfl rfl)
theorem dX2_readOn_124 : decode cX2_readOn 124 = .ok (.istore_n 3, 1) := dk_62 (dk_at dksX2_readOn_5 8 rfl rfl)
theorem dX2_readOn_125 : decode cX2_readOn 125 = .ok (.goto (-121), 3) := dk_167 255 135 (dk_at dksX2_readOn_5 9 rfl rfl)
theorem dX2_readOn_128 : decode cX2_readOn 128 = .ok (.iload_n 2, 1) := dk_28 (dk_at dksX2_readOn_5 12 rfl rfl)
theorem dX2_readOn_129 : decode cX2_readOn 129 = .ok (.ireturn, 1) := dk_172 (dk_at dksX2_readOn_5 13 rfl rfl)
abbrev cX2_fault : ByteArray := prog_11_method_74_code
def yX2_fault : MethodName := ⟨RX2, "fault", "()I"⟩
theorem dX2_fault_0 : decode cX2_fault 0 = .ok (.aload_n 0, 1) := by decide +kernel
theorem dX2_fault_1 : decode cX2_fault 1 = .ok (.getfield 326, 3) := by decide +kernel
theorem dX2_fault_4 : decode cX2_fault 4 = .ok (.ireturn, 1) := by decide +kernel
abbrev cX2_claim : ByteArray := prog_11_method_78_code
def yX2_claim : MethodName := ⟨RX2, "claim", "(II)I"⟩
def dkwX2_claim_6 : List UInt8 := [132, 5, 1, 167, 255, 212, 21, 4, 172, 42, 27, 182, 1, 130, 172]
abbrev dktX2_claim_6 : List UInt8 := dkwX2_claim_6 ++ []
def dkwX2_claim_5 : List UInt8 := [4, 160, 0, 19, 42, 180, 0, 117, 21, 5, 46, 16, 252, 160, 0, 7, 4, 167, 0, 4, 3, 96, 54, 4]
abbrev dktX2_claim_5 : List UInt8 := dkwX2_claim_5 ++ dktX2_claim_6
def dkwX2_claim_4 : List UInt8 := [54, 4, 27, 4, 96, 54, 5, 21, 5, 42, 180, 1, 118, 162, 0, 41, 21, 4, 29, 21, 5, 122, 4, 126]
abbrev dktX2_claim_4 : List UInt8 := dkwX2_claim_4 ++ dktX2_claim_5
def dkwX2_claim_3 : List UInt8 := [180, 0, 117, 27, 46, 172, 42, 180, 0, 120, 27, 46, 184, 0, 146, 172, 42, 27, 182, 1, 127, 62, 3]
abbrev dktX2_claim_3 : List UInt8 := dkwX2_claim_3 ++ dktX2_claim_4
def dkwX2_claim_2 : List UInt8 := [42, 180, 0, 108, 27, 46, 172, 42, 180, 0, 111, 27, 46, 172, 42, 180, 0, 114, 27, 46, 172, 42]
abbrev dktX2_claim_2 : List UInt8 := dkwX2_claim_2 ++ dktX2_claim_3
def dkwX2_claim_1 : List UInt8 := [170, 0, 0, 0, 139, 0, 0, 0, 0, 0, 0, 0, 5, 0, 0, 0, 37, 0, 0, 0, 44, 0, 0, 0, 51, 0, 0, 0, 58, 0, 0, 0, 65, 0, 0, 0, 75]
abbrev dktX2_claim_1 : List UInt8 := dkwX2_claim_1 ++ dktX2_claim_2
def dkwX2_claim_0 : List UInt8 := [42, 27, 182, 1, 124, 153, 0, 15, 28, 133, 9, 20, 1, 21, 184, 0, 138, 154, 0, 5, 2, 172, 28]
abbrev dktX2_claim_0 : List UInt8 := dkwX2_claim_0 ++ dktX2_claim_1
theorem dksX2_claim_0 : cX2_claim.data.toList.drop 0 = dktX2_claim_0 := by decide +kernel
theorem dksX2_claim_1 : cX2_claim.data.toList.drop 23 = dktX2_claim_1 := dk_seg dksX2_claim_0 23 rfl rfl
theorem dksX2_claim_2 : cX2_claim.data.toList.drop 60 = dktX2_claim_2 := dk_seg dksX2_claim_1 37 rfl rfl
theorem dksX2_claim_3 : cX2_claim.data.toList.drop 82 = dktX2_claim_3 := dk_seg dksX2_claim_2 22 rfl rfl
theorem dksX2_claim_4 : cX2_claim.data.toList.drop 105 = dktX2_claim_4 := dk_seg dksX2_claim_3 23 rfl rfl
theorem dksX2_claim_5 : cX2_claim.data.toList.drop 129 = dktX2_claim_5 := dk_seg dksX2_claim_4 24 rfl rfl
theorem dksX2_claim_6 : cX2_claim.data.toList.drop 153 = dktX2_claim_6 := dk_seg dksX2_claim_5 24 rfl rfl
theorem dX2_claim_0 : decode cX2_claim 0 = .ok (.aload_n 0, 1) := dk_42 (dk_at dksX2_claim_0 0 rfl rfl)
theorem dX2_claim_1 : decode cX2_claim 1 = .ok (.iload_n 1, 1) := dk_27 (dk_at dksX2_claim_0 1 rfl rfl)
theorem dX2_claim_2 : decode cX2_claim 2 = .ok (.invokevirtual 380, 3) := dk_182 1 124 (dk_at dksX2_claim_0 2 rfl rfl)
theorem dX2_claim_5 : decode cX2_claim 5 = .ok (.ifCond .eq 15, 3) := dk_153 0 15 (dk_at dksX2_claim_0 5 rfl rfl)
theorem dX2_claim_8 : decode cX2_claim 8 = .ok (.iload_n 2, 1) := dk_28 (dk_at dksX2_claim_0 8 rfl rfl)
theorem dX2_claim_9 : decode cX2_claim 9 = .ok (.i2l, 1) := dk_133 (dk_at dksX2_claim_0 9 rfl rfl)
theorem dX2_claim_10 : decode cX2_claim 10 = .ok (.lconst 0, 1) := dk_9 (dk_at dksX2_claim_0 10 rfl rfl)
theorem dX2_claim_11 : decode cX2_claim 11 = .ok (.ldc2_w 277, 3) := dk_20 1 21 (dk_at dksX2_claim_0 11 rfl rfl)
theorem dX2_claim_14 : decode cX2_claim 14 = .ok (.invokestatic 138, 3) := dk_184 0 138 (dk_at dksX2_claim_0 14 rfl rfl)
theorem dX2_claim_17 : decode cX2_claim 17 = .ok (.ifCond .ne 5, 3) := dk_154 0 5 (dk_at dksX2_claim_0 17 rfl rfl)
theorem dX2_claim_20 : decode cX2_claim 20 = .ok (.iconst (-1), 1) := dk_2 (dk_at dksX2_claim_0 20 rfl rfl)
theorem dX2_claim_21 : decode cX2_claim 21 = .ok (.ireturn, 1) := dk_172 (dk_at dksX2_claim_0 21 rfl rfl)
theorem dX2_claim_22 : decode cX2_claim 22 = .ok (.iload_n 2, 1) := dk_28 (dk_at dksX2_claim_0 22 rfl rfl)
theorem dX2_claim_23 : decode cX2_claim 23 = .ok (.tableswitch 139 0 5 #[37, 44, 51, 58, 65, 75], 37) := by decide +kernel
theorem dX2_claim_60 : decode cX2_claim 60 = .ok (.aload_n 0, 1) := dk_42 (dk_at dksX2_claim_2 0 rfl rfl)
theorem dX2_claim_61 : decode cX2_claim 61 = .ok (.getfield 108, 3) := dk_180 0 108 (dk_at dksX2_claim_2 1 rfl rfl)
theorem dX2_claim_64 : decode cX2_claim 64 = .ok (.iload_n 1, 1) := dk_27 (dk_at dksX2_claim_2 4 rfl rfl)
theorem dX2_claim_65 : decode cX2_claim 65 = .ok (.iaload, 1) := dk_46 (dk_at dksX2_claim_2 5 rfl rfl)
theorem dX2_claim_66 : decode cX2_claim 66 = .ok (.ireturn, 1) := dk_172 (dk_at dksX2_claim_2 6 rfl rfl)
theorem dX2_claim_67 : decode cX2_claim 67 = .ok (.aload_n 0, 1) := dk_42 (dk_at dksX2_claim_2 7 rfl rfl)
theorem dX2_claim_68 : decode cX2_claim 68 = .ok (.getfield 111, 3) := dk_180 0 111 (dk_at dksX2_claim_2 8 rfl rfl)
theorem dX2_claim_71 : decode cX2_claim 71 = .ok (.iload_n 1, 1) := dk_27 (dk_at dksX2_claim_2 11 rfl rfl)
theorem dX2_claim_72 : decode cX2_claim 72 = .ok (.iaload, 1) := dk_46 (dk_at dksX2_claim_2 12 rfl rfl)
theorem dX2_claim_73 : decode cX2_claim 73 = .ok (.ireturn, 1) := dk_172 (dk_at dksX2_claim_2 13 rfl rfl)
theorem dX2_claim_74 : decode cX2_claim 74 = .ok (.aload_n 0, 1) := dk_42 (dk_at dksX2_claim_2 14 rfl rfl)
theorem dX2_claim_75 : decode cX2_claim 75 = .ok (.getfield 114, 3) := dk_180 0 114 (dk_at dksX2_claim_2 15 rfl rfl)
theorem dX2_claim_78 : decode cX2_claim 78 = .ok (.iload_n 1, 1) := dk_27 (dk_at dksX2_claim_2 18 rfl rfl)
theorem dX2_claim_79 : decode cX2_claim 79 = .ok (.iaload, 1) := dk_46 (dk_at dksX2_claim_2 19 rfl rfl)
theorem dX2_claim_80 : decode cX2_claim 80 = .ok (.ireturn, 1) := dk_172 (dk_at dksX2_claim_2 20 rfl rfl)
theorem dX2_claim_81 : decode cX2_claim 81 = .ok (.aload_n 0, 1) := dk_42 (dk_at dksX2_claim_2 21 rfl rfl)
theorem dX2_claim_82 : decode cX2_claim 82 = .ok (.getfield 117, 3) := dk_180 0 117 (dk_at dksX2_claim_3 0 rfl rfl)
theorem dX2_claim_85 : decode cX2_claim 85 = .ok (.iload_n 1, 1) := dk_27 (dk_at dksX2_claim_3 3 rfl rfl)
theorem dX2_claim_86 : decode cX2_claim 86 = .ok (.iaload, 1) := dk_46 (dk_at dksX2_claim_3 4 rfl rfl)
theorem dX2_claim_87 : decode cX2_claim 87 = .ok (.ireturn, 1) := dk_172 (dk_at dksX2_claim_3 5 rfl rfl)
theorem dX2_claim_88 : decode cX2_claim 88 = .ok (.aload_n 0, 1) := dk_42 (dk_at dksX2_claim_3 6 rfl rfl)
theorem dX2_claim_89 : decode cX2_claim 89 = .ok (.getfield 120, 3) := dk_180 0 120 (dk_at dksX2_claim_3 7 rfl rfl)
theorem dX2_claim_92 : decode cX2_claim 92 = .ok (.iload_n 1, 1) := dk_27 (dk_at dksX2_claim_3 10 rfl rfl)
theorem dX2_claim_93 : decode cX2_claim 93 = .ok (.iaload, 1) := dk_46 (dk_at dksX2_claim_3 11 rfl rfl)
theorem dX2_claim_94 : decode cX2_claim 94 = .ok (.invokestatic 146, 3) := dk_184 0 146 (dk_at dksX2_claim_3 12 rfl rfl)
theorem dX2_claim_97 : decode cX2_claim 97 = .ok (.ireturn, 1) := dk_172 (dk_at dksX2_claim_3 15 rfl rfl)
theorem dX2_claim_98 : decode cX2_claim 98 = .ok (.aload_n 0, 1) := dk_42 (dk_at dksX2_claim_3 16 rfl rfl)
theorem dX2_claim_99 : decode cX2_claim 99 = .ok (.iload_n 1, 1) := dk_27 (dk_at dksX2_claim_3 17 rfl rfl)
theorem dX2_claim_100 : decode cX2_claim 100 = .ok (.invokevirtual 383, 3) := dk_182 1 127 (dk_at dksX2_claim_3 18 rfl rfl)
theorem dX2_claim_103 : decode cX2_claim 103 = .ok (.istore_n 3, 1) := dk_62 (dk_at dksX2_claim_3 21 rfl rfl)
theorem dX2_claim_104 : decode cX2_claim 104 = .ok (.iconst 0, 1) := dk_3 (dk_at dksX2_claim_3 22 rfl rfl)
theorem dX2_claim_105 : decode cX2_claim 105 = .ok (.istore 4, 2) := dk_54 4 (dk_at dksX2_claim_4 0 rfl rfl)
theorem dX2_claim_107 : decode cX2_claim 107 = .ok (.iload_n 1, 1) := dk_27 (dk_at dksX2_claim_4 2 rfl rfl)
theorem dX2_claim_108 : decode cX2_claim 108 = .ok (.iconst 1, 1) := dk_4 (dk_at dksX2_claim_4 3 rfl rfl)
theorem dX2_claim_109 : decode cX2_claim 109 = .ok (.iadd, 1) := dk_96 (dk_at dksX2_claim_4 4 rfl rfl)
theorem dX2_claim_110 : decode cX2_claim 110 = .ok (.istore 5, 2) := dk_54 5 (dk_at dksX2_claim_4 5 rfl rfl)
theorem dX2_claim_112 : decode cX2_claim 112 = .ok (.iload 5, 2) := dk_21 5 (dk_at dksX2_claim_4 7 rfl rfl)
theorem dX2_claim_114 : decode cX2_claim 114 = .ok (.aload_n 0, 1) := dk_42 (dk_at dksX2_claim_4 9 rfl rfl)
theorem dX2_claim_115 : decode cX2_claim 115 = .ok (.getfield 374, 3) := dk_180 1 118 (dk_at dksX2_claim_4 10 rfl rfl)
theorem dX2_claim_118 : decode cX2_claim 118 = .ok (.if_icmp .ge 41, 3) := dk_162 0 41 (dk_at dksX2_claim_4 13 rfl rfl)
theorem dX2_claim_121 : decode cX2_claim 121 = .ok (.iload 4, 2) := dk_21 4 (dk_at dksX2_claim_4 16 rfl rfl)
theorem dX2_claim_123 : decode cX2_claim 123 = .ok (.iload_n 3, 1) := dk_29 (dk_at dksX2_claim_4 18 rfl rfl)
theorem dX2_claim_124 : decode cX2_claim 124 = .ok (.iload 5, 2) := dk_21 5 (dk_at dksX2_claim_4 19 rfl rfl)
theorem dX2_claim_126 : decode cX2_claim 126 = .ok (.ishr, 1) := dk_122 (dk_at dksX2_claim_4 21 rfl rfl)
theorem dX2_claim_127 : decode cX2_claim 127 = .ok (.iconst 1, 1) := dk_4 (dk_at dksX2_claim_4 22 rfl rfl)
theorem dX2_claim_128 : decode cX2_claim 128 = .ok (.iand, 1) := dk_126 (dk_at dksX2_claim_4 23 rfl rfl)
theorem dX2_claim_129 : decode cX2_claim 129 = .ok (.iconst 1, 1) := dk_4 (dk_at dksX2_claim_5 0 rfl rfl)
theorem dX2_claim_130 : decode cX2_claim 130 = .ok (.if_icmp .ne 19, 3) := dk_160 0 19 (dk_at dksX2_claim_5 1 rfl rfl)
theorem dX2_claim_133 : decode cX2_claim 133 = .ok (.aload_n 0, 1) := dk_42 (dk_at dksX2_claim_5 4 rfl rfl)
theorem dX2_claim_134 : decode cX2_claim 134 = .ok (.getfield 117, 3) := dk_180 0 117 (dk_at dksX2_claim_5 5 rfl rfl)
theorem dX2_claim_137 : decode cX2_claim 137 = .ok (.iload 5, 2) := dk_21 5 (dk_at dksX2_claim_5 8 rfl rfl)
theorem dX2_claim_139 : decode cX2_claim 139 = .ok (.iaload, 1) := dk_46 (dk_at dksX2_claim_5 10 rfl rfl)
theorem dX2_claim_140 : decode cX2_claim 140 = .ok (.bipush (-4), 2) := dk_16 252 (dk_at dksX2_claim_5 11 rfl rfl)
theorem dX2_claim_142 : decode cX2_claim 142 = .ok (.if_icmp .ne 7, 3) := dk_160 0 7 (dk_at dksX2_claim_5 13 rfl rfl)
theorem dX2_claim_145 : decode cX2_claim 145 = .ok (.iconst 1, 1) := dk_4 (dk_at dksX2_claim_5 16 rfl rfl)
theorem dX2_claim_146 : decode cX2_claim 146 = .ok (.goto 4, 3) := dk_167 0 4 (dk_at dksX2_claim_5 17 rfl rfl)
theorem dX2_claim_149 : decode cX2_claim 149 = .ok (.iconst 0, 1) := dk_3 (dk_at dksX2_claim_5 20 rfl rfl)
theorem dX2_claim_150 : decode cX2_claim 150 = .ok (.iadd, 1) := dk_96 (dk_at dksX2_claim_5 21 rfl rfl)
theorem dX2_claim_151 : decode cX2_claim 151 = .ok (.istore 4, 2) := dk_54 4 (dk_at dksX2_claim_5 22 rfl rfl)
theorem dX2_claim_153 : decode cX2_claim 153 = .ok (.iinc 5 1, 3) := dk_132 5 1 (dk_at dksX2_claim_6 0 rfl rfl)
theorem dX2_claim_156 : decode cX2_claim 156 = .ok (.goto (-44), 3) := dk_167 255 212 (dk_at dksX2_claim_6 3 rfl rfl)
theorem dX2_claim_159 : decode cX2_claim 159 = .ok (.iload 4, 2) := dk_21 4 (dk_at dksX2_claim_6 6 rfl rfl)
theorem dX2_claim_161 : decode cX2_claim 161 = .ok (.ireturn, 1) := dk_172 (dk_at dksX2_claim_6 8 rfl rfl)
theorem dX2_claim_162 : decode cX2_claim 162 = .ok (.aload_n 0, 1) := dk_42 (dk_at dksX2_claim_6 9 rfl rfl)
theorem dX2_claim_163 : decode cX2_claim 163 = .ok (.iload_n 1, 1) := dk_27 (dk_at dksX2_claim_6 10 rfl rfl)
theorem dX2_claim_164 : decode cX2_claim 164 = .ok (.invokevirtual 386, 3) := dk_182 1 130 (dk_at dksX2_claim_6 11 rfl rfl)
theorem dX2_claim_167 : decode cX2_claim 167 = .ok (.ireturn, 1) := dk_172 (dk_at dksX2_claim_6 14 rfl rfl)
abbrev cX2_isClaim : ByteArray := prog_11_method_75_code
def yX2_isClaim : MethodName := ⟨RX2, "isClaim", "(I)Z"⟩
def dkwX2_isClaim_0 : List UInt8 := [27, 133, 9, 42, 180, 1, 118, 4, 100, 133, 184, 0, 138, 172]
abbrev dktX2_isClaim_0 : List UInt8 := dkwX2_isClaim_0 ++ []
theorem dksX2_isClaim_0 : cX2_isClaim.data.toList.drop 0 = dktX2_isClaim_0 := by decide +kernel
theorem dX2_isClaim_0 : decode cX2_isClaim 0 = .ok (.iload_n 1, 1) := dk_27 (dk_at dksX2_isClaim_0 0 rfl rfl)
theorem dX2_isClaim_1 : decode cX2_isClaim 1 = .ok (.i2l, 1) := dk_133 (dk_at dksX2_isClaim_0 1 rfl rfl)
theorem dX2_isClaim_2 : decode cX2_isClaim 2 = .ok (.lconst 0, 1) := dk_9 (dk_at dksX2_isClaim_0 2 rfl rfl)
theorem dX2_isClaim_3 : decode cX2_isClaim 3 = .ok (.aload_n 0, 1) := dk_42 (dk_at dksX2_isClaim_0 3 rfl rfl)
theorem dX2_isClaim_4 : decode cX2_isClaim 4 = .ok (.getfield 374, 3) := dk_180 1 118 (dk_at dksX2_isClaim_0 4 rfl rfl)
theorem dX2_isClaim_7 : decode cX2_isClaim 7 = .ok (.iconst 1, 1) := dk_4 (dk_at dksX2_isClaim_0 7 rfl rfl)
theorem dX2_isClaim_8 : decode cX2_isClaim 8 = .ok (.isub, 1) := dk_100 (dk_at dksX2_isClaim_0 8 rfl rfl)
theorem dX2_isClaim_9 : decode cX2_isClaim 9 = .ok (.i2l, 1) := dk_133 (dk_at dksX2_isClaim_0 9 rfl rfl)
theorem dX2_isClaim_10 : decode cX2_isClaim 10 = .ok (.invokestatic 138, 3) := dk_184 0 138 (dk_at dksX2_isClaim_0 10 rfl rfl)
theorem dX2_isClaim_13 : decode cX2_isClaim 13 = .ok (.ireturn, 1) := dk_172 (dk_at dksX2_isClaim_0 13 rfl rfl)
abbrev cX2_hanging : ByteArray := prog_11_method_76_code
def yX2_hanging : MethodName := ⟨RX2, "hanging", "(I)I"⟩
def dkwX2_hanging_1 : List UInt8 := [126, 153, 0, 9, 4, 29, 120, 167, 0, 4, 3, 128, 61, 132, 3, 1, 167, 255, 224, 28, 172]
abbrev dktX2_hanging_1 : List UInt8 := dkwX2_hanging_1 ++ []
def dkwX2_hanging_0 : List UInt8 := [4, 27, 120, 61, 27, 4, 96, 62, 29, 42, 180, 1, 118, 162, 0, 30, 28, 42, 180, 0, 120, 29, 46, 28]
abbrev dktX2_hanging_0 : List UInt8 := dkwX2_hanging_0 ++ dktX2_hanging_1
theorem dksX2_hanging_0 : cX2_hanging.data.toList.drop 0 = dktX2_hanging_0 := by decide +kernel
theorem dksX2_hanging_1 : cX2_hanging.data.toList.drop 24 = dktX2_hanging_1 := dk_seg dksX2_hanging_0 24 rfl rfl
theorem dX2_hanging_0 : decode cX2_hanging 0 = .ok (.iconst 1, 1) := dk_4 (dk_at dksX2_hanging_0 0 rfl rfl)
theorem dX2_hanging_1 : decode cX2_hanging 1 = .ok (.iload_n 1, 1) := dk_27 (dk_at dksX2_hanging_0 1 rfl rfl)
theorem dX2_hanging_2 : decode cX2_hanging 2 = .ok (.ishl, 1) := dk_120 (dk_at dksX2_hanging_0 2 rfl rfl)
theorem dX2_hanging_3 : decode cX2_hanging 3 = .ok (.istore_n 2, 1) := dk_61 (dk_at dksX2_hanging_0 3 rfl rfl)
theorem dX2_hanging_4 : decode cX2_hanging 4 = .ok (.iload_n 1, 1) := dk_27 (dk_at dksX2_hanging_0 4 rfl rfl)
theorem dX2_hanging_5 : decode cX2_hanging 5 = .ok (.iconst 1, 1) := dk_4 (dk_at dksX2_hanging_0 5 rfl rfl)
theorem dX2_hanging_6 : decode cX2_hanging 6 = .ok (.iadd, 1) := dk_96 (dk_at dksX2_hanging_0 6 rfl rfl)
theorem dX2_hanging_7 : decode cX2_hanging 7 = .ok (.istore_n 3, 1) := dk_62 (dk_at dksX2_hanging_0 7 rfl rfl)
theorem dX2_hanging_8 : decode cX2_hanging 8 = .ok (.iload_n 3, 1) := dk_29 (dk_at dksX2_hanging_0 8 rfl rfl)
theorem dX2_hanging_9 : decode cX2_hanging 9 = .ok (.aload_n 0, 1) := dk_42 (dk_at dksX2_hanging_0 9 rfl rfl)
theorem dX2_hanging_10 : decode cX2_hanging 10 = .ok (.getfield 374, 3) := dk_180 1 118 (dk_at dksX2_hanging_0 10 rfl rfl)
theorem dX2_hanging_13 : decode cX2_hanging 13 = .ok (.if_icmp .ge 30, 3) := dk_162 0 30 (dk_at dksX2_hanging_0 13 rfl rfl)
theorem dX2_hanging_16 : decode cX2_hanging 16 = .ok (.iload_n 2, 1) := dk_28 (dk_at dksX2_hanging_0 16 rfl rfl)
theorem dX2_hanging_17 : decode cX2_hanging 17 = .ok (.aload_n 0, 1) := dk_42 (dk_at dksX2_hanging_0 17 rfl rfl)
theorem dX2_hanging_18 : decode cX2_hanging 18 = .ok (.getfield 120, 3) := dk_180 0 120 (dk_at dksX2_hanging_0 18 rfl rfl)
theorem dX2_hanging_21 : decode cX2_hanging 21 = .ok (.iload_n 3, 1) := dk_29 (dk_at dksX2_hanging_0 21 rfl rfl)
theorem dX2_hanging_22 : decode cX2_hanging 22 = .ok (.iaload, 1) := dk_46 (dk_at dksX2_hanging_0 22 rfl rfl)
theorem dX2_hanging_23 : decode cX2_hanging 23 = .ok (.iload_n 2, 1) := dk_28 (dk_at dksX2_hanging_0 23 rfl rfl)
theorem dX2_hanging_24 : decode cX2_hanging 24 = .ok (.iand, 1) := dk_126 (dk_at dksX2_hanging_1 0 rfl rfl)
theorem dX2_hanging_25 : decode cX2_hanging 25 = .ok (.ifCond .eq 9, 3) := dk_153 0 9 (dk_at dksX2_hanging_1 1 rfl rfl)
theorem dX2_hanging_28 : decode cX2_hanging 28 = .ok (.iconst 1, 1) := dk_4 (dk_at dksX2_hanging_1 4 rfl rfl)
theorem dX2_hanging_29 : decode cX2_hanging 29 = .ok (.iload_n 3, 1) := dk_29 (dk_at dksX2_hanging_1 5 rfl rfl)
theorem dX2_hanging_30 : decode cX2_hanging 30 = .ok (.ishl, 1) := dk_120 (dk_at dksX2_hanging_1 6 rfl rfl)
theorem dX2_hanging_31 : decode cX2_hanging 31 = .ok (.goto 4, 3) := dk_167 0 4 (dk_at dksX2_hanging_1 7 rfl rfl)
theorem dX2_hanging_34 : decode cX2_hanging 34 = .ok (.iconst 0, 1) := dk_3 (dk_at dksX2_hanging_1 10 rfl rfl)
theorem dX2_hanging_35 : decode cX2_hanging 35 = .ok (.ior, 1) := dk_128 (dk_at dksX2_hanging_1 11 rfl rfl)
theorem dX2_hanging_36 : decode cX2_hanging 36 = .ok (.istore_n 2, 1) := dk_61 (dk_at dksX2_hanging_1 12 rfl rfl)
theorem dX2_hanging_37 : decode cX2_hanging 37 = .ok (.iinc 3 1, 3) := dk_132 3 1 (dk_at dksX2_hanging_1 13 rfl rfl)
theorem dX2_hanging_40 : decode cX2_hanging 40 = .ok (.goto (-32), 3) := dk_167 255 224 (dk_at dksX2_hanging_1 16 rfl rfl)
theorem dX2_hanging_43 : decode cX2_hanging 43 = .ok (.iload_n 2, 1) := dk_28 (dk_at dksX2_hanging_1 19 rfl rfl)
theorem dX2_hanging_44 : decode cX2_hanging 44 = .ok (.ireturn, 1) := dk_172 (dk_at dksX2_hanging_1 20 rfl rfl)
abbrev cX2_deepOf : ByteArray := prog_11_method_77_code
def yX2_deepOf : MethodName := ⟨RX2, "deepOf", "(I)I"⟩
def dkwX2_deepOf_4 : List UInt8 := [172]
abbrev dktX2_deepOf_4 : List UInt8 := dkwX2_deepOf_4 ++ []
def dkwX2_deepOf_3 : List UInt8 := [180, 0, 123, 28, 46, 79, 132, 3, 1, 167, 255, 194, 132, 2, 1, 167, 255, 174, 42, 180, 0, 123, 27, 46]
abbrev dktX2_deepOf_3 : List UInt8 := dkwX2_deepOf_3 ++ dktX2_deepOf_4
def dkwX2_deepOf_2 : List UInt8 := [4, 96, 42, 180, 0, 123, 28, 46, 164, 0, 14, 42, 180, 0, 123, 29, 46, 4, 96, 167, 0, 9, 42]
abbrev dktX2_deepOf_2 : List UInt8 := dkwX2_deepOf_2 ++ dktX2_deepOf_3
def dkwX2_deepOf_1 : List UInt8 := [180, 0, 123, 28, 42, 180, 0, 120, 28, 46, 29, 122, 4, 126, 4, 160, 0, 31, 42, 180, 0, 123, 29, 46]
abbrev dktX2_deepOf_1 : List UInt8 := dkwX2_deepOf_1 ++ dktX2_deepOf_2
def dkwX2_deepOf_0 : List UInt8 := [3, 61, 28, 27, 163, 0, 83, 42, 180, 0, 123, 28, 3, 79, 3, 62, 29, 28, 162, 0, 63, 42]
abbrev dktX2_deepOf_0 : List UInt8 := dkwX2_deepOf_0 ++ dktX2_deepOf_1
theorem dksX2_deepOf_0 : cX2_deepOf.data.toList.drop 0 = dktX2_deepOf_0 := by decide +kernel
theorem dksX2_deepOf_1 : cX2_deepOf.data.toList.drop 22 = dktX2_deepOf_1 := dk_seg dksX2_deepOf_0 22 rfl rfl
theorem dksX2_deepOf_2 : cX2_deepOf.data.toList.drop 46 = dktX2_deepOf_2 := dk_seg dksX2_deepOf_1 24 rfl rfl
theorem dksX2_deepOf_3 : cX2_deepOf.data.toList.drop 69 = dktX2_deepOf_3 := dk_seg dksX2_deepOf_2 23 rfl rfl
theorem dksX2_deepOf_4 : cX2_deepOf.data.toList.drop 93 = dktX2_deepOf_4 := dk_seg dksX2_deepOf_3 24 rfl rfl
theorem dX2_deepOf_0 : decode cX2_deepOf 0 = .ok (.iconst 0, 1) := dk_3 (dk_at dksX2_deepOf_0 0 rfl rfl)
theorem dX2_deepOf_1 : decode cX2_deepOf 1 = .ok (.istore_n 2, 1) := dk_61 (dk_at dksX2_deepOf_0 1 rfl rfl)
theorem dX2_deepOf_2 : decode cX2_deepOf 2 = .ok (.iload_n 2, 1) := dk_28 (dk_at dksX2_deepOf_0 2 rfl rfl)
theorem dX2_deepOf_3 : decode cX2_deepOf 3 = .ok (.iload_n 1, 1) := dk_27 (dk_at dksX2_deepOf_0 3 rfl rfl)
theorem dX2_deepOf_4 : decode cX2_deepOf 4 = .ok (.if_icmp .gt 83, 3) := dk_163 0 83 (dk_at dksX2_deepOf_0 4 rfl rfl)
theorem dX2_deepOf_7 : decode cX2_deepOf 7 = .ok (.aload_n 0, 1) := dk_42 (dk_at dksX2_deepOf_0 7 rfl rfl)
theorem dX2_deepOf_8 : decode cX2_deepOf 8 = .ok (.getfield 123, 3) := dk_180 0 123 (dk_at dksX2_deepOf_0 8 rfl rfl)
theorem dX2_deepOf_11 : decode cX2_deepOf 11 = .ok (.iload_n 2, 1) := dk_28 (dk_at dksX2_deepOf_0 11 rfl rfl)
theorem dX2_deepOf_12 : decode cX2_deepOf 12 = .ok (.iconst 0, 1) := dk_3 (dk_at dksX2_deepOf_0 12 rfl rfl)
theorem dX2_deepOf_13 : decode cX2_deepOf 13 = .ok (.iastore, 1) := dk_79 (dk_at dksX2_deepOf_0 13 rfl rfl)
theorem dX2_deepOf_14 : decode cX2_deepOf 14 = .ok (.iconst 0, 1) := dk_3 (dk_at dksX2_deepOf_0 14 rfl rfl)
theorem dX2_deepOf_15 : decode cX2_deepOf 15 = .ok (.istore_n 3, 1) := dk_62 (dk_at dksX2_deepOf_0 15 rfl rfl)
theorem dX2_deepOf_16 : decode cX2_deepOf 16 = .ok (.iload_n 3, 1) := dk_29 (dk_at dksX2_deepOf_0 16 rfl rfl)
theorem dX2_deepOf_17 : decode cX2_deepOf 17 = .ok (.iload_n 2, 1) := dk_28 (dk_at dksX2_deepOf_0 17 rfl rfl)
theorem dX2_deepOf_18 : decode cX2_deepOf 18 = .ok (.if_icmp .ge 63, 3) := dk_162 0 63 (dk_at dksX2_deepOf_0 18 rfl rfl)
theorem dX2_deepOf_21 : decode cX2_deepOf 21 = .ok (.aload_n 0, 1) := dk_42 (dk_at dksX2_deepOf_0 21 rfl rfl)
theorem dX2_deepOf_22 : decode cX2_deepOf 22 = .ok (.getfield 123, 3) := dk_180 0 123 (dk_at dksX2_deepOf_1 0 rfl rfl)
theorem dX2_deepOf_25 : decode cX2_deepOf 25 = .ok (.iload_n 2, 1) := dk_28 (dk_at dksX2_deepOf_1 3 rfl rfl)
theorem dX2_deepOf_26 : decode cX2_deepOf 26 = .ok (.aload_n 0, 1) := dk_42 (dk_at dksX2_deepOf_1 4 rfl rfl)
theorem dX2_deepOf_27 : decode cX2_deepOf 27 = .ok (.getfield 120, 3) := dk_180 0 120 (dk_at dksX2_deepOf_1 5 rfl rfl)
theorem dX2_deepOf_30 : decode cX2_deepOf 30 = .ok (.iload_n 2, 1) := dk_28 (dk_at dksX2_deepOf_1 8 rfl rfl)
theorem dX2_deepOf_31 : decode cX2_deepOf 31 = .ok (.iaload, 1) := dk_46 (dk_at dksX2_deepOf_1 9 rfl rfl)
theorem dX2_deepOf_32 : decode cX2_deepOf 32 = .ok (.iload_n 3, 1) := dk_29 (dk_at dksX2_deepOf_1 10 rfl rfl)
theorem dX2_deepOf_33 : decode cX2_deepOf 33 = .ok (.ishr, 1) := dk_122 (dk_at dksX2_deepOf_1 11 rfl rfl)
theorem dX2_deepOf_34 : decode cX2_deepOf 34 = .ok (.iconst 1, 1) := dk_4 (dk_at dksX2_deepOf_1 12 rfl rfl)
theorem dX2_deepOf_35 : decode cX2_deepOf 35 = .ok (.iand, 1) := dk_126 (dk_at dksX2_deepOf_1 13 rfl rfl)
theorem dX2_deepOf_36 : decode cX2_deepOf 36 = .ok (.iconst 1, 1) := dk_4 (dk_at dksX2_deepOf_1 14 rfl rfl)
theorem dX2_deepOf_37 : decode cX2_deepOf 37 = .ok (.if_icmp .ne 31, 3) := dk_160 0 31 (dk_at dksX2_deepOf_1 15 rfl rfl)
theorem dX2_deepOf_40 : decode cX2_deepOf 40 = .ok (.aload_n 0, 1) := dk_42 (dk_at dksX2_deepOf_1 18 rfl rfl)
theorem dX2_deepOf_41 : decode cX2_deepOf 41 = .ok (.getfield 123, 3) := dk_180 0 123 (dk_at dksX2_deepOf_1 19 rfl rfl)
theorem dX2_deepOf_44 : decode cX2_deepOf 44 = .ok (.iload_n 3, 1) := dk_29 (dk_at dksX2_deepOf_1 22 rfl rfl)
theorem dX2_deepOf_45 : decode cX2_deepOf 45 = .ok (.iaload, 1) := dk_46 (dk_at dksX2_deepOf_1 23 rfl rfl)
theorem dX2_deepOf_46 : decode cX2_deepOf 46 = .ok (.iconst 1, 1) := dk_4 (dk_at dksX2_deepOf_2 0 rfl rfl)
theorem dX2_deepOf_47 : decode cX2_deepOf 47 = .ok (.iadd, 1) := dk_96 (dk_at dksX2_deepOf_2 1 rfl rfl)
theorem dX2_deepOf_48 : decode cX2_deepOf 48 = .ok (.aload_n 0, 1) := dk_42 (dk_at dksX2_deepOf_2 2 rfl rfl)
theorem dX2_deepOf_49 : decode cX2_deepOf 49 = .ok (.getfield 123, 3) := dk_180 0 123 (dk_at dksX2_deepOf_2 3 rfl rfl)
theorem dX2_deepOf_52 : decode cX2_deepOf 52 = .ok (.iload_n 2, 1) := dk_28 (dk_at dksX2_deepOf_2 6 rfl rfl)
theorem dX2_deepOf_53 : decode cX2_deepOf 53 = .ok (.iaload, 1) := dk_46 (dk_at dksX2_deepOf_2 7 rfl rfl)
theorem dX2_deepOf_54 : decode cX2_deepOf 54 = .ok (.if_icmp .le 14, 3) := dk_164 0 14 (dk_at dksX2_deepOf_2 8 rfl rfl)
theorem dX2_deepOf_57 : decode cX2_deepOf 57 = .ok (.aload_n 0, 1) := dk_42 (dk_at dksX2_deepOf_2 11 rfl rfl)
theorem dX2_deepOf_58 : decode cX2_deepOf 58 = .ok (.getfield 123, 3) := dk_180 0 123 (dk_at dksX2_deepOf_2 12 rfl rfl)
theorem dX2_deepOf_61 : decode cX2_deepOf 61 = .ok (.iload_n 3, 1) := dk_29 (dk_at dksX2_deepOf_2 15 rfl rfl)
theorem dX2_deepOf_62 : decode cX2_deepOf 62 = .ok (.iaload, 1) := dk_46 (dk_at dksX2_deepOf_2 16 rfl rfl)
theorem dX2_deepOf_63 : decode cX2_deepOf 63 = .ok (.iconst 1, 1) := dk_4 (dk_at dksX2_deepOf_2 17 rfl rfl)
theorem dX2_deepOf_64 : decode cX2_deepOf 64 = .ok (.iadd, 1) := dk_96 (dk_at dksX2_deepOf_2 18 rfl rfl)
theorem dX2_deepOf_65 : decode cX2_deepOf 65 = .ok (.goto 9, 3) := dk_167 0 9 (dk_at dksX2_deepOf_2 19 rfl rfl)
theorem dX2_deepOf_68 : decode cX2_deepOf 68 = .ok (.aload_n 0, 1) := dk_42 (dk_at dksX2_deepOf_2 22 rfl rfl)
theorem dX2_deepOf_69 : decode cX2_deepOf 69 = .ok (.getfield 123, 3) := dk_180 0 123 (dk_at dksX2_deepOf_3 0 rfl rfl)
theorem dX2_deepOf_72 : decode cX2_deepOf 72 = .ok (.iload_n 2, 1) := dk_28 (dk_at dksX2_deepOf_3 3 rfl rfl)
theorem dX2_deepOf_73 : decode cX2_deepOf 73 = .ok (.iaload, 1) := dk_46 (dk_at dksX2_deepOf_3 4 rfl rfl)
theorem dX2_deepOf_74 : decode cX2_deepOf 74 = .ok (.iastore, 1) := dk_79 (dk_at dksX2_deepOf_3 5 rfl rfl)
theorem dX2_deepOf_75 : decode cX2_deepOf 75 = .ok (.iinc 3 1, 3) := dk_132 3 1 (dk_at dksX2_deepOf_3 6 rfl rfl)
theorem dX2_deepOf_78 : decode cX2_deepOf 78 = .ok (.goto (-62), 3) := dk_167 255 194 (dk_at dksX2_deepOf_3 9 rfl rfl)
theorem dX2_deepOf_81 : decode cX2_deepOf 81 = .ok (.iinc 2 1, 3) := dk_132 2 1 (dk_at dksX2_deepOf_3 12 rfl rfl)
theorem dX2_deepOf_84 : decode cX2_deepOf 84 = .ok (.goto (-82), 3) := dk_167 255 174 (dk_at dksX2_deepOf_3 15 rfl rfl)
theorem dX2_deepOf_87 : decode cX2_deepOf 87 = .ok (.aload_n 0, 1) := dk_42 (dk_at dksX2_deepOf_3 18 rfl rfl)
theorem dX2_deepOf_88 : decode cX2_deepOf 88 = .ok (.getfield 123, 3) := dk_180 0 123 (dk_at dksX2_deepOf_3 19 rfl rfl)
theorem dX2_deepOf_91 : decode cX2_deepOf 91 = .ok (.iload_n 1, 1) := dk_27 (dk_at dksX2_deepOf_3 22 rfl rfl)
theorem dX2_deepOf_92 : decode cX2_deepOf 92 = .ok (.iaload, 1) := dk_46 (dk_at dksX2_deepOf_3 23 rfl rfl)
theorem dX2_deepOf_93 : decode cX2_deepOf 93 = .ok (.ireturn, 1) := dk_172 (dk_at dksX2_deepOf_4 0 rfl rfl)
abbrev cX2_withdraw : ByteArray := prog_11_method_79_code
def yX2_withdraw : MethodName := ⟨RX2, "withdraw", "(I)I"⟩
def dkwX2_withdraw_3 : List UInt8 := [42, 180, 1, 115, 79, 132, 3, 1, 132, 4, 1, 167, 255, 208, 29, 172]
abbrev dktX2_withdraw_3 : List UInt8 := dkwX2_withdraw_3 ++ []
def dkwX2_withdraw_2 : List UInt8 := [4, 126, 4, 160, 0, 29, 42, 180, 0, 117, 21, 4, 46, 16, 252, 160, 0, 17, 42, 180, 0, 117, 21, 4]
abbrev dktX2_withdraw_2 : List UInt8 := dkwX2_withdraw_2 ++ dktX2_withdraw_3
def dkwX2_withdraw_1 : List UInt8 := [42, 27, 182, 1, 127, 61, 3, 62, 3, 54, 4, 21, 4, 42, 180, 1, 118, 162, 0, 45, 28, 21, 4, 122]
abbrev dktX2_withdraw_1 : List UInt8 := dkwX2_withdraw_1 ++ dktX2_withdraw_2
def dkwX2_withdraw_0 : List UInt8 := [42, 27, 182, 1, 124, 154, 0, 5, 2, 172, 42, 180, 0, 117, 27, 46, 16, 252, 159, 0, 6, 16, 254, 172]
abbrev dktX2_withdraw_0 : List UInt8 := dkwX2_withdraw_0 ++ dktX2_withdraw_1
theorem dksX2_withdraw_0 : cX2_withdraw.data.toList.drop 0 = dktX2_withdraw_0 := by decide +kernel
theorem dksX2_withdraw_1 : cX2_withdraw.data.toList.drop 24 = dktX2_withdraw_1 := dk_seg dksX2_withdraw_0 24 rfl rfl
theorem dksX2_withdraw_2 : cX2_withdraw.data.toList.drop 48 = dktX2_withdraw_2 := dk_seg dksX2_withdraw_1 24 rfl rfl
theorem dksX2_withdraw_3 : cX2_withdraw.data.toList.drop 72 = dktX2_withdraw_3 := dk_seg dksX2_withdraw_2 24 rfl rfl
theorem dX2_withdraw_0 : decode cX2_withdraw 0 = .ok (.aload_n 0, 1) := dk_42 (dk_at dksX2_withdraw_0 0 rfl rfl)
theorem dX2_withdraw_1 : decode cX2_withdraw 1 = .ok (.iload_n 1, 1) := dk_27 (dk_at dksX2_withdraw_0 1 rfl rfl)
theorem dX2_withdraw_2 : decode cX2_withdraw 2 = .ok (.invokevirtual 380, 3) := dk_182 1 124 (dk_at dksX2_withdraw_0 2 rfl rfl)
theorem dX2_withdraw_5 : decode cX2_withdraw 5 = .ok (.ifCond .ne 5, 3) := dk_154 0 5 (dk_at dksX2_withdraw_0 5 rfl rfl)
theorem dX2_withdraw_8 : decode cX2_withdraw 8 = .ok (.iconst (-1), 1) := dk_2 (dk_at dksX2_withdraw_0 8 rfl rfl)
theorem dX2_withdraw_9 : decode cX2_withdraw 9 = .ok (.ireturn, 1) := dk_172 (dk_at dksX2_withdraw_0 9 rfl rfl)
theorem dX2_withdraw_10 : decode cX2_withdraw 10 = .ok (.aload_n 0, 1) := dk_42 (dk_at dksX2_withdraw_0 10 rfl rfl)
theorem dX2_withdraw_11 : decode cX2_withdraw 11 = .ok (.getfield 117, 3) := dk_180 0 117 (dk_at dksX2_withdraw_0 11 rfl rfl)
theorem dX2_withdraw_14 : decode cX2_withdraw 14 = .ok (.iload_n 1, 1) := dk_27 (dk_at dksX2_withdraw_0 14 rfl rfl)
theorem dX2_withdraw_15 : decode cX2_withdraw 15 = .ok (.iaload, 1) := dk_46 (dk_at dksX2_withdraw_0 15 rfl rfl)
theorem dX2_withdraw_16 : decode cX2_withdraw 16 = .ok (.bipush (-4), 2) := dk_16 252 (dk_at dksX2_withdraw_0 16 rfl rfl)
theorem dX2_withdraw_18 : decode cX2_withdraw 18 = .ok (.if_icmp .eq 6, 3) := dk_159 0 6 (dk_at dksX2_withdraw_0 18 rfl rfl)
theorem dX2_withdraw_21 : decode cX2_withdraw 21 = .ok (.bipush (-2), 2) := dk_16 254 (dk_at dksX2_withdraw_0 21 rfl rfl)
theorem dX2_withdraw_23 : decode cX2_withdraw 23 = .ok (.ireturn, 1) := dk_172 (dk_at dksX2_withdraw_0 23 rfl rfl)
theorem dX2_withdraw_24 : decode cX2_withdraw 24 = .ok (.aload_n 0, 1) := dk_42 (dk_at dksX2_withdraw_1 0 rfl rfl)
theorem dX2_withdraw_25 : decode cX2_withdraw 25 = .ok (.iload_n 1, 1) := dk_27 (dk_at dksX2_withdraw_1 1 rfl rfl)
theorem dX2_withdraw_26 : decode cX2_withdraw 26 = .ok (.invokevirtual 383, 3) := dk_182 1 127 (dk_at dksX2_withdraw_1 2 rfl rfl)
theorem dX2_withdraw_29 : decode cX2_withdraw 29 = .ok (.istore_n 2, 1) := dk_61 (dk_at dksX2_withdraw_1 5 rfl rfl)
theorem dX2_withdraw_30 : decode cX2_withdraw 30 = .ok (.iconst 0, 1) := dk_3 (dk_at dksX2_withdraw_1 6 rfl rfl)
theorem dX2_withdraw_31 : decode cX2_withdraw 31 = .ok (.istore_n 3, 1) := dk_62 (dk_at dksX2_withdraw_1 7 rfl rfl)
theorem dX2_withdraw_32 : decode cX2_withdraw 32 = .ok (.iconst 0, 1) := dk_3 (dk_at dksX2_withdraw_1 8 rfl rfl)
theorem dX2_withdraw_33 : decode cX2_withdraw 33 = .ok (.istore 4, 2) := dk_54 4 (dk_at dksX2_withdraw_1 9 rfl rfl)
theorem dX2_withdraw_35 : decode cX2_withdraw 35 = .ok (.iload 4, 2) := dk_21 4 (dk_at dksX2_withdraw_1 11 rfl rfl)
theorem dX2_withdraw_37 : decode cX2_withdraw 37 = .ok (.aload_n 0, 1) := dk_42 (dk_at dksX2_withdraw_1 13 rfl rfl)
theorem dX2_withdraw_38 : decode cX2_withdraw 38 = .ok (.getfield 374, 3) := dk_180 1 118 (dk_at dksX2_withdraw_1 14 rfl rfl)
theorem dX2_withdraw_41 : decode cX2_withdraw 41 = .ok (.if_icmp .ge 45, 3) := dk_162 0 45 (dk_at dksX2_withdraw_1 17 rfl rfl)
theorem dX2_withdraw_44 : decode cX2_withdraw 44 = .ok (.iload_n 2, 1) := dk_28 (dk_at dksX2_withdraw_1 20 rfl rfl)
theorem dX2_withdraw_45 : decode cX2_withdraw 45 = .ok (.iload 4, 2) := dk_21 4 (dk_at dksX2_withdraw_1 21 rfl rfl)
theorem dX2_withdraw_47 : decode cX2_withdraw 47 = .ok (.ishr, 1) := dk_122 (dk_at dksX2_withdraw_1 23 rfl rfl)
theorem dX2_withdraw_48 : decode cX2_withdraw 48 = .ok (.iconst 1, 1) := dk_4 (dk_at dksX2_withdraw_2 0 rfl rfl)
theorem dX2_withdraw_49 : decode cX2_withdraw 49 = .ok (.iand, 1) := dk_126 (dk_at dksX2_withdraw_2 1 rfl rfl)
theorem dX2_withdraw_50 : decode cX2_withdraw 50 = .ok (.iconst 1, 1) := dk_4 (dk_at dksX2_withdraw_2 2 rfl rfl)
theorem dX2_withdraw_51 : decode cX2_withdraw 51 = .ok (.if_icmp .ne 29, 3) := dk_160 0 29 (dk_at dksX2_withdraw_2 3 rfl rfl)
theorem dX2_withdraw_54 : decode cX2_withdraw 54 = .ok (.aload_n 0, 1) := dk_42 (dk_at dksX2_withdraw_2 6 rfl rfl)
theorem dX2_withdraw_55 : decode cX2_withdraw 55 = .ok (.getfield 117, 3) := dk_180 0 117 (dk_at dksX2_withdraw_2 7 rfl rfl)
theorem dX2_withdraw_58 : decode cX2_withdraw 58 = .ok (.iload 4, 2) := dk_21 4 (dk_at dksX2_withdraw_2 10 rfl rfl)
theorem dX2_withdraw_60 : decode cX2_withdraw 60 = .ok (.iaload, 1) := dk_46 (dk_at dksX2_withdraw_2 12 rfl rfl)
theorem dX2_withdraw_61 : decode cX2_withdraw 61 = .ok (.bipush (-4), 2) := dk_16 252 (dk_at dksX2_withdraw_2 13 rfl rfl)
theorem dX2_withdraw_63 : decode cX2_withdraw 63 = .ok (.if_icmp .ne 17, 3) := dk_160 0 17 (dk_at dksX2_withdraw_2 15 rfl rfl)
theorem dX2_withdraw_66 : decode cX2_withdraw 66 = .ok (.aload_n 0, 1) := dk_42 (dk_at dksX2_withdraw_2 18 rfl rfl)
theorem dX2_withdraw_67 : decode cX2_withdraw 67 = .ok (.getfield 117, 3) := dk_180 0 117 (dk_at dksX2_withdraw_2 19 rfl rfl)
theorem dX2_withdraw_70 : decode cX2_withdraw 70 = .ok (.iload 4, 2) := dk_21 4 (dk_at dksX2_withdraw_2 22 rfl rfl)
theorem dX2_withdraw_72 : decode cX2_withdraw 72 = .ok (.aload_n 0, 1) := dk_42 (dk_at dksX2_withdraw_3 0 rfl rfl)
theorem dX2_withdraw_73 : decode cX2_withdraw 73 = .ok (.getfield 371, 3) := dk_180 1 115 (dk_at dksX2_withdraw_3 1 rfl rfl)
theorem dX2_withdraw_76 : decode cX2_withdraw 76 = .ok (.iastore, 1) := dk_79 (dk_at dksX2_withdraw_3 4 rfl rfl)
theorem dX2_withdraw_77 : decode cX2_withdraw 77 = .ok (.iinc 3 1, 3) := dk_132 3 1 (dk_at dksX2_withdraw_3 5 rfl rfl)
theorem dX2_withdraw_80 : decode cX2_withdraw 80 = .ok (.iinc 4 1, 3) := dk_132 4 1 (dk_at dksX2_withdraw_3 8 rfl rfl)
theorem dX2_withdraw_83 : decode cX2_withdraw 83 = .ok (.goto (-48), 3) := dk_167 255 208 (dk_at dksX2_withdraw_3 11 rfl rfl)
theorem dX2_withdraw_86 : decode cX2_withdraw 86 = .ok (.iload_n 3, 1) := dk_29 (dk_at dksX2_withdraw_3 14 rfl rfl)
theorem dX2_withdraw_87 : decode cX2_withdraw 87 = .ok (.ireturn, 1) := dk_172 (dk_at dksX2_withdraw_3 15 rfl rfl)
abbrev cX2_day : ByteArray := prog_11_method_80_code
def yX2_day : MethodName := ⟨RX2, "day", "(I)I"⟩
def dkwX2_day_1 : List UInt8 := [27, 181, 1, 115, 28, 172]
abbrev dktX2_day_1 : List UInt8 := dkwX2_day_1 ++ []
def dkwX2_day_0 : List UInt8 := [27, 133, 42, 180, 1, 115, 133, 20, 1, 133, 184, 0, 138, 154, 0, 5, 2, 172, 42, 180, 1, 115, 61, 42]
abbrev dktX2_day_0 : List UInt8 := dkwX2_day_0 ++ dktX2_day_1
theorem dksX2_day_0 : cX2_day.data.toList.drop 0 = dktX2_day_0 := by decide +kernel
theorem dksX2_day_1 : cX2_day.data.toList.drop 24 = dktX2_day_1 := dk_seg dksX2_day_0 24 rfl rfl
theorem dX2_day_0 : decode cX2_day 0 = .ok (.iload_n 1, 1) := dk_27 (dk_at dksX2_day_0 0 rfl rfl)
theorem dX2_day_1 : decode cX2_day 1 = .ok (.i2l, 1) := dk_133 (dk_at dksX2_day_0 1 rfl rfl)
theorem dX2_day_2 : decode cX2_day 2 = .ok (.aload_n 0, 1) := dk_42 (dk_at dksX2_day_0 2 rfl rfl)
theorem dX2_day_3 : decode cX2_day 3 = .ok (.getfield 371, 3) := dk_180 1 115 (dk_at dksX2_day_0 3 rfl rfl)
theorem dX2_day_6 : decode cX2_day 6 = .ok (.i2l, 1) := dk_133 (dk_at dksX2_day_0 6 rfl rfl)
theorem dX2_day_7 : decode cX2_day 7 = .ok (.ldc2_w 389, 3) := dk_20 1 133 (dk_at dksX2_day_0 7 rfl rfl)
theorem dX2_day_10 : decode cX2_day 10 = .ok (.invokestatic 138, 3) := dk_184 0 138 (dk_at dksX2_day_0 10 rfl rfl)
theorem dX2_day_13 : decode cX2_day 13 = .ok (.ifCond .ne 5, 3) := dk_154 0 5 (dk_at dksX2_day_0 13 rfl rfl)
theorem dX2_day_16 : decode cX2_day 16 = .ok (.iconst (-1), 1) := dk_2 (dk_at dksX2_day_0 16 rfl rfl)
theorem dX2_day_17 : decode cX2_day 17 = .ok (.ireturn, 1) := dk_172 (dk_at dksX2_day_0 17 rfl rfl)
theorem dX2_day_18 : decode cX2_day 18 = .ok (.aload_n 0, 1) := dk_42 (dk_at dksX2_day_0 18 rfl rfl)
theorem dX2_day_19 : decode cX2_day 19 = .ok (.getfield 371, 3) := dk_180 1 115 (dk_at dksX2_day_0 19 rfl rfl)
theorem dX2_day_22 : decode cX2_day 22 = .ok (.istore_n 2, 1) := dk_61 (dk_at dksX2_day_0 22 rfl rfl)
theorem dX2_day_23 : decode cX2_day 23 = .ok (.aload_n 0, 1) := dk_42 (dk_at dksX2_day_0 23 rfl rfl)
theorem dX2_day_24 : decode cX2_day 24 = .ok (.iload_n 1, 1) := dk_27 (dk_at dksX2_day_1 0 rfl rfl)
theorem dX2_day_25 : decode cX2_day 25 = .ok (.putfield 371, 3) := dk_181 1 115 (dk_at dksX2_day_1 1 rfl rfl)
theorem dX2_day_28 : decode cX2_day 28 = .ok (.iload_n 2, 1) := dk_28 (dk_at dksX2_day_1 4 rfl rfl)
theorem dX2_day_29 : decode cX2_day 29 = .ok (.ireturn, 1) := dk_172 (dk_at dksX2_day_1 5 rfl rfl)
abbrev cX2_known : ByteArray := prog_11_method_81_code
def yX2_known : MethodName := ⟨RX2, "known", "(II)I"⟩
def dkwX2_known_5 : List UInt8 := [167, 0, 15, 28, 4, 160, 0, 8, 21, 4, 167, 0, 5, 21, 5, 172]
abbrev dktX2_known_5 : List UInt8 := dkwX2_known_5 ++ []
def dkwX2_known_4 : List UInt8 := [167, 0, 5, 21, 4, 54, 4, 21, 6, 54, 5, 132, 6, 1, 167, 255, 187, 28, 154, 0, 7, 29]
abbrev dktX2_known_4 : List UInt8 := dkwX2_known_4 ++ dktX2_known_5
def dkwX2_known_3 : List UInt8 := [180, 0, 117, 21, 6, 46, 27, 164, 0, 26, 132, 3, 1, 21, 4, 16, 252, 160, 0, 8, 21, 6]
abbrev dktX2_known_3 : List UInt8 := dkwX2_known_3 ++ dktX2_known_4
def dkwX2_known_2 : List UInt8 := [42, 180, 0, 114, 21, 6, 46, 27, 163, 0, 49, 42, 180, 0, 117, 21, 6, 46, 16, 252, 159, 0, 14, 42]
abbrev dktX2_known_2 : List UInt8 := dkwX2_known_2 ++ dktX2_known_3
def dkwX2_known_1 : List UInt8 := [2, 172, 3, 62, 16, 252, 54, 4, 16, 252, 54, 5, 3, 54, 6, 21, 6, 42, 180, 1, 118, 162, 0, 66]
abbrev dktX2_known_1 : List UInt8 := dkwX2_known_1 ++ dktX2_known_2
def dkwX2_known_0 : List UInt8 := [27, 133, 9, 20, 1, 133, 184, 0, 138, 153, 0, 15, 28, 133, 9, 20, 0, 198, 184, 0, 138, 154, 0, 5]
abbrev dktX2_known_0 : List UInt8 := dkwX2_known_0 ++ dktX2_known_1
theorem dksX2_known_0 : cX2_known.data.toList.drop 0 = dktX2_known_0 := by decide +kernel
theorem dksX2_known_1 : cX2_known.data.toList.drop 24 = dktX2_known_1 := dk_seg dksX2_known_0 24 rfl rfl
theorem dksX2_known_2 : cX2_known.data.toList.drop 48 = dktX2_known_2 := dk_seg dksX2_known_1 24 rfl rfl
theorem dksX2_known_3 : cX2_known.data.toList.drop 72 = dktX2_known_3 := dk_seg dksX2_known_2 24 rfl rfl
theorem dksX2_known_4 : cX2_known.data.toList.drop 94 = dktX2_known_4 := dk_seg dksX2_known_3 22 rfl rfl
theorem dksX2_known_5 : cX2_known.data.toList.drop 116 = dktX2_known_5 := dk_seg dksX2_known_4 22 rfl rfl
theorem dX2_known_0 : decode cX2_known 0 = .ok (.iload_n 1, 1) := dk_27 (dk_at dksX2_known_0 0 rfl rfl)
theorem dX2_known_1 : decode cX2_known 1 = .ok (.i2l, 1) := dk_133 (dk_at dksX2_known_0 1 rfl rfl)
theorem dX2_known_2 : decode cX2_known 2 = .ok (.lconst 0, 1) := dk_9 (dk_at dksX2_known_0 2 rfl rfl)
theorem dX2_known_3 : decode cX2_known 3 = .ok (.ldc2_w 389, 3) := dk_20 1 133 (dk_at dksX2_known_0 3 rfl rfl)
theorem dX2_known_6 : decode cX2_known 6 = .ok (.invokestatic 138, 3) := dk_184 0 138 (dk_at dksX2_known_0 6 rfl rfl)
theorem dX2_known_9 : decode cX2_known 9 = .ok (.ifCond .eq 15, 3) := dk_153 0 15 (dk_at dksX2_known_0 9 rfl rfl)
theorem dX2_known_12 : decode cX2_known 12 = .ok (.iload_n 2, 1) := dk_28 (dk_at dksX2_known_0 12 rfl rfl)
theorem dX2_known_13 : decode cX2_known 13 = .ok (.i2l, 1) := dk_133 (dk_at dksX2_known_0 13 rfl rfl)
theorem dX2_known_14 : decode cX2_known 14 = .ok (.lconst 0, 1) := dk_9 (dk_at dksX2_known_0 14 rfl rfl)
theorem dX2_known_15 : decode cX2_known 15 = .ok (.ldc2_w 198, 3) := dk_20 0 198 (dk_at dksX2_known_0 15 rfl rfl)
theorem dX2_known_18 : decode cX2_known 18 = .ok (.invokestatic 138, 3) := dk_184 0 138 (dk_at dksX2_known_0 18 rfl rfl)
theorem dX2_known_21 : decode cX2_known 21 = .ok (.ifCond .ne 5, 3) := dk_154 0 5 (dk_at dksX2_known_0 21 rfl rfl)
theorem dX2_known_24 : decode cX2_known 24 = .ok (.iconst (-1), 1) := dk_2 (dk_at dksX2_known_1 0 rfl rfl)
theorem dX2_known_25 : decode cX2_known 25 = .ok (.ireturn, 1) := dk_172 (dk_at dksX2_known_1 1 rfl rfl)
theorem dX2_known_26 : decode cX2_known 26 = .ok (.iconst 0, 1) := dk_3 (dk_at dksX2_known_1 2 rfl rfl)
theorem dX2_known_27 : decode cX2_known 27 = .ok (.istore_n 3, 1) := dk_62 (dk_at dksX2_known_1 3 rfl rfl)
theorem dX2_known_28 : decode cX2_known 28 = .ok (.bipush (-4), 2) := dk_16 252 (dk_at dksX2_known_1 4 rfl rfl)
theorem dX2_known_30 : decode cX2_known 30 = .ok (.istore 4, 2) := dk_54 4 (dk_at dksX2_known_1 6 rfl rfl)
theorem dX2_known_32 : decode cX2_known 32 = .ok (.bipush (-4), 2) := dk_16 252 (dk_at dksX2_known_1 8 rfl rfl)
theorem dX2_known_34 : decode cX2_known 34 = .ok (.istore 5, 2) := dk_54 5 (dk_at dksX2_known_1 10 rfl rfl)
theorem dX2_known_36 : decode cX2_known 36 = .ok (.iconst 0, 1) := dk_3 (dk_at dksX2_known_1 12 rfl rfl)
theorem dX2_known_37 : decode cX2_known 37 = .ok (.istore 6, 2) := dk_54 6 (dk_at dksX2_known_1 13 rfl rfl)
theorem dX2_known_39 : decode cX2_known 39 = .ok (.iload 6, 2) := dk_21 6 (dk_at dksX2_known_1 15 rfl rfl)
theorem dX2_known_41 : decode cX2_known 41 = .ok (.aload_n 0, 1) := dk_42 (dk_at dksX2_known_1 17 rfl rfl)
theorem dX2_known_42 : decode cX2_known 42 = .ok (.getfield 374, 3) := dk_180 1 118 (dk_at dksX2_known_1 18 rfl rfl)
theorem dX2_known_45 : decode cX2_known 45 = .ok (.if_icmp .ge 66, 3) := dk_162 0 66 (dk_at dksX2_known_1 21 rfl rfl)
theorem dX2_known_48 : decode cX2_known 48 = .ok (.aload_n 0, 1) := dk_42 (dk_at dksX2_known_2 0 rfl rfl)
theorem dX2_known_49 : decode cX2_known 49 = .ok (.getfield 114, 3) := dk_180 0 114 (dk_at dksX2_known_2 1 rfl rfl)
theorem dX2_known_52 : decode cX2_known 52 = .ok (.iload 6, 2) := dk_21 6 (dk_at dksX2_known_2 4 rfl rfl)
theorem dX2_known_54 : decode cX2_known 54 = .ok (.iaload, 1) := dk_46 (dk_at dksX2_known_2 6 rfl rfl)
theorem dX2_known_55 : decode cX2_known 55 = .ok (.iload_n 1, 1) := dk_27 (dk_at dksX2_known_2 7 rfl rfl)
theorem dX2_known_56 : decode cX2_known 56 = .ok (.if_icmp .gt 49, 3) := dk_163 0 49 (dk_at dksX2_known_2 8 rfl rfl)
theorem dX2_known_59 : decode cX2_known 59 = .ok (.aload_n 0, 1) := dk_42 (dk_at dksX2_known_2 11 rfl rfl)
theorem dX2_known_60 : decode cX2_known 60 = .ok (.getfield 117, 3) := dk_180 0 117 (dk_at dksX2_known_2 12 rfl rfl)
theorem dX2_known_63 : decode cX2_known 63 = .ok (.iload 6, 2) := dk_21 6 (dk_at dksX2_known_2 15 rfl rfl)
theorem dX2_known_65 : decode cX2_known 65 = .ok (.iaload, 1) := dk_46 (dk_at dksX2_known_2 17 rfl rfl)
theorem dX2_known_66 : decode cX2_known 66 = .ok (.bipush (-4), 2) := dk_16 252 (dk_at dksX2_known_2 18 rfl rfl)
theorem dX2_known_68 : decode cX2_known 68 = .ok (.if_icmp .eq 14, 3) := dk_159 0 14 (dk_at dksX2_known_2 20 rfl rfl)
theorem dX2_known_71 : decode cX2_known 71 = .ok (.aload_n 0, 1) := dk_42 (dk_at dksX2_known_2 23 rfl rfl)
theorem dX2_known_72 : decode cX2_known 72 = .ok (.getfield 117, 3) := dk_180 0 117 (dk_at dksX2_known_3 0 rfl rfl)
theorem dX2_known_75 : decode cX2_known 75 = .ok (.iload 6, 2) := dk_21 6 (dk_at dksX2_known_3 3 rfl rfl)
theorem dX2_known_77 : decode cX2_known 77 = .ok (.iaload, 1) := dk_46 (dk_at dksX2_known_3 5 rfl rfl)
theorem dX2_known_78 : decode cX2_known 78 = .ok (.iload_n 1, 1) := dk_27 (dk_at dksX2_known_3 6 rfl rfl)
theorem dX2_known_79 : decode cX2_known 79 = .ok (.if_icmp .le 26, 3) := dk_164 0 26 (dk_at dksX2_known_3 7 rfl rfl)
theorem dX2_known_82 : decode cX2_known 82 = .ok (.iinc 3 1, 3) := dk_132 3 1 (dk_at dksX2_known_3 10 rfl rfl)
theorem dX2_known_85 : decode cX2_known 85 = .ok (.iload 4, 2) := dk_21 4 (dk_at dksX2_known_3 13 rfl rfl)
theorem dX2_known_87 : decode cX2_known 87 = .ok (.bipush (-4), 2) := dk_16 252 (dk_at dksX2_known_3 15 rfl rfl)
theorem dX2_known_89 : decode cX2_known 89 = .ok (.if_icmp .ne 8, 3) := dk_160 0 8 (dk_at dksX2_known_3 17 rfl rfl)
theorem dX2_known_92 : decode cX2_known 92 = .ok (.iload 6, 2) := dk_21 6 (dk_at dksX2_known_3 20 rfl rfl)
theorem dX2_known_94 : decode cX2_known 94 = .ok (.goto 5, 3) := dk_167 0 5 (dk_at dksX2_known_4 0 rfl rfl)
theorem dX2_known_97 : decode cX2_known 97 = .ok (.iload 4, 2) := dk_21 4 (dk_at dksX2_known_4 3 rfl rfl)
theorem dX2_known_99 : decode cX2_known 99 = .ok (.istore 4, 2) := dk_54 4 (dk_at dksX2_known_4 5 rfl rfl)
theorem dX2_known_101 : decode cX2_known 101 = .ok (.iload 6, 2) := dk_21 6 (dk_at dksX2_known_4 7 rfl rfl)
theorem dX2_known_103 : decode cX2_known 103 = .ok (.istore 5, 2) := dk_54 5 (dk_at dksX2_known_4 9 rfl rfl)
theorem dX2_known_105 : decode cX2_known 105 = .ok (.iinc 6 1, 3) := dk_132 6 1 (dk_at dksX2_known_4 11 rfl rfl)
theorem dX2_known_108 : decode cX2_known 108 = .ok (.goto (-69), 3) := dk_167 255 187 (dk_at dksX2_known_4 14 rfl rfl)
theorem dX2_known_111 : decode cX2_known 111 = .ok (.iload_n 2, 1) := dk_28 (dk_at dksX2_known_4 17 rfl rfl)
theorem dX2_known_112 : decode cX2_known 112 = .ok (.ifCond .ne 7, 3) := dk_154 0 7 (dk_at dksX2_known_4 18 rfl rfl)
theorem dX2_known_115 : decode cX2_known 115 = .ok (.iload_n 3, 1) := dk_29 (dk_at dksX2_known_4 21 rfl rfl)
theorem dX2_known_116 : decode cX2_known 116 = .ok (.goto 15, 3) := dk_167 0 15 (dk_at dksX2_known_5 0 rfl rfl)
theorem dX2_known_119 : decode cX2_known 119 = .ok (.iload_n 2, 1) := dk_28 (dk_at dksX2_known_5 3 rfl rfl)
theorem dX2_known_120 : decode cX2_known 120 = .ok (.iconst 1, 1) := dk_4 (dk_at dksX2_known_5 4 rfl rfl)
theorem dX2_known_121 : decode cX2_known 121 = .ok (.if_icmp .ne 8, 3) := dk_160 0 8 (dk_at dksX2_known_5 5 rfl rfl)
theorem dX2_known_124 : decode cX2_known 124 = .ok (.iload 4, 2) := dk_21 4 (dk_at dksX2_known_5 8 rfl rfl)
theorem dX2_known_126 : decode cX2_known 126 = .ok (.goto 5, 3) := dk_167 0 5 (dk_at dksX2_known_5 10 rfl rfl)
theorem dX2_known_129 : decode cX2_known 129 = .ok (.iload 5, 2) := dk_21 5 (dk_at dksX2_known_5 13 rfl rfl)
theorem dX2_known_131 : decode cX2_known 131 = .ok (.ireturn, 1) := dk_172 (dk_at dksX2_known_5 15 rfl rfl)
abbrev cX2_sheet : ByteArray := prog_11_method_83_code
def yX2_sheet : MethodName := ⟨RX2, "sheet", "(III)I"⟩
def dkwX2_sheet_2 : List UInt8 := [180, 0, 132, 16, 60, 27, 104, 21, 4, 96, 3, 79, 132, 4, 1, 167, 255, 233, 4, 172]
abbrev dktX2_sheet_2 : List UInt8 := dkwX2_sheet_2 ++ []
def dkwX2_sheet_1 : List UInt8 := [180, 0, 126, 27, 28, 79, 42, 180, 0, 129, 27, 29, 79, 3, 54, 4, 21, 4, 16, 60, 162, 0, 22, 42]
abbrev dktX2_sheet_1 : List UInt8 := dkwX2_sheet_1 ++ dktX2_sheet_2
def dkwX2_sheet_0 : List UInt8 := [27, 28, 184, 1, 135, 153, 0, 9, 29, 16, 60, 164, 0, 5, 2, 172, 29, 156, 0, 6, 16, 242, 172, 42]
abbrev dktX2_sheet_0 : List UInt8 := dkwX2_sheet_0 ++ dktX2_sheet_1
theorem dksX2_sheet_0 : cX2_sheet.data.toList.drop 0 = dktX2_sheet_0 := by decide +kernel
theorem dksX2_sheet_1 : cX2_sheet.data.toList.drop 24 = dktX2_sheet_1 := dk_seg dksX2_sheet_0 24 rfl rfl
theorem dksX2_sheet_2 : cX2_sheet.data.toList.drop 48 = dktX2_sheet_2 := dk_seg dksX2_sheet_1 24 rfl rfl
theorem dX2_sheet_0 : decode cX2_sheet 0 = .ok (.iload_n 1, 1) := dk_27 (dk_at dksX2_sheet_0 0 rfl rfl)
theorem dX2_sheet_1 : decode cX2_sheet 1 = .ok (.iload_n 2, 1) := dk_28 (dk_at dksX2_sheet_0 1 rfl rfl)
theorem dX2_sheet_2 : decode cX2_sheet 2 = .ok (.invokestatic 391, 3) := dk_184 1 135 (dk_at dksX2_sheet_0 2 rfl rfl)
theorem dX2_sheet_5 : decode cX2_sheet 5 = .ok (.ifCond .eq 9, 3) := dk_153 0 9 (dk_at dksX2_sheet_0 5 rfl rfl)
theorem dX2_sheet_8 : decode cX2_sheet 8 = .ok (.iload_n 3, 1) := dk_29 (dk_at dksX2_sheet_0 8 rfl rfl)
theorem dX2_sheet_9 : decode cX2_sheet 9 = .ok (.bipush 60, 2) := dk_16 60 (dk_at dksX2_sheet_0 9 rfl rfl)
theorem dX2_sheet_11 : decode cX2_sheet 11 = .ok (.if_icmp .le 5, 3) := dk_164 0 5 (dk_at dksX2_sheet_0 11 rfl rfl)
theorem dX2_sheet_14 : decode cX2_sheet 14 = .ok (.iconst (-1), 1) := dk_2 (dk_at dksX2_sheet_0 14 rfl rfl)
theorem dX2_sheet_15 : decode cX2_sheet 15 = .ok (.ireturn, 1) := dk_172 (dk_at dksX2_sheet_0 15 rfl rfl)
theorem dX2_sheet_16 : decode cX2_sheet 16 = .ok (.iload_n 3, 1) := dk_29 (dk_at dksX2_sheet_0 16 rfl rfl)
theorem dX2_sheet_17 : decode cX2_sheet 17 = .ok (.ifCond .ge 6, 3) := dk_156 0 6 (dk_at dksX2_sheet_0 17 rfl rfl)
theorem dX2_sheet_20 : decode cX2_sheet 20 = .ok (.bipush (-14), 2) := dk_16 242 (dk_at dksX2_sheet_0 20 rfl rfl)
theorem dX2_sheet_22 : decode cX2_sheet 22 = .ok (.ireturn, 1) := dk_172 (dk_at dksX2_sheet_0 22 rfl rfl)
theorem dX2_sheet_23 : decode cX2_sheet 23 = .ok (.aload_n 0, 1) := dk_42 (dk_at dksX2_sheet_0 23 rfl rfl)
theorem dX2_sheet_24 : decode cX2_sheet 24 = .ok (.getfield 126, 3) := dk_180 0 126 (dk_at dksX2_sheet_1 0 rfl rfl)
theorem dX2_sheet_27 : decode cX2_sheet 27 = .ok (.iload_n 1, 1) := dk_27 (dk_at dksX2_sheet_1 3 rfl rfl)
theorem dX2_sheet_28 : decode cX2_sheet 28 = .ok (.iload_n 2, 1) := dk_28 (dk_at dksX2_sheet_1 4 rfl rfl)
theorem dX2_sheet_29 : decode cX2_sheet 29 = .ok (.iastore, 1) := dk_79 (dk_at dksX2_sheet_1 5 rfl rfl)
theorem dX2_sheet_30 : decode cX2_sheet 30 = .ok (.aload_n 0, 1) := dk_42 (dk_at dksX2_sheet_1 6 rfl rfl)
theorem dX2_sheet_31 : decode cX2_sheet 31 = .ok (.getfield 129, 3) := dk_180 0 129 (dk_at dksX2_sheet_1 7 rfl rfl)
theorem dX2_sheet_34 : decode cX2_sheet 34 = .ok (.iload_n 1, 1) := dk_27 (dk_at dksX2_sheet_1 10 rfl rfl)
theorem dX2_sheet_35 : decode cX2_sheet 35 = .ok (.iload_n 3, 1) := dk_29 (dk_at dksX2_sheet_1 11 rfl rfl)
theorem dX2_sheet_36 : decode cX2_sheet 36 = .ok (.iastore, 1) := dk_79 (dk_at dksX2_sheet_1 12 rfl rfl)
theorem dX2_sheet_37 : decode cX2_sheet 37 = .ok (.iconst 0, 1) := dk_3 (dk_at dksX2_sheet_1 13 rfl rfl)
theorem dX2_sheet_38 : decode cX2_sheet 38 = .ok (.istore 4, 2) := dk_54 4 (dk_at dksX2_sheet_1 14 rfl rfl)
theorem dX2_sheet_40 : decode cX2_sheet 40 = .ok (.iload 4, 2) := dk_21 4 (dk_at dksX2_sheet_1 16 rfl rfl)
theorem dX2_sheet_42 : decode cX2_sheet 42 = .ok (.bipush 60, 2) := dk_16 60 (dk_at dksX2_sheet_1 18 rfl rfl)
theorem dX2_sheet_44 : decode cX2_sheet 44 = .ok (.if_icmp .ge 22, 3) := dk_162 0 22 (dk_at dksX2_sheet_1 20 rfl rfl)
theorem dX2_sheet_47 : decode cX2_sheet 47 = .ok (.aload_n 0, 1) := dk_42 (dk_at dksX2_sheet_1 23 rfl rfl)
theorem dX2_sheet_48 : decode cX2_sheet 48 = .ok (.getfield 132, 3) := dk_180 0 132 (dk_at dksX2_sheet_2 0 rfl rfl)
theorem dX2_sheet_51 : decode cX2_sheet 51 = .ok (.bipush 60, 2) := dk_16 60 (dk_at dksX2_sheet_2 3 rfl rfl)
theorem dX2_sheet_53 : decode cX2_sheet 53 = .ok (.iload_n 1, 1) := dk_27 (dk_at dksX2_sheet_2 5 rfl rfl)
theorem dX2_sheet_54 : decode cX2_sheet 54 = .ok (.imul, 1) := dk_104 (dk_at dksX2_sheet_2 6 rfl rfl)
theorem dX2_sheet_55 : decode cX2_sheet 55 = .ok (.iload 4, 2) := dk_21 4 (dk_at dksX2_sheet_2 7 rfl rfl)
theorem dX2_sheet_57 : decode cX2_sheet 57 = .ok (.iadd, 1) := dk_96 (dk_at dksX2_sheet_2 9 rfl rfl)
theorem dX2_sheet_58 : decode cX2_sheet 58 = .ok (.iconst 0, 1) := dk_3 (dk_at dksX2_sheet_2 10 rfl rfl)
theorem dX2_sheet_59 : decode cX2_sheet 59 = .ok (.iastore, 1) := dk_79 (dk_at dksX2_sheet_2 11 rfl rfl)
theorem dX2_sheet_60 : decode cX2_sheet 60 = .ok (.iinc 4 1, 3) := dk_132 4 1 (dk_at dksX2_sheet_2 12 rfl rfl)
theorem dX2_sheet_63 : decode cX2_sheet 63 = .ok (.goto (-23), 3) := dk_167 255 233 (dk_at dksX2_sheet_2 15 rfl rfl)
theorem dX2_sheet_66 : decode cX2_sheet 66 = .ok (.iconst 1, 1) := dk_4 (dk_at dksX2_sheet_2 18 rfl rfl)
theorem dX2_sheet_67 : decode cX2_sheet 67 = .ok (.ireturn, 1) := dk_172 (dk_at dksX2_sheet_2 19 rfl rfl)
abbrev cX2_isSheet : ByteArray := prog_11_method_82_code
def yX2_isSheet : MethodName := ⟨RX2, "isSheet", "(II)Z"⟩
def dkwX2_isSheet_1 : List UInt8 := [4, 167, 0, 4, 3, 172]
abbrev dktX2_isSheet_1 : List UInt8 := dkwX2_isSheet_1 ++ []
def dkwX2_isSheet_0 : List UInt8 := [26, 133, 9, 20, 0, 158, 184, 0, 138, 153, 0, 19, 27, 133, 9, 20, 0, 198, 184, 0, 138, 153, 0, 7]
abbrev dktX2_isSheet_0 : List UInt8 := dkwX2_isSheet_0 ++ dktX2_isSheet_1
theorem dksX2_isSheet_0 : cX2_isSheet.data.toList.drop 0 = dktX2_isSheet_0 := by decide +kernel
theorem dksX2_isSheet_1 : cX2_isSheet.data.toList.drop 24 = dktX2_isSheet_1 := dk_seg dksX2_isSheet_0 24 rfl rfl
theorem dX2_isSheet_0 : decode cX2_isSheet 0 = .ok (.iload_n 0, 1) := dk_26 (dk_at dksX2_isSheet_0 0 rfl rfl)
theorem dX2_isSheet_1 : decode cX2_isSheet 1 = .ok (.i2l, 1) := dk_133 (dk_at dksX2_isSheet_0 1 rfl rfl)
theorem dX2_isSheet_2 : decode cX2_isSheet 2 = .ok (.lconst 0, 1) := dk_9 (dk_at dksX2_isSheet_0 2 rfl rfl)
theorem dX2_isSheet_3 : decode cX2_isSheet 3 = .ok (.ldc2_w 158, 3) := dk_20 0 158 (dk_at dksX2_isSheet_0 3 rfl rfl)
theorem dX2_isSheet_6 : decode cX2_isSheet 6 = .ok (.invokestatic 138, 3) := dk_184 0 138 (dk_at dksX2_isSheet_0 6 rfl rfl)
theorem dX2_isSheet_9 : decode cX2_isSheet 9 = .ok (.ifCond .eq 19, 3) := dk_153 0 19 (dk_at dksX2_isSheet_0 9 rfl rfl)
theorem dX2_isSheet_12 : decode cX2_isSheet 12 = .ok (.iload_n 1, 1) := dk_27 (dk_at dksX2_isSheet_0 12 rfl rfl)
theorem dX2_isSheet_13 : decode cX2_isSheet 13 = .ok (.i2l, 1) := dk_133 (dk_at dksX2_isSheet_0 13 rfl rfl)
theorem dX2_isSheet_14 : decode cX2_isSheet 14 = .ok (.lconst 0, 1) := dk_9 (dk_at dksX2_isSheet_0 14 rfl rfl)
theorem dX2_isSheet_15 : decode cX2_isSheet 15 = .ok (.ldc2_w 198, 3) := dk_20 0 198 (dk_at dksX2_isSheet_0 15 rfl rfl)
theorem dX2_isSheet_18 : decode cX2_isSheet 18 = .ok (.invokestatic 138, 3) := dk_184 0 138 (dk_at dksX2_isSheet_0 18 rfl rfl)
theorem dX2_isSheet_21 : decode cX2_isSheet 21 = .ok (.ifCond .eq 7, 3) := dk_153 0 7 (dk_at dksX2_isSheet_0 21 rfl rfl)
theorem dX2_isSheet_24 : decode cX2_isSheet 24 = .ok (.iconst 1, 1) := dk_4 (dk_at dksX2_isSheet_1 0 rfl rfl)
theorem dX2_isSheet_25 : decode cX2_isSheet 25 = .ok (.goto 4, 3) := dk_167 0 4 (dk_at dksX2_isSheet_1 1 rfl rfl)
theorem dX2_isSheet_28 : decode cX2_isSheet 28 = .ok (.iconst 0, 1) := dk_3 (dk_at dksX2_isSheet_1 4 rfl rfl)
theorem dX2_isSheet_29 : decode cX2_isSheet 29 = .ok (.ireturn, 1) := dk_172 (dk_at dksX2_isSheet_1 5 rfl rfl)
abbrev cX2_lay : ByteArray := prog_11_method_84_code
def yX2_lay : MethodName := ⟨RX2, "lay", "(III)I"⟩
def dkwX2_lay_3 : List UInt8 := [180, 0, 126, 27, 46, 4, 160, 0, 8, 29, 147, 167, 0, 4, 29, 79, 4, 172]
abbrev dktX2_lay_3 : List UInt8 := dkwX2_lay_3 ++ []
def dkwX2_lay_2 : List UInt8 := [180, 0, 132, 16, 60, 27, 104, 28, 96, 42, 180, 0, 126, 27, 46, 154, 0, 8, 29, 145, 167, 0, 19, 42]
abbrev dktX2_lay_2 : List UInt8 := dkwX2_lay_2 ++ dktX2_lay_3
def dkwX2_lay_1 : List UInt8 := [28, 133, 9, 42, 180, 0, 129, 27, 46, 4, 100, 133, 184, 0, 138, 154, 0, 6, 16, 244, 172, 42]
abbrev dktX2_lay_1 : List UInt8 := dkwX2_lay_1 ++ dktX2_lay_2
def dkwX2_lay_0 : List UInt8 := [27, 3, 184, 1, 135, 154, 0, 5, 2, 172, 42, 180, 0, 126, 27, 46, 16, 252, 160, 0, 6, 16, 245, 172]
abbrev dktX2_lay_0 : List UInt8 := dkwX2_lay_0 ++ dktX2_lay_1
theorem dksX2_lay_0 : cX2_lay.data.toList.drop 0 = dktX2_lay_0 := by decide +kernel
theorem dksX2_lay_1 : cX2_lay.data.toList.drop 24 = dktX2_lay_1 := dk_seg dksX2_lay_0 24 rfl rfl
theorem dksX2_lay_2 : cX2_lay.data.toList.drop 46 = dktX2_lay_2 := dk_seg dksX2_lay_1 22 rfl rfl
theorem dksX2_lay_3 : cX2_lay.data.toList.drop 70 = dktX2_lay_3 := dk_seg dksX2_lay_2 24 rfl rfl
theorem dX2_lay_0 : decode cX2_lay 0 = .ok (.iload_n 1, 1) := dk_27 (dk_at dksX2_lay_0 0 rfl rfl)
theorem dX2_lay_1 : decode cX2_lay 1 = .ok (.iconst 0, 1) := dk_3 (dk_at dksX2_lay_0 1 rfl rfl)
theorem dX2_lay_2 : decode cX2_lay 2 = .ok (.invokestatic 391, 3) := dk_184 1 135 (dk_at dksX2_lay_0 2 rfl rfl)
theorem dX2_lay_5 : decode cX2_lay 5 = .ok (.ifCond .ne 5, 3) := dk_154 0 5 (dk_at dksX2_lay_0 5 rfl rfl)
theorem dX2_lay_8 : decode cX2_lay 8 = .ok (.iconst (-1), 1) := dk_2 (dk_at dksX2_lay_0 8 rfl rfl)
theorem dX2_lay_9 : decode cX2_lay 9 = .ok (.ireturn, 1) := dk_172 (dk_at dksX2_lay_0 9 rfl rfl)
theorem dX2_lay_10 : decode cX2_lay 10 = .ok (.aload_n 0, 1) := dk_42 (dk_at dksX2_lay_0 10 rfl rfl)
theorem dX2_lay_11 : decode cX2_lay 11 = .ok (.getfield 126, 3) := dk_180 0 126 (dk_at dksX2_lay_0 11 rfl rfl)
theorem dX2_lay_14 : decode cX2_lay 14 = .ok (.iload_n 1, 1) := dk_27 (dk_at dksX2_lay_0 14 rfl rfl)
theorem dX2_lay_15 : decode cX2_lay 15 = .ok (.iaload, 1) := dk_46 (dk_at dksX2_lay_0 15 rfl rfl)
theorem dX2_lay_16 : decode cX2_lay 16 = .ok (.bipush (-4), 2) := dk_16 252 (dk_at dksX2_lay_0 16 rfl rfl)
theorem dX2_lay_18 : decode cX2_lay 18 = .ok (.if_icmp .ne 6, 3) := dk_160 0 6 (dk_at dksX2_lay_0 18 rfl rfl)
theorem dX2_lay_21 : decode cX2_lay 21 = .ok (.bipush (-11), 2) := dk_16 245 (dk_at dksX2_lay_0 21 rfl rfl)
theorem dX2_lay_23 : decode cX2_lay 23 = .ok (.ireturn, 1) := dk_172 (dk_at dksX2_lay_0 23 rfl rfl)
theorem dX2_lay_24 : decode cX2_lay 24 = .ok (.iload_n 2, 1) := dk_28 (dk_at dksX2_lay_1 0 rfl rfl)
theorem dX2_lay_25 : decode cX2_lay 25 = .ok (.i2l, 1) := dk_133 (dk_at dksX2_lay_1 1 rfl rfl)
theorem dX2_lay_26 : decode cX2_lay 26 = .ok (.lconst 0, 1) := dk_9 (dk_at dksX2_lay_1 2 rfl rfl)
theorem dX2_lay_27 : decode cX2_lay 27 = .ok (.aload_n 0, 1) := dk_42 (dk_at dksX2_lay_1 3 rfl rfl)
theorem dX2_lay_28 : decode cX2_lay 28 = .ok (.getfield 129, 3) := dk_180 0 129 (dk_at dksX2_lay_1 4 rfl rfl)
theorem dX2_lay_31 : decode cX2_lay 31 = .ok (.iload_n 1, 1) := dk_27 (dk_at dksX2_lay_1 7 rfl rfl)
theorem dX2_lay_32 : decode cX2_lay 32 = .ok (.iaload, 1) := dk_46 (dk_at dksX2_lay_1 8 rfl rfl)
theorem dX2_lay_33 : decode cX2_lay 33 = .ok (.iconst 1, 1) := dk_4 (dk_at dksX2_lay_1 9 rfl rfl)
theorem dX2_lay_34 : decode cX2_lay 34 = .ok (.isub, 1) := dk_100 (dk_at dksX2_lay_1 10 rfl rfl)
theorem dX2_lay_35 : decode cX2_lay 35 = .ok (.i2l, 1) := dk_133 (dk_at dksX2_lay_1 11 rfl rfl)
theorem dX2_lay_36 : decode cX2_lay 36 = .ok (.invokestatic 138, 3) := dk_184 0 138 (dk_at dksX2_lay_1 12 rfl rfl)
theorem dX2_lay_39 : decode cX2_lay 39 = .ok (.ifCond .ne 6, 3) := dk_154 0 6 (dk_at dksX2_lay_1 15 rfl rfl)
theorem dX2_lay_42 : decode cX2_lay 42 = .ok (.bipush (-12), 2) := dk_16 244 (dk_at dksX2_lay_1 18 rfl rfl)
theorem dX2_lay_44 : decode cX2_lay 44 = .ok (.ireturn, 1) := dk_172 (dk_at dksX2_lay_1 20 rfl rfl)
theorem dX2_lay_45 : decode cX2_lay 45 = .ok (.aload_n 0, 1) := dk_42 (dk_at dksX2_lay_1 21 rfl rfl)
theorem dX2_lay_46 : decode cX2_lay 46 = .ok (.getfield 132, 3) := dk_180 0 132 (dk_at dksX2_lay_2 0 rfl rfl)
theorem dX2_lay_49 : decode cX2_lay 49 = .ok (.bipush 60, 2) := dk_16 60 (dk_at dksX2_lay_2 3 rfl rfl)
theorem dX2_lay_51 : decode cX2_lay 51 = .ok (.iload_n 1, 1) := dk_27 (dk_at dksX2_lay_2 5 rfl rfl)
theorem dX2_lay_52 : decode cX2_lay 52 = .ok (.imul, 1) := dk_104 (dk_at dksX2_lay_2 6 rfl rfl)
theorem dX2_lay_53 : decode cX2_lay 53 = .ok (.iload_n 2, 1) := dk_28 (dk_at dksX2_lay_2 7 rfl rfl)
theorem dX2_lay_54 : decode cX2_lay 54 = .ok (.iadd, 1) := dk_96 (dk_at dksX2_lay_2 8 rfl rfl)
theorem dX2_lay_55 : decode cX2_lay 55 = .ok (.aload_n 0, 1) := dk_42 (dk_at dksX2_lay_2 9 rfl rfl)
theorem dX2_lay_56 : decode cX2_lay 56 = .ok (.getfield 126, 3) := dk_180 0 126 (dk_at dksX2_lay_2 10 rfl rfl)
theorem dX2_lay_59 : decode cX2_lay 59 = .ok (.iload_n 1, 1) := dk_27 (dk_at dksX2_lay_2 13 rfl rfl)
theorem dX2_lay_60 : decode cX2_lay 60 = .ok (.iaload, 1) := dk_46 (dk_at dksX2_lay_2 14 rfl rfl)
theorem dX2_lay_61 : decode cX2_lay 61 = .ok (.ifCond .ne 8, 3) := dk_154 0 8 (dk_at dksX2_lay_2 15 rfl rfl)
theorem dX2_lay_64 : decode cX2_lay 64 = .ok (.iload_n 3, 1) := dk_29 (dk_at dksX2_lay_2 18 rfl rfl)
theorem dX2_lay_65 : decode cX2_lay 65 = .ok (.i2b, 1) := dk_145 (dk_at dksX2_lay_2 19 rfl rfl)
theorem dX2_lay_66 : decode cX2_lay 66 = .ok (.goto 19, 3) := dk_167 0 19 (dk_at dksX2_lay_2 20 rfl rfl)
theorem dX2_lay_69 : decode cX2_lay 69 = .ok (.aload_n 0, 1) := dk_42 (dk_at dksX2_lay_2 23 rfl rfl)
theorem dX2_lay_70 : decode cX2_lay 70 = .ok (.getfield 126, 3) := dk_180 0 126 (dk_at dksX2_lay_3 0 rfl rfl)
theorem dX2_lay_73 : decode cX2_lay 73 = .ok (.iload_n 1, 1) := dk_27 (dk_at dksX2_lay_3 3 rfl rfl)
theorem dX2_lay_74 : decode cX2_lay 74 = .ok (.iaload, 1) := dk_46 (dk_at dksX2_lay_3 4 rfl rfl)
theorem dX2_lay_75 : decode cX2_lay 75 = .ok (.iconst 1, 1) := dk_4 (dk_at dksX2_lay_3 5 rfl rfl)
theorem dX2_lay_76 : decode cX2_lay 76 = .ok (.if_icmp .ne 8, 3) := dk_160 0 8 (dk_at dksX2_lay_3 6 rfl rfl)
theorem dX2_lay_79 : decode cX2_lay 79 = .ok (.iload_n 3, 1) := dk_29 (dk_at dksX2_lay_3 9 rfl rfl)
theorem dX2_lay_80 : decode cX2_lay 80 = .ok (.i2s, 1) := dk_147 (dk_at dksX2_lay_3 10 rfl rfl)
theorem dX2_lay_81 : decode cX2_lay 81 = .ok (.goto 4, 3) := dk_167 0 4 (dk_at dksX2_lay_3 11 rfl rfl)
theorem dX2_lay_84 : decode cX2_lay 84 = .ok (.iload_n 3, 1) := dk_29 (dk_at dksX2_lay_3 14 rfl rfl)
theorem dX2_lay_85 : decode cX2_lay 85 = .ok (.iastore, 1) := dk_79 (dk_at dksX2_lay_3 15 rfl rfl)
theorem dX2_lay_86 : decode cX2_lay 86 = .ok (.iconst 1, 1) := dk_4 (dk_at dksX2_lay_3 16 rfl rfl)
theorem dX2_lay_87 : decode cX2_lay 87 = .ok (.ireturn, 1) := dk_172 (dk_at dksX2_lay_3 17 rfl rfl)
abbrev cX2_text : ByteArray := prog_11_method_85_code
def yX2_text : MethodName := ⟨RX2, "text", "(IIII)I"⟩
def dkwX2_text_9 : List UInt8 := [181, 0, 164, 42, 180, 0, 164, 4, 100, 172]
abbrev dktX2_text_9 : List UInt8 := dkwX2_text_9 ++ []
def dkwX2_text_8 : List UInt8 := [132, 5, 1, 167, 255, 217, 42, 180, 0, 20, 42, 180, 0, 164, 21, 4, 79, 42, 89, 180, 0, 164, 4, 96]
abbrev dktX2_text_8 : List UInt8 := dkwX2_text_8 ++ dktX2_text_9
def dkwX2_text_7 : List UInt8 := [180, 0, 164, 104, 21, 5, 96, 42, 180, 0, 132, 16, 60, 27, 104, 29, 96, 21, 5, 96, 46, 79]
abbrev dktX2_text_7 : List UInt8 := dkwX2_text_7 ++ dktX2_text_8
def dkwX2_text_6 : List UInt8 := [160, 0, 6, 16, 253, 172, 3, 54, 5, 21, 5, 21, 4, 162, 0, 38, 42, 180, 0, 23, 16, 24, 42]
abbrev dktX2_text_6 : List UInt8 := dkwX2_text_6 ++ dktX2_text_7
def dkwX2_text_5 : List UInt8 := [184, 0, 138, 154, 0, 9, 16, 236, 21, 5, 100, 172, 132, 5, 1, 167, 255, 179, 42, 180, 0, 164, 16, 8]
abbrev dktX2_text_5 : List UInt8 := dkwX2_text_5 ++ dktX2_text_6
def dkwX2_text_4 : List UInt8 := [180, 0, 132, 16, 60, 27, 104, 22, 6, 136, 96, 46, 133, 20, 1, 141, 42, 180, 0, 135, 4, 100, 133]
abbrev dktX2_text_4 : List UInt8 := dkwX2_text_4 ++ dktX2_text_5
def dkwX2_text_3 : List UInt8 := [22, 6, 9, 148, 155, 0, 16, 22, 6, 42, 180, 0, 129, 27, 46, 133, 148, 155, 0, 6, 16, 244, 172, 42]
abbrev dktX2_text_3 : List UInt8 := dkwX2_text_3 ++ dktX2_text_4
def dkwX2_text_2 : List UInt8 := [167, 0, 5, 16, 243, 172, 3, 54, 5, 21, 5, 21, 4, 162, 0, 76, 29, 133, 21, 5, 133, 97, 55, 6]
abbrev dktX2_text_2 : List UInt8 := dkwX2_text_2 ++ dktX2_text_3
def dkwX2_text_1 : List UInt8 := [180, 0, 126, 27, 46, 28, 159, 0, 22, 42, 180, 0, 126, 27, 46, 16, 252, 160, 0, 8, 16, 245]
abbrev dktX2_text_1 : List UInt8 := dkwX2_text_1 ++ dktX2_text_2
def dkwX2_text_0 : List UInt8 := [27, 28, 184, 1, 135, 153, 0, 16, 21, 4, 133, 10, 20, 1, 139, 184, 0, 138, 154, 0, 5, 2, 172, 42]
abbrev dktX2_text_0 : List UInt8 := dkwX2_text_0 ++ dktX2_text_1
theorem dksX2_text_0 : cX2_text.data.toList.drop 0 = dktX2_text_0 := by decide +kernel
theorem dksX2_text_1 : cX2_text.data.toList.drop 24 = dktX2_text_1 := dk_seg dksX2_text_0 24 rfl rfl
theorem dksX2_text_2 : cX2_text.data.toList.drop 46 = dktX2_text_2 := dk_seg dksX2_text_1 22 rfl rfl
theorem dksX2_text_3 : cX2_text.data.toList.drop 70 = dktX2_text_3 := dk_seg dksX2_text_2 24 rfl rfl
theorem dksX2_text_4 : cX2_text.data.toList.drop 94 = dktX2_text_4 := dk_seg dksX2_text_3 24 rfl rfl
theorem dksX2_text_5 : cX2_text.data.toList.drop 117 = dktX2_text_5 := dk_seg dksX2_text_4 23 rfl rfl
theorem dksX2_text_6 : cX2_text.data.toList.drop 141 = dktX2_text_6 := dk_seg dksX2_text_5 24 rfl rfl
theorem dksX2_text_7 : cX2_text.data.toList.drop 164 = dktX2_text_7 := dk_seg dksX2_text_6 23 rfl rfl
theorem dksX2_text_8 : cX2_text.data.toList.drop 186 = dktX2_text_8 := dk_seg dksX2_text_7 22 rfl rfl
theorem dksX2_text_9 : cX2_text.data.toList.drop 210 = dktX2_text_9 := dk_seg dksX2_text_8 24 rfl rfl
theorem dX2_text_0 : decode cX2_text 0 = .ok (.iload_n 1, 1) := dk_27 (dk_at dksX2_text_0 0 rfl rfl)
theorem dX2_text_1 : decode cX2_text 1 = .ok (.iload_n 2, 1) := dk_28 (dk_at dksX2_text_0 1 rfl rfl)
theorem dX2_text_2 : decode cX2_text 2 = .ok (.invokestatic 391, 3) := dk_184 1 135 (dk_at dksX2_text_0 2 rfl rfl)
theorem dX2_text_5 : decode cX2_text 5 = .ok (.ifCond .eq 16, 3) := dk_153 0 16 (dk_at dksX2_text_0 5 rfl rfl)
theorem dX2_text_8 : decode cX2_text 8 = .ok (.iload 4, 2) := dk_21 4 (dk_at dksX2_text_0 8 rfl rfl)
theorem dX2_text_10 : decode cX2_text 10 = .ok (.i2l, 1) := dk_133 (dk_at dksX2_text_0 10 rfl rfl)
theorem dX2_text_11 : decode cX2_text 11 = .ok (.lconst 1, 1) := dk_10 (dk_at dksX2_text_0 11 rfl rfl)
theorem dX2_text_12 : decode cX2_text 12 = .ok (.ldc2_w 395, 3) := dk_20 1 139 (dk_at dksX2_text_0 12 rfl rfl)
theorem dX2_text_15 : decode cX2_text 15 = .ok (.invokestatic 138, 3) := dk_184 0 138 (dk_at dksX2_text_0 15 rfl rfl)
theorem dX2_text_18 : decode cX2_text 18 = .ok (.ifCond .ne 5, 3) := dk_154 0 5 (dk_at dksX2_text_0 18 rfl rfl)
theorem dX2_text_21 : decode cX2_text 21 = .ok (.iconst (-1), 1) := dk_2 (dk_at dksX2_text_0 21 rfl rfl)
theorem dX2_text_22 : decode cX2_text 22 = .ok (.ireturn, 1) := dk_172 (dk_at dksX2_text_0 22 rfl rfl)
theorem dX2_text_23 : decode cX2_text 23 = .ok (.aload_n 0, 1) := dk_42 (dk_at dksX2_text_0 23 rfl rfl)
theorem dX2_text_24 : decode cX2_text 24 = .ok (.getfield 126, 3) := dk_180 0 126 (dk_at dksX2_text_1 0 rfl rfl)
theorem dX2_text_27 : decode cX2_text 27 = .ok (.iload_n 1, 1) := dk_27 (dk_at dksX2_text_1 3 rfl rfl)
theorem dX2_text_28 : decode cX2_text 28 = .ok (.iaload, 1) := dk_46 (dk_at dksX2_text_1 4 rfl rfl)
theorem dX2_text_29 : decode cX2_text 29 = .ok (.iload_n 2, 1) := dk_28 (dk_at dksX2_text_1 5 rfl rfl)
theorem dX2_text_30 : decode cX2_text 30 = .ok (.if_icmp .eq 22, 3) := dk_159 0 22 (dk_at dksX2_text_1 6 rfl rfl)
theorem dX2_text_33 : decode cX2_text 33 = .ok (.aload_n 0, 1) := dk_42 (dk_at dksX2_text_1 9 rfl rfl)
theorem dX2_text_34 : decode cX2_text 34 = .ok (.getfield 126, 3) := dk_180 0 126 (dk_at dksX2_text_1 10 rfl rfl)
theorem dX2_text_37 : decode cX2_text 37 = .ok (.iload_n 1, 1) := dk_27 (dk_at dksX2_text_1 13 rfl rfl)
theorem dX2_text_38 : decode cX2_text 38 = .ok (.iaload, 1) := dk_46 (dk_at dksX2_text_1 14 rfl rfl)
theorem dX2_text_39 : decode cX2_text 39 = .ok (.bipush (-4), 2) := dk_16 252 (dk_at dksX2_text_1 15 rfl rfl)
theorem dX2_text_41 : decode cX2_text 41 = .ok (.if_icmp .ne 8, 3) := dk_160 0 8 (dk_at dksX2_text_1 17 rfl rfl)
theorem dX2_text_44 : decode cX2_text 44 = .ok (.bipush (-11), 2) := dk_16 245 (dk_at dksX2_text_1 20 rfl rfl)
theorem dX2_text_46 : decode cX2_text 46 = .ok (.goto 5, 3) := dk_167 0 5 (dk_at dksX2_text_2 0 rfl rfl)
theorem dX2_text_49 : decode cX2_text 49 = .ok (.bipush (-13), 2) := dk_16 243 (dk_at dksX2_text_2 3 rfl rfl)
theorem dX2_text_51 : decode cX2_text 51 = .ok (.ireturn, 1) := dk_172 (dk_at dksX2_text_2 5 rfl rfl)
theorem dX2_text_52 : decode cX2_text 52 = .ok (.iconst 0, 1) := dk_3 (dk_at dksX2_text_2 6 rfl rfl)
theorem dX2_text_53 : decode cX2_text 53 = .ok (.istore 5, 2) := dk_54 5 (dk_at dksX2_text_2 7 rfl rfl)
theorem dX2_text_55 : decode cX2_text 55 = .ok (.iload 5, 2) := dk_21 5 (dk_at dksX2_text_2 9 rfl rfl)
theorem dX2_text_57 : decode cX2_text 57 = .ok (.iload 4, 2) := dk_21 4 (dk_at dksX2_text_2 11 rfl rfl)
theorem dX2_text_59 : decode cX2_text 59 = .ok (.if_icmp .ge 76, 3) := dk_162 0 76 (dk_at dksX2_text_2 13 rfl rfl)
theorem dX2_text_62 : decode cX2_text 62 = .ok (.iload_n 3, 1) := dk_29 (dk_at dksX2_text_2 16 rfl rfl)
theorem dX2_text_63 : decode cX2_text 63 = .ok (.i2l, 1) := dk_133 (dk_at dksX2_text_2 17 rfl rfl)
theorem dX2_text_64 : decode cX2_text 64 = .ok (.iload 5, 2) := dk_21 5 (dk_at dksX2_text_2 18 rfl rfl)
theorem dX2_text_66 : decode cX2_text 66 = .ok (.i2l, 1) := dk_133 (dk_at dksX2_text_2 20 rfl rfl)
theorem dX2_text_67 : decode cX2_text 67 = .ok (.ladd, 1) := dk_97 (dk_at dksX2_text_2 21 rfl rfl)
theorem dX2_text_68 : decode cX2_text 68 = .ok (.lstore 6, 2) := dk_55 6 (dk_at dksX2_text_2 22 rfl rfl)
theorem dX2_text_70 : decode cX2_text 70 = .ok (.lload 6, 2) := dk_22 6 (dk_at dksX2_text_3 0 rfl rfl)
theorem dX2_text_72 : decode cX2_text 72 = .ok (.lconst 0, 1) := dk_9 (dk_at dksX2_text_3 2 rfl rfl)
theorem dX2_text_73 : decode cX2_text 73 = .ok (.lcmp, 1) := dk_148 (dk_at dksX2_text_3 3 rfl rfl)
theorem dX2_text_74 : decode cX2_text 74 = .ok (.ifCond .lt 16, 3) := dk_155 0 16 (dk_at dksX2_text_3 4 rfl rfl)
theorem dX2_text_77 : decode cX2_text 77 = .ok (.lload 6, 2) := dk_22 6 (dk_at dksX2_text_3 7 rfl rfl)
theorem dX2_text_79 : decode cX2_text 79 = .ok (.aload_n 0, 1) := dk_42 (dk_at dksX2_text_3 9 rfl rfl)
theorem dX2_text_80 : decode cX2_text 80 = .ok (.getfield 129, 3) := dk_180 0 129 (dk_at dksX2_text_3 10 rfl rfl)
theorem dX2_text_83 : decode cX2_text 83 = .ok (.iload_n 1, 1) := dk_27 (dk_at dksX2_text_3 13 rfl rfl)
theorem dX2_text_84 : decode cX2_text 84 = .ok (.iaload, 1) := dk_46 (dk_at dksX2_text_3 14 rfl rfl)
theorem dX2_text_85 : decode cX2_text 85 = .ok (.i2l, 1) := dk_133 (dk_at dksX2_text_3 15 rfl rfl)
theorem dX2_text_86 : decode cX2_text 86 = .ok (.lcmp, 1) := dk_148 (dk_at dksX2_text_3 16 rfl rfl)
theorem dX2_text_87 : decode cX2_text 87 = .ok (.ifCond .lt 6, 3) := dk_155 0 6 (dk_at dksX2_text_3 17 rfl rfl)
theorem dX2_text_90 : decode cX2_text 90 = .ok (.bipush (-12), 2) := dk_16 244 (dk_at dksX2_text_3 20 rfl rfl)
theorem dX2_text_92 : decode cX2_text 92 = .ok (.ireturn, 1) := dk_172 (dk_at dksX2_text_3 22 rfl rfl)
theorem dX2_text_93 : decode cX2_text 93 = .ok (.aload_n 0, 1) := dk_42 (dk_at dksX2_text_3 23 rfl rfl)
theorem dX2_text_94 : decode cX2_text 94 = .ok (.getfield 132, 3) := dk_180 0 132 (dk_at dksX2_text_4 0 rfl rfl)
theorem dX2_text_97 : decode cX2_text 97 = .ok (.bipush 60, 2) := dk_16 60 (dk_at dksX2_text_4 3 rfl rfl)
theorem dX2_text_99 : decode cX2_text 99 = .ok (.iload_n 1, 1) := dk_27 (dk_at dksX2_text_4 5 rfl rfl)
theorem dX2_text_100 : decode cX2_text 100 = .ok (.imul, 1) := dk_104 (dk_at dksX2_text_4 6 rfl rfl)
theorem dX2_text_101 : decode cX2_text 101 = .ok (.lload 6, 2) := dk_22 6 (dk_at dksX2_text_4 7 rfl rfl)
theorem dX2_text_103 : decode cX2_text 103 = .ok (.l2i, 1) := dk_136 (dk_at dksX2_text_4 9 rfl rfl)
theorem dX2_text_104 : decode cX2_text 104 = .ok (.iadd, 1) := dk_96 (dk_at dksX2_text_4 10 rfl rfl)
theorem dX2_text_105 : decode cX2_text 105 = .ok (.iaload, 1) := dk_46 (dk_at dksX2_text_4 11 rfl rfl)
theorem dX2_text_106 : decode cX2_text 106 = .ok (.i2l, 1) := dk_133 (dk_at dksX2_text_4 12 rfl rfl)
theorem dX2_text_107 : decode cX2_text 107 = .ok (.ldc2_w 397, 3) := dk_20 1 141 (dk_at dksX2_text_4 13 rfl rfl)
theorem dX2_text_110 : decode cX2_text 110 = .ok (.aload_n 0, 1) := dk_42 (dk_at dksX2_text_4 16 rfl rfl)
theorem dX2_text_111 : decode cX2_text 111 = .ok (.getfield 135, 3) := dk_180 0 135 (dk_at dksX2_text_4 17 rfl rfl)
theorem dX2_text_114 : decode cX2_text 114 = .ok (.iconst 1, 1) := dk_4 (dk_at dksX2_text_4 20 rfl rfl)
theorem dX2_text_115 : decode cX2_text 115 = .ok (.isub, 1) := dk_100 (dk_at dksX2_text_4 21 rfl rfl)
theorem dX2_text_116 : decode cX2_text 116 = .ok (.i2l, 1) := dk_133 (dk_at dksX2_text_4 22 rfl rfl)
theorem dX2_text_117 : decode cX2_text 117 = .ok (.invokestatic 138, 3) := dk_184 0 138 (dk_at dksX2_text_5 0 rfl rfl)
theorem dX2_text_120 : decode cX2_text 120 = .ok (.ifCond .ne 9, 3) := dk_154 0 9 (dk_at dksX2_text_5 3 rfl rfl)
theorem dX2_text_123 : decode cX2_text 123 = .ok (.bipush (-20), 2) := dk_16 236 (dk_at dksX2_text_5 6 rfl rfl)
theorem dX2_text_125 : decode cX2_text 125 = .ok (.iload 5, 2) := dk_21 5 (dk_at dksX2_text_5 8 rfl rfl)
theorem dX2_text_127 : decode cX2_text 127 = .ok (.isub, 1) := dk_100 (dk_at dksX2_text_5 10 rfl rfl)
theorem dX2_text_128 : decode cX2_text 128 = .ok (.ireturn, 1) := dk_172 (dk_at dksX2_text_5 11 rfl rfl)
theorem dX2_text_129 : decode cX2_text 129 = .ok (.iinc 5 1, 3) := dk_132 5 1 (dk_at dksX2_text_5 12 rfl rfl)
theorem dX2_text_132 : decode cX2_text 132 = .ok (.goto (-77), 3) := dk_167 255 179 (dk_at dksX2_text_5 15 rfl rfl)
theorem dX2_text_135 : decode cX2_text 135 = .ok (.aload_n 0, 1) := dk_42 (dk_at dksX2_text_5 18 rfl rfl)
theorem dX2_text_136 : decode cX2_text 136 = .ok (.getfield 164, 3) := dk_180 0 164 (dk_at dksX2_text_5 19 rfl rfl)
theorem dX2_text_139 : decode cX2_text 139 = .ok (.bipush 8, 2) := dk_16 8 (dk_at dksX2_text_5 22 rfl rfl)
theorem dX2_text_141 : decode cX2_text 141 = .ok (.if_icmp .ne 6, 3) := dk_160 0 6 (dk_at dksX2_text_6 0 rfl rfl)
theorem dX2_text_144 : decode cX2_text 144 = .ok (.bipush (-3), 2) := dk_16 253 (dk_at dksX2_text_6 3 rfl rfl)
theorem dX2_text_146 : decode cX2_text 146 = .ok (.ireturn, 1) := dk_172 (dk_at dksX2_text_6 5 rfl rfl)
theorem dX2_text_147 : decode cX2_text 147 = .ok (.iconst 0, 1) := dk_3 (dk_at dksX2_text_6 6 rfl rfl)
theorem dX2_text_148 : decode cX2_text 148 = .ok (.istore 5, 2) := dk_54 5 (dk_at dksX2_text_6 7 rfl rfl)
theorem dX2_text_150 : decode cX2_text 150 = .ok (.iload 5, 2) := dk_21 5 (dk_at dksX2_text_6 9 rfl rfl)
theorem dX2_text_152 : decode cX2_text 152 = .ok (.iload 4, 2) := dk_21 4 (dk_at dksX2_text_6 11 rfl rfl)
theorem dX2_text_154 : decode cX2_text 154 = .ok (.if_icmp .ge 38, 3) := dk_162 0 38 (dk_at dksX2_text_6 13 rfl rfl)
theorem dX2_text_157 : decode cX2_text 157 = .ok (.aload_n 0, 1) := dk_42 (dk_at dksX2_text_6 16 rfl rfl)
theorem dX2_text_158 : decode cX2_text 158 = .ok (.getfield 23, 3) := dk_180 0 23 (dk_at dksX2_text_6 17 rfl rfl)
theorem dX2_text_161 : decode cX2_text 161 = .ok (.bipush 24, 2) := dk_16 24 (dk_at dksX2_text_6 20 rfl rfl)
theorem dX2_text_163 : decode cX2_text 163 = .ok (.aload_n 0, 1) := dk_42 (dk_at dksX2_text_6 22 rfl rfl)
theorem dX2_text_164 : decode cX2_text 164 = .ok (.getfield 164, 3) := dk_180 0 164 (dk_at dksX2_text_7 0 rfl rfl)
theorem dX2_text_167 : decode cX2_text 167 = .ok (.imul, 1) := dk_104 (dk_at dksX2_text_7 3 rfl rfl)
theorem dX2_text_168 : decode cX2_text 168 = .ok (.iload 5, 2) := dk_21 5 (dk_at dksX2_text_7 4 rfl rfl)
theorem dX2_text_170 : decode cX2_text 170 = .ok (.iadd, 1) := dk_96 (dk_at dksX2_text_7 6 rfl rfl)
theorem dX2_text_171 : decode cX2_text 171 = .ok (.aload_n 0, 1) := dk_42 (dk_at dksX2_text_7 7 rfl rfl)
theorem dX2_text_172 : decode cX2_text 172 = .ok (.getfield 132, 3) := dk_180 0 132 (dk_at dksX2_text_7 8 rfl rfl)
theorem dX2_text_175 : decode cX2_text 175 = .ok (.bipush 60, 2) := dk_16 60 (dk_at dksX2_text_7 11 rfl rfl)
theorem dX2_text_177 : decode cX2_text 177 = .ok (.iload_n 1, 1) := dk_27 (dk_at dksX2_text_7 13 rfl rfl)
theorem dX2_text_178 : decode cX2_text 178 = .ok (.imul, 1) := dk_104 (dk_at dksX2_text_7 14 rfl rfl)
theorem dX2_text_179 : decode cX2_text 179 = .ok (.iload_n 3, 1) := dk_29 (dk_at dksX2_text_7 15 rfl rfl)
theorem dX2_text_180 : decode cX2_text 180 = .ok (.iadd, 1) := dk_96 (dk_at dksX2_text_7 16 rfl rfl)
theorem dX2_text_181 : decode cX2_text 181 = .ok (.iload 5, 2) := dk_21 5 (dk_at dksX2_text_7 17 rfl rfl)
theorem dX2_text_183 : decode cX2_text 183 = .ok (.iadd, 1) := dk_96 (dk_at dksX2_text_7 19 rfl rfl)
theorem dX2_text_184 : decode cX2_text 184 = .ok (.iaload, 1) := dk_46 (dk_at dksX2_text_7 20 rfl rfl)
theorem dX2_text_185 : decode cX2_text 185 = .ok (.iastore, 1) := dk_79 (dk_at dksX2_text_7 21 rfl rfl)
theorem dX2_text_186 : decode cX2_text 186 = .ok (.iinc 5 1, 3) := dk_132 5 1 (dk_at dksX2_text_8 0 rfl rfl)
theorem dX2_text_189 : decode cX2_text 189 = .ok (.goto (-39), 3) := dk_167 255 217 (dk_at dksX2_text_8 3 rfl rfl)
theorem dX2_text_192 : decode cX2_text 192 = .ok (.aload_n 0, 1) := dk_42 (dk_at dksX2_text_8 6 rfl rfl)
theorem dX2_text_193 : decode cX2_text 193 = .ok (.getfield 20, 3) := dk_180 0 20 (dk_at dksX2_text_8 7 rfl rfl)
theorem dX2_text_196 : decode cX2_text 196 = .ok (.aload_n 0, 1) := dk_42 (dk_at dksX2_text_8 10 rfl rfl)
theorem dX2_text_197 : decode cX2_text 197 = .ok (.getfield 164, 3) := dk_180 0 164 (dk_at dksX2_text_8 11 rfl rfl)
theorem dX2_text_200 : decode cX2_text 200 = .ok (.iload 4, 2) := dk_21 4 (dk_at dksX2_text_8 14 rfl rfl)
theorem dX2_text_202 : decode cX2_text 202 = .ok (.iastore, 1) := dk_79 (dk_at dksX2_text_8 16 rfl rfl)
theorem dX2_text_203 : decode cX2_text 203 = .ok (.aload_n 0, 1) := dk_42 (dk_at dksX2_text_8 17 rfl rfl)
theorem dX2_text_204 : decode cX2_text 204 = .ok (.dup, 1) := dk_89 (dk_at dksX2_text_8 18 rfl rfl)
theorem dX2_text_205 : decode cX2_text 205 = .ok (.getfield 164, 3) := dk_180 0 164 (dk_at dksX2_text_8 19 rfl rfl)
theorem dX2_text_208 : decode cX2_text 208 = .ok (.iconst 1, 1) := dk_4 (dk_at dksX2_text_8 22 rfl rfl)
theorem dX2_text_209 : decode cX2_text 209 = .ok (.iadd, 1) := dk_96 (dk_at dksX2_text_8 23 rfl rfl)
theorem dX2_text_210 : decode cX2_text 210 = .ok (.putfield 164, 3) := dk_181 0 164 (dk_at dksX2_text_9 0 rfl rfl)
theorem dX2_text_213 : decode cX2_text 213 = .ok (.aload_n 0, 1) := dk_42 (dk_at dksX2_text_9 3 rfl rfl)
theorem dX2_text_214 : decode cX2_text 214 = .ok (.getfield 164, 3) := dk_180 0 164 (dk_at dksX2_text_9 4 rfl rfl)
theorem dX2_text_217 : decode cX2_text 217 = .ok (.iconst 1, 1) := dk_4 (dk_at dksX2_text_9 7 rfl rfl)
theorem dX2_text_218 : decode cX2_text 218 = .ok (.isub, 1) := dk_100 (dk_at dksX2_text_9 8 rfl rfl)
theorem dX2_text_219 : decode cX2_text 219 = .ok (.ireturn, 1) := dk_172 (dk_at dksX2_text_9 9 rfl rfl)
abbrev cX2_count : ByteArray := prog_11_method_86_code
def yX2_count : MethodName := ⟨RX2, "count", "(I)I"⟩
def dkwX2_count_6 : List UInt8 := [167, 0, 9, 42, 180, 0, 129, 3, 46, 172, 2, 172]
abbrev dktX2_count_6 : List UInt8 := dkwX2_count_6 ++ []
def dkwX2_count_5 : List UInt8 := [180, 1, 115, 172, 42, 180, 1, 65, 172, 42, 180, 0, 126, 3, 46, 16, 252, 160, 0, 8, 16, 252]
abbrev dktX2_count_5 : List UInt8 := dkwX2_count_5 ++ dktX2_count_6
def dkwX2_count_4 : List UInt8 := [180, 0, 240, 172, 42, 180, 1, 4, 172, 42, 180, 1, 23, 172, 42, 180, 1, 118, 172, 28, 172, 42]
abbrev dktX2_count_4 : List UInt8 := dkwX2_count_4 ++ dktX2_count_5
def dkwX2_count_3 : List UInt8 := [42, 180, 0, 135, 172, 42, 180, 0, 164, 172, 42, 42, 180, 0, 13, 182, 0, 150, 42, 182, 0, 195, 172, 42]
abbrev dktX2_count_3 : List UInt8 := dkwX2_count_3 ++ dktX2_count_4
def dkwX2_count_2 : List UInt8 := [170, 0, 0, 0, 0, 136, 0, 0, 0, 0, 0, 0, 0, 10, 0, 0, 0, 58, 0, 0, 0, 63, 0, 0, 0, 68, 0, 0, 0, 81, 0, 0, 0, 86, 0, 0, 0, 91, 0, 0, 0, 96, 0, 0, 0, 101, 0, 0, 0, 103, 0, 0, 0, 108, 0, 0, 0, 113]
abbrev dktX2_count_2 : List UInt8 := dkwX2_count_2 ++ dktX2_count_3
def dkwX2_count_1 : List UInt8 := [3, 167, 0, 4, 4, 96, 61, 132, 3, 1, 167, 255, 226, 27]
abbrev dktX2_count_1 : List UInt8 := dkwX2_count_1 ++ dktX2_count_2
def dkwX2_count_0 : List UInt8 := [3, 61, 3, 62, 29, 42, 180, 1, 118, 162, 0, 28, 28, 42, 180, 0, 117, 29, 46, 16, 252, 160, 0, 7]
abbrev dktX2_count_0 : List UInt8 := dkwX2_count_0 ++ dktX2_count_1
theorem dksX2_count_0 : cX2_count.data.toList.drop 0 = dktX2_count_0 := by decide +kernel
theorem dksX2_count_1 : cX2_count.data.toList.drop 24 = dktX2_count_1 := dk_seg dksX2_count_0 24 rfl rfl
theorem dksX2_count_2 : cX2_count.data.toList.drop 38 = dktX2_count_2 := dk_seg dksX2_count_1 14 rfl rfl
theorem dksX2_count_3 : cX2_count.data.toList.drop 96 = dktX2_count_3 := dk_seg dksX2_count_2 58 rfl rfl
theorem dksX2_count_4 : cX2_count.data.toList.drop 120 = dktX2_count_4 := dk_seg dksX2_count_3 24 rfl rfl
theorem dksX2_count_5 : cX2_count.data.toList.drop 142 = dktX2_count_5 := dk_seg dksX2_count_4 22 rfl rfl
theorem dksX2_count_6 : cX2_count.data.toList.drop 164 = dktX2_count_6 := dk_seg dksX2_count_5 22 rfl rfl
theorem dX2_count_0 : decode cX2_count 0 = .ok (.iconst 0, 1) := dk_3 (dk_at dksX2_count_0 0 rfl rfl)
theorem dX2_count_1 : decode cX2_count 1 = .ok (.istore_n 2, 1) := dk_61 (dk_at dksX2_count_0 1 rfl rfl)
theorem dX2_count_2 : decode cX2_count 2 = .ok (.iconst 0, 1) := dk_3 (dk_at dksX2_count_0 2 rfl rfl)
theorem dX2_count_3 : decode cX2_count 3 = .ok (.istore_n 3, 1) := dk_62 (dk_at dksX2_count_0 3 rfl rfl)
theorem dX2_count_4 : decode cX2_count 4 = .ok (.iload_n 3, 1) := dk_29 (dk_at dksX2_count_0 4 rfl rfl)
theorem dX2_count_5 : decode cX2_count 5 = .ok (.aload_n 0, 1) := dk_42 (dk_at dksX2_count_0 5 rfl rfl)
theorem dX2_count_6 : decode cX2_count 6 = .ok (.getfield 374, 3) := dk_180 1 118 (dk_at dksX2_count_0 6 rfl rfl)
theorem dX2_count_9 : decode cX2_count 9 = .ok (.if_icmp .ge 28, 3) := dk_162 0 28 (dk_at dksX2_count_0 9 rfl rfl)
theorem dX2_count_12 : decode cX2_count 12 = .ok (.iload_n 2, 1) := dk_28 (dk_at dksX2_count_0 12 rfl rfl)
theorem dX2_count_13 : decode cX2_count 13 = .ok (.aload_n 0, 1) := dk_42 (dk_at dksX2_count_0 13 rfl rfl)
theorem dX2_count_14 : decode cX2_count 14 = .ok (.getfield 117, 3) := dk_180 0 117 (dk_at dksX2_count_0 14 rfl rfl)
theorem dX2_count_17 : decode cX2_count 17 = .ok (.iload_n 3, 1) := dk_29 (dk_at dksX2_count_0 17 rfl rfl)
theorem dX2_count_18 : decode cX2_count 18 = .ok (.iaload, 1) := dk_46 (dk_at dksX2_count_0 18 rfl rfl)
theorem dX2_count_19 : decode cX2_count 19 = .ok (.bipush (-4), 2) := dk_16 252 (dk_at dksX2_count_0 19 rfl rfl)
theorem dX2_count_21 : decode cX2_count 21 = .ok (.if_icmp .ne 7, 3) := dk_160 0 7 (dk_at dksX2_count_0 21 rfl rfl)
theorem dX2_count_24 : decode cX2_count 24 = .ok (.iconst 0, 1) := dk_3 (dk_at dksX2_count_1 0 rfl rfl)
theorem dX2_count_25 : decode cX2_count 25 = .ok (.goto 4, 3) := dk_167 0 4 (dk_at dksX2_count_1 1 rfl rfl)
theorem dX2_count_28 : decode cX2_count 28 = .ok (.iconst 1, 1) := dk_4 (dk_at dksX2_count_1 4 rfl rfl)
theorem dX2_count_29 : decode cX2_count 29 = .ok (.iadd, 1) := dk_96 (dk_at dksX2_count_1 5 rfl rfl)
theorem dX2_count_30 : decode cX2_count 30 = .ok (.istore_n 2, 1) := dk_61 (dk_at dksX2_count_1 6 rfl rfl)
theorem dX2_count_31 : decode cX2_count 31 = .ok (.iinc 3 1, 3) := dk_132 3 1 (dk_at dksX2_count_1 7 rfl rfl)
theorem dX2_count_34 : decode cX2_count 34 = .ok (.goto (-30), 3) := dk_167 255 226 (dk_at dksX2_count_1 10 rfl rfl)
theorem dX2_count_37 : decode cX2_count 37 = .ok (.iload_n 1, 1) := dk_27 (dk_at dksX2_count_1 13 rfl rfl)
theorem dX2_count_38 : decode cX2_count 38 = .ok (.tableswitch 136 0 10 #[58, 63, 68, 81, 86, 91, 96, 101, 103, 108, 113], 58) := by decide +kernel
theorem dX2_count_96 : decode cX2_count 96 = .ok (.aload_n 0, 1) := dk_42 (dk_at dksX2_count_3 0 rfl rfl)
theorem dX2_count_97 : decode cX2_count 97 = .ok (.getfield 135, 3) := dk_180 0 135 (dk_at dksX2_count_3 1 rfl rfl)
theorem dX2_count_100 : decode cX2_count 100 = .ok (.ireturn, 1) := dk_172 (dk_at dksX2_count_3 4 rfl rfl)
theorem dX2_count_101 : decode cX2_count 101 = .ok (.aload_n 0, 1) := dk_42 (dk_at dksX2_count_3 5 rfl rfl)
theorem dX2_count_102 : decode cX2_count 102 = .ok (.getfield 164, 3) := dk_180 0 164 (dk_at dksX2_count_3 6 rfl rfl)
theorem dX2_count_105 : decode cX2_count 105 = .ok (.ireturn, 1) := dk_172 (dk_at dksX2_count_3 9 rfl rfl)
theorem dX2_count_106 : decode cX2_count 106 = .ok (.aload_n 0, 1) := dk_42 (dk_at dksX2_count_3 10 rfl rfl)
theorem dX2_count_107 : decode cX2_count 107 = .ok (.aload_n 0, 1) := dk_42 (dk_at dksX2_count_3 11 rfl rfl)
theorem dX2_count_108 : decode cX2_count 108 = .ok (.getfield 13, 3) := dk_180 0 13 (dk_at dksX2_count_3 12 rfl rfl)
theorem dX2_count_111 : decode cX2_count 111 = .ok (.invokevirtual 150, 3) := dk_182 0 150 (dk_at dksX2_count_3 15 rfl rfl)
theorem dX2_count_114 : decode cX2_count 114 = .ok (.aload_n 0, 1) := dk_42 (dk_at dksX2_count_3 18 rfl rfl)
theorem dX2_count_115 : decode cX2_count 115 = .ok (.invokevirtual 195, 3) := dk_182 0 195 (dk_at dksX2_count_3 19 rfl rfl)
theorem dX2_count_118 : decode cX2_count 118 = .ok (.ireturn, 1) := dk_172 (dk_at dksX2_count_3 22 rfl rfl)
theorem dX2_count_119 : decode cX2_count 119 = .ok (.aload_n 0, 1) := dk_42 (dk_at dksX2_count_3 23 rfl rfl)
theorem dX2_count_120 : decode cX2_count 120 = .ok (.getfield 240, 3) := dk_180 0 240 (dk_at dksX2_count_4 0 rfl rfl)
theorem dX2_count_123 : decode cX2_count 123 = .ok (.ireturn, 1) := dk_172 (dk_at dksX2_count_4 3 rfl rfl)
theorem dX2_count_124 : decode cX2_count 124 = .ok (.aload_n 0, 1) := dk_42 (dk_at dksX2_count_4 4 rfl rfl)
theorem dX2_count_125 : decode cX2_count 125 = .ok (.getfield 260, 3) := dk_180 1 4 (dk_at dksX2_count_4 5 rfl rfl)
theorem dX2_count_128 : decode cX2_count 128 = .ok (.ireturn, 1) := dk_172 (dk_at dksX2_count_4 8 rfl rfl)
theorem dX2_count_129 : decode cX2_count 129 = .ok (.aload_n 0, 1) := dk_42 (dk_at dksX2_count_4 9 rfl rfl)
theorem dX2_count_130 : decode cX2_count 130 = .ok (.getfield 279, 3) := dk_180 1 23 (dk_at dksX2_count_4 10 rfl rfl)
theorem dX2_count_133 : decode cX2_count 133 = .ok (.ireturn, 1) := dk_172 (dk_at dksX2_count_4 13 rfl rfl)
theorem dX2_count_134 : decode cX2_count 134 = .ok (.aload_n 0, 1) := dk_42 (dk_at dksX2_count_4 14 rfl rfl)
theorem dX2_count_135 : decode cX2_count 135 = .ok (.getfield 374, 3) := dk_180 1 118 (dk_at dksX2_count_4 15 rfl rfl)
theorem dX2_count_138 : decode cX2_count 138 = .ok (.ireturn, 1) := dk_172 (dk_at dksX2_count_4 18 rfl rfl)
theorem dX2_count_139 : decode cX2_count 139 = .ok (.iload_n 2, 1) := dk_28 (dk_at dksX2_count_4 19 rfl rfl)
theorem dX2_count_140 : decode cX2_count 140 = .ok (.ireturn, 1) := dk_172 (dk_at dksX2_count_4 20 rfl rfl)
theorem dX2_count_141 : decode cX2_count 141 = .ok (.aload_n 0, 1) := dk_42 (dk_at dksX2_count_4 21 rfl rfl)
theorem dX2_count_142 : decode cX2_count 142 = .ok (.getfield 371, 3) := dk_180 1 115 (dk_at dksX2_count_5 0 rfl rfl)
theorem dX2_count_145 : decode cX2_count 145 = .ok (.ireturn, 1) := dk_172 (dk_at dksX2_count_5 3 rfl rfl)
theorem dX2_count_146 : decode cX2_count 146 = .ok (.aload_n 0, 1) := dk_42 (dk_at dksX2_count_5 4 rfl rfl)
theorem dX2_count_147 : decode cX2_count 147 = .ok (.getfield 321, 3) := dk_180 1 65 (dk_at dksX2_count_5 5 rfl rfl)
theorem dX2_count_150 : decode cX2_count 150 = .ok (.ireturn, 1) := dk_172 (dk_at dksX2_count_5 8 rfl rfl)
theorem dX2_count_151 : decode cX2_count 151 = .ok (.aload_n 0, 1) := dk_42 (dk_at dksX2_count_5 9 rfl rfl)
theorem dX2_count_152 : decode cX2_count 152 = .ok (.getfield 126, 3) := dk_180 0 126 (dk_at dksX2_count_5 10 rfl rfl)
theorem dX2_count_155 : decode cX2_count 155 = .ok (.iconst 0, 1) := dk_3 (dk_at dksX2_count_5 13 rfl rfl)
theorem dX2_count_156 : decode cX2_count 156 = .ok (.iaload, 1) := dk_46 (dk_at dksX2_count_5 14 rfl rfl)
theorem dX2_count_157 : decode cX2_count 157 = .ok (.bipush (-4), 2) := dk_16 252 (dk_at dksX2_count_5 15 rfl rfl)
theorem dX2_count_159 : decode cX2_count 159 = .ok (.if_icmp .ne 8, 3) := dk_160 0 8 (dk_at dksX2_count_5 17 rfl rfl)
theorem dX2_count_162 : decode cX2_count 162 = .ok (.bipush (-4), 2) := dk_16 252 (dk_at dksX2_count_5 20 rfl rfl)
theorem dX2_count_164 : decode cX2_count 164 = .ok (.goto 9, 3) := dk_167 0 9 (dk_at dksX2_count_6 0 rfl rfl)
theorem dX2_count_167 : decode cX2_count 167 = .ok (.aload_n 0, 1) := dk_42 (dk_at dksX2_count_6 3 rfl rfl)
theorem dX2_count_168 : decode cX2_count 168 = .ok (.getfield 129, 3) := dk_180 0 129 (dk_at dksX2_count_6 4 rfl rfl)
theorem dX2_count_171 : decode cX2_count 171 = .ok (.iconst 0, 1) := dk_3 (dk_at dksX2_count_6 7 rfl rfl)
theorem dX2_count_172 : decode cX2_count 172 = .ok (.iaload, 1) := dk_46 (dk_at dksX2_count_6 8 rfl rfl)
theorem dX2_count_173 : decode cX2_count 173 = .ok (.ireturn, 1) := dk_172 (dk_at dksX2_count_6 9 rfl rfl)
theorem dX2_count_174 : decode cX2_count 174 = .ok (.iconst (-1), 1) := dk_2 (dk_at dksX2_count_6 10 rfl rfl)
theorem dX2_count_175 : decode cX2_count 175 = .ok (.ireturn, 1) := dk_172 (dk_at dksX2_count_6 11 rfl rfl)
theorem q88 : (Jvm.Cond.initialized "UnreadScriptModel") ∈ lw_all := lw_g (lw_at lw_m1 3 rfl) rfl
theorem q1009 : (Jvm.Cond.instantiable "UnreadScriptModel" (63 : Nat)) ∈ lw_all := lw_g (lw_at lw_m4 204 rfl) rfl
theorem q1011 : (Jvm.Cond.instanceMethod ({ cls := "UnreadScriptModel", name := "<init>", desc := "()V" } : Jvm.MethodName)) ∈ lw_all := lw_g (lw_at lw_m4 206 rfl) rfl
theorem q1012 : (Jvm.Cond.code ({ cls := "UnreadScriptModel", name := "<init>", desc := "()V" } : Jvm.MethodName) prog_11_method_1_code (2 : Nat) (Option.none : Option Jvm.ClassFile.FieldType)) ∈ lw_all := lw_g (lw_at lw_m4 207 rfl) rfl
theorem q1013 : (Jvm.Cond.methodLink "UnreadScriptModel" (1 : Nat) ({ cls := "java/lang/Object", name := "<init>", desc := "()V" } : Jvm.MethodName)) ∈ lw_all := lw_g (lw_at lw_m4 208 rfl) rfl
theorem q1014 : (Jvm.Cond.fieldLink "UnreadScriptModel" (135 : Nat) "UnreadScriptModel" "forms" "I") ∈ lw_all := lw_g (lw_at lw_m4 209 rfl) rfl
theorem q1015 : (Jvm.Cond.fieldLink "UnreadScriptModel" (7 : Nat) "UnreadScriptModel" "features" "[I") ∈ lw_all := lw_g (lw_at lw_m4 210 rfl) rfl
theorem q1016 : (Jvm.Cond.fieldLink "UnreadScriptModel" (13 : Nat) "UnreadScriptModel" "likeness" "I") ∈ lw_all := lw_g (lw_at lw_m4 211 rfl) rfl
theorem q1017 : (Jvm.Cond.fieldLink "UnreadScriptModel" (17 : Nat) "UnreadScriptModel" "signOf" "[I") ∈ lw_all := lw_g (lw_at lw_m4 212 rfl) rfl
theorem q1018 : (Jvm.Cond.fieldLink "UnreadScriptModel" (164 : Nat) "UnreadScriptModel" "texts" "I") ∈ lw_all := lw_g (lw_at lw_m4 213 rfl) rfl
theorem q1019 : (Jvm.Cond.fieldLink "UnreadScriptModel" (20 : Nat) "UnreadScriptModel" "tMany" "[I") ∈ lw_all := lw_g (lw_at lw_m4 214 rfl) rfl
theorem q1020 : (Jvm.Cond.fieldLink "UnreadScriptModel" (23 : Nat) "UnreadScriptModel" "tCells" "[I") ∈ lw_all := lw_g (lw_at lw_m4 215 rfl) rfl
theorem q1021 : (Jvm.Cond.fieldLink "UnreadScriptModel" (167 : Nat) "UnreadScriptModel" "words" "I") ∈ lw_all := lw_g (lw_at lw_m4 216 rfl) rfl
theorem q1022 : (Jvm.Cond.fieldLink "UnreadScriptModel" (26 : Nat) "UnreadScriptModel" "wText" "[I") ∈ lw_all := lw_g (lw_at lw_m4 217 rfl) rfl
theorem q1023 : (Jvm.Cond.fieldLink "UnreadScriptModel" (29 : Nat) "UnreadScriptModel" "wFrom" "[I") ∈ lw_all := lw_g (lw_at lw_m4 218 rfl) rfl
theorem q1024 : (Jvm.Cond.fieldLink "UnreadScriptModel" (32 : Nat) "UnreadScriptModel" "wMany" "[I") ∈ lw_all := lw_g (lw_at lw_m4 219 rfl) rfl
theorem q1025 : (Jvm.Cond.fieldLink "UnreadScriptModel" (35 : Nat) "UnreadScriptModel" "isWhole" "[Z") ∈ lw_all := lw_g (lw_at lw_m4 220 rfl) rfl
theorem q1026 : (Jvm.Cond.fieldLink "UnreadScriptModel" (39 : Nat) "UnreadScriptModel" "edges" "[I") ∈ lw_all := lw_g (lw_at lw_m4 221 rfl) rfl
theorem q1027 : (Jvm.Cond.fieldLink "UnreadScriptModel" (42 : Nat) "UnreadScriptModel" "aparts" "[I") ∈ lw_all := lw_g (lw_at lw_m4 222 rfl) rfl
theorem q1028 : (Jvm.Cond.fieldLink "UnreadScriptModel" (45 : Nat) "UnreadScriptModel" "akins" "[I") ∈ lw_all := lw_g (lw_at lw_m4 223 rfl) rfl
theorem q1029 : (Jvm.Cond.fieldLink "UnreadScriptModel" (218 : Nat) "UnreadScriptModel" "gridMany" "I") ∈ lw_all := lw_g (lw_at lw_m4 224 rfl) rfl
theorem q1030 : (Jvm.Cond.fieldLink "UnreadScriptModel" (48 : Nat) "UnreadScriptModel" "gSign" "[I") ∈ lw_all := lw_g (lw_at lw_m4 225 rfl) rfl
theorem q1031 : (Jvm.Cond.fieldLink "UnreadScriptModel" (51 : Nat) "UnreadScriptModel" "gApart" "[I") ∈ lw_all := lw_g (lw_at lw_m4 226 rfl) rfl
theorem q1032 : (Jvm.Cond.fieldLink "UnreadScriptModel" (54 : Nat) "UnreadScriptModel" "gRow" "[I") ∈ lw_all := lw_g (lw_at lw_m4 227 rfl) rfl
theorem q1033 : (Jvm.Cond.fieldLink "UnreadScriptModel" (57 : Nat) "UnreadScriptModel" "bestRow" "[I") ∈ lw_all := lw_g (lw_at lw_m4 228 rfl) rfl
theorem q1034 : (Jvm.Cond.fieldLink "UnreadScriptModel" (240 : Nat) "UnreadScriptModel" "accounts" "I") ∈ lw_all := lw_g (lw_at lw_m4 229 rfl) rfl
theorem q1035 : (Jvm.Cond.fieldLink "UnreadScriptModel" (60 : Nat) "UnreadScriptModel" "items" "[I") ∈ lw_all := lw_g (lw_at lw_m4 230 rfl) rfl
theorem q1036 : (Jvm.Cond.fieldLink "UnreadScriptModel" (63 : Nat) "UnreadScriptModel" "totals" "[I") ∈ lw_all := lw_g (lw_at lw_m4 231 rfl) rfl
theorem q1037 : (Jvm.Cond.fieldLink "UnreadScriptModel" (66 : Nat) "UnreadScriptModel" "valued" "[I") ∈ lw_all := lw_g (lw_at lw_m4 232 rfl) rfl
theorem q1038 : (Jvm.Cond.fieldLink "UnreadScriptModel" (246 : Nat) "UnreadScriptModel" "fitting" "I") ∈ lw_all := lw_g (lw_at lw_m4 233 rfl) rfl
theorem q1039 : (Jvm.Cond.fieldLink "UnreadScriptModel" (69 : Nat) "UnreadScriptModel" "firstFit" "[I") ∈ lw_all := lw_g (lw_at lw_m4 234 rfl) rfl
theorem q1040 : (Jvm.Cond.fieldLink "UnreadScriptModel" (72 : Nat) "UnreadScriptModel" "isHad" "[Z") ∈ lw_all := lw_g (lw_at lw_m4 235 rfl) rfl
theorem q1041 : (Jvm.Cond.fieldLink "UnreadScriptModel" (260 : Nat) "UnreadScriptModel" "names" "I") ∈ lw_all := lw_g (lw_at lw_m4 236 rfl) rfl
theorem q1042 : (Jvm.Cond.fieldLink "UnreadScriptModel" (75 : Nat) "UnreadScriptModel" "nMany" "[I") ∈ lw_all := lw_g (lw_at lw_m4 237 rfl) rfl
theorem q1043 : (Jvm.Cond.fieldLink "UnreadScriptModel" (78 : Nat) "UnreadScriptModel" "nSounds" "[I") ∈ lw_all := lw_g (lw_at lw_m4 238 rfl) rfl
theorem q1044 : (Jvm.Cond.fieldLink "UnreadScriptModel" (279 : Nat) "UnreadScriptModel" "tongue" "I") ∈ lw_all := lw_g (lw_at lw_m4 239 rfl) rfl
theorem q1045 : (Jvm.Cond.fieldLink "UnreadScriptModel" (81 : Nat) "UnreadScriptModel" "tongueMany" "[I") ∈ lw_all := lw_g (lw_at lw_m5 0 rfl) rfl
theorem q1046 : (Jvm.Cond.fieldLink "UnreadScriptModel" (84 : Nat) "UnreadScriptModel" "tongueSounds" "[I") ∈ lw_all := lw_g (lw_at lw_m5 1 rfl) rfl
theorem q1047 : (Jvm.Cond.fieldLink "UnreadScriptModel" (282 : Nat) "UnreadScriptModel" "tabled" "I") ∈ lw_all := lw_g (lw_at lw_m5 2 rfl) rfl
theorem q1048 : (Jvm.Cond.fieldLink "UnreadScriptModel" (87 : Nat) "UnreadScriptModel" "table" "[I") ∈ lw_all := lw_g (lw_at lw_m5 3 rfl) rfl
theorem q1049 : (Jvm.Cond.fieldLink "UnreadScriptModel" (90 : Nat) "UnreadScriptModel" "spot" "[I") ∈ lw_all := lw_g (lw_at lw_m5 4 rfl) rfl
theorem q1050 : (Jvm.Cond.fieldLink "UnreadScriptModel" (288 : Nat) "UnreadScriptModel" "readable" "I") ∈ lw_all := lw_g (lw_at lw_m5 5 rfl) rfl
theorem q1051 : (Jvm.Cond.fieldLink "UnreadScriptModel" (93 : Nat) "UnreadScriptModel" "rMany" "[I") ∈ lw_all := lw_g (lw_at lw_m5 6 rfl) rfl
theorem q1052 : (Jvm.Cond.fieldLink "UnreadScriptModel" (96 : Nat) "UnreadScriptModel" "rPlaces" "[I") ∈ lw_all := lw_g (lw_at lw_m5 7 rfl) rfl
theorem q1053 : (Jvm.Cond.fieldLink "UnreadScriptModel" (99 : Nat) "UnreadScriptModel" "isWord" "[Z") ∈ lw_all := lw_g (lw_at lw_m5 8 rfl) rfl
theorem q1054 : (Jvm.Cond.fieldLink "UnreadScriptModel" (312 : Nat) "UnreadScriptModel" "best" "I") ∈ lw_all := lw_g (lw_at lw_m5 9 rfl) rfl
theorem q1055 : (Jvm.Cond.fieldLink "UnreadScriptModel" (303 : Nat) "UnreadScriptModel" "bestRead" "I") ∈ lw_all := lw_g (lw_at lw_m5 10 rfl) rfl
theorem q1056 : (Jvm.Cond.fieldLink "UnreadScriptModel" (306 : Nat) "UnreadScriptModel" "bestMany" "I") ∈ lw_all := lw_g (lw_at lw_m5 11 rfl) rfl
theorem q1057 : (Jvm.Cond.fieldLink "UnreadScriptModel" (102 : Nat) "UnreadScriptModel" "order" "[I") ∈ lw_all := lw_g (lw_at lw_m5 12 rfl) rfl
theorem q1058 : (Jvm.Cond.fieldLink "UnreadScriptModel" (105 : Nat) "UnreadScriptModel" "tape" "[I") ∈ lw_all := lw_g (lw_at lw_m5 13 rfl) rfl
theorem q1059 : (Jvm.Cond.fieldLink "UnreadScriptModel" (321 : Nat) "UnreadScriptModel" "taped" "I") ∈ lw_all := lw_g (lw_at lw_m5 14 rfl) rfl
theorem q1060 : (Jvm.Cond.fieldLink "UnreadScriptModel" (335 : Nat) "UnreadScriptModel" "pos" "I") ∈ lw_all := lw_g (lw_at lw_m5 15 rfl) rfl
theorem q1061 : (Jvm.Cond.fieldLink "UnreadScriptModel" (329 : Nat) "UnreadScriptModel" "from" "I") ∈ lw_all := lw_g (lw_at lw_m5 16 rfl) rfl
theorem q1062 : (Jvm.Cond.fieldLink "UnreadScriptModel" (344 : Nat) "UnreadScriptModel" "sort" "I") ∈ lw_all := lw_g (lw_at lw_m5 17 rfl) rfl
theorem q1063 : (Jvm.Cond.fieldLink "UnreadScriptModel" (354 : Nat) "UnreadScriptModel" "value" "I") ∈ lw_all := lw_g (lw_at lw_m5 18 rfl) rfl
theorem q1064 : (Jvm.Cond.fieldLink "UnreadScriptModel" (326 : Nat) "UnreadScriptModel" "fault" "I") ∈ lw_all := lw_g (lw_at lw_m5 19 rfl) rfl
theorem q1065 : (Jvm.Cond.fieldLink "UnreadScriptModel" (332 : Nat) "UnreadScriptModel" "wrongAt" "I") ∈ lw_all := lw_g (lw_at lw_m5 20 rfl) rfl
theorem q1066 : (Jvm.Cond.fieldLink "UnreadScriptModel" (374 : Nat) "UnreadScriptModel" "claims" "I") ∈ lw_all := lw_g (lw_at lw_m5 21 rfl) rfl
theorem q1067 : (Jvm.Cond.fieldLink "UnreadScriptModel" (108 : Nat) "UnreadScriptModel" "cKind" "[I") ∈ lw_all := lw_g (lw_at lw_m5 22 rfl) rfl
theorem q1068 : (Jvm.Cond.fieldLink "UnreadScriptModel" (111 : Nat) "UnreadScriptModel" "cNumber" "[I") ∈ lw_all := lw_g (lw_at lw_m5 23 rfl) rfl
theorem q1069 : (Jvm.Cond.fieldLink "UnreadScriptModel" (114 : Nat) "UnreadScriptModel" "cCame" "[I") ∈ lw_all := lw_g (lw_at lw_m5 24 rfl) rfl
theorem q1070 : (Jvm.Cond.fieldLink "UnreadScriptModel" (117 : Nat) "UnreadScriptModel" "cGone" "[I") ∈ lw_all := lw_g (lw_at lw_m5 25 rfl) rfl
theorem q1071 : (Jvm.Cond.fieldLink "UnreadScriptModel" (120 : Nat) "UnreadScriptModel" "cOn" "[I") ∈ lw_all := lw_g (lw_at lw_m5 26 rfl) rfl
theorem q1072 : (Jvm.Cond.fieldLink "UnreadScriptModel" (371 : Nat) "UnreadScriptModel" "today" "I") ∈ lw_all := lw_g (lw_at lw_m5 27 rfl) rfl
theorem q1073 : (Jvm.Cond.fieldLink "UnreadScriptModel" (123 : Nat) "UnreadScriptModel" "deep" "[I") ∈ lw_all := lw_g (lw_at lw_m5 28 rfl) rfl
theorem q1074 : (Jvm.Cond.fieldLink "UnreadScriptModel" (126 : Nat) "UnreadScriptModel" "lanes" "[I") ∈ lw_all := lw_g (lw_at lw_m5 29 rfl) rfl
theorem q1075 : (Jvm.Cond.fieldLink "UnreadScriptModel" (129 : Nat) "UnreadScriptModel" "sizes" "[I") ∈ lw_all := lw_g (lw_at lw_m5 30 rfl) rfl
theorem q1076 : (Jvm.Cond.fieldLink "UnreadScriptModel" (132 : Nat) "UnreadScriptModel" "cells" "[I") ∈ lw_all := lw_g (lw_at lw_m5 31 rfl) rfl
theorem q1077 : (Jvm.Cond.lays "UnreadScriptModel" "UnreadScriptModel" "forms" "I") ∈ lw_all := lw_g (lw_at lw_m5 32 rfl) rfl
theorem q1078 : (Jvm.Cond.soleField "UnreadScriptModel" "forms") ∈ lw_all := lw_g (lw_at lw_m5 33 rfl) rfl
theorem q1079 : (Jvm.Cond.laysFinal "UnreadScriptModel" "UnreadScriptModel" "features" "[I") ∈ lw_all := lw_g (lw_at lw_m5 34 rfl) rfl
theorem q1080 : (Jvm.Cond.soleField "UnreadScriptModel" "features") ∈ lw_all := lw_g (lw_at lw_m5 35 rfl) rfl
theorem q1081 : (Jvm.Cond.lays "UnreadScriptModel" "UnreadScriptModel" "likeness" "I") ∈ lw_all := lw_g (lw_at lw_m5 36 rfl) rfl
theorem q1082 : (Jvm.Cond.soleField "UnreadScriptModel" "likeness") ∈ lw_all := lw_g (lw_at lw_m5 37 rfl) rfl
theorem q1083 : (Jvm.Cond.laysFinal "UnreadScriptModel" "UnreadScriptModel" "signOf" "[I") ∈ lw_all := lw_g (lw_at lw_m5 38 rfl) rfl
theorem q1084 : (Jvm.Cond.soleField "UnreadScriptModel" "signOf") ∈ lw_all := lw_g (lw_at lw_m5 39 rfl) rfl
theorem q1085 : (Jvm.Cond.lays "UnreadScriptModel" "UnreadScriptModel" "texts" "I") ∈ lw_all := lw_g (lw_at lw_m5 40 rfl) rfl
theorem q1086 : (Jvm.Cond.soleField "UnreadScriptModel" "texts") ∈ lw_all := lw_g (lw_at lw_m5 41 rfl) rfl
theorem q1087 : (Jvm.Cond.laysFinal "UnreadScriptModel" "UnreadScriptModel" "tMany" "[I") ∈ lw_all := lw_g (lw_at lw_m5 42 rfl) rfl
theorem q1088 : (Jvm.Cond.soleField "UnreadScriptModel" "tMany") ∈ lw_all := lw_g (lw_at lw_m5 43 rfl) rfl
theorem q1089 : (Jvm.Cond.laysFinal "UnreadScriptModel" "UnreadScriptModel" "tCells" "[I") ∈ lw_all := lw_g (lw_at lw_m5 44 rfl) rfl
theorem q1090 : (Jvm.Cond.soleField "UnreadScriptModel" "tCells") ∈ lw_all := lw_g (lw_at lw_m5 45 rfl) rfl
theorem q1091 : (Jvm.Cond.lays "UnreadScriptModel" "UnreadScriptModel" "words" "I") ∈ lw_all := lw_g (lw_at lw_m5 46 rfl) rfl
theorem q1092 : (Jvm.Cond.soleField "UnreadScriptModel" "words") ∈ lw_all := lw_g (lw_at lw_m5 47 rfl) rfl
theorem q1093 : (Jvm.Cond.laysFinal "UnreadScriptModel" "UnreadScriptModel" "wText" "[I") ∈ lw_all := lw_g (lw_at lw_m5 48 rfl) rfl
theorem q1094 : (Jvm.Cond.soleField "UnreadScriptModel" "wText") ∈ lw_all := lw_g (lw_at lw_m5 49 rfl) rfl
theorem q1095 : (Jvm.Cond.laysFinal "UnreadScriptModel" "UnreadScriptModel" "wFrom" "[I") ∈ lw_all := lw_g (lw_at lw_m5 50 rfl) rfl
theorem q1096 : (Jvm.Cond.soleField "UnreadScriptModel" "wFrom") ∈ lw_all := lw_g (lw_at lw_m5 51 rfl) rfl
theorem q1097 : (Jvm.Cond.laysFinal "UnreadScriptModel" "UnreadScriptModel" "wMany" "[I") ∈ lw_all := lw_g (lw_at lw_m5 52 rfl) rfl
theorem q1098 : (Jvm.Cond.soleField "UnreadScriptModel" "wMany") ∈ lw_all := lw_g (lw_at lw_m5 53 rfl) rfl
theorem q1099 : (Jvm.Cond.laysFinal "UnreadScriptModel" "UnreadScriptModel" "isWhole" "[Z") ∈ lw_all := lw_g (lw_at lw_m5 54 rfl) rfl
theorem q1100 : (Jvm.Cond.soleField "UnreadScriptModel" "isWhole") ∈ lw_all := lw_g (lw_at lw_m5 55 rfl) rfl
theorem q1101 : (Jvm.Cond.laysFinal "UnreadScriptModel" "UnreadScriptModel" "edges" "[I") ∈ lw_all := lw_g (lw_at lw_m5 56 rfl) rfl
theorem q1102 : (Jvm.Cond.soleField "UnreadScriptModel" "edges") ∈ lw_all := lw_g (lw_at lw_m5 57 rfl) rfl
theorem q1103 : (Jvm.Cond.laysFinal "UnreadScriptModel" "UnreadScriptModel" "aparts" "[I") ∈ lw_all := lw_g (lw_at lw_m5 58 rfl) rfl
theorem q1104 : (Jvm.Cond.soleField "UnreadScriptModel" "aparts") ∈ lw_all := lw_g (lw_at lw_m5 59 rfl) rfl
theorem q1105 : (Jvm.Cond.laysFinal "UnreadScriptModel" "UnreadScriptModel" "akins" "[I") ∈ lw_all := lw_g (lw_at lw_m5 60 rfl) rfl
theorem q1106 : (Jvm.Cond.soleField "UnreadScriptModel" "akins") ∈ lw_all := lw_g (lw_at lw_m5 61 rfl) rfl
theorem q1107 : (Jvm.Cond.lays "UnreadScriptModel" "UnreadScriptModel" "gridMany" "I") ∈ lw_all := lw_g (lw_at lw_m5 62 rfl) rfl
theorem q1108 : (Jvm.Cond.soleField "UnreadScriptModel" "gridMany") ∈ lw_all := lw_g (lw_at lw_m5 63 rfl) rfl
theorem q1109 : (Jvm.Cond.laysFinal "UnreadScriptModel" "UnreadScriptModel" "gSign" "[I") ∈ lw_all := lw_g (lw_at lw_m5 64 rfl) rfl
theorem q1110 : (Jvm.Cond.soleField "UnreadScriptModel" "gSign") ∈ lw_all := lw_g (lw_at lw_m5 65 rfl) rfl
theorem q1111 : (Jvm.Cond.laysFinal "UnreadScriptModel" "UnreadScriptModel" "gApart" "[I") ∈ lw_all := lw_g (lw_at lw_m5 66 rfl) rfl
theorem q1112 : (Jvm.Cond.soleField "UnreadScriptModel" "gApart") ∈ lw_all := lw_g (lw_at lw_m5 67 rfl) rfl
theorem q1113 : (Jvm.Cond.laysFinal "UnreadScriptModel" "UnreadScriptModel" "gRow" "[I") ∈ lw_all := lw_g (lw_at lw_m5 68 rfl) rfl
theorem q1114 : (Jvm.Cond.soleField "UnreadScriptModel" "gRow") ∈ lw_all := lw_g (lw_at lw_m5 69 rfl) rfl
theorem q1115 : (Jvm.Cond.laysFinal "UnreadScriptModel" "UnreadScriptModel" "bestRow" "[I") ∈ lw_all := lw_g (lw_at lw_m5 70 rfl) rfl
theorem q1116 : (Jvm.Cond.soleField "UnreadScriptModel" "bestRow") ∈ lw_all := lw_g (lw_at lw_m5 71 rfl) rfl
theorem q1117 : (Jvm.Cond.lays "UnreadScriptModel" "UnreadScriptModel" "accounts" "I") ∈ lw_all := lw_g (lw_at lw_m5 72 rfl) rfl
theorem q1118 : (Jvm.Cond.soleField "UnreadScriptModel" "accounts") ∈ lw_all := lw_g (lw_at lw_m5 73 rfl) rfl
theorem q1119 : (Jvm.Cond.laysFinal "UnreadScriptModel" "UnreadScriptModel" "items" "[I") ∈ lw_all := lw_g (lw_at lw_m5 74 rfl) rfl
theorem q1120 : (Jvm.Cond.soleField "UnreadScriptModel" "items") ∈ lw_all := lw_g (lw_at lw_m5 75 rfl) rfl
theorem q1121 : (Jvm.Cond.laysFinal "UnreadScriptModel" "UnreadScriptModel" "totals" "[I") ∈ lw_all := lw_g (lw_at lw_m5 76 rfl) rfl
theorem q1122 : (Jvm.Cond.soleField "UnreadScriptModel" "totals") ∈ lw_all := lw_g (lw_at lw_m5 77 rfl) rfl
theorem q1123 : (Jvm.Cond.laysFinal "UnreadScriptModel" "UnreadScriptModel" "valued" "[I") ∈ lw_all := lw_g (lw_at lw_m5 78 rfl) rfl
theorem q1124 : (Jvm.Cond.soleField "UnreadScriptModel" "valued") ∈ lw_all := lw_g (lw_at lw_m5 79 rfl) rfl
theorem q1125 : (Jvm.Cond.lays "UnreadScriptModel" "UnreadScriptModel" "fitting" "I") ∈ lw_all := lw_g (lw_at lw_m5 80 rfl) rfl
theorem q1126 : (Jvm.Cond.soleField "UnreadScriptModel" "fitting") ∈ lw_all := lw_g (lw_at lw_m5 81 rfl) rfl
theorem q1127 : (Jvm.Cond.laysFinal "UnreadScriptModel" "UnreadScriptModel" "firstFit" "[I") ∈ lw_all := lw_g (lw_at lw_m5 82 rfl) rfl
theorem q1128 : (Jvm.Cond.soleField "UnreadScriptModel" "firstFit") ∈ lw_all := lw_g (lw_at lw_m5 83 rfl) rfl
theorem q1129 : (Jvm.Cond.laysFinal "UnreadScriptModel" "UnreadScriptModel" "isHad" "[Z") ∈ lw_all := lw_g (lw_at lw_m5 84 rfl) rfl
theorem q1130 : (Jvm.Cond.soleField "UnreadScriptModel" "isHad") ∈ lw_all := lw_g (lw_at lw_m5 85 rfl) rfl
theorem q1131 : (Jvm.Cond.lays "UnreadScriptModel" "UnreadScriptModel" "names" "I") ∈ lw_all := lw_g (lw_at lw_m5 86 rfl) rfl
theorem q1132 : (Jvm.Cond.soleField "UnreadScriptModel" "names") ∈ lw_all := lw_g (lw_at lw_m5 87 rfl) rfl
theorem q1133 : (Jvm.Cond.laysFinal "UnreadScriptModel" "UnreadScriptModel" "nMany" "[I") ∈ lw_all := lw_g (lw_at lw_m5 88 rfl) rfl
theorem q1134 : (Jvm.Cond.soleField "UnreadScriptModel" "nMany") ∈ lw_all := lw_g (lw_at lw_m5 89 rfl) rfl
theorem q1135 : (Jvm.Cond.laysFinal "UnreadScriptModel" "UnreadScriptModel" "nSounds" "[I") ∈ lw_all := lw_g (lw_at lw_m5 90 rfl) rfl
theorem q1136 : (Jvm.Cond.soleField "UnreadScriptModel" "nSounds") ∈ lw_all := lw_g (lw_at lw_m5 91 rfl) rfl
theorem q1137 : (Jvm.Cond.lays "UnreadScriptModel" "UnreadScriptModel" "tongue" "I") ∈ lw_all := lw_g (lw_at lw_m5 92 rfl) rfl
theorem q1138 : (Jvm.Cond.soleField "UnreadScriptModel" "tongue") ∈ lw_all := lw_g (lw_at lw_m5 93 rfl) rfl
theorem q1139 : (Jvm.Cond.laysFinal "UnreadScriptModel" "UnreadScriptModel" "tongueMany" "[I") ∈ lw_all := lw_g (lw_at lw_m5 94 rfl) rfl
theorem q1140 : (Jvm.Cond.soleField "UnreadScriptModel" "tongueMany") ∈ lw_all := lw_g (lw_at lw_m5 95 rfl) rfl
theorem q1141 : (Jvm.Cond.laysFinal "UnreadScriptModel" "UnreadScriptModel" "tongueSounds" "[I") ∈ lw_all := lw_g (lw_at lw_m5 96 rfl) rfl
theorem q1142 : (Jvm.Cond.soleField "UnreadScriptModel" "tongueSounds") ∈ lw_all := lw_g (lw_at lw_m5 97 rfl) rfl
theorem q1143 : (Jvm.Cond.lays "UnreadScriptModel" "UnreadScriptModel" "tabled" "I") ∈ lw_all := lw_g (lw_at lw_m5 98 rfl) rfl
theorem q1144 : (Jvm.Cond.soleField "UnreadScriptModel" "tabled") ∈ lw_all := lw_g (lw_at lw_m5 99 rfl) rfl
theorem q1145 : (Jvm.Cond.laysFinal "UnreadScriptModel" "UnreadScriptModel" "table" "[I") ∈ lw_all := lw_g (lw_at lw_m5 100 rfl) rfl
theorem q1146 : (Jvm.Cond.soleField "UnreadScriptModel" "table") ∈ lw_all := lw_g (lw_at lw_m5 101 rfl) rfl
theorem q1147 : (Jvm.Cond.laysFinal "UnreadScriptModel" "UnreadScriptModel" "spot" "[I") ∈ lw_all := lw_g (lw_at lw_m5 102 rfl) rfl
theorem q1148 : (Jvm.Cond.soleField "UnreadScriptModel" "spot") ∈ lw_all := lw_g (lw_at lw_m5 103 rfl) rfl
theorem q1149 : (Jvm.Cond.lays "UnreadScriptModel" "UnreadScriptModel" "readable" "I") ∈ lw_all := lw_g (lw_at lw_m5 104 rfl) rfl
theorem q1150 : (Jvm.Cond.soleField "UnreadScriptModel" "readable") ∈ lw_all := lw_g (lw_at lw_m5 105 rfl) rfl
theorem q1151 : (Jvm.Cond.laysFinal "UnreadScriptModel" "UnreadScriptModel" "rMany" "[I") ∈ lw_all := lw_g (lw_at lw_m5 106 rfl) rfl
theorem q1152 : (Jvm.Cond.soleField "UnreadScriptModel" "rMany") ∈ lw_all := lw_g (lw_at lw_m5 107 rfl) rfl
theorem q1153 : (Jvm.Cond.laysFinal "UnreadScriptModel" "UnreadScriptModel" "rPlaces" "[I") ∈ lw_all := lw_g (lw_at lw_m5 108 rfl) rfl
theorem q1154 : (Jvm.Cond.soleField "UnreadScriptModel" "rPlaces") ∈ lw_all := lw_g (lw_at lw_m5 109 rfl) rfl
theorem q1155 : (Jvm.Cond.laysFinal "UnreadScriptModel" "UnreadScriptModel" "isWord" "[Z") ∈ lw_all := lw_g (lw_at lw_m5 110 rfl) rfl
theorem q1156 : (Jvm.Cond.soleField "UnreadScriptModel" "isWord") ∈ lw_all := lw_g (lw_at lw_m5 111 rfl) rfl
theorem q1157 : (Jvm.Cond.lays "UnreadScriptModel" "UnreadScriptModel" "best" "I") ∈ lw_all := lw_g (lw_at lw_m5 112 rfl) rfl
theorem q1158 : (Jvm.Cond.soleField "UnreadScriptModel" "best") ∈ lw_all := lw_g (lw_at lw_m5 113 rfl) rfl
theorem q1159 : (Jvm.Cond.lays "UnreadScriptModel" "UnreadScriptModel" "bestRead" "I") ∈ lw_all := lw_g (lw_at lw_m5 114 rfl) rfl
theorem q1160 : (Jvm.Cond.soleField "UnreadScriptModel" "bestRead") ∈ lw_all := lw_g (lw_at lw_m5 115 rfl) rfl
theorem q1161 : (Jvm.Cond.lays "UnreadScriptModel" "UnreadScriptModel" "bestMany" "I") ∈ lw_all := lw_g (lw_at lw_m5 116 rfl) rfl
theorem q1162 : (Jvm.Cond.soleField "UnreadScriptModel" "bestMany") ∈ lw_all := lw_g (lw_at lw_m5 117 rfl) rfl
theorem q1163 : (Jvm.Cond.laysFinal "UnreadScriptModel" "UnreadScriptModel" "order" "[I") ∈ lw_all := lw_g (lw_at lw_m5 118 rfl) rfl
theorem q1164 : (Jvm.Cond.soleField "UnreadScriptModel" "order") ∈ lw_all := lw_g (lw_at lw_m5 119 rfl) rfl
theorem q1165 : (Jvm.Cond.laysFinal "UnreadScriptModel" "UnreadScriptModel" "tape" "[I") ∈ lw_all := lw_g (lw_at lw_m5 120 rfl) rfl
theorem q1166 : (Jvm.Cond.soleField "UnreadScriptModel" "tape") ∈ lw_all := lw_g (lw_at lw_m5 121 rfl) rfl
theorem q1167 : (Jvm.Cond.lays "UnreadScriptModel" "UnreadScriptModel" "taped" "I") ∈ lw_all := lw_g (lw_at lw_m5 122 rfl) rfl
theorem q1168 : (Jvm.Cond.soleField "UnreadScriptModel" "taped") ∈ lw_all := lw_g (lw_at lw_m5 123 rfl) rfl
theorem q1169 : (Jvm.Cond.lays "UnreadScriptModel" "UnreadScriptModel" "pos" "I") ∈ lw_all := lw_g (lw_at lw_m5 124 rfl) rfl
theorem q1170 : (Jvm.Cond.soleField "UnreadScriptModel" "pos") ∈ lw_all := lw_g (lw_at lw_m5 125 rfl) rfl
theorem q1171 : (Jvm.Cond.lays "UnreadScriptModel" "UnreadScriptModel" "from" "I") ∈ lw_all := lw_g (lw_at lw_m5 126 rfl) rfl
theorem q1172 : (Jvm.Cond.soleField "UnreadScriptModel" "from") ∈ lw_all := lw_g (lw_at lw_m5 127 rfl) rfl
theorem q1173 : (Jvm.Cond.lays "UnreadScriptModel" "UnreadScriptModel" "sort" "I") ∈ lw_all := lw_g (lw_at lw_m5 128 rfl) rfl
theorem q1174 : (Jvm.Cond.soleField "UnreadScriptModel" "sort") ∈ lw_all := lw_g (lw_at lw_m5 129 rfl) rfl
theorem q1175 : (Jvm.Cond.lays "UnreadScriptModel" "UnreadScriptModel" "value" "I") ∈ lw_all := lw_g (lw_at lw_m5 130 rfl) rfl
theorem q1176 : (Jvm.Cond.soleField "UnreadScriptModel" "value") ∈ lw_all := lw_g (lw_at lw_m5 131 rfl) rfl
theorem q1177 : (Jvm.Cond.lays "UnreadScriptModel" "UnreadScriptModel" "fault" "I") ∈ lw_all := lw_g (lw_at lw_m5 132 rfl) rfl
theorem q1178 : (Jvm.Cond.soleField "UnreadScriptModel" "fault") ∈ lw_all := lw_g (lw_at lw_m5 133 rfl) rfl
theorem q1179 : (Jvm.Cond.lays "UnreadScriptModel" "UnreadScriptModel" "wrongAt" "I") ∈ lw_all := lw_g (lw_at lw_m5 134 rfl) rfl
theorem q1180 : (Jvm.Cond.soleField "UnreadScriptModel" "wrongAt") ∈ lw_all := lw_g (lw_at lw_m5 135 rfl) rfl
theorem q1181 : (Jvm.Cond.lays "UnreadScriptModel" "UnreadScriptModel" "claims" "I") ∈ lw_all := lw_g (lw_at lw_m5 136 rfl) rfl
theorem q1182 : (Jvm.Cond.soleField "UnreadScriptModel" "claims") ∈ lw_all := lw_g (lw_at lw_m5 137 rfl) rfl
theorem q1183 : (Jvm.Cond.laysFinal "UnreadScriptModel" "UnreadScriptModel" "cKind" "[I") ∈ lw_all := lw_g (lw_at lw_m5 138 rfl) rfl
theorem q1184 : (Jvm.Cond.soleField "UnreadScriptModel" "cKind") ∈ lw_all := lw_g (lw_at lw_m5 139 rfl) rfl
theorem q1185 : (Jvm.Cond.laysFinal "UnreadScriptModel" "UnreadScriptModel" "cNumber" "[I") ∈ lw_all := lw_g (lw_at lw_m5 140 rfl) rfl
theorem q1186 : (Jvm.Cond.soleField "UnreadScriptModel" "cNumber") ∈ lw_all := lw_g (lw_at lw_m5 141 rfl) rfl
theorem q1187 : (Jvm.Cond.laysFinal "UnreadScriptModel" "UnreadScriptModel" "cCame" "[I") ∈ lw_all := lw_g (lw_at lw_m5 142 rfl) rfl
theorem q1188 : (Jvm.Cond.soleField "UnreadScriptModel" "cCame") ∈ lw_all := lw_g (lw_at lw_m5 143 rfl) rfl
theorem q1189 : (Jvm.Cond.laysFinal "UnreadScriptModel" "UnreadScriptModel" "cGone" "[I") ∈ lw_all := lw_g (lw_at lw_m5 144 rfl) rfl
theorem q1190 : (Jvm.Cond.soleField "UnreadScriptModel" "cGone") ∈ lw_all := lw_g (lw_at lw_m5 145 rfl) rfl
theorem q1191 : (Jvm.Cond.laysFinal "UnreadScriptModel" "UnreadScriptModel" "cOn" "[I") ∈ lw_all := lw_g (lw_at lw_m5 146 rfl) rfl
theorem q1192 : (Jvm.Cond.soleField "UnreadScriptModel" "cOn") ∈ lw_all := lw_g (lw_at lw_m5 147 rfl) rfl
theorem q1193 : (Jvm.Cond.lays "UnreadScriptModel" "UnreadScriptModel" "today" "I") ∈ lw_all := lw_g (lw_at lw_m5 148 rfl) rfl
theorem q1194 : (Jvm.Cond.soleField "UnreadScriptModel" "today") ∈ lw_all := lw_g (lw_at lw_m5 149 rfl) rfl
theorem q1195 : (Jvm.Cond.laysFinal "UnreadScriptModel" "UnreadScriptModel" "deep" "[I") ∈ lw_all := lw_g (lw_at lw_m5 150 rfl) rfl
theorem q1196 : (Jvm.Cond.soleField "UnreadScriptModel" "deep") ∈ lw_all := lw_g (lw_at lw_m5 151 rfl) rfl
theorem q1197 : (Jvm.Cond.laysFinal "UnreadScriptModel" "UnreadScriptModel" "lanes" "[I") ∈ lw_all := lw_g (lw_at lw_m5 152 rfl) rfl
theorem q1198 : (Jvm.Cond.soleField "UnreadScriptModel" "lanes") ∈ lw_all := lw_g (lw_at lw_m5 153 rfl) rfl
theorem q1199 : (Jvm.Cond.laysFinal "UnreadScriptModel" "UnreadScriptModel" "sizes" "[I") ∈ lw_all := lw_g (lw_at lw_m5 154 rfl) rfl
theorem q1200 : (Jvm.Cond.soleField "UnreadScriptModel" "sizes") ∈ lw_all := lw_g (lw_at lw_m5 155 rfl) rfl
theorem q1201 : (Jvm.Cond.laysFinal "UnreadScriptModel" "UnreadScriptModel" "cells" "[I") ∈ lw_all := lw_g (lw_at lw_m5 156 rfl) rfl
theorem q1202 : (Jvm.Cond.soleField "UnreadScriptModel" "cells") ∈ lw_all := lw_g (lw_at lw_m5 157 rfl) rfl
theorem q1203 : (Jvm.Cond.superclass "UnreadScriptModel" "java/lang/Object") ∈ lw_all := lw_g (lw_at lw_m5 158 rfl) rfl
theorem q1205 : (Jvm.Cond.instanceMethod ({ cls := "UnreadScriptModel", name := "form", desc := "(I)I" } : Jvm.MethodName)) ∈ lw_all := lw_g (lw_at lw_m5 160 rfl) rfl
theorem q1206 : (Jvm.Cond.selects "UnreadScriptModel" ({ cls := "UnreadScriptModel", name := "form", desc := "(I)I" } : Jvm.MethodName) ({ cls := "UnreadScriptModel", name := "form", desc := "(I)I" } : Jvm.MethodName)) ∈ lw_all := lw_g (lw_at lw_m5 161 rfl) rfl
theorem q1207 : (Jvm.Cond.code ({ cls := "UnreadScriptModel", name := "form", desc := "(I)I" } : Jvm.MethodName) prog_11_method_6_code (2 : Nat) (Option.some Jvm.ClassFile.FieldType.int)) ∈ lw_all := lw_g (lw_at lw_m5 162 rfl) rfl
theorem q1208 : (Jvm.Cond.constantLong "UnreadScriptModel" (142 : Nat) (4095 : Int64)) ∈ lw_all := lw_g (lw_at lw_m5 163 rfl) rfl
theorem q1209 : (Jvm.Cond.methodLink "UnreadScriptModel" (138 : Nat) ({ cls := "UnreadScriptModel", name := "in", desc := "(JJJ)Z" } : Jvm.MethodName)) ∈ lw_all := lw_g (lw_at lw_m5 164 rfl) rfl
theorem q1210 : (Jvm.Cond.static ({ cls := "UnreadScriptModel", name := "in", desc := "(JJJ)Z" } : Jvm.MethodName)) ∈ lw_all := lw_g (lw_at lw_m5 165 rfl) rfl
theorem q1211 : (Jvm.Cond.code ({ cls := "UnreadScriptModel", name := "in", desc := "(JJJ)Z" } : Jvm.MethodName) prog_11_method_3_code (6 : Nat) (Option.some Jvm.ClassFile.FieldType.boolean)) ∈ lw_all := lw_g (lw_at lw_m5 166 rfl) rfl
theorem q1213 : (Jvm.Cond.instanceMethod ({ cls := "UnreadScriptModel", name := "likeness", desc := "(I)I" } : Jvm.MethodName)) ∈ lw_all := lw_g (lw_at lw_m5 168 rfl) rfl
theorem q1214 : (Jvm.Cond.selects "UnreadScriptModel" ({ cls := "UnreadScriptModel", name := "likeness", desc := "(I)I" } : Jvm.MethodName) ({ cls := "UnreadScriptModel", name := "likeness", desc := "(I)I" } : Jvm.MethodName)) ∈ lw_all := lw_g (lw_at lw_m5 169 rfl) rfl
theorem q1215 : (Jvm.Cond.code ({ cls := "UnreadScriptModel", name := "likeness", desc := "(I)I" } : Jvm.MethodName) prog_11_method_7_code (3 : Nat) (Option.some Jvm.ClassFile.FieldType.int)) ∈ lw_all := lw_g (lw_at lw_m5 170 rfl) rfl
theorem q1216 : (Jvm.Cond.constantLong "UnreadScriptModel" (144 : Nat) (12 : Int64)) ∈ lw_all := lw_g (lw_at lw_m5 171 rfl) rfl
theorem q1218 : (Jvm.Cond.instanceMethod ({ cls := "UnreadScriptModel", name := "sign", desc := "(I)I" } : Jvm.MethodName)) ∈ lw_all := lw_g (lw_at lw_m5 173 rfl) rfl
theorem q1219 : (Jvm.Cond.selects "UnreadScriptModel" ({ cls := "UnreadScriptModel", name := "sign", desc := "(I)I" } : Jvm.MethodName) ({ cls := "UnreadScriptModel", name := "sign", desc := "(I)I" } : Jvm.MethodName)) ∈ lw_all := lw_g (lw_at lw_m5 174 rfl) rfl
theorem q1220 : (Jvm.Cond.code ({ cls := "UnreadScriptModel", name := "sign", desc := "(I)I" } : Jvm.MethodName) prog_11_method_10_code (2 : Nat) (Option.some Jvm.ClassFile.FieldType.int)) ∈ lw_all := lw_g (lw_at lw_m5 175 rfl) rfl
theorem q1221 : (Jvm.Cond.methodLink "UnreadScriptModel" (150 : Nat) ({ cls := "UnreadScriptModel", name := "findSigns", desc := "(I)V" } : Jvm.MethodName)) ∈ lw_all := lw_g (lw_at lw_m5 176 rfl) rfl
theorem q1222 : (Jvm.Cond.privateMethod ({ cls := "UnreadScriptModel", name := "findSigns", desc := "(I)V" } : Jvm.MethodName)) ∈ lw_tbl := lw_at lw_m5 177 rfl
theorem q1223 : (Jvm.Cond.instanceMethod ({ cls := "UnreadScriptModel", name := "findSigns", desc := "(I)V" } : Jvm.MethodName)) ∈ lw_all := lw_g (lw_at lw_m5 178 rfl) rfl
theorem q1224 : (Jvm.Cond.code ({ cls := "UnreadScriptModel", name := "findSigns", desc := "(I)V" } : Jvm.MethodName) prog_11_method_8_code (7 : Nat) (Option.none : Option Jvm.ClassFile.FieldType)) ∈ lw_all := lw_g (lw_at lw_m5 179 rfl) rfl
theorem q1225 : (Jvm.Cond.methodLink "UnreadScriptModel" (146 : Nat) ({ cls := "UnreadScriptModel", name := "bits", desc := "(I)I" } : Jvm.MethodName)) ∈ lw_all := lw_g (lw_at lw_m5 180 rfl) rfl
theorem q1226 : (Jvm.Cond.static ({ cls := "UnreadScriptModel", name := "bits", desc := "(I)I" } : Jvm.MethodName)) ∈ lw_all := lw_g (lw_at lw_m5 181 rfl) rfl
theorem q1227 : (Jvm.Cond.code ({ cls := "UnreadScriptModel", name := "bits", desc := "(I)I" } : Jvm.MethodName) prog_11_method_4_code (3 : Nat) (Option.some Jvm.ClassFile.FieldType.int)) ∈ lw_all := lw_g (lw_at lw_m5 182 rfl) rfl
theorem q1228 : (Jvm.Cond.methodLink "UnreadScriptModel" (154 : Nat) ({ cls := "UnreadScriptModel", name := "isForm", desc := "(I)Z" } : Jvm.MethodName)) ∈ lw_all := lw_g (lw_at lw_m5 183 rfl) rfl
theorem q1229 : (Jvm.Cond.privateMethod ({ cls := "UnreadScriptModel", name := "isForm", desc := "(I)Z" } : Jvm.MethodName)) ∈ lw_tbl := lw_at lw_m5 184 rfl
theorem q1230 : (Jvm.Cond.instanceMethod ({ cls := "UnreadScriptModel", name := "isForm", desc := "(I)Z" } : Jvm.MethodName)) ∈ lw_all := lw_g (lw_at lw_m5 185 rfl) rfl
theorem q1231 : (Jvm.Cond.code ({ cls := "UnreadScriptModel", name := "isForm", desc := "(I)Z" } : Jvm.MethodName) prog_11_method_5_code (2 : Nat) (Option.some Jvm.ClassFile.FieldType.boolean)) ∈ lw_all := lw_g (lw_at lw_m5 186 rfl) rfl
theorem q1233 : (Jvm.Cond.instanceMethod ({ cls := "UnreadScriptModel", name := "signs", desc := "(I)I" } : Jvm.MethodName)) ∈ lw_all := lw_g (lw_at lw_m5 188 rfl) rfl
theorem q1234 : (Jvm.Cond.selects "UnreadScriptModel" ({ cls := "UnreadScriptModel", name := "signs", desc := "(I)I" } : Jvm.MethodName) ({ cls := "UnreadScriptModel", name := "signs", desc := "(I)I" } : Jvm.MethodName)) ∈ lw_all := lw_g (lw_at lw_m5 189 rfl) rfl
theorem q1235 : (Jvm.Cond.code ({ cls := "UnreadScriptModel", name := "signs", desc := "(I)I" } : Jvm.MethodName) prog_11_method_11_code (7 : Nat) (Option.some Jvm.ClassFile.FieldType.int)) ∈ lw_all := lw_g (lw_at lw_m5 190 rfl) rfl
theorem q1236 : (Jvm.Cond.constantLong "UnreadScriptModel" (158 : Nat) (3 : Int64)) ∈ lw_all := lw_g (lw_at lw_m5 191 rfl) rfl
theorem q1237 : (Jvm.Cond.methodLink "UnreadScriptModel" (160 : Nat) ({ cls := "UnreadScriptModel", name := "signMany", desc := "()I" } : Jvm.MethodName)) ∈ lw_all := lw_g (lw_at lw_m5 192 rfl) rfl
theorem q1238 : (Jvm.Cond.privateMethod ({ cls := "UnreadScriptModel", name := "signMany", desc := "()I" } : Jvm.MethodName)) ∈ lw_tbl := lw_at lw_m5 193 rfl
theorem q1239 : (Jvm.Cond.instanceMethod ({ cls := "UnreadScriptModel", name := "signMany", desc := "()I" } : Jvm.MethodName)) ∈ lw_all := lw_g (lw_at lw_m5 194 rfl) rfl
theorem q1240 : (Jvm.Cond.code ({ cls := "UnreadScriptModel", name := "signMany", desc := "()I" } : Jvm.MethodName) prog_11_method_9_code (3 : Nat) (Option.some Jvm.ClassFile.FieldType.int)) ∈ lw_all := lw_g (lw_at lw_m5 195 rfl) rfl
theorem q1242 : (Jvm.Cond.instanceMethod ({ cls := "UnreadScriptModel", name := "drop", desc := "()I" } : Jvm.MethodName)) ∈ lw_all := lw_g (lw_at lw_m5 197 rfl) rfl
theorem q1243 : (Jvm.Cond.selects "UnreadScriptModel" ({ cls := "UnreadScriptModel", name := "drop", desc := "()I" } : Jvm.MethodName) ({ cls := "UnreadScriptModel", name := "drop", desc := "()I" } : Jvm.MethodName)) ∈ lw_all := lw_g (lw_at lw_m5 198 rfl) rfl
theorem q1244 : (Jvm.Cond.code ({ cls := "UnreadScriptModel", name := "drop", desc := "()I" } : Jvm.MethodName) prog_11_method_15_code (1 : Nat) (Option.some Jvm.ClassFile.FieldType.int)) ∈ lw_all := lw_g (lw_at lw_m5 199 rfl) rfl
theorem q1246 : (Jvm.Cond.instanceMethod ({ cls := "UnreadScriptModel", name := "textOf", desc := "(II)I" } : Jvm.MethodName)) ∈ lw_all := lw_g (lw_at lw_m5 201 rfl) rfl
theorem q1247 : (Jvm.Cond.selects "UnreadScriptModel" ({ cls := "UnreadScriptModel", name := "textOf", desc := "(II)I" } : Jvm.MethodName) ({ cls := "UnreadScriptModel", name := "textOf", desc := "(II)I" } : Jvm.MethodName)) ∈ lw_all := lw_g (lw_at lw_m5 202 rfl) rfl
theorem q1248 : (Jvm.Cond.code ({ cls := "UnreadScriptModel", name := "textOf", desc := "(II)I" } : Jvm.MethodName) prog_11_method_18_code (9 : Nat) (Option.some Jvm.ClassFile.FieldType.int)) ∈ lw_all := lw_g (lw_at lw_m5 203 rfl) rfl
theorem q1249 : (Jvm.Cond.methodLink "UnreadScriptModel" (174 : Nat) ({ cls := "UnreadScriptModel", name := "isText", desc := "(I)Z" } : Jvm.MethodName)) ∈ lw_all := lw_g (lw_at lw_m5 204 rfl) rfl
theorem q1250 : (Jvm.Cond.privateMethod ({ cls := "UnreadScriptModel", name := "isText", desc := "(I)Z" } : Jvm.MethodName)) ∈ lw_tbl := lw_at lw_m5 205 rfl
theorem q1251 : (Jvm.Cond.instanceMethod ({ cls := "UnreadScriptModel", name := "isText", desc := "(I)Z" } : Jvm.MethodName)) ∈ lw_all := lw_g (lw_at lw_m5 206 rfl) rfl
theorem q1252 : (Jvm.Cond.code ({ cls := "UnreadScriptModel", name := "isText", desc := "(I)Z" } : Jvm.MethodName) prog_11_method_13_code (2 : Nat) (Option.some Jvm.ClassFile.FieldType.boolean)) ∈ lw_all := lw_g (lw_at lw_m5 207 rfl) rfl
theorem q1253 : (Jvm.Cond.constantLong "UnreadScriptModel" (177 : Nat) (5 : Int64)) ∈ lw_all := lw_g (lw_at lw_m5 208 rfl) rfl
theorem q1254 : (Jvm.Cond.constantLong "UnreadScriptModel" (179 : Nat) (10 : Int64)) ∈ lw_all := lw_g (lw_at lw_m5 209 rfl) rfl
theorem q1255 : (Jvm.Cond.methodLink "UnreadScriptModel" (181 : Nat) ({ cls := "UnreadScriptModel", name := "findWords", desc := "()V" } : Jvm.MethodName)) ∈ lw_all := lw_g (lw_at lw_m5 210 rfl) rfl
theorem q1256 : (Jvm.Cond.privateMethod ({ cls := "UnreadScriptModel", name := "findWords", desc := "()V" } : Jvm.MethodName)) ∈ lw_tbl := lw_at lw_m5 211 rfl
theorem q1257 : (Jvm.Cond.instanceMethod ({ cls := "UnreadScriptModel", name := "findWords", desc := "()V" } : Jvm.MethodName)) ∈ lw_all := lw_g (lw_at lw_m5 212 rfl) rfl
theorem q1258 : (Jvm.Cond.code ({ cls := "UnreadScriptModel", name := "findWords", desc := "()V" } : Jvm.MethodName) prog_11_method_16_code (6 : Nat) (Option.none : Option Jvm.ClassFile.FieldType)) ∈ lw_all := lw_g (lw_at lw_m5 213 rfl) rfl
theorem q1259 : (Jvm.Cond.methodLink "UnreadScriptModel" (170 : Nat) ({ cls := "UnreadScriptModel", name := "at", desc := "(II)I" } : Jvm.MethodName)) ∈ lw_all := lw_g (lw_at lw_m5 214 rfl) rfl
theorem q1260 : (Jvm.Cond.privateMethod ({ cls := "UnreadScriptModel", name := "at", desc := "(II)I" } : Jvm.MethodName)) ∈ lw_tbl := lw_at lw_m5 215 rfl
theorem q1261 : (Jvm.Cond.instanceMethod ({ cls := "UnreadScriptModel", name := "at", desc := "(II)I" } : Jvm.MethodName)) ∈ lw_all := lw_g (lw_at lw_m5 216 rfl) rfl
theorem q1262 : (Jvm.Cond.code ({ cls := "UnreadScriptModel", name := "at", desc := "(II)I" } : Jvm.MethodName) prog_11_method_14_code (4 : Nat) (Option.some Jvm.ClassFile.FieldType.int)) ∈ lw_all := lw_g (lw_at lw_m5 217 rfl) rfl
theorem q1264 : (Jvm.Cond.instanceMethod ({ cls := "UnreadScriptModel", name := "counted", desc := "(I)I" } : Jvm.MethodName)) ∈ lw_all := lw_g (lw_at lw_m5 219 rfl) rfl
theorem q1265 : (Jvm.Cond.selects "UnreadScriptModel" ({ cls := "UnreadScriptModel", name := "counted", desc := "(I)I" } : Jvm.MethodName) ({ cls := "UnreadScriptModel", name := "counted", desc := "(I)I" } : Jvm.MethodName)) ∈ lw_all := lw_g (lw_at lw_m5 220 rfl) rfl
theorem q1266 : (Jvm.Cond.code ({ cls := "UnreadScriptModel", name := "counted", desc := "(I)I" } : Jvm.MethodName) prog_11_method_21_code (2 : Nat) (Option.some Jvm.ClassFile.FieldType.int)) ∈ lw_all := lw_g (lw_at lw_m5 221 rfl) rfl
theorem q1267 : (Jvm.Cond.methodLink "UnreadScriptModel" (184 : Nat) ({ cls := "UnreadScriptModel", name := "isSign", desc := "(I)Z" } : Jvm.MethodName)) ∈ lw_all := lw_g (lw_at lw_m5 222 rfl) rfl
theorem q1268 : (Jvm.Cond.privateMethod ({ cls := "UnreadScriptModel", name := "isSign", desc := "(I)Z" } : Jvm.MethodName)) ∈ lw_tbl := lw_at lw_m5 223 rfl
theorem q1269 : (Jvm.Cond.instanceMethod ({ cls := "UnreadScriptModel", name := "isSign", desc := "(I)Z" } : Jvm.MethodName)) ∈ lw_all := lw_g (lw_at lw_m5 224 rfl) rfl
theorem q1270 : (Jvm.Cond.code ({ cls := "UnreadScriptModel", name := "isSign", desc := "(I)Z" } : Jvm.MethodName) prog_11_method_12_code (2 : Nat) (Option.some Jvm.ClassFile.FieldType.boolean)) ∈ lw_all := lw_g (lw_at lw_m5 225 rfl) rfl
theorem q1271 : (Jvm.Cond.methodLink "UnreadScriptModel" (187 : Nat) ({ cls := "UnreadScriptModel", name := "countOf", desc := "(I)I" } : Jvm.MethodName)) ∈ lw_all := lw_g (lw_at lw_m5 226 rfl) rfl
theorem q1272 : (Jvm.Cond.privateMethod ({ cls := "UnreadScriptModel", name := "countOf", desc := "(I)I" } : Jvm.MethodName)) ∈ lw_tbl := lw_at lw_m5 227 rfl
theorem q1273 : (Jvm.Cond.instanceMethod ({ cls := "UnreadScriptModel", name := "countOf", desc := "(I)I" } : Jvm.MethodName)) ∈ lw_all := lw_g (lw_at lw_m5 228 rfl) rfl
theorem q1274 : (Jvm.Cond.code ({ cls := "UnreadScriptModel", name := "countOf", desc := "(I)I" } : Jvm.MethodName) prog_11_method_19_code (5 : Nat) (Option.some Jvm.ClassFile.FieldType.int)) ∈ lw_all := lw_g (lw_at lw_m5 229 rfl) rfl
theorem q1276 : (Jvm.Cond.instanceMethod ({ cls := "UnreadScriptModel", name := "beside", desc := "(II)I" } : Jvm.MethodName)) ∈ lw_all := lw_g (lw_at lw_m5 231 rfl) rfl
theorem q1277 : (Jvm.Cond.selects "UnreadScriptModel" ({ cls := "UnreadScriptModel", name := "beside", desc := "(II)I" } : Jvm.MethodName) ({ cls := "UnreadScriptModel", name := "beside", desc := "(II)I" } : Jvm.MethodName)) ∈ lw_all := lw_g (lw_at lw_m5 232 rfl) rfl
theorem q1278 : (Jvm.Cond.code ({ cls := "UnreadScriptModel", name := "beside", desc := "(II)I" } : Jvm.MethodName) prog_11_method_23_code (3 : Nat) (Option.some Jvm.ClassFile.FieldType.int)) ∈ lw_all := lw_g (lw_at lw_m5 233 rfl) rfl
theorem q1279 : (Jvm.Cond.methodLink "UnreadScriptModel" (190 : Nat) ({ cls := "UnreadScriptModel", name := "besides", desc := "(II)I" } : Jvm.MethodName)) ∈ lw_all := lw_g (lw_at lw_m5 234 rfl) rfl
theorem q1280 : (Jvm.Cond.privateMethod ({ cls := "UnreadScriptModel", name := "besides", desc := "(II)I" } : Jvm.MethodName)) ∈ lw_tbl := lw_at lw_m5 235 rfl
theorem q1281 : (Jvm.Cond.instanceMethod ({ cls := "UnreadScriptModel", name := "besides", desc := "(II)I" } : Jvm.MethodName)) ∈ lw_all := lw_g (lw_at lw_m5 236 rfl) rfl
theorem q1282 : (Jvm.Cond.code ({ cls := "UnreadScriptModel", name := "besides", desc := "(II)I" } : Jvm.MethodName) prog_11_method_22_code (8 : Nat) (Option.some Jvm.ClassFile.FieldType.int)) ∈ lw_all := lw_g (lw_at lw_m5 237 rfl) rfl
theorem q1284 : (Jvm.Cond.instanceMethod ({ cls := "UnreadScriptModel", name := "chance", desc := "(III)J" } : Jvm.MethodName)) ∈ lw_all := lw_g (lw_at lw_m5 239 rfl) rfl
theorem q1285 : (Jvm.Cond.selects "UnreadScriptModel" ({ cls := "UnreadScriptModel", name := "chance", desc := "(III)J" } : Jvm.MethodName) ({ cls := "UnreadScriptModel", name := "chance", desc := "(III)J" } : Jvm.MethodName)) ∈ lw_all := lw_g (lw_at lw_m6 0 rfl) rfl
theorem q1286 : (Jvm.Cond.code ({ cls := "UnreadScriptModel", name := "chance", desc := "(III)J" } : Jvm.MethodName) prog_11_method_24_code (16 : Nat) (Option.some Jvm.ClassFile.FieldType.long)) ∈ lw_all := lw_g (lw_at lw_m6 1 rfl) rfl
theorem q1287 : (Jvm.Cond.constantLong "UnreadScriptModel" (193 : Nat) (-1 : Int64)) ∈ lw_all := lw_g (lw_at lw_m6 2 rfl) rfl
theorem q1288 : (Jvm.Cond.methodLink "UnreadScriptModel" (195 : Nat) ({ cls := "UnreadScriptModel", name := "allSigns", desc := "()I" } : Jvm.MethodName)) ∈ lw_all := lw_g (lw_at lw_m6 3 rfl) rfl
theorem q1289 : (Jvm.Cond.privateMethod ({ cls := "UnreadScriptModel", name := "allSigns", desc := "()I" } : Jvm.MethodName)) ∈ lw_tbl := lw_at lw_m6 4 rfl
theorem q1290 : (Jvm.Cond.instanceMethod ({ cls := "UnreadScriptModel", name := "allSigns", desc := "()I" } : Jvm.MethodName)) ∈ lw_all := lw_g (lw_at lw_m6 5 rfl) rfl
theorem q1291 : (Jvm.Cond.code ({ cls := "UnreadScriptModel", name := "allSigns", desc := "()I" } : Jvm.MethodName) prog_11_method_20_code (4 : Nat) (Option.some Jvm.ClassFile.FieldType.int)) ∈ lw_all := lw_g (lw_at lw_m6 6 rfl) rfl
theorem q1292 : (Jvm.Cond.constantLong "UnreadScriptModel" (198 : Nat) (2 : Int64)) ∈ lw_all := lw_g (lw_at lw_m6 7 rfl) rfl
theorem q1294 : (Jvm.Cond.instanceMethod ({ cls := "UnreadScriptModel", name := "runs", desc := "(I)I" } : Jvm.MethodName)) ∈ lw_all := lw_g (lw_at lw_m6 9 rfl) rfl
theorem q1295 : (Jvm.Cond.selects "UnreadScriptModel" ({ cls := "UnreadScriptModel", name := "runs", desc := "(I)I" } : Jvm.MethodName) ({ cls := "UnreadScriptModel", name := "runs", desc := "(I)I" } : Jvm.MethodName)) ∈ lw_all := lw_g (lw_at lw_m6 10 rfl) rfl
theorem q1296 : (Jvm.Cond.code ({ cls := "UnreadScriptModel", name := "runs", desc := "(I)I" } : Jvm.MethodName) prog_11_method_26_code (4 : Nat) (Option.some Jvm.ClassFile.FieldType.int)) ∈ lw_all := lw_g (lw_at lw_m6 11 rfl) rfl
theorem q1297 : (Jvm.Cond.methodLink "UnreadScriptModel" (203 : Nat) ({ cls := "UnreadScriptModel", name := "edgeSum", desc := "(Z)I" } : Jvm.MethodName)) ∈ lw_all := lw_g (lw_at lw_m6 12 rfl) rfl
theorem q1298 : (Jvm.Cond.privateMethod ({ cls := "UnreadScriptModel", name := "edgeSum", desc := "(Z)I" } : Jvm.MethodName)) ∈ lw_tbl := lw_at lw_m6 13 rfl
theorem q1299 : (Jvm.Cond.instanceMethod ({ cls := "UnreadScriptModel", name := "edgeSum", desc := "(Z)I" } : Jvm.MethodName)) ∈ lw_all := lw_g (lw_at lw_m6 14 rfl) rfl
theorem q1300 : (Jvm.Cond.code ({ cls := "UnreadScriptModel", name := "edgeSum", desc := "(Z)I" } : Jvm.MethodName) prog_11_method_25_code (4 : Nat) (Option.some Jvm.ClassFile.FieldType.int)) ∈ lw_all := lw_g (lw_at lw_m6 15 rfl) rfl
theorem q1301 : (Jvm.Cond.methodLink "UnreadScriptModel" (200 : Nat) ({ cls := "UnreadScriptModel", name := "wordAt", desc := "(II)I" } : Jvm.MethodName)) ∈ lw_all := lw_g (lw_at lw_m6 16 rfl) rfl
theorem q1302 : (Jvm.Cond.privateMethod ({ cls := "UnreadScriptModel", name := "wordAt", desc := "(II)I" } : Jvm.MethodName)) ∈ lw_tbl := lw_at lw_m6 17 rfl
theorem q1303 : (Jvm.Cond.instanceMethod ({ cls := "UnreadScriptModel", name := "wordAt", desc := "(II)I" } : Jvm.MethodName)) ∈ lw_all := lw_g (lw_at lw_m6 18 rfl) rfl
theorem q1304 : (Jvm.Cond.code ({ cls := "UnreadScriptModel", name := "wordAt", desc := "(II)I" } : Jvm.MethodName) prog_11_method_17_code (3 : Nat) (Option.some Jvm.ClassFile.FieldType.int)) ∈ lw_all := lw_g (lw_at lw_m6 19 rfl) rfl
theorem q1306 : (Jvm.Cond.instanceMethod ({ cls := "UnreadScriptModel", name := "akin", desc := "(II)I" } : Jvm.MethodName)) ∈ lw_all := lw_g (lw_at lw_m6 21 rfl) rfl
theorem q1307 : (Jvm.Cond.selects "UnreadScriptModel" ({ cls := "UnreadScriptModel", name := "akin", desc := "(II)I" } : Jvm.MethodName) ({ cls := "UnreadScriptModel", name := "akin", desc := "(II)I" } : Jvm.MethodName)) ∈ lw_all := lw_g (lw_at lw_m6 22 rfl) rfl
theorem q1308 : (Jvm.Cond.code ({ cls := "UnreadScriptModel", name := "akin", desc := "(II)I" } : Jvm.MethodName) prog_11_method_30_code (3 : Nat) (Option.some Jvm.ClassFile.FieldType.int)) ∈ lw_all := lw_g (lw_at lw_m6 23 rfl) rfl
theorem q1309 : (Jvm.Cond.methodLink "UnreadScriptModel" (213 : Nat) ({ cls := "UnreadScriptModel", name := "findAkins", desc := "()V" } : Jvm.MethodName)) ∈ lw_all := lw_g (lw_at lw_m6 24 rfl) rfl
theorem q1310 : (Jvm.Cond.privateMethod ({ cls := "UnreadScriptModel", name := "findAkins", desc := "()V" } : Jvm.MethodName)) ∈ lw_tbl := lw_at lw_m6 25 rfl
theorem q1311 : (Jvm.Cond.instanceMethod ({ cls := "UnreadScriptModel", name := "findAkins", desc := "()V" } : Jvm.MethodName)) ∈ lw_all := lw_g (lw_at lw_m6 26 rfl) rfl
theorem q1312 : (Jvm.Cond.code ({ cls := "UnreadScriptModel", name := "findAkins", desc := "()V" } : Jvm.MethodName) prog_11_method_29_code (6 : Nat) (Option.none : Option Jvm.ClassFile.FieldType)) ∈ lw_all := lw_g (lw_at lw_m6 27 rfl) rfl
theorem q1313 : (Jvm.Cond.methodLink "UnreadScriptModel" (207 : Nat) ({ cls := "UnreadScriptModel", name := "alikeTo", desc := "(II)I" } : Jvm.MethodName)) ∈ lw_all := lw_g (lw_at lw_m6 28 rfl) rfl
theorem q1314 : (Jvm.Cond.privateMethod ({ cls := "UnreadScriptModel", name := "alikeTo", desc := "(II)I" } : Jvm.MethodName)) ∈ lw_tbl := lw_at lw_m6 29 rfl
theorem q1315 : (Jvm.Cond.instanceMethod ({ cls := "UnreadScriptModel", name := "alikeTo", desc := "(II)I" } : Jvm.MethodName)) ∈ lw_all := lw_g (lw_at lw_m6 30 rfl) rfl
theorem q1316 : (Jvm.Cond.code ({ cls := "UnreadScriptModel", name := "alikeTo", desc := "(II)I" } : Jvm.MethodName) prog_11_method_27_code (4 : Nat) (Option.some Jvm.ClassFile.FieldType.int)) ∈ lw_all := lw_g (lw_at lw_m6 31 rfl) rfl
theorem q1317 : (Jvm.Cond.methodLink "UnreadScriptModel" (210 : Nat) ({ cls := "UnreadScriptModel", name := "isFirstOfItsRow", desc := "(I)Z" } : Jvm.MethodName)) ∈ lw_all := lw_g (lw_at lw_m6 32 rfl) rfl
theorem q1318 : (Jvm.Cond.privateMethod ({ cls := "UnreadScriptModel", name := "isFirstOfItsRow", desc := "(I)Z" } : Jvm.MethodName)) ∈ lw_tbl := lw_at lw_m6 33 rfl
theorem q1319 : (Jvm.Cond.instanceMethod ({ cls := "UnreadScriptModel", name := "isFirstOfItsRow", desc := "(I)Z" } : Jvm.MethodName)) ∈ lw_all := lw_g (lw_at lw_m6 34 rfl) rfl
theorem q1320 : (Jvm.Cond.code ({ cls := "UnreadScriptModel", name := "isFirstOfItsRow", desc := "(I)Z" } : Jvm.MethodName) prog_11_method_28_code (4 : Nat) (Option.some Jvm.ClassFile.FieldType.boolean)) ∈ lw_all := lw_g (lw_at lw_m6 35 rfl) rfl
theorem q1322 : (Jvm.Cond.instanceMethod ({ cls := "UnreadScriptModel", name := "apart", desc := "(III)I" } : Jvm.MethodName)) ∈ lw_all := lw_g (lw_at lw_m6 37 rfl) rfl
theorem q1323 : (Jvm.Cond.selects "UnreadScriptModel" ({ cls := "UnreadScriptModel", name := "apart", desc := "(III)I" } : Jvm.MethodName) ({ cls := "UnreadScriptModel", name := "apart", desc := "(III)I" } : Jvm.MethodName)) ∈ lw_all := lw_g (lw_at lw_m6 38 rfl) rfl
theorem q1324 : (Jvm.Cond.code ({ cls := "UnreadScriptModel", name := "apart", desc := "(III)I" } : Jvm.MethodName) prog_11_method_31_code (5 : Nat) (Option.some Jvm.ClassFile.FieldType.int)) ∈ lw_all := lw_g (lw_at lw_m6 39 rfl) rfl
theorem q1325 : (Jvm.Cond.constantLong "UnreadScriptModel" (216 : Nat) (9 : Int64)) ∈ lw_all := lw_g (lw_at lw_m6 40 rfl) rfl
theorem q1327 : (Jvm.Cond.instanceMethod ({ cls := "UnreadScriptModel", name := "grid", desc := "(II)I" } : Jvm.MethodName)) ∈ lw_all := lw_g (lw_at lw_m6 42 rfl) rfl
theorem q1328 : (Jvm.Cond.selects "UnreadScriptModel" ({ cls := "UnreadScriptModel", name := "grid", desc := "(II)I" } : Jvm.MethodName) ({ cls := "UnreadScriptModel", name := "grid", desc := "(II)I" } : Jvm.MethodName)) ∈ lw_all := lw_g (lw_at lw_m6 43 rfl) rfl
theorem q1329 : (Jvm.Cond.code ({ cls := "UnreadScriptModel", name := "grid", desc := "(II)I" } : Jvm.MethodName) prog_11_method_36_code (4 : Nat) (Option.some Jvm.ClassFile.FieldType.int)) ∈ lw_all := lw_g (lw_at lw_m6 44 rfl) rfl
theorem q1330 : (Jvm.Cond.methodLink "UnreadScriptModel" (230 : Nat) ({ cls := "UnreadScriptModel", name := "findGrid", desc := "(I)I" } : Jvm.MethodName)) ∈ lw_all := lw_g (lw_at lw_m6 45 rfl) rfl
theorem q1331 : (Jvm.Cond.privateMethod ({ cls := "UnreadScriptModel", name := "findGrid", desc := "(I)I" } : Jvm.MethodName)) ∈ lw_tbl := lw_at lw_m6 46 rfl
theorem q1332 : (Jvm.Cond.instanceMethod ({ cls := "UnreadScriptModel", name := "findGrid", desc := "(I)I" } : Jvm.MethodName)) ∈ lw_all := lw_g (lw_at lw_m6 47 rfl) rfl
theorem q1333 : (Jvm.Cond.code ({ cls := "UnreadScriptModel", name := "findGrid", desc := "(I)I" } : Jvm.MethodName) prog_11_method_35_code (6 : Nat) (Option.some Jvm.ClassFile.FieldType.int)) ∈ lw_all := lw_g (lw_at lw_m6 48 rfl) rfl
theorem q1334 : (Jvm.Cond.methodLink "UnreadScriptModel" (224 : Nat) ({ cls := "UnreadScriptModel", name := "findGridSigns", desc := "()V" } : Jvm.MethodName)) ∈ lw_all := lw_g (lw_at lw_m6 49 rfl) rfl
theorem q1335 : (Jvm.Cond.privateMethod ({ cls := "UnreadScriptModel", name := "findGridSigns", desc := "()V" } : Jvm.MethodName)) ∈ lw_tbl := lw_at lw_m6 50 rfl
theorem q1336 : (Jvm.Cond.instanceMethod ({ cls := "UnreadScriptModel", name := "findGridSigns", desc := "()V" } : Jvm.MethodName)) ∈ lw_all := lw_g (lw_at lw_m6 51 rfl) rfl
theorem q1337 : (Jvm.Cond.code ({ cls := "UnreadScriptModel", name := "findGridSigns", desc := "()V" } : Jvm.MethodName) prog_11_method_33_code (4 : Nat) (Option.none : Option Jvm.ClassFile.FieldType)) ∈ lw_all := lw_g (lw_at lw_m6 52 rfl) rfl
theorem q1338 : (Jvm.Cond.methodLink "UnreadScriptModel" (221 : Nat) ({ cls := "UnreadScriptModel", name := "apartOf", desc := "(II)I" } : Jvm.MethodName)) ∈ lw_all := lw_g (lw_at lw_m6 53 rfl) rfl
theorem q1339 : (Jvm.Cond.privateMethod ({ cls := "UnreadScriptModel", name := "apartOf", desc := "(II)I" } : Jvm.MethodName)) ∈ lw_tbl := lw_at lw_m6 54 rfl
theorem q1340 : (Jvm.Cond.instanceMethod ({ cls := "UnreadScriptModel", name := "apartOf", desc := "(II)I" } : Jvm.MethodName)) ∈ lw_all := lw_g (lw_at lw_m6 55 rfl) rfl
theorem q1341 : (Jvm.Cond.code ({ cls := "UnreadScriptModel", name := "apartOf", desc := "(II)I" } : Jvm.MethodName) prog_11_method_32_code (7 : Nat) (Option.some Jvm.ClassFile.FieldType.int)) ∈ lw_all := lw_g (lw_at lw_m6 56 rfl) rfl
theorem q1342 : (Jvm.Cond.methodLink "UnreadScriptModel" (227 : Nat) ({ cls := "UnreadScriptModel", name := "quarrel", desc := "()I" } : Jvm.MethodName)) ∈ lw_all := lw_g (lw_at lw_m6 57 rfl) rfl
theorem q1343 : (Jvm.Cond.privateMethod ({ cls := "UnreadScriptModel", name := "quarrel", desc := "()I" } : Jvm.MethodName)) ∈ lw_tbl := lw_at lw_m6 58 rfl
theorem q1344 : (Jvm.Cond.instanceMethod ({ cls := "UnreadScriptModel", name := "quarrel", desc := "()I" } : Jvm.MethodName)) ∈ lw_all := lw_g (lw_at lw_m6 59 rfl) rfl
theorem q1345 : (Jvm.Cond.code ({ cls := "UnreadScriptModel", name := "quarrel", desc := "()I" } : Jvm.MethodName) prog_11_method_34_code (4 : Nat) (Option.some Jvm.ClassFile.FieldType.int)) ∈ lw_all := lw_g (lw_at lw_m6 60 rfl) rfl
theorem q1346 : (Jvm.Cond.constantLong "UnreadScriptModel" (233 : Nat) (30 : Int64)) ∈ lw_all := lw_g (lw_at lw_m6 61 rfl) rfl
theorem q1348 : (Jvm.Cond.instanceMethod ({ cls := "UnreadScriptModel", name := "account", desc := "(II)I" } : Jvm.MethodName)) ∈ lw_all := lw_g (lw_at lw_m6 63 rfl) rfl
theorem q1349 : (Jvm.Cond.selects "UnreadScriptModel" ({ cls := "UnreadScriptModel", name := "account", desc := "(II)I" } : Jvm.MethodName) ({ cls := "UnreadScriptModel", name := "account", desc := "(II)I" } : Jvm.MethodName)) ∈ lw_all := lw_g (lw_at lw_m6 64 rfl) rfl
theorem q1350 : (Jvm.Cond.code ({ cls := "UnreadScriptModel", name := "account", desc := "(II)I" } : Jvm.MethodName) prog_11_method_38_code (3 : Nat) (Option.some Jvm.ClassFile.FieldType.int)) ∈ lw_all := lw_g (lw_at lw_m6 65 rfl) rfl
theorem q1351 : (Jvm.Cond.methodLink "UnreadScriptModel" (237 : Nat) ({ cls := "UnreadScriptModel", name := "isMarks", desc := "(I)Z" } : Jvm.MethodName)) ∈ lw_all := lw_g (lw_at lw_m6 66 rfl) rfl
theorem q1352 : (Jvm.Cond.static ({ cls := "UnreadScriptModel", name := "isMarks", desc := "(I)Z" } : Jvm.MethodName)) ∈ lw_all := lw_g (lw_at lw_m6 67 rfl) rfl
theorem q1353 : (Jvm.Cond.code ({ cls := "UnreadScriptModel", name := "isMarks", desc := "(I)Z" } : Jvm.MethodName) prog_11_method_37_code (3 : Nat) (Option.some Jvm.ClassFile.FieldType.boolean)) ∈ lw_all := lw_g (lw_at lw_m6 68 rfl) rfl
theorem q1354 : (Jvm.Cond.constantLong "UnreadScriptModel" (235 : Nat) (1048575 : Int64)) ∈ lw_all := lw_g (lw_at lw_m6 69 rfl) rfl
theorem q1356 : (Jvm.Cond.instanceMethod ({ cls := "UnreadScriptModel", name := "values", desc := "(I)I" } : Jvm.MethodName)) ∈ lw_all := lw_g (lw_at lw_m6 71 rfl) rfl
theorem q1357 : (Jvm.Cond.selects "UnreadScriptModel" ({ cls := "UnreadScriptModel", name := "values", desc := "(I)I" } : Jvm.MethodName) ({ cls := "UnreadScriptModel", name := "values", desc := "(I)I" } : Jvm.MethodName)) ∈ lw_all := lw_g (lw_at lw_m6 72 rfl) rfl
theorem q1358 : (Jvm.Cond.code ({ cls := "UnreadScriptModel", name := "values", desc := "(I)I" } : Jvm.MethodName) prog_11_method_42_code (2 : Nat) (Option.some Jvm.ClassFile.FieldType.int)) ∈ lw_all := lw_g (lw_at lw_m6 73 rfl) rfl
theorem q1359 : (Jvm.Cond.constantLong "UnreadScriptModel" (253 : Nat) (4 : Int64)) ∈ lw_all := lw_g (lw_at lw_m6 74 rfl) rfl
theorem q1360 : (Jvm.Cond.methodLink "UnreadScriptModel" (255 : Nat) ({ cls := "UnreadScriptModel", name := "findValues", desc := "()V" } : Jvm.MethodName)) ∈ lw_all := lw_g (lw_at lw_m6 75 rfl) rfl
theorem q1361 : (Jvm.Cond.privateMethod ({ cls := "UnreadScriptModel", name := "findValues", desc := "()V" } : Jvm.MethodName)) ∈ lw_tbl := lw_at lw_m6 76 rfl
theorem q1362 : (Jvm.Cond.instanceMethod ({ cls := "UnreadScriptModel", name := "findValues", desc := "()V" } : Jvm.MethodName)) ∈ lw_all := lw_g (lw_at lw_m6 77 rfl) rfl
theorem q1363 : (Jvm.Cond.code ({ cls := "UnreadScriptModel", name := "findValues", desc := "()V" } : Jvm.MethodName) prog_11_method_41_code (5 : Nat) (Option.none : Option Jvm.ClassFile.FieldType)) ∈ lw_all := lw_g (lw_at lw_m6 78 rfl) rfl
theorem q1364 : (Jvm.Cond.methodLink "UnreadScriptModel" (249 : Nat) ({ cls := "UnreadScriptModel", name := "doAddUp", desc := "()Z" } : Jvm.MethodName)) ∈ lw_all := lw_g (lw_at lw_m6 79 rfl) rfl
theorem q1365 : (Jvm.Cond.privateMethod ({ cls := "UnreadScriptModel", name := "doAddUp", desc := "()Z" } : Jvm.MethodName)) ∈ lw_tbl := lw_at lw_m6 80 rfl
theorem q1366 : (Jvm.Cond.instanceMethod ({ cls := "UnreadScriptModel", name := "doAddUp", desc := "()Z" } : Jvm.MethodName)) ∈ lw_all := lw_g (lw_at lw_m6 81 rfl) rfl
theorem q1367 : (Jvm.Cond.code ({ cls := "UnreadScriptModel", name := "doAddUp", desc := "()Z" } : Jvm.MethodName) prog_11_method_40_code (5 : Nat) (Option.some Jvm.ClassFile.FieldType.boolean)) ∈ lw_all := lw_g (lw_at lw_m6 82 rfl) rfl
theorem q1368 : (Jvm.Cond.methodLink "UnreadScriptModel" (243 : Nat) ({ cls := "UnreadScriptModel", name := "listed", desc := "(I)I" } : Jvm.MethodName)) ∈ lw_all := lw_g (lw_at lw_m6 83 rfl) rfl
theorem q1369 : (Jvm.Cond.static ({ cls := "UnreadScriptModel", name := "listed", desc := "(I)I" } : Jvm.MethodName)) ∈ lw_all := lw_g (lw_at lw_m6 84 rfl) rfl
theorem q1370 : (Jvm.Cond.code ({ cls := "UnreadScriptModel", name := "listed", desc := "(I)I" } : Jvm.MethodName) prog_11_method_39_code (1 : Nat) (Option.some Jvm.ClassFile.FieldType.int)) ∈ lw_all := lw_g (lw_at lw_m6 85 rfl) rfl
theorem q1372 : (Jvm.Cond.instanceMethod ({ cls := "UnreadScriptModel", name := "sure", desc := "(I)I" } : Jvm.MethodName)) ∈ lw_all := lw_g (lw_at lw_m6 87 rfl) rfl
theorem q1373 : (Jvm.Cond.selects "UnreadScriptModel" ({ cls := "UnreadScriptModel", name := "sure", desc := "(I)I" } : Jvm.MethodName) ({ cls := "UnreadScriptModel", name := "sure", desc := "(I)I" } : Jvm.MethodName)) ∈ lw_all := lw_g (lw_at lw_m6 88 rfl) rfl
theorem q1374 : (Jvm.Cond.code ({ cls := "UnreadScriptModel", name := "sure", desc := "(I)I" } : Jvm.MethodName) prog_11_method_43_code (4 : Nat) (Option.some Jvm.ClassFile.FieldType.int)) ∈ lw_all := lw_g (lw_at lw_m6 89 rfl) rfl
theorem q1376 : (Jvm.Cond.instanceMethod ({ cls := "UnreadScriptModel", name := "name", desc := "(II)I" } : Jvm.MethodName)) ∈ lw_all := lw_g (lw_at lw_m6 91 rfl) rfl
theorem q1377 : (Jvm.Cond.selects "UnreadScriptModel" ({ cls := "UnreadScriptModel", name := "name", desc := "(II)I" } : Jvm.MethodName) ({ cls := "UnreadScriptModel", name := "name", desc := "(II)I" } : Jvm.MethodName)) ∈ lw_all := lw_g (lw_at lw_m6 92 rfl) rfl
theorem q1378 : (Jvm.Cond.code ({ cls := "UnreadScriptModel", name := "name", desc := "(II)I" } : Jvm.MethodName) prog_11_method_44_code (3 : Nat) (Option.some Jvm.ClassFile.FieldType.int)) ∈ lw_all := lw_g (lw_at lw_m6 93 rfl) rfl
theorem q1379 : (Jvm.Cond.constantLong "UnreadScriptModel" (258 : Nat) (8 : Int64)) ∈ lw_all := lw_g (lw_at lw_m6 94 rfl) rfl
theorem q1381 : (Jvm.Cond.instanceMethod ({ cls := "UnreadScriptModel", name := "dragged", desc := "(III)I" } : Jvm.MethodName)) ∈ lw_all := lw_g (lw_at lw_m6 96 rfl) rfl
theorem q1382 : (Jvm.Cond.selects "UnreadScriptModel" ({ cls := "UnreadScriptModel", name := "dragged", desc := "(III)I" } : Jvm.MethodName) ({ cls := "UnreadScriptModel", name := "dragged", desc := "(III)I" } : Jvm.MethodName)) ∈ lw_all := lw_g (lw_at lw_m6 97 rfl) rfl
theorem q1383 : (Jvm.Cond.code ({ cls := "UnreadScriptModel", name := "dragged", desc := "(III)I" } : Jvm.MethodName) prog_11_method_49_code (8 : Nat) (Option.some Jvm.ClassFile.FieldType.int)) ∈ lw_all := lw_g (lw_at lw_m6 98 rfl) rfl
theorem q1384 : (Jvm.Cond.methodLink "UnreadScriptModel" (270 : Nat) ({ cls := "UnreadScriptModel", name := "isName", desc := "(I)Z" } : Jvm.MethodName)) ∈ lw_all := lw_g (lw_at lw_m6 99 rfl) rfl
theorem q1385 : (Jvm.Cond.privateMethod ({ cls := "UnreadScriptModel", name := "isName", desc := "(I)Z" } : Jvm.MethodName)) ∈ lw_tbl := lw_at lw_m6 100 rfl
theorem q1386 : (Jvm.Cond.instanceMethod ({ cls := "UnreadScriptModel", name := "isName", desc := "(I)Z" } : Jvm.MethodName)) ∈ lw_all := lw_g (lw_at lw_m6 101 rfl) rfl
theorem q1387 : (Jvm.Cond.code ({ cls := "UnreadScriptModel", name := "isName", desc := "(I)Z" } : Jvm.MethodName) prog_11_method_45_code (2 : Nat) (Option.some Jvm.ClassFile.FieldType.boolean)) ∈ lw_all := lw_g (lw_at lw_m6 102 rfl) rfl
theorem q1388 : (Jvm.Cond.methodLink "UnreadScriptModel" (273 : Nat) ({ cls := "UnreadScriptModel", name := "doesFit", desc := "(III)Z" } : Jvm.MethodName)) ∈ lw_all := lw_g (lw_at lw_m6 103 rfl) rfl
theorem q1389 : (Jvm.Cond.privateMethod ({ cls := "UnreadScriptModel", name := "doesFit", desc := "(III)Z" } : Jvm.MethodName)) ∈ lw_tbl := lw_at lw_m6 104 rfl
theorem q1390 : (Jvm.Cond.instanceMethod ({ cls := "UnreadScriptModel", name := "doesFit", desc := "(III)Z" } : Jvm.MethodName)) ∈ lw_all := lw_g (lw_at lw_m6 105 rfl) rfl
theorem q1391 : (Jvm.Cond.code ({ cls := "UnreadScriptModel", name := "doesFit", desc := "(III)Z" } : Jvm.MethodName) prog_11_method_48_code (5 : Nat) (Option.some Jvm.ClassFile.FieldType.boolean)) ∈ lw_all := lw_g (lw_at lw_m6 106 rfl) rfl
theorem q1392 : (Jvm.Cond.methodLink "UnreadScriptModel" (266 : Nat) ({ cls := "UnreadScriptModel", name := "doAgree", desc := "(IIIIII)Z" } : Jvm.MethodName)) ∈ lw_all := lw_g (lw_at lw_m6 107 rfl) rfl
theorem q1393 : (Jvm.Cond.privateMethod ({ cls := "UnreadScriptModel", name := "doAgree", desc := "(IIIIII)Z" } : Jvm.MethodName)) ∈ lw_tbl := lw_at lw_m6 108 rfl
theorem q1394 : (Jvm.Cond.instanceMethod ({ cls := "UnreadScriptModel", name := "doAgree", desc := "(IIIIII)Z" } : Jvm.MethodName)) ∈ lw_all := lw_g (lw_at lw_m6 109 rfl) rfl
theorem q1395 : (Jvm.Cond.code ({ cls := "UnreadScriptModel", name := "doAgree", desc := "(IIIIII)Z" } : Jvm.MethodName) prog_11_method_47_code (10 : Nat) (Option.some Jvm.ClassFile.FieldType.boolean)) ∈ lw_all := lw_g (lw_at lw_m6 110 rfl) rfl
theorem q1396 : (Jvm.Cond.methodLink "UnreadScriptModel" (263 : Nat) ({ cls := "UnreadScriptModel", name := "soundAt", desc := "(II)I" } : Jvm.MethodName)) ∈ lw_all := lw_g (lw_at lw_m6 111 rfl) rfl
theorem q1397 : (Jvm.Cond.privateMethod ({ cls := "UnreadScriptModel", name := "soundAt", desc := "(II)I" } : Jvm.MethodName)) ∈ lw_tbl := lw_at lw_m6 112 rfl
theorem q1398 : (Jvm.Cond.instanceMethod ({ cls := "UnreadScriptModel", name := "soundAt", desc := "(II)I" } : Jvm.MethodName)) ∈ lw_all := lw_g (lw_at lw_m6 113 rfl) rfl
theorem q1399 : (Jvm.Cond.code ({ cls := "UnreadScriptModel", name := "soundAt", desc := "(II)I" } : Jvm.MethodName) prog_11_method_46_code (3 : Nat) (Option.some Jvm.ClassFile.FieldType.int)) ∈ lw_all := lw_g (lw_at lw_m6 114 rfl) rfl
theorem q1401 : (Jvm.Cond.instanceMethod ({ cls := "UnreadScriptModel", name := "together", desc := "(IIII)I" } : Jvm.MethodName)) ∈ lw_all := lw_g (lw_at lw_m6 116 rfl) rfl
theorem q1402 : (Jvm.Cond.selects "UnreadScriptModel" ({ cls := "UnreadScriptModel", name := "together", desc := "(IIII)I" } : Jvm.MethodName) ({ cls := "UnreadScriptModel", name := "together", desc := "(IIII)I" } : Jvm.MethodName)) ∈ lw_all := lw_g (lw_at lw_m6 117 rfl) rfl
theorem q1403 : (Jvm.Cond.code ({ cls := "UnreadScriptModel", name := "together", desc := "(IIII)I" } : Jvm.MethodName) prog_11_method_50_code (8 : Nat) (Option.some Jvm.ClassFile.FieldType.int)) ∈ lw_all := lw_g (lw_at lw_m6 118 rfl) rfl
theorem q1405 : (Jvm.Cond.instanceMethod ({ cls := "UnreadScriptModel", name := "word", desc := "(II)I" } : Jvm.MethodName)) ∈ lw_all := lw_g (lw_at lw_m6 120 rfl) rfl
theorem q1406 : (Jvm.Cond.selects "UnreadScriptModel" ({ cls := "UnreadScriptModel", name := "word", desc := "(II)I" } : Jvm.MethodName) ({ cls := "UnreadScriptModel", name := "word", desc := "(II)I" } : Jvm.MethodName)) ∈ lw_all := lw_g (lw_at lw_m6 121 rfl) rfl
theorem q1407 : (Jvm.Cond.code ({ cls := "UnreadScriptModel", name := "word", desc := "(II)I" } : Jvm.MethodName) prog_11_method_51_code (4 : Nat) (Option.some Jvm.ClassFile.FieldType.int)) ∈ lw_all := lw_g (lw_at lw_m6 122 rfl) rfl
theorem q1408 : (Jvm.Cond.constantLong "UnreadScriptModel" (277 : Nat) (6 : Int64)) ∈ lw_all := lw_g (lw_at lw_m6 123 rfl) rfl
theorem q1410 : (Jvm.Cond.instanceMethod ({ cls := "UnreadScriptModel", name := "tabled", desc := "(I)I" } : Jvm.MethodName)) ∈ lw_all := lw_g (lw_at lw_m6 125 rfl) rfl
theorem q1411 : (Jvm.Cond.selects "UnreadScriptModel" ({ cls := "UnreadScriptModel", name := "tabled", desc := "(I)I" } : Jvm.MethodName) ({ cls := "UnreadScriptModel", name := "tabled", desc := "(I)I" } : Jvm.MethodName)) ∈ lw_all := lw_g (lw_at lw_m6 126 rfl) rfl
theorem q1412 : (Jvm.Cond.code ({ cls := "UnreadScriptModel", name := "tabled", desc := "(I)I" } : Jvm.MethodName) prog_11_method_53_code (2 : Nat) (Option.some Jvm.ClassFile.FieldType.int)) ∈ lw_all := lw_g (lw_at lw_m6 127 rfl) rfl
theorem q1413 : (Jvm.Cond.methodLink "UnreadScriptModel" (285 : Nat) ({ cls := "UnreadScriptModel", name := "findTable", desc := "()V" } : Jvm.MethodName)) ∈ lw_all := lw_g (lw_at lw_m6 128 rfl) rfl
theorem q1414 : (Jvm.Cond.privateMethod ({ cls := "UnreadScriptModel", name := "findTable", desc := "()V" } : Jvm.MethodName)) ∈ lw_tbl := lw_at lw_m6 129 rfl
theorem q1415 : (Jvm.Cond.instanceMethod ({ cls := "UnreadScriptModel", name := "findTable", desc := "()V" } : Jvm.MethodName)) ∈ lw_all := lw_g (lw_at lw_m6 130 rfl) rfl
theorem q1416 : (Jvm.Cond.code ({ cls := "UnreadScriptModel", name := "findTable", desc := "()V" } : Jvm.MethodName) prog_11_method_52_code (5 : Nat) (Option.none : Option Jvm.ClassFile.FieldType)) ∈ lw_all := lw_g (lw_at lw_m6 131 rfl) rfl
theorem q1418 : (Jvm.Cond.instanceMethod ({ cls := "UnreadScriptModel", name := "read", desc := "(II)I" } : Jvm.MethodName)) ∈ lw_all := lw_g (lw_at lw_m6 133 rfl) rfl
theorem q1419 : (Jvm.Cond.selects "UnreadScriptModel" ({ cls := "UnreadScriptModel", name := "read", desc := "(II)I" } : Jvm.MethodName) ({ cls := "UnreadScriptModel", name := "read", desc := "(II)I" } : Jvm.MethodName)) ∈ lw_all := lw_g (lw_at lw_m6 134 rfl) rfl
theorem q1420 : (Jvm.Cond.code ({ cls := "UnreadScriptModel", name := "read", desc := "(II)I" } : Jvm.MethodName) prog_11_method_58_code (3 : Nat) (Option.some Jvm.ClassFile.FieldType.int)) ∈ lw_all := lw_g (lw_at lw_m6 135 rfl) rfl
theorem q1421 : (Jvm.Cond.methodLink "UnreadScriptModel" (291 : Nat) ({ cls := "UnreadScriptModel", name := "areTexts", desc := "(I)Z" } : Jvm.MethodName)) ∈ lw_all := lw_g (lw_at lw_m6 136 rfl) rfl
theorem q1422 : (Jvm.Cond.privateMethod ({ cls := "UnreadScriptModel", name := "areTexts", desc := "(I)Z" } : Jvm.MethodName)) ∈ lw_tbl := lw_at lw_m6 137 rfl
theorem q1423 : (Jvm.Cond.instanceMethod ({ cls := "UnreadScriptModel", name := "areTexts", desc := "(I)Z" } : Jvm.MethodName)) ∈ lw_all := lw_g (lw_at lw_m6 138 rfl) rfl
theorem q1424 : (Jvm.Cond.code ({ cls := "UnreadScriptModel", name := "areTexts", desc := "(I)Z" } : Jvm.MethodName) prog_11_method_57_code (2 : Nat) (Option.some Jvm.ClassFile.FieldType.boolean)) ∈ lw_all := lw_g (lw_at lw_m6 139 rfl) rfl
theorem q1425 : (Jvm.Cond.methodLink "UnreadScriptModel" (294 : Nat) ({ cls := "UnreadScriptModel", name := "findTongue", desc := "()V" } : Jvm.MethodName)) ∈ lw_all := lw_g (lw_at lw_m6 140 rfl) rfl
theorem q1426 : (Jvm.Cond.privateMethod ({ cls := "UnreadScriptModel", name := "findTongue", desc := "()V" } : Jvm.MethodName)) ∈ lw_tbl := lw_at lw_m6 141 rfl
theorem q1427 : (Jvm.Cond.instanceMethod ({ cls := "UnreadScriptModel", name := "findTongue", desc := "()V" } : Jvm.MethodName)) ∈ lw_all := lw_g (lw_at lw_m6 142 rfl) rfl
theorem q1428 : (Jvm.Cond.code ({ cls := "UnreadScriptModel", name := "findTongue", desc := "()V" } : Jvm.MethodName) prog_11_method_54_code (2 : Nat) (Option.none : Option Jvm.ClassFile.FieldType)) ∈ lw_all := lw_g (lw_at lw_m6 143 rfl) rfl
theorem q1429 : (Jvm.Cond.methodLink "UnreadScriptModel" (297 : Nat) ({ cls := "UnreadScriptModel", name := "findReadable", desc := "(I)V" } : Jvm.MethodName)) ∈ lw_all := lw_g (lw_at lw_m6 144 rfl) rfl
theorem q1430 : (Jvm.Cond.privateMethod ({ cls := "UnreadScriptModel", name := "findReadable", desc := "(I)V" } : Jvm.MethodName)) ∈ lw_tbl := lw_at lw_m6 145 rfl
theorem q1431 : (Jvm.Cond.instanceMethod ({ cls := "UnreadScriptModel", name := "findReadable", desc := "(I)V" } : Jvm.MethodName)) ∈ lw_all := lw_g (lw_at lw_m6 146 rfl) rfl
theorem q1432 : (Jvm.Cond.code ({ cls := "UnreadScriptModel", name := "findReadable", desc := "(I)V" } : Jvm.MethodName) prog_11_method_55_code (7 : Nat) (Option.none : Option Jvm.ClassFile.FieldType)) ∈ lw_all := lw_g (lw_at lw_m6 147 rfl) rfl
theorem q1433 : (Jvm.Cond.methodLink "UnreadScriptModel" (300 : Nat) ({ cls := "UnreadScriptModel", name := "readBy", desc := "(I)I" } : Jvm.MethodName)) ∈ lw_all := lw_g (lw_at lw_m6 148 rfl) rfl
theorem q1434 : (Jvm.Cond.privateMethod ({ cls := "UnreadScriptModel", name := "readBy", desc := "(I)I" } : Jvm.MethodName)) ∈ lw_tbl := lw_at lw_m6 149 rfl
theorem q1435 : (Jvm.Cond.instanceMethod ({ cls := "UnreadScriptModel", name := "readBy", desc := "(I)I" } : Jvm.MethodName)) ∈ lw_all := lw_g (lw_at lw_m6 150 rfl) rfl
theorem q1436 : (Jvm.Cond.code ({ cls := "UnreadScriptModel", name := "readBy", desc := "(I)I" } : Jvm.MethodName) prog_11_method_56_code (6 : Nat) (Option.some Jvm.ClassFile.FieldType.int)) ∈ lw_all := lw_g (lw_at lw_m6 151 rfl) rfl
theorem q1438 : (Jvm.Cond.instanceMethod ({ cls := "UnreadScriptModel", name := "best", desc := "(II)I" } : Jvm.MethodName)) ∈ lw_all := lw_g (lw_at lw_m6 153 rfl) rfl
theorem q1439 : (Jvm.Cond.selects "UnreadScriptModel" ({ cls := "UnreadScriptModel", name := "best", desc := "(II)I" } : Jvm.MethodName) ({ cls := "UnreadScriptModel", name := "best", desc := "(II)I" } : Jvm.MethodName)) ∈ lw_all := lw_g (lw_at lw_m6 154 rfl) rfl
theorem q1440 : (Jvm.Cond.code ({ cls := "UnreadScriptModel", name := "best", desc := "(II)I" } : Jvm.MethodName) prog_11_method_61_code (3 : Nat) (Option.some Jvm.ClassFile.FieldType.int)) ∈ lw_all := lw_g (lw_at lw_m6 155 rfl) rfl
theorem q1441 : (Jvm.Cond.methodLink "UnreadScriptModel" (315 : Nat) ({ cls := "UnreadScriptModel", name := "findBest", desc := "(I)V" } : Jvm.MethodName)) ∈ lw_all := lw_g (lw_at lw_m6 156 rfl) rfl
theorem q1442 : (Jvm.Cond.privateMethod ({ cls := "UnreadScriptModel", name := "findBest", desc := "(I)V" } : Jvm.MethodName)) ∈ lw_tbl := lw_at lw_m6 157 rfl
theorem q1443 : (Jvm.Cond.instanceMethod ({ cls := "UnreadScriptModel", name := "findBest", desc := "(I)V" } : Jvm.MethodName)) ∈ lw_all := lw_g (lw_at lw_m6 158 rfl) rfl
theorem q1444 : (Jvm.Cond.code ({ cls := "UnreadScriptModel", name := "findBest", desc := "(I)V" } : Jvm.MethodName) prog_11_method_60_code (5 : Nat) (Option.none : Option Jvm.ClassFile.FieldType)) ∈ lw_all := lw_g (lw_at lw_m6 159 rfl) rfl
theorem q1445 : (Jvm.Cond.methodLink "UnreadScriptModel" (309 : Nat) ({ cls := "UnreadScriptModel", name := "turned", desc := "(I)I" } : Jvm.MethodName)) ∈ lw_all := lw_g (lw_at lw_m6 160 rfl) rfl
theorem q1446 : (Jvm.Cond.privateMethod ({ cls := "UnreadScriptModel", name := "turned", desc := "(I)I" } : Jvm.MethodName)) ∈ lw_tbl := lw_at lw_m6 161 rfl
theorem q1447 : (Jvm.Cond.instanceMethod ({ cls := "UnreadScriptModel", name := "turned", desc := "(I)I" } : Jvm.MethodName)) ∈ lw_all := lw_g (lw_at lw_m6 162 rfl) rfl
theorem q1448 : (Jvm.Cond.code ({ cls := "UnreadScriptModel", name := "turned", desc := "(I)I" } : Jvm.MethodName) prog_11_method_59_code (4 : Nat) (Option.some Jvm.ClassFile.FieldType.int)) ∈ lw_all := lw_g (lw_at lw_m6 163 rfl) rfl
theorem q1450 : (Jvm.Cond.instanceMethod ({ cls := "UnreadScriptModel", name := "judge", desc := "(III)I" } : Jvm.MethodName)) ∈ lw_all := lw_g (lw_at lw_m6 165 rfl) rfl
theorem q1451 : (Jvm.Cond.selects "UnreadScriptModel" ({ cls := "UnreadScriptModel", name := "judge", desc := "(III)I" } : Jvm.MethodName) ({ cls := "UnreadScriptModel", name := "judge", desc := "(III)I" } : Jvm.MethodName)) ∈ lw_all := lw_g (lw_at lw_m6 166 rfl) rfl
theorem q1452 : (Jvm.Cond.code ({ cls := "UnreadScriptModel", name := "judge", desc := "(III)I" } : Jvm.MethodName) prog_11_method_63_code (10 : Nat) (Option.some Jvm.ClassFile.FieldType.int)) ∈ lw_all := lw_g (lw_at lw_m6 167 rfl) rfl
theorem q1453 : (Jvm.Cond.methodLink "UnreadScriptModel" (318 : Nat) ({ cls := "UnreadScriptModel", name := "goesOn", desc := "()Z" } : Jvm.MethodName)) ∈ lw_all := lw_g (lw_at lw_m6 168 rfl) rfl
theorem q1454 : (Jvm.Cond.privateMethod ({ cls := "UnreadScriptModel", name := "goesOn", desc := "()Z" } : Jvm.MethodName)) ∈ lw_tbl := lw_at lw_m6 169 rfl
theorem q1455 : (Jvm.Cond.instanceMethod ({ cls := "UnreadScriptModel", name := "goesOn", desc := "()Z" } : Jvm.MethodName)) ∈ lw_all := lw_g (lw_at lw_m6 170 rfl) rfl
theorem q1456 : (Jvm.Cond.code ({ cls := "UnreadScriptModel", name := "goesOn", desc := "()Z" } : Jvm.MethodName) prog_11_method_62_code (6 : Nat) (Option.some Jvm.ClassFile.FieldType.boolean)) ∈ lw_all := lw_g (lw_at lw_m6 171 rfl) rfl
theorem q1458 : (Jvm.Cond.instanceMethod ({ cls := "UnreadScriptModel", name := "feed", desc := "(J)I" } : Jvm.MethodName)) ∈ lw_all := lw_g (lw_at lw_m6 173 rfl) rfl
theorem q1459 : (Jvm.Cond.selects "UnreadScriptModel" ({ cls := "UnreadScriptModel", name := "feed", desc := "(J)I" } : Jvm.MethodName) ({ cls := "UnreadScriptModel", name := "feed", desc := "(J)I" } : Jvm.MethodName)) ∈ lw_all := lw_g (lw_at lw_m6 174 rfl) rfl
theorem q1460 : (Jvm.Cond.code ({ cls := "UnreadScriptModel", name := "feed", desc := "(J)I" } : Jvm.MethodName) prog_11_method_64_code (4 : Nat) (Option.some Jvm.ClassFile.FieldType.int)) ∈ lw_all := lw_g (lw_at lw_m6 175 rfl) rfl
theorem q1461 : (Jvm.Cond.constantLong "UnreadScriptModel" (324 : Nat) (255 : Int64)) ∈ lw_all := lw_g (lw_at lw_m6 176 rfl) rfl
theorem q1463 : (Jvm.Cond.instanceMethod ({ cls := "UnreadScriptModel", name := "end", desc := "(I)I" } : Jvm.MethodName)) ∈ lw_all := lw_g (lw_at lw_m6 178 rfl) rfl
theorem q1464 : (Jvm.Cond.selects "UnreadScriptModel" ({ cls := "UnreadScriptModel", name := "end", desc := "(I)I" } : Jvm.MethodName) ({ cls := "UnreadScriptModel", name := "end", desc := "(I)I" } : Jvm.MethodName)) ∈ lw_all := lw_g (lw_at lw_m6 179 rfl) rfl
theorem q1465 : (Jvm.Cond.code ({ cls := "UnreadScriptModel", name := "end", desc := "(I)I" } : Jvm.MethodName) prog_11_method_65_code (3 : Nat) (Option.some Jvm.ClassFile.FieldType.int)) ∈ lw_all := lw_g (lw_at lw_m6 180 rfl) rfl
theorem q1467 : (Jvm.Cond.instanceMethod ({ cls := "UnreadScriptModel", name := "claims", desc := "()I" } : Jvm.MethodName)) ∈ lw_all := lw_g (lw_at lw_m6 182 rfl) rfl
theorem q1468 : (Jvm.Cond.selects "UnreadScriptModel" ({ cls := "UnreadScriptModel", name := "claims", desc := "()I" } : Jvm.MethodName) ({ cls := "UnreadScriptModel", name := "claims", desc := "()I" } : Jvm.MethodName)) ∈ lw_all := lw_g (lw_at lw_m6 183 rfl) rfl
theorem q1469 : (Jvm.Cond.code ({ cls := "UnreadScriptModel", name := "claims", desc := "()I" } : Jvm.MethodName) prog_11_method_73_code (3 : Nat) (Option.some Jvm.ClassFile.FieldType.int)) ∈ lw_all := lw_g (lw_at lw_m6 184 rfl) rfl
theorem q1470 : (Jvm.Cond.methodLink "UnreadScriptModel" (365 : Nat) ({ cls := "UnreadScriptModel", name := "next", desc := "()V" } : Jvm.MethodName)) ∈ lw_all := lw_g (lw_at lw_m6 185 rfl) rfl
theorem q1471 : (Jvm.Cond.privateMethod ({ cls := "UnreadScriptModel", name := "next", desc := "()V" } : Jvm.MethodName)) ∈ lw_tbl := lw_at lw_m6 186 rfl
theorem q1472 : (Jvm.Cond.instanceMethod ({ cls := "UnreadScriptModel", name := "next", desc := "()V" } : Jvm.MethodName)) ∈ lw_all := lw_g (lw_at lw_m6 187 rfl) rfl
theorem q1473 : (Jvm.Cond.code ({ cls := "UnreadScriptModel", name := "next", desc := "()V" } : Jvm.MethodName) prog_11_method_70_code (2 : Nat) (Option.none : Option Jvm.ClassFile.FieldType)) ∈ lw_all := lw_g (lw_at lw_m6 188 rfl) rfl
theorem q1474 : (Jvm.Cond.methodLink "UnreadScriptModel" (338 : Nat) ({ cls := "UnreadScriptModel", name := "look", desc := "(I)I" } : Jvm.MethodName)) ∈ lw_all := lw_g (lw_at lw_m6 189 rfl) rfl
theorem q1475 : (Jvm.Cond.privateMethod ({ cls := "UnreadScriptModel", name := "look", desc := "(I)I" } : Jvm.MethodName)) ∈ lw_tbl := lw_at lw_m6 190 rfl
theorem q1476 : (Jvm.Cond.instanceMethod ({ cls := "UnreadScriptModel", name := "look", desc := "(I)I" } : Jvm.MethodName)) ∈ lw_all := lw_g (lw_at lw_m6 191 rfl) rfl
theorem q1477 : (Jvm.Cond.code ({ cls := "UnreadScriptModel", name := "look", desc := "(I)I" } : Jvm.MethodName) prog_11_method_67_code (2 : Nat) (Option.some Jvm.ClassFile.FieldType.int)) ∈ lw_all := lw_g (lw_at lw_m6 192 rfl) rfl
theorem q1478 : (Jvm.Cond.constantLong "UnreadScriptModel" (347 : Nat) (97 : Int64)) ∈ lw_all := lw_g (lw_at lw_m6 193 rfl) rfl
theorem q1479 : (Jvm.Cond.constantLong "UnreadScriptModel" (349 : Nat) (122 : Int64)) ∈ lw_all := lw_g (lw_at lw_m6 194 rfl) rfl
theorem q1480 : (Jvm.Cond.methodLink "UnreadScriptModel" (351 : Nat) ({ cls := "UnreadScriptModel", name := "nameNow", desc := "()I" } : Jvm.MethodName)) ∈ lw_all := lw_g (lw_at lw_m6 195 rfl) rfl
theorem q1481 : (Jvm.Cond.privateMethod ({ cls := "UnreadScriptModel", name := "nameNow", desc := "()I" } : Jvm.MethodName)) ∈ lw_tbl := lw_at lw_m6 196 rfl
theorem q1482 : (Jvm.Cond.instanceMethod ({ cls := "UnreadScriptModel", name := "nameNow", desc := "()I" } : Jvm.MethodName)) ∈ lw_all := lw_g (lw_at lw_m6 197 rfl) rfl
theorem q1483 : (Jvm.Cond.code ({ cls := "UnreadScriptModel", name := "nameNow", desc := "()I" } : Jvm.MethodName) prog_11_method_69_code (1 : Nat) (Option.some Jvm.ClassFile.FieldType.int)) ∈ lw_all := lw_g (lw_at lw_m6 198 rfl) rfl
theorem q1484 : (Jvm.Cond.methodLink "UnreadScriptModel" (341 : Nat) ({ cls := "UnreadScriptModel", name := "is", desc := "(IIIIII)Z" } : Jvm.MethodName)) ∈ lw_all := lw_g (lw_at lw_m6 199 rfl) rfl
theorem q1485 : (Jvm.Cond.privateMethod ({ cls := "UnreadScriptModel", name := "is", desc := "(IIIIII)Z" } : Jvm.MethodName)) ∈ lw_tbl := lw_at lw_m6 200 rfl
theorem q1486 : (Jvm.Cond.instanceMethod ({ cls := "UnreadScriptModel", name := "is", desc := "(IIIIII)Z" } : Jvm.MethodName)) ∈ lw_all := lw_g (lw_at lw_m6 201 rfl) rfl
theorem q1487 : (Jvm.Cond.code ({ cls := "UnreadScriptModel", name := "is", desc := "(IIIIII)Z" } : Jvm.MethodName) prog_11_method_68_code (7 : Nat) (Option.some Jvm.ClassFile.FieldType.boolean)) ∈ lw_all := lw_g (lw_at lw_m6 202 rfl) rfl
theorem q1488 : (Jvm.Cond.methodLink "UnreadScriptModel" (357 : Nat) ({ cls := "UnreadScriptModel", name := "wants", desc := "(ZI)V" } : Jvm.MethodName)) ∈ lw_all := lw_g (lw_at lw_m6 203 rfl) rfl
theorem q1489 : (Jvm.Cond.privateMethod ({ cls := "UnreadScriptModel", name := "wants", desc := "(ZI)V" } : Jvm.MethodName)) ∈ lw_tbl := lw_at lw_m6 204 rfl
theorem q1490 : (Jvm.Cond.instanceMethod ({ cls := "UnreadScriptModel", name := "wants", desc := "(ZI)V" } : Jvm.MethodName)) ∈ lw_all := lw_g (lw_at lw_m6 205 rfl) rfl
theorem q1491 : (Jvm.Cond.code ({ cls := "UnreadScriptModel", name := "wants", desc := "(ZI)V" } : Jvm.MethodName) prog_11_method_66_code (3 : Nat) (Option.none : Option Jvm.ClassFile.FieldType)) ∈ lw_all := lw_g (lw_at lw_m6 206 rfl) rfl
theorem q1492 : (Jvm.Cond.constantLong "UnreadScriptModel" (361 : Nat) (48 : Int64)) ∈ lw_all := lw_g (lw_at lw_m6 207 rfl) rfl
theorem q1493 : (Jvm.Cond.constantLong "UnreadScriptModel" (363 : Nat) (57 : Int64)) ∈ lw_all := lw_g (lw_at lw_m6 208 rfl) rfl
theorem q1494 : (Jvm.Cond.methodLink "UnreadScriptModel" (377 : Nat) ({ cls := "UnreadScriptModel", name := "readClaim", desc := "(I)I" } : Jvm.MethodName)) ∈ lw_all := lw_g (lw_at lw_m6 209 rfl) rfl
theorem q1495 : (Jvm.Cond.privateMethod ({ cls := "UnreadScriptModel", name := "readClaim", desc := "(I)I" } : Jvm.MethodName)) ∈ lw_tbl := lw_at lw_m6 210 rfl
theorem q1496 : (Jvm.Cond.instanceMethod ({ cls := "UnreadScriptModel", name := "readClaim", desc := "(I)I" } : Jvm.MethodName)) ∈ lw_all := lw_g (lw_at lw_m6 211 rfl) rfl
theorem q1497 : (Jvm.Cond.code ({ cls := "UnreadScriptModel", name := "readClaim", desc := "(I)I" } : Jvm.MethodName) prog_11_method_72_code (5 : Nat) (Option.some Jvm.ClassFile.FieldType.int)) ∈ lw_all := lw_g (lw_at lw_m6 212 rfl) rfl
theorem q1498 : (Jvm.Cond.methodLink "UnreadScriptModel" (368 : Nat) ({ cls := "UnreadScriptModel", name := "readOn", desc := "(I)I" } : Jvm.MethodName)) ∈ lw_all := lw_g (lw_at lw_m6 213 rfl) rfl
theorem q1499 : (Jvm.Cond.privateMethod ({ cls := "UnreadScriptModel", name := "readOn", desc := "(I)I" } : Jvm.MethodName)) ∈ lw_tbl := lw_at lw_m6 214 rfl
theorem q1500 : (Jvm.Cond.instanceMethod ({ cls := "UnreadScriptModel", name := "readOn", desc := "(I)I" } : Jvm.MethodName)) ∈ lw_all := lw_g (lw_at lw_m6 215 rfl) rfl
theorem q1501 : (Jvm.Cond.code ({ cls := "UnreadScriptModel", name := "readOn", desc := "(I)I" } : Jvm.MethodName) prog_11_method_71_code (4 : Nat) (Option.some Jvm.ClassFile.FieldType.int)) ∈ lw_all := lw_g (lw_at lw_m6 216 rfl) rfl
theorem q1503 : (Jvm.Cond.instanceMethod ({ cls := "UnreadScriptModel", name := "fault", desc := "()I" } : Jvm.MethodName)) ∈ lw_all := lw_g (lw_at lw_m6 218 rfl) rfl
theorem q1504 : (Jvm.Cond.selects "UnreadScriptModel" ({ cls := "UnreadScriptModel", name := "fault", desc := "()I" } : Jvm.MethodName) ({ cls := "UnreadScriptModel", name := "fault", desc := "()I" } : Jvm.MethodName)) ∈ lw_all := lw_g (lw_at lw_m6 219 rfl) rfl
theorem q1505 : (Jvm.Cond.code ({ cls := "UnreadScriptModel", name := "fault", desc := "()I" } : Jvm.MethodName) prog_11_method_74_code (1 : Nat) (Option.some Jvm.ClassFile.FieldType.int)) ∈ lw_all := lw_g (lw_at lw_m6 220 rfl) rfl
theorem q1507 : (Jvm.Cond.instanceMethod ({ cls := "UnreadScriptModel", name := "claim", desc := "(II)I" } : Jvm.MethodName)) ∈ lw_all := lw_g (lw_at lw_m6 222 rfl) rfl
theorem q1508 : (Jvm.Cond.selects "UnreadScriptModel" ({ cls := "UnreadScriptModel", name := "claim", desc := "(II)I" } : Jvm.MethodName) ({ cls := "UnreadScriptModel", name := "claim", desc := "(II)I" } : Jvm.MethodName)) ∈ lw_all := lw_g (lw_at lw_m6 223 rfl) rfl
theorem q1509 : (Jvm.Cond.code ({ cls := "UnreadScriptModel", name := "claim", desc := "(II)I" } : Jvm.MethodName) prog_11_method_78_code (6 : Nat) (Option.some Jvm.ClassFile.FieldType.int)) ∈ lw_all := lw_g (lw_at lw_m6 224 rfl) rfl
theorem q1510 : (Jvm.Cond.methodLink "UnreadScriptModel" (380 : Nat) ({ cls := "UnreadScriptModel", name := "isClaim", desc := "(I)Z" } : Jvm.MethodName)) ∈ lw_all := lw_g (lw_at lw_m6 225 rfl) rfl
theorem q1511 : (Jvm.Cond.privateMethod ({ cls := "UnreadScriptModel", name := "isClaim", desc := "(I)Z" } : Jvm.MethodName)) ∈ lw_tbl := lw_at lw_m6 226 rfl
theorem q1512 : (Jvm.Cond.instanceMethod ({ cls := "UnreadScriptModel", name := "isClaim", desc := "(I)Z" } : Jvm.MethodName)) ∈ lw_all := lw_g (lw_at lw_m6 227 rfl) rfl
theorem q1513 : (Jvm.Cond.code ({ cls := "UnreadScriptModel", name := "isClaim", desc := "(I)Z" } : Jvm.MethodName) prog_11_method_75_code (2 : Nat) (Option.some Jvm.ClassFile.FieldType.boolean)) ∈ lw_all := lw_g (lw_at lw_m6 228 rfl) rfl
theorem q1514 : (Jvm.Cond.methodLink "UnreadScriptModel" (383 : Nat) ({ cls := "UnreadScriptModel", name := "hanging", desc := "(I)I" } : Jvm.MethodName)) ∈ lw_all := lw_g (lw_at lw_m6 229 rfl) rfl
theorem q1515 : (Jvm.Cond.privateMethod ({ cls := "UnreadScriptModel", name := "hanging", desc := "(I)I" } : Jvm.MethodName)) ∈ lw_tbl := lw_at lw_m6 230 rfl
theorem q1516 : (Jvm.Cond.instanceMethod ({ cls := "UnreadScriptModel", name := "hanging", desc := "(I)I" } : Jvm.MethodName)) ∈ lw_all := lw_g (lw_at lw_m6 231 rfl) rfl
theorem q1517 : (Jvm.Cond.code ({ cls := "UnreadScriptModel", name := "hanging", desc := "(I)I" } : Jvm.MethodName) prog_11_method_76_code (4 : Nat) (Option.some Jvm.ClassFile.FieldType.int)) ∈ lw_all := lw_g (lw_at lw_m6 232 rfl) rfl
theorem q1518 : (Jvm.Cond.methodLink "UnreadScriptModel" (386 : Nat) ({ cls := "UnreadScriptModel", name := "deepOf", desc := "(I)I" } : Jvm.MethodName)) ∈ lw_all := lw_g (lw_at lw_m6 233 rfl) rfl
theorem q1519 : (Jvm.Cond.privateMethod ({ cls := "UnreadScriptModel", name := "deepOf", desc := "(I)I" } : Jvm.MethodName)) ∈ lw_tbl := lw_at lw_m6 234 rfl
theorem q1520 : (Jvm.Cond.instanceMethod ({ cls := "UnreadScriptModel", name := "deepOf", desc := "(I)I" } : Jvm.MethodName)) ∈ lw_all := lw_g (lw_at lw_m6 235 rfl) rfl
theorem q1521 : (Jvm.Cond.code ({ cls := "UnreadScriptModel", name := "deepOf", desc := "(I)I" } : Jvm.MethodName) prog_11_method_77_code (4 : Nat) (Option.some Jvm.ClassFile.FieldType.int)) ∈ lw_all := lw_g (lw_at lw_m6 236 rfl) rfl
theorem q1523 : (Jvm.Cond.instanceMethod ({ cls := "UnreadScriptModel", name := "withdraw", desc := "(I)I" } : Jvm.MethodName)) ∈ lw_all := lw_g (lw_at lw_m6 238 rfl) rfl
theorem q1524 : (Jvm.Cond.selects "UnreadScriptModel" ({ cls := "UnreadScriptModel", name := "withdraw", desc := "(I)I" } : Jvm.MethodName) ({ cls := "UnreadScriptModel", name := "withdraw", desc := "(I)I" } : Jvm.MethodName)) ∈ lw_all := lw_g (lw_at lw_m6 239 rfl) rfl
theorem q1525 : (Jvm.Cond.code ({ cls := "UnreadScriptModel", name := "withdraw", desc := "(I)I" } : Jvm.MethodName) prog_11_method_79_code (5 : Nat) (Option.some Jvm.ClassFile.FieldType.int)) ∈ lw_all := lw_g (lw_at lw_m7 0 rfl) rfl
theorem q1527 : (Jvm.Cond.instanceMethod ({ cls := "UnreadScriptModel", name := "day", desc := "(I)I" } : Jvm.MethodName)) ∈ lw_all := lw_g (lw_at lw_m7 2 rfl) rfl
theorem q1528 : (Jvm.Cond.selects "UnreadScriptModel" ({ cls := "UnreadScriptModel", name := "day", desc := "(I)I" } : Jvm.MethodName) ({ cls := "UnreadScriptModel", name := "day", desc := "(I)I" } : Jvm.MethodName)) ∈ lw_all := lw_g (lw_at lw_m7 3 rfl) rfl
theorem q1529 : (Jvm.Cond.code ({ cls := "UnreadScriptModel", name := "day", desc := "(I)I" } : Jvm.MethodName) prog_11_method_80_code (3 : Nat) (Option.some Jvm.ClassFile.FieldType.int)) ∈ lw_all := lw_g (lw_at lw_m7 4 rfl) rfl
theorem q1530 : (Jvm.Cond.constantLong "UnreadScriptModel" (389 : Nat) (99 : Int64)) ∈ lw_all := lw_g (lw_at lw_m7 5 rfl) rfl
theorem q1532 : (Jvm.Cond.instanceMethod ({ cls := "UnreadScriptModel", name := "known", desc := "(II)I" } : Jvm.MethodName)) ∈ lw_all := lw_g (lw_at lw_m7 7 rfl) rfl
theorem q1533 : (Jvm.Cond.selects "UnreadScriptModel" ({ cls := "UnreadScriptModel", name := "known", desc := "(II)I" } : Jvm.MethodName) ({ cls := "UnreadScriptModel", name := "known", desc := "(II)I" } : Jvm.MethodName)) ∈ lw_all := lw_g (lw_at lw_m7 8 rfl) rfl
theorem q1534 : (Jvm.Cond.code ({ cls := "UnreadScriptModel", name := "known", desc := "(II)I" } : Jvm.MethodName) prog_11_method_81_code (7 : Nat) (Option.some Jvm.ClassFile.FieldType.int)) ∈ lw_all := lw_g (lw_at lw_m7 9 rfl) rfl
theorem q1536 : (Jvm.Cond.instanceMethod ({ cls := "UnreadScriptModel", name := "sheet", desc := "(III)I" } : Jvm.MethodName)) ∈ lw_all := lw_g (lw_at lw_m7 11 rfl) rfl
theorem q1537 : (Jvm.Cond.selects "UnreadScriptModel" ({ cls := "UnreadScriptModel", name := "sheet", desc := "(III)I" } : Jvm.MethodName) ({ cls := "UnreadScriptModel", name := "sheet", desc := "(III)I" } : Jvm.MethodName)) ∈ lw_all := lw_g (lw_at lw_m7 12 rfl) rfl
theorem q1538 : (Jvm.Cond.code ({ cls := "UnreadScriptModel", name := "sheet", desc := "(III)I" } : Jvm.MethodName) prog_11_method_83_code (5 : Nat) (Option.some Jvm.ClassFile.FieldType.int)) ∈ lw_all := lw_g (lw_at lw_m7 13 rfl) rfl
theorem q1539 : (Jvm.Cond.methodLink "UnreadScriptModel" (391 : Nat) ({ cls := "UnreadScriptModel", name := "isSheet", desc := "(II)Z" } : Jvm.MethodName)) ∈ lw_all := lw_g (lw_at lw_m7 14 rfl) rfl
theorem q1540 : (Jvm.Cond.static ({ cls := "UnreadScriptModel", name := "isSheet", desc := "(II)Z" } : Jvm.MethodName)) ∈ lw_all := lw_g (lw_at lw_m7 15 rfl) rfl
theorem q1541 : (Jvm.Cond.code ({ cls := "UnreadScriptModel", name := "isSheet", desc := "(II)Z" } : Jvm.MethodName) prog_11_method_82_code (2 : Nat) (Option.some Jvm.ClassFile.FieldType.boolean)) ∈ lw_all := lw_g (lw_at lw_m7 16 rfl) rfl
theorem q1543 : (Jvm.Cond.instanceMethod ({ cls := "UnreadScriptModel", name := "lay", desc := "(III)I" } : Jvm.MethodName)) ∈ lw_all := lw_g (lw_at lw_m7 18 rfl) rfl
theorem q1544 : (Jvm.Cond.selects "UnreadScriptModel" ({ cls := "UnreadScriptModel", name := "lay", desc := "(III)I" } : Jvm.MethodName) ({ cls := "UnreadScriptModel", name := "lay", desc := "(III)I" } : Jvm.MethodName)) ∈ lw_all := lw_g (lw_at lw_m7 19 rfl) rfl
theorem q1545 : (Jvm.Cond.code ({ cls := "UnreadScriptModel", name := "lay", desc := "(III)I" } : Jvm.MethodName) prog_11_method_84_code (4 : Nat) (Option.some Jvm.ClassFile.FieldType.int)) ∈ lw_all := lw_g (lw_at lw_m7 20 rfl) rfl
theorem q1547 : (Jvm.Cond.instanceMethod ({ cls := "UnreadScriptModel", name := "text", desc := "(IIII)I" } : Jvm.MethodName)) ∈ lw_all := lw_g (lw_at lw_m7 22 rfl) rfl
theorem q1548 : (Jvm.Cond.selects "UnreadScriptModel" ({ cls := "UnreadScriptModel", name := "text", desc := "(IIII)I" } : Jvm.MethodName) ({ cls := "UnreadScriptModel", name := "text", desc := "(IIII)I" } : Jvm.MethodName)) ∈ lw_all := lw_g (lw_at lw_m7 23 rfl) rfl
theorem q1549 : (Jvm.Cond.code ({ cls := "UnreadScriptModel", name := "text", desc := "(IIII)I" } : Jvm.MethodName) prog_11_method_85_code (8 : Nat) (Option.some Jvm.ClassFile.FieldType.int)) ∈ lw_all := lw_g (lw_at lw_m7 24 rfl) rfl
theorem q1550 : (Jvm.Cond.constantLong "UnreadScriptModel" (395 : Nat) (24 : Int64)) ∈ lw_all := lw_g (lw_at lw_m7 25 rfl) rfl
theorem q1551 : (Jvm.Cond.constantLong "UnreadScriptModel" (397 : Nat) (-2 : Int64)) ∈ lw_all := lw_g (lw_at lw_m7 26 rfl) rfl
theorem q1553 : (Jvm.Cond.instanceMethod ({ cls := "UnreadScriptModel", name := "count", desc := "(I)I" } : Jvm.MethodName)) ∈ lw_all := lw_g (lw_at lw_m7 28 rfl) rfl
theorem q1554 : (Jvm.Cond.selects "UnreadScriptModel" ({ cls := "UnreadScriptModel", name := "count", desc := "(I)I" } : Jvm.MethodName) ({ cls := "UnreadScriptModel", name := "count", desc := "(I)I" } : Jvm.MethodName)) ∈ lw_all := lw_g (lw_at lw_m7 29 rfl) rfl
theorem q1555 : (Jvm.Cond.code ({ cls := "UnreadScriptModel", name := "count", desc := "(I)I" } : Jvm.MethodName) prog_11_method_86_code (4 : Nat) (Option.some Jvm.ClassFile.FieldType.int)) ∈ lw_all := lw_g (lw_at lw_m7 30 rfl) rfl
theorem in_X2 : ∀ w ∈ wsX20, w ∈ lw_all := lw_in wsX20 [1077, 1079, 1081, 1083, 1085, 1087, 1089, 1091, 1093, 1095, 1097, 1099, 1101, 1103, 1105, 1107, 1109, 1111, 1113, 1115, 1117, 1119, 1121, 1123, 1125, 1127, 1129, 1131, 1133, 1135, 1137, 1139, 1141, 1143, 1145, 1147, 1149, 1151, 1153, 1155, 1157, 1159, 1161, 1163, 1165, 1167, 1169, 1171, 1173, 1175, 1177, 1179, 1181, 1183, 1185, 1187, 1189, 1191, 1193, 1195, 1197, 1199, 1201] (by decide +kernel) (by decide +kernel)

