set_option maxRecDepth 100000
abbrev cX1_init : ByteArray := prog_1_method_3_code
def yX1_init : MethodName := ⟨RX1, "<init>", "()V"⟩
def dkwX1_init_7 : List UInt8 := [83, 42, 180, 0, 53, 27, 187, 0, 47, 89, 2, 183, 0, 87, 83, 132, 1, 1, 167, 255, 219, 177]
abbrev dktX1_init_7 : List UInt8 := dkwX1_init_7 ++ []
def dkwX1_init_6 : List UInt8 := [181, 0, 84, 3, 60, 27, 16, 12, 162, 0, 37, 42, 180, 0, 49, 27, 187, 0, 47, 89, 2, 183, 0, 87]
abbrev dktX1_init_6 : List UInt8 := dkwX1_init_6 ++ dktX1_init_7
def dkwX1_init_5 : List UInt8 := [181, 0, 74, 42, 16, 12, 188, 4, 181, 0, 77, 42, 16, 12, 188, 10, 181, 0, 81, 42, 16, 12, 188, 10]
abbrev dktX1_init_5 : List UInt8 := dkwX1_init_5 ++ dktX1_init_6
def dkwX1_init_4 : List UInt8 := [188, 10, 181, 0, 66, 42, 16, 20, 188, 10, 181, 0, 69, 42, 16, 12, 17, 1, 57, 197, 0, 72, 2]
abbrev dktX1_init_4 : List UInt8 := dkwX1_init_4 ++ dktX1_init_5
def dkwX1_init_3 : List UInt8 := [188, 10, 181, 0, 56, 42, 16, 20, 188, 10, 181, 0, 60, 42, 16, 20, 188, 10, 181, 0, 63, 42, 16, 20]
abbrev dktX1_init_3 : List UInt8 := dkwX1_init_3 ++ dktX1_init_4
def dkwX1_init_2 : List UInt8 := [181, 0, 43, 42, 16, 12, 189, 0, 47, 181, 0, 49, 42, 16, 12, 189, 0, 47, 181, 0, 53, 42, 16, 108]
abbrev dktX1_init_2 : List UInt8 := dkwX1_init_2 ++ dktX1_init_3
def dkwX1_init_1 : List UInt8 := [183, 0, 29, 181, 0, 32, 42, 187, 0, 36, 89, 183, 0, 38, 181, 0, 39, 42, 16, 6, 188, 11]
abbrev dktX1_init_1 : List UInt8 := dkwX1_init_1 ++ dktX1_init_2
def dkwX1_init_0 : List UInt8 := [42, 183, 0, 13, 42, 17, 3, 132, 188, 8, 181, 0, 19, 42, 2, 181, 0, 23, 42, 187, 0, 27, 89, 42]
abbrev dktX1_init_0 : List UInt8 := dkwX1_init_0 ++ dktX1_init_1
theorem dksX1_init_0 : cX1_init.data.toList.drop 0 = dktX1_init_0 := by decide +kernel
theorem dksX1_init_1 : cX1_init.data.toList.drop 24 = dktX1_init_1 := dk_seg dksX1_init_0 24 rfl rfl
theorem dksX1_init_2 : cX1_init.data.toList.drop 46 = dktX1_init_2 := dk_seg dksX1_init_1 22 rfl rfl
theorem dksX1_init_3 : cX1_init.data.toList.drop 70 = dktX1_init_3 := dk_seg dksX1_init_2 24 rfl rfl
theorem dksX1_init_4 : cX1_init.data.toList.drop 94 = dktX1_init_4 := dk_seg dksX1_init_3 24 rfl rfl
theorem dksX1_init_5 : cX1_init.data.toList.drop 117 = dktX1_init_5 := dk_seg dksX1_init_4 23 rfl rfl
theorem dksX1_init_6 : cX1_init.data.toList.drop 141 = dktX1_init_6 := dk_seg dksX1_init_5 24 rfl rfl
theorem dksX1_init_7 : cX1_init.data.toList.drop 165 = dktX1_init_7 := dk_seg dksX1_init_6 24 rfl rfl
theorem dX1_init_0 : decode cX1_init 0 = .ok (.aload_n 0, 1) := dk_42 (dk_at dksX1_init_0 0 rfl rfl)
theorem dX1_init_1 : decode cX1_init 1 = .ok (.invokespecial 13, 3) := dk_183 0 13 (dk_at dksX1_init_0 1 rfl rfl)
theorem dX1_init_4 : decode cX1_init 4 = .ok (.aload_n 0, 1) := dk_42 (dk_at dksX1_init_0 4 rfl rfl)
theorem dX1_init_5 : decode cX1_init 5 = .ok (.sipush 900, 3) := dk_17 3 132 (dk_at dksX1_init_0 5 rfl rfl)
theorem dX1_init_8 : decode cX1_init 8 = .ok (.newarray .byte, 2) := dk_188_8 (dk_at dksX1_init_0 8 rfl rfl)
theorem dX1_init_10 : decode cX1_init 10 = .ok (.putfield 19, 3) := dk_181 0 19 (dk_at dksX1_init_0 10 rfl rfl)
theorem dX1_init_13 : decode cX1_init 13 = .ok (.aload_n 0, 1) := dk_42 (dk_at dksX1_init_0 13 rfl rfl)
theorem dX1_init_14 : decode cX1_init 14 = .ok (.iconst (-1), 1) := dk_2 (dk_at dksX1_init_0 14 rfl rfl)
theorem dX1_init_15 : decode cX1_init 15 = .ok (.putfield 23, 3) := dk_181 0 23 (dk_at dksX1_init_0 15 rfl rfl)
theorem dX1_init_18 : decode cX1_init 18 = .ok (.aload_n 0, 1) := dk_42 (dk_at dksX1_init_0 18 rfl rfl)
theorem dX1_init_19 : decode cX1_init 19 = .ok (.new 27, 3) := dk_187 0 27 (dk_at dksX1_init_0 19 rfl rfl)
theorem dX1_init_22 : decode cX1_init 22 = .ok (.dup, 1) := dk_89 (dk_at dksX1_init_0 22 rfl rfl)
theorem dX1_init_23 : decode cX1_init 23 = .ok (.aload_n 0, 1) := dk_42 (dk_at dksX1_init_0 23 rfl rfl)
theorem dX1_init_24 : decode cX1_init 24 = .ok (.invokespecial 29, 3) := dk_183 0 29 (dk_at dksX1_init_1 0 rfl rfl)
theorem dX1_init_27 : decode cX1_init 27 = .ok (.putfield 32, 3) := dk_181 0 32 (dk_at dksX1_init_1 3 rfl rfl)
theorem dX1_init_30 : decode cX1_init 30 = .ok (.aload_n 0, 1) := dk_42 (dk_at dksX1_init_1 6 rfl rfl)
theorem dX1_init_31 : decode cX1_init 31 = .ok (.new 36, 3) := dk_187 0 36 (dk_at dksX1_init_1 7 rfl rfl)
theorem dX1_init_34 : decode cX1_init 34 = .ok (.dup, 1) := dk_89 (dk_at dksX1_init_1 10 rfl rfl)
theorem dX1_init_35 : decode cX1_init 35 = .ok (.invokespecial 38, 3) := dk_183 0 38 (dk_at dksX1_init_1 11 rfl rfl)
theorem dX1_init_38 : decode cX1_init 38 = .ok (.putfield 39, 3) := dk_181 0 39 (dk_at dksX1_init_1 14 rfl rfl)
theorem dX1_init_41 : decode cX1_init 41 = .ok (.aload_n 0, 1) := dk_42 (dk_at dksX1_init_1 17 rfl rfl)
theorem dX1_init_42 : decode cX1_init 42 = .ok (.bipush 6, 2) := dk_16 6 (dk_at dksX1_init_1 18 rfl rfl)
theorem dX1_init_44 : decode cX1_init 44 = .ok (.newarray .long, 2) := dk_188_11 (dk_at dksX1_init_1 20 rfl rfl)
theorem dX1_init_46 : decode cX1_init 46 = .ok (.putfield 43, 3) := dk_181 0 43 (dk_at dksX1_init_2 0 rfl rfl)
theorem dX1_init_49 : decode cX1_init 49 = .ok (.aload_n 0, 1) := dk_42 (dk_at dksX1_init_2 3 rfl rfl)
theorem dX1_init_50 : decode cX1_init 50 = .ok (.bipush 12, 2) := dk_16 12 (dk_at dksX1_init_2 4 rfl rfl)
theorem dX1_init_52 : decode cX1_init 52 = .ok (.anewarray 47, 3) := dk_189 0 47 (dk_at dksX1_init_2 6 rfl rfl)
theorem dX1_init_55 : decode cX1_init 55 = .ok (.putfield 49, 3) := dk_181 0 49 (dk_at dksX1_init_2 9 rfl rfl)
theorem dX1_init_58 : decode cX1_init 58 = .ok (.aload_n 0, 1) := dk_42 (dk_at dksX1_init_2 12 rfl rfl)
theorem dX1_init_59 : decode cX1_init 59 = .ok (.bipush 12, 2) := dk_16 12 (dk_at dksX1_init_2 13 rfl rfl)
theorem dX1_init_61 : decode cX1_init 61 = .ok (.anewarray 47, 3) := dk_189 0 47 (dk_at dksX1_init_2 15 rfl rfl)
theorem dX1_init_64 : decode cX1_init 64 = .ok (.putfield 53, 3) := dk_181 0 53 (dk_at dksX1_init_2 18 rfl rfl)
theorem dX1_init_67 : decode cX1_init 67 = .ok (.aload_n 0, 1) := dk_42 (dk_at dksX1_init_2 21 rfl rfl)
theorem dX1_init_68 : decode cX1_init 68 = .ok (.bipush 108, 2) := dk_16 108 (dk_at dksX1_init_2 22 rfl rfl)
theorem dX1_init_70 : decode cX1_init 70 = .ok (.newarray .int, 2) := dk_188_10 (dk_at dksX1_init_3 0 rfl rfl)
theorem dX1_init_72 : decode cX1_init 72 = .ok (.putfield 56, 3) := dk_181 0 56 (dk_at dksX1_init_3 2 rfl rfl)
theorem dX1_init_75 : decode cX1_init 75 = .ok (.aload_n 0, 1) := dk_42 (dk_at dksX1_init_3 5 rfl rfl)
theorem dX1_init_76 : decode cX1_init 76 = .ok (.bipush 20, 2) := dk_16 20 (dk_at dksX1_init_3 6 rfl rfl)
theorem dX1_init_78 : decode cX1_init 78 = .ok (.newarray .int, 2) := dk_188_10 (dk_at dksX1_init_3 8 rfl rfl)
theorem dX1_init_80 : decode cX1_init 80 = .ok (.putfield 60, 3) := dk_181 0 60 (dk_at dksX1_init_3 10 rfl rfl)
theorem dX1_init_83 : decode cX1_init 83 = .ok (.aload_n 0, 1) := dk_42 (dk_at dksX1_init_3 13 rfl rfl)
theorem dX1_init_84 : decode cX1_init 84 = .ok (.bipush 20, 2) := dk_16 20 (dk_at dksX1_init_3 14 rfl rfl)
theorem dX1_init_86 : decode cX1_init 86 = .ok (.newarray .int, 2) := dk_188_10 (dk_at dksX1_init_3 16 rfl rfl)
theorem dX1_init_88 : decode cX1_init 88 = .ok (.putfield 63, 3) := dk_181 0 63 (dk_at dksX1_init_3 18 rfl rfl)
theorem dX1_init_91 : decode cX1_init 91 = .ok (.aload_n 0, 1) := dk_42 (dk_at dksX1_init_3 21 rfl rfl)
theorem dX1_init_92 : decode cX1_init 92 = .ok (.bipush 20, 2) := dk_16 20 (dk_at dksX1_init_3 22 rfl rfl)
theorem dX1_init_94 : decode cX1_init 94 = .ok (.newarray .int, 2) := dk_188_10 (dk_at dksX1_init_4 0 rfl rfl)
theorem dX1_init_96 : decode cX1_init 96 = .ok (.putfield 66, 3) := dk_181 0 66 (dk_at dksX1_init_4 2 rfl rfl)
theorem dX1_init_99 : decode cX1_init 99 = .ok (.aload_n 0, 1) := dk_42 (dk_at dksX1_init_4 5 rfl rfl)
theorem dX1_init_100 : decode cX1_init 100 = .ok (.bipush 20, 2) := dk_16 20 (dk_at dksX1_init_4 6 rfl rfl)
theorem dX1_init_102 : decode cX1_init 102 = .ok (.newarray .int, 2) := dk_188_10 (dk_at dksX1_init_4 8 rfl rfl)
theorem dX1_init_104 : decode cX1_init 104 = .ok (.putfield 69, 3) := dk_181 0 69 (dk_at dksX1_init_4 10 rfl rfl)
theorem dX1_init_107 : decode cX1_init 107 = .ok (.aload_n 0, 1) := dk_42 (dk_at dksX1_init_4 13 rfl rfl)
theorem dX1_init_108 : decode cX1_init 108 = .ok (.bipush 12, 2) := dk_16 12 (dk_at dksX1_init_4 14 rfl rfl)
theorem dX1_init_110 : decode cX1_init 110 = .ok (.sipush 313, 3) := dk_17 1 57 (dk_at dksX1_init_4 16 rfl rfl)
theorem dX1_init_113 : decode cX1_init 113 = .ok (.multianewarray 72 2, 4) := by decide +kernel
theorem dX1_init_117 : decode cX1_init 117 = .ok (.putfield 74, 3) := dk_181 0 74 (dk_at dksX1_init_5 0 rfl rfl)
theorem dX1_init_120 : decode cX1_init 120 = .ok (.aload_n 0, 1) := dk_42 (dk_at dksX1_init_5 3 rfl rfl)
theorem dX1_init_121 : decode cX1_init 121 = .ok (.bipush 12, 2) := dk_16 12 (dk_at dksX1_init_5 4 rfl rfl)
theorem dX1_init_123 : decode cX1_init 123 = .ok (.newarray .boolean, 2) := dk_188_4 (dk_at dksX1_init_5 6 rfl rfl)
theorem dX1_init_125 : decode cX1_init 125 = .ok (.putfield 77, 3) := dk_181 0 77 (dk_at dksX1_init_5 8 rfl rfl)
theorem dX1_init_128 : decode cX1_init 128 = .ok (.aload_n 0, 1) := dk_42 (dk_at dksX1_init_5 11 rfl rfl)
theorem dX1_init_129 : decode cX1_init 129 = .ok (.bipush 12, 2) := dk_16 12 (dk_at dksX1_init_5 12 rfl rfl)
theorem dX1_init_131 : decode cX1_init 131 = .ok (.newarray .int, 2) := dk_188_10 (dk_at dksX1_init_5 14 rfl rfl)
theorem dX1_init_133 : decode cX1_init 133 = .ok (.putfield 81, 3) := dk_181 0 81 (dk_at dksX1_init_5 16 rfl rfl)
theorem dX1_init_136 : decode cX1_init 136 = .ok (.aload_n 0, 1) := dk_42 (dk_at dksX1_init_5 19 rfl rfl)
theorem dX1_init_137 : decode cX1_init 137 = .ok (.bipush 12, 2) := dk_16 12 (dk_at dksX1_init_5 20 rfl rfl)
theorem dX1_init_139 : decode cX1_init 139 = .ok (.newarray .int, 2) := dk_188_10 (dk_at dksX1_init_5 22 rfl rfl)
theorem dX1_init_141 : decode cX1_init 141 = .ok (.putfield 84, 3) := dk_181 0 84 (dk_at dksX1_init_6 0 rfl rfl)
theorem dX1_init_144 : decode cX1_init 144 = .ok (.iconst 0, 1) := dk_3 (dk_at dksX1_init_6 3 rfl rfl)
theorem dX1_init_145 : decode cX1_init 145 = .ok (.istore_n 1, 1) := dk_60 (dk_at dksX1_init_6 4 rfl rfl)
theorem dX1_init_146 : decode cX1_init 146 = .ok (.iload_n 1, 1) := dk_27 (dk_at dksX1_init_6 5 rfl rfl)
theorem dX1_init_147 : decode cX1_init 147 = .ok (.bipush 12, 2) := dk_16 12 (dk_at dksX1_init_6 6 rfl rfl)
theorem dX1_init_149 : decode cX1_init 149 = .ok (.if_icmp .ge 37, 3) := dk_162 0 37 (dk_at dksX1_init_6 8 rfl rfl)
theorem dX1_init_152 : decode cX1_init 152 = .ok (.aload_n 0, 1) := dk_42 (dk_at dksX1_init_6 11 rfl rfl)
theorem dX1_init_153 : decode cX1_init 153 = .ok (.getfield 49, 3) := dk_180 0 49 (dk_at dksX1_init_6 12 rfl rfl)
theorem dX1_init_156 : decode cX1_init 156 = .ok (.iload_n 1, 1) := dk_27 (dk_at dksX1_init_6 15 rfl rfl)
theorem dX1_init_157 : decode cX1_init 157 = .ok (.new 47, 3) := dk_187 0 47 (dk_at dksX1_init_6 16 rfl rfl)
theorem dX1_init_160 : decode cX1_init 160 = .ok (.dup, 1) := dk_89 (dk_at dksX1_init_6 19 rfl rfl)
theorem dX1_init_161 : decode cX1_init 161 = .ok (.iconst (-1), 1) := dk_2 (dk_at dksX1_init_6 20 rfl rfl)
theorem dX1_init_162 : decode cX1_init 162 = .ok (.invokespecial 87, 3) := dk_183 0 87 (dk_at dksX1_init_6 21 rfl rfl)
theorem dX1_init_165 : decode cX1_init 165 = .ok (.aastore, 1) := dk_83 (dk_at dksX1_init_7 0 rfl rfl)
theorem dX1_init_166 : decode cX1_init 166 = .ok (.aload_n 0, 1) := dk_42 (dk_at dksX1_init_7 1 rfl rfl)
theorem dX1_init_167 : decode cX1_init 167 = .ok (.getfield 53, 3) := dk_180 0 53 (dk_at dksX1_init_7 2 rfl rfl)
theorem dX1_init_170 : decode cX1_init 170 = .ok (.iload_n 1, 1) := dk_27 (dk_at dksX1_init_7 5 rfl rfl)
theorem dX1_init_171 : decode cX1_init 171 = .ok (.new 47, 3) := dk_187 0 47 (dk_at dksX1_init_7 6 rfl rfl)
theorem dX1_init_174 : decode cX1_init 174 = .ok (.dup, 1) := dk_89 (dk_at dksX1_init_7 9 rfl rfl)
theorem dX1_init_175 : decode cX1_init 175 = .ok (.iconst (-1), 1) := dk_2 (dk_at dksX1_init_7 10 rfl rfl)
theorem dX1_init_176 : decode cX1_init 176 = .ok (.invokespecial 87, 3) := dk_183 0 87 (dk_at dksX1_init_7 11 rfl rfl)
theorem dX1_init_179 : decode cX1_init 179 = .ok (.aastore, 1) := dk_83 (dk_at dksX1_init_7 14 rfl rfl)
theorem dX1_init_180 : decode cX1_init 180 = .ok (.iinc 1 1, 3) := dk_132 1 1 (dk_at dksX1_init_7 15 rfl rfl)
theorem dX1_init_183 : decode cX1_init 183 = .ok (.goto (-37), 3) := dk_167 255 219 (dk_at dksX1_init_7 18 rfl rfl)
theorem dX1_init_186 : decode cX1_init 186 = .ok (.return_, 1) := dk_177 (dk_at dksX1_init_7 21 rfl rfl)
abbrev cX1_feed : ByteArray := prog_1_method_4_code
def yX1_feed : MethodName := ⟨RX1, "feed", "(IIIII)I"⟩
def dkwX1_feed_2 : List UInt8 := [172]
abbrev dktX1_feed_2 : List UInt8 := dkwX1_feed_2 ++ []
def dkwX1_feed_1 : List UInt8 := [182, 0, 93, 42, 29, 182, 0, 93, 42, 21, 4, 182, 0, 93, 42, 21, 5, 182, 0, 93, 42, 180, 0, 90]
abbrev dktX1_feed_1 : List UInt8 := dkwX1_feed_1 ++ dktX1_feed_2
def dkwX1_feed_0 : List UInt8 := [42, 180, 0, 90, 16, 20, 96, 17, 3, 132, 164, 0, 5, 2, 172, 42, 27, 182, 0, 93, 42, 28]
abbrev dktX1_feed_0 : List UInt8 := dkwX1_feed_0 ++ dktX1_feed_1
theorem dksX1_feed_0 : cX1_feed.data.toList.drop 0 = dktX1_feed_0 := by decide +kernel
theorem dksX1_feed_1 : cX1_feed.data.toList.drop 22 = dktX1_feed_1 := dk_seg dksX1_feed_0 22 rfl rfl
theorem dksX1_feed_2 : cX1_feed.data.toList.drop 46 = dktX1_feed_2 := dk_seg dksX1_feed_1 24 rfl rfl
theorem dX1_feed_0 : decode cX1_feed 0 = .ok (.aload_n 0, 1) := dk_42 (dk_at dksX1_feed_0 0 rfl rfl)
theorem dX1_feed_1 : decode cX1_feed 1 = .ok (.getfield 90, 3) := dk_180 0 90 (dk_at dksX1_feed_0 1 rfl rfl)
theorem dX1_feed_4 : decode cX1_feed 4 = .ok (.bipush 20, 2) := dk_16 20 (dk_at dksX1_feed_0 4 rfl rfl)
theorem dX1_feed_6 : decode cX1_feed 6 = .ok (.iadd, 1) := dk_96 (dk_at dksX1_feed_0 6 rfl rfl)
theorem dX1_feed_7 : decode cX1_feed 7 = .ok (.sipush 900, 3) := dk_17 3 132 (dk_at dksX1_feed_0 7 rfl rfl)
theorem dX1_feed_10 : decode cX1_feed 10 = .ok (.if_icmp .le 5, 3) := dk_164 0 5 (dk_at dksX1_feed_0 10 rfl rfl)
theorem dX1_feed_13 : decode cX1_feed 13 = .ok (.iconst (-1), 1) := dk_2 (dk_at dksX1_feed_0 13 rfl rfl)
theorem dX1_feed_14 : decode cX1_feed 14 = .ok (.ireturn, 1) := dk_172 (dk_at dksX1_feed_0 14 rfl rfl)
theorem dX1_feed_15 : decode cX1_feed 15 = .ok (.aload_n 0, 1) := dk_42 (dk_at dksX1_feed_0 15 rfl rfl)
theorem dX1_feed_16 : decode cX1_feed 16 = .ok (.iload_n 1, 1) := dk_27 (dk_at dksX1_feed_0 16 rfl rfl)
theorem dX1_feed_17 : decode cX1_feed 17 = .ok (.invokevirtual 93, 3) := dk_182 0 93 (dk_at dksX1_feed_0 17 rfl rfl)
theorem dX1_feed_20 : decode cX1_feed 20 = .ok (.aload_n 0, 1) := dk_42 (dk_at dksX1_feed_0 20 rfl rfl)
theorem dX1_feed_21 : decode cX1_feed 21 = .ok (.iload_n 2, 1) := dk_28 (dk_at dksX1_feed_0 21 rfl rfl)
theorem dX1_feed_22 : decode cX1_feed 22 = .ok (.invokevirtual 93, 3) := dk_182 0 93 (dk_at dksX1_feed_1 0 rfl rfl)
theorem dX1_feed_25 : decode cX1_feed 25 = .ok (.aload_n 0, 1) := dk_42 (dk_at dksX1_feed_1 3 rfl rfl)
theorem dX1_feed_26 : decode cX1_feed 26 = .ok (.iload_n 3, 1) := dk_29 (dk_at dksX1_feed_1 4 rfl rfl)
theorem dX1_feed_27 : decode cX1_feed 27 = .ok (.invokevirtual 93, 3) := dk_182 0 93 (dk_at dksX1_feed_1 5 rfl rfl)
theorem dX1_feed_30 : decode cX1_feed 30 = .ok (.aload_n 0, 1) := dk_42 (dk_at dksX1_feed_1 8 rfl rfl)
theorem dX1_feed_31 : decode cX1_feed 31 = .ok (.iload 4, 2) := dk_21 4 (dk_at dksX1_feed_1 9 rfl rfl)
theorem dX1_feed_33 : decode cX1_feed 33 = .ok (.invokevirtual 93, 3) := dk_182 0 93 (dk_at dksX1_feed_1 11 rfl rfl)
theorem dX1_feed_36 : decode cX1_feed 36 = .ok (.aload_n 0, 1) := dk_42 (dk_at dksX1_feed_1 14 rfl rfl)
theorem dX1_feed_37 : decode cX1_feed 37 = .ok (.iload 5, 2) := dk_21 5 (dk_at dksX1_feed_1 15 rfl rfl)
theorem dX1_feed_39 : decode cX1_feed 39 = .ok (.invokevirtual 93, 3) := dk_182 0 93 (dk_at dksX1_feed_1 17 rfl rfl)
theorem dX1_feed_42 : decode cX1_feed 42 = .ok (.aload_n 0, 1) := dk_42 (dk_at dksX1_feed_1 20 rfl rfl)
theorem dX1_feed_43 : decode cX1_feed 43 = .ok (.getfield 90, 3) := dk_180 0 90 (dk_at dksX1_feed_1 21 rfl rfl)
theorem dX1_feed_46 : decode cX1_feed 46 = .ok (.ireturn, 1) := dk_172 (dk_at dksX1_feed_2 0 rfl rfl)
abbrev cX1_put : ByteArray := prog_1_method_5_code
def yX1_put : MethodName := ⟨RX1, "put", "(I)V"⟩
def dkwX1_put_1 : List UInt8 := [122, 145, 84, 132, 2, 248, 167, 255, 229, 177]
abbrev dktX1_put_1 : List UInt8 := dkwX1_put_1 ++ []
def dkwX1_put_0 : List UInt8 := [16, 24, 61, 28, 155, 0, 29, 42, 180, 0, 19, 42, 89, 180, 0, 90, 90, 4, 96, 181, 0, 90, 27, 28]
abbrev dktX1_put_0 : List UInt8 := dkwX1_put_0 ++ dktX1_put_1
theorem dksX1_put_0 : cX1_put.data.toList.drop 0 = dktX1_put_0 := by decide +kernel
theorem dksX1_put_1 : cX1_put.data.toList.drop 24 = dktX1_put_1 := dk_seg dksX1_put_0 24 rfl rfl
theorem dX1_put_0 : decode cX1_put 0 = .ok (.bipush 24, 2) := dk_16 24 (dk_at dksX1_put_0 0 rfl rfl)
theorem dX1_put_2 : decode cX1_put 2 = .ok (.istore_n 2, 1) := dk_61 (dk_at dksX1_put_0 2 rfl rfl)
theorem dX1_put_3 : decode cX1_put 3 = .ok (.iload_n 2, 1) := dk_28 (dk_at dksX1_put_0 3 rfl rfl)
theorem dX1_put_4 : decode cX1_put 4 = .ok (.ifCond .lt 29, 3) := dk_155 0 29 (dk_at dksX1_put_0 4 rfl rfl)
theorem dX1_put_7 : decode cX1_put 7 = .ok (.aload_n 0, 1) := dk_42 (dk_at dksX1_put_0 7 rfl rfl)
theorem dX1_put_8 : decode cX1_put 8 = .ok (.getfield 19, 3) := dk_180 0 19 (dk_at dksX1_put_0 8 rfl rfl)
theorem dX1_put_11 : decode cX1_put 11 = .ok (.aload_n 0, 1) := dk_42 (dk_at dksX1_put_0 11 rfl rfl)
theorem dX1_put_12 : decode cX1_put 12 = .ok (.dup, 1) := dk_89 (dk_at dksX1_put_0 12 rfl rfl)
theorem dX1_put_13 : decode cX1_put 13 = .ok (.getfield 90, 3) := dk_180 0 90 (dk_at dksX1_put_0 13 rfl rfl)
theorem dX1_put_16 : decode cX1_put 16 = .ok (.dup_x1, 1) := dk_90 (dk_at dksX1_put_0 16 rfl rfl)
theorem dX1_put_17 : decode cX1_put 17 = .ok (.iconst 1, 1) := dk_4 (dk_at dksX1_put_0 17 rfl rfl)
theorem dX1_put_18 : decode cX1_put 18 = .ok (.iadd, 1) := dk_96 (dk_at dksX1_put_0 18 rfl rfl)
theorem dX1_put_19 : decode cX1_put 19 = .ok (.putfield 90, 3) := dk_181 0 90 (dk_at dksX1_put_0 19 rfl rfl)
theorem dX1_put_22 : decode cX1_put 22 = .ok (.iload_n 1, 1) := dk_27 (dk_at dksX1_put_0 22 rfl rfl)
theorem dX1_put_23 : decode cX1_put 23 = .ok (.iload_n 2, 1) := dk_28 (dk_at dksX1_put_0 23 rfl rfl)
theorem dX1_put_24 : decode cX1_put 24 = .ok (.ishr, 1) := dk_122 (dk_at dksX1_put_1 0 rfl rfl)
theorem dX1_put_25 : decode cX1_put 25 = .ok (.i2b, 1) := dk_145 (dk_at dksX1_put_1 1 rfl rfl)
theorem dX1_put_26 : decode cX1_put 26 = .ok (.bastore, 1) := dk_84 (dk_at dksX1_put_1 2 rfl rfl)
theorem dX1_put_27 : decode cX1_put 27 = .ok (.iinc 2 (-8), 3) := dk_132 2 248 (dk_at dksX1_put_1 3 rfl rfl)
theorem dX1_put_30 : decode cX1_put 30 = .ok (.goto (-27), 3) := dk_167 255 229 (dk_at dksX1_put_1 6 rfl rfl)
theorem dX1_put_33 : decode cX1_put 33 = .ok (.return_, 1) := dk_177 (dk_at dksX1_put_1 9 rfl rfl)
abbrev cX1_text : ByteArray := prog_1_method_6_code
def yX1_text : MethodName := ⟨RX1, "text", "(I)I"⟩
def dkwX1_text_6 : List UInt8 := [180, 0, 148, 172]
abbrev dktX1_text_6 : List UInt8 := dkwX1_text_6 ++ []
def dkwX1_text_5 : List UInt8 := [42, 3, 181, 0, 135, 42, 3, 181, 0, 138, 42, 3, 181, 0, 141, 42, 182, 0, 145, 42, 180, 0, 39]
abbrev dktX1_text_5 : List UInt8 := dkwX1_text_5 ++ dktX1_text_6
def dkwX1_text_4 : List UInt8 := [50, 42, 180, 0, 39, 180, 0, 115, 28, 182, 0, 127, 192, 0, 47, 182, 0, 131, 132, 2, 1, 167, 255, 222]
abbrev dktX1_text_4 : List UInt8 := dkwX1_text_4 ++ dktX1_text_5
def dkwX1_text_3 : List UInt8 := [180, 0, 115, 182, 0, 118, 181, 0, 124, 3, 61, 28, 42, 180, 0, 124, 162, 0, 32, 42, 180, 0, 49, 28]
abbrev dktX1_text_3 : List UInt8 := dkwX1_text_3 ++ dktX1_text_4
def dkwX1_text_2 : List UInt8 := [42, 44, 180, 0, 109, 181, 0, 100, 42, 44, 180, 0, 112, 181, 0, 23, 2, 172, 42, 42, 180, 0, 39]
abbrev dktX1_text_2 : List UInt8 := dkwX1_text_2 ++ dktX1_text_3
def dkwX1_text_1 : List UInt8 := [181, 0, 100, 42, 2, 181, 0, 23, 42, 42, 180, 0, 32, 27, 182, 0, 103, 181, 0, 39, 167, 0, 22, 77]
abbrev dktX1_text_1 : List UInt8 := dkwX1_text_1 ++ dktX1_text_2
def dkwX1_text_0 : List UInt8 := [27, 133, 9, 42, 180, 0, 90, 133, 184, 0, 96, 154, 0, 6, 16, 254, 172, 42, 3, 181, 0, 90, 42, 3]
abbrev dktX1_text_0 : List UInt8 := dkwX1_text_0 ++ dktX1_text_1
theorem dksX1_text_0 : cX1_text.data.toList.drop 0 = dktX1_text_0 := by decide +kernel
theorem dksX1_text_1 : cX1_text.data.toList.drop 24 = dktX1_text_1 := dk_seg dksX1_text_0 24 rfl rfl
theorem dksX1_text_2 : cX1_text.data.toList.drop 48 = dktX1_text_2 := dk_seg dksX1_text_1 24 rfl rfl
theorem dksX1_text_3 : cX1_text.data.toList.drop 71 = dktX1_text_3 := dk_seg dksX1_text_2 23 rfl rfl
theorem dksX1_text_4 : cX1_text.data.toList.drop 95 = dktX1_text_4 := dk_seg dksX1_text_3 24 rfl rfl
theorem dksX1_text_5 : cX1_text.data.toList.drop 119 = dktX1_text_5 := dk_seg dksX1_text_4 24 rfl rfl
theorem dksX1_text_6 : cX1_text.data.toList.drop 142 = dktX1_text_6 := dk_seg dksX1_text_5 23 rfl rfl
theorem dX1_text_0 : decode cX1_text 0 = .ok (.iload_n 1, 1) := dk_27 (dk_at dksX1_text_0 0 rfl rfl)
theorem dX1_text_1 : decode cX1_text 1 = .ok (.i2l, 1) := dk_133 (dk_at dksX1_text_0 1 rfl rfl)
theorem dX1_text_2 : decode cX1_text 2 = .ok (.lconst 0, 1) := dk_9 (dk_at dksX1_text_0 2 rfl rfl)
theorem dX1_text_3 : decode cX1_text 3 = .ok (.aload_n 0, 1) := dk_42 (dk_at dksX1_text_0 3 rfl rfl)
theorem dX1_text_4 : decode cX1_text 4 = .ok (.getfield 90, 3) := dk_180 0 90 (dk_at dksX1_text_0 4 rfl rfl)
theorem dX1_text_7 : decode cX1_text 7 = .ok (.i2l, 1) := dk_133 (dk_at dksX1_text_0 7 rfl rfl)
theorem dX1_text_8 : decode cX1_text 8 = .ok (.invokestatic 96, 3) := dk_184 0 96 (dk_at dksX1_text_0 8 rfl rfl)
theorem dX1_text_11 : decode cX1_text 11 = .ok (.ifCond .ne 6, 3) := dk_154 0 6 (dk_at dksX1_text_0 11 rfl rfl)
theorem dX1_text_14 : decode cX1_text 14 = .ok (.bipush (-2), 2) := dk_16 254 (dk_at dksX1_text_0 14 rfl rfl)
theorem dX1_text_16 : decode cX1_text 16 = .ok (.ireturn, 1) := dk_172 (dk_at dksX1_text_0 16 rfl rfl)
theorem dX1_text_17 : decode cX1_text 17 = .ok (.aload_n 0, 1) := dk_42 (dk_at dksX1_text_0 17 rfl rfl)
theorem dX1_text_18 : decode cX1_text 18 = .ok (.iconst 0, 1) := dk_3 (dk_at dksX1_text_0 18 rfl rfl)
theorem dX1_text_19 : decode cX1_text 19 = .ok (.putfield 90, 3) := dk_181 0 90 (dk_at dksX1_text_0 19 rfl rfl)
theorem dX1_text_22 : decode cX1_text 22 = .ok (.aload_n 0, 1) := dk_42 (dk_at dksX1_text_0 22 rfl rfl)
theorem dX1_text_23 : decode cX1_text 23 = .ok (.iconst 0, 1) := dk_3 (dk_at dksX1_text_0 23 rfl rfl)
theorem dX1_text_24 : decode cX1_text 24 = .ok (.putfield 100, 3) := dk_181 0 100 (dk_at dksX1_text_1 0 rfl rfl)
theorem dX1_text_27 : decode cX1_text 27 = .ok (.aload_n 0, 1) := dk_42 (dk_at dksX1_text_1 3 rfl rfl)
theorem dX1_text_28 : decode cX1_text 28 = .ok (.iconst (-1), 1) := dk_2 (dk_at dksX1_text_1 4 rfl rfl)
theorem dX1_text_29 : decode cX1_text 29 = .ok (.putfield 23, 3) := dk_181 0 23 (dk_at dksX1_text_1 5 rfl rfl)
theorem dX1_text_32 : decode cX1_text 32 = .ok (.aload_n 0, 1) := dk_42 (dk_at dksX1_text_1 8 rfl rfl)
theorem dX1_text_33 : decode cX1_text 33 = .ok (.aload_n 0, 1) := dk_42 (dk_at dksX1_text_1 9 rfl rfl)
theorem dX1_text_34 : decode cX1_text 34 = .ok (.getfield 32, 3) := dk_180 0 32 (dk_at dksX1_text_1 10 rfl rfl)
theorem dX1_text_37 : decode cX1_text 37 = .ok (.iload_n 1, 1) := dk_27 (dk_at dksX1_text_1 13 rfl rfl)
theorem dX1_text_38 : decode cX1_text 38 = .ok (.invokevirtual 103, 3) := dk_182 0 103 (dk_at dksX1_text_1 14 rfl rfl)
theorem dX1_text_41 : decode cX1_text 41 = .ok (.putfield 39, 3) := dk_181 0 39 (dk_at dksX1_text_1 17 rfl rfl)
theorem dX1_text_44 : decode cX1_text 44 = .ok (.goto 22, 3) := dk_167 0 22 (dk_at dksX1_text_1 20 rfl rfl)
theorem dX1_text_47 : decode cX1_text 47 = .ok (.astore_n 2, 1) := dk_77 (dk_at dksX1_text_1 23 rfl rfl)
theorem dX1_text_48 : decode cX1_text 48 = .ok (.aload_n 0, 1) := dk_42 (dk_at dksX1_text_2 0 rfl rfl)
theorem dX1_text_49 : decode cX1_text 49 = .ok (.aload_n 2, 1) := dk_44 (dk_at dksX1_text_2 1 rfl rfl)
theorem dX1_text_50 : decode cX1_text 50 = .ok (.getfield 109, 3) := dk_180 0 109 (dk_at dksX1_text_2 2 rfl rfl)
theorem dX1_text_53 : decode cX1_text 53 = .ok (.putfield 100, 3) := dk_181 0 100 (dk_at dksX1_text_2 5 rfl rfl)
theorem dX1_text_56 : decode cX1_text 56 = .ok (.aload_n 0, 1) := dk_42 (dk_at dksX1_text_2 8 rfl rfl)
theorem dX1_text_57 : decode cX1_text 57 = .ok (.aload_n 2, 1) := dk_44 (dk_at dksX1_text_2 9 rfl rfl)
theorem dX1_text_58 : decode cX1_text 58 = .ok (.getfield 112, 3) := dk_180 0 112 (dk_at dksX1_text_2 10 rfl rfl)
theorem dX1_text_61 : decode cX1_text 61 = .ok (.putfield 23, 3) := dk_181 0 23 (dk_at dksX1_text_2 13 rfl rfl)
theorem dX1_text_64 : decode cX1_text 64 = .ok (.iconst (-1), 1) := dk_2 (dk_at dksX1_text_2 16 rfl rfl)
theorem dX1_text_65 : decode cX1_text 65 = .ok (.ireturn, 1) := dk_172 (dk_at dksX1_text_2 17 rfl rfl)
theorem dX1_text_66 : decode cX1_text 66 = .ok (.aload_n 0, 1) := dk_42 (dk_at dksX1_text_2 18 rfl rfl)
theorem dX1_text_67 : decode cX1_text 67 = .ok (.aload_n 0, 1) := dk_42 (dk_at dksX1_text_2 19 rfl rfl)
theorem dX1_text_68 : decode cX1_text 68 = .ok (.getfield 39, 3) := dk_180 0 39 (dk_at dksX1_text_2 20 rfl rfl)
theorem dX1_text_71 : decode cX1_text 71 = .ok (.getfield 115, 3) := dk_180 0 115 (dk_at dksX1_text_3 0 rfl rfl)
theorem dX1_text_74 : decode cX1_text 74 = .ok (.invokevirtual 118, 3) := dk_182 0 118 (dk_at dksX1_text_3 3 rfl rfl)
theorem dX1_text_77 : decode cX1_text 77 = .ok (.putfield 124, 3) := dk_181 0 124 (dk_at dksX1_text_3 6 rfl rfl)
theorem dX1_text_80 : decode cX1_text 80 = .ok (.iconst 0, 1) := dk_3 (dk_at dksX1_text_3 9 rfl rfl)
theorem dX1_text_81 : decode cX1_text 81 = .ok (.istore_n 2, 1) := dk_61 (dk_at dksX1_text_3 10 rfl rfl)
theorem dX1_text_82 : decode cX1_text 82 = .ok (.iload_n 2, 1) := dk_28 (dk_at dksX1_text_3 11 rfl rfl)
theorem dX1_text_83 : decode cX1_text 83 = .ok (.aload_n 0, 1) := dk_42 (dk_at dksX1_text_3 12 rfl rfl)
theorem dX1_text_84 : decode cX1_text 84 = .ok (.getfield 124, 3) := dk_180 0 124 (dk_at dksX1_text_3 13 rfl rfl)
theorem dX1_text_87 : decode cX1_text 87 = .ok (.if_icmp .ge 32, 3) := dk_162 0 32 (dk_at dksX1_text_3 16 rfl rfl)
theorem dX1_text_90 : decode cX1_text 90 = .ok (.aload_n 0, 1) := dk_42 (dk_at dksX1_text_3 19 rfl rfl)
theorem dX1_text_91 : decode cX1_text 91 = .ok (.getfield 49, 3) := dk_180 0 49 (dk_at dksX1_text_3 20 rfl rfl)
theorem dX1_text_94 : decode cX1_text 94 = .ok (.iload_n 2, 1) := dk_28 (dk_at dksX1_text_3 23 rfl rfl)
theorem dX1_text_95 : decode cX1_text 95 = .ok (.aaload, 1) := dk_50 (dk_at dksX1_text_4 0 rfl rfl)
theorem dX1_text_96 : decode cX1_text 96 = .ok (.aload_n 0, 1) := dk_42 (dk_at dksX1_text_4 1 rfl rfl)
theorem dX1_text_97 : decode cX1_text 97 = .ok (.getfield 39, 3) := dk_180 0 39 (dk_at dksX1_text_4 2 rfl rfl)
theorem dX1_text_100 : decode cX1_text 100 = .ok (.getfield 115, 3) := dk_180 0 115 (dk_at dksX1_text_4 5 rfl rfl)
theorem dX1_text_103 : decode cX1_text 103 = .ok (.iload_n 2, 1) := dk_28 (dk_at dksX1_text_4 8 rfl rfl)
theorem dX1_text_104 : decode cX1_text 104 = .ok (.invokevirtual 127, 3) := dk_182 0 127 (dk_at dksX1_text_4 9 rfl rfl)
theorem dX1_text_107 : decode cX1_text 107 = .ok (.checkcast 47, 3) := dk_192 0 47 (dk_at dksX1_text_4 12 rfl rfl)
theorem dX1_text_110 : decode cX1_text 110 = .ok (.invokevirtual 131, 3) := dk_182 0 131 (dk_at dksX1_text_4 15 rfl rfl)
theorem dX1_text_113 : decode cX1_text 113 = .ok (.iinc 2 1, 3) := dk_132 2 1 (dk_at dksX1_text_4 18 rfl rfl)
theorem dX1_text_116 : decode cX1_text 116 = .ok (.goto (-34), 3) := dk_167 255 222 (dk_at dksX1_text_4 21 rfl rfl)
theorem dX1_text_119 : decode cX1_text 119 = .ok (.aload_n 0, 1) := dk_42 (dk_at dksX1_text_5 0 rfl rfl)
theorem dX1_text_120 : decode cX1_text 120 = .ok (.iconst 0, 1) := dk_3 (dk_at dksX1_text_5 1 rfl rfl)
theorem dX1_text_121 : decode cX1_text 121 = .ok (.putfield 135, 3) := dk_181 0 135 (dk_at dksX1_text_5 2 rfl rfl)
theorem dX1_text_124 : decode cX1_text 124 = .ok (.aload_n 0, 1) := dk_42 (dk_at dksX1_text_5 5 rfl rfl)
theorem dX1_text_125 : decode cX1_text 125 = .ok (.iconst 0, 1) := dk_3 (dk_at dksX1_text_5 6 rfl rfl)
theorem dX1_text_126 : decode cX1_text 126 = .ok (.putfield 138, 3) := dk_181 0 138 (dk_at dksX1_text_5 7 rfl rfl)
theorem dX1_text_129 : decode cX1_text 129 = .ok (.aload_n 0, 1) := dk_42 (dk_at dksX1_text_5 10 rfl rfl)
theorem dX1_text_130 : decode cX1_text 130 = .ok (.iconst 0, 1) := dk_3 (dk_at dksX1_text_5 11 rfl rfl)
theorem dX1_text_131 : decode cX1_text 131 = .ok (.putfield 141, 3) := dk_181 0 141 (dk_at dksX1_text_5 12 rfl rfl)
theorem dX1_text_134 : decode cX1_text 134 = .ok (.aload_n 0, 1) := dk_42 (dk_at dksX1_text_5 15 rfl rfl)
theorem dX1_text_135 : decode cX1_text 135 = .ok (.invokevirtual 145, 3) := dk_182 0 145 (dk_at dksX1_text_5 16 rfl rfl)
theorem dX1_text_138 : decode cX1_text 138 = .ok (.aload_n 0, 1) := dk_42 (dk_at dksX1_text_5 19 rfl rfl)
theorem dX1_text_139 : decode cX1_text 139 = .ok (.getfield 39, 3) := dk_180 0 39 (dk_at dksX1_text_5 20 rfl rfl)
theorem dX1_text_142 : decode cX1_text 142 = .ok (.getfield 148, 3) := dk_180 0 148 (dk_at dksX1_text_6 0 rfl rfl)
theorem dX1_text_145 : decode cX1_text 145 = .ok (.ireturn, 1) := dk_172 (dk_at dksX1_text_6 3 rfl rfl)
abbrev cX1_in : ByteArray := prog_1_method_1_code
def yX1_in : MethodName := ⟨RX1, "in", "(JJJ)Z"⟩
def dkwX1_in_0 : List UInt8 := [30, 32, 148, 155, 0, 14, 30, 22, 4, 148, 157, 0, 7, 4, 167, 0, 4, 3, 172]
abbrev dktX1_in_0 : List UInt8 := dkwX1_in_0 ++ []
theorem dksX1_in_0 : cX1_in.data.toList.drop 0 = dktX1_in_0 := by decide +kernel
theorem dX1_in_0 : decode cX1_in 0 = .ok (.lload_n 0, 1) := dk_30 (dk_at dksX1_in_0 0 rfl rfl)
theorem dX1_in_1 : decode cX1_in 1 = .ok (.lload_n 2, 1) := dk_32 (dk_at dksX1_in_0 1 rfl rfl)
theorem dX1_in_2 : decode cX1_in 2 = .ok (.lcmp, 1) := dk_148 (dk_at dksX1_in_0 2 rfl rfl)
theorem dX1_in_3 : decode cX1_in 3 = .ok (.ifCond .lt 14, 3) := dk_155 0 14 (dk_at dksX1_in_0 3 rfl rfl)
theorem dX1_in_6 : decode cX1_in 6 = .ok (.lload_n 0, 1) := dk_30 (dk_at dksX1_in_0 6 rfl rfl)
theorem dX1_in_7 : decode cX1_in 7 = .ok (.lload 4, 2) := dk_22 4 (dk_at dksX1_in_0 7 rfl rfl)
theorem dX1_in_9 : decode cX1_in 9 = .ok (.lcmp, 1) := dk_148 (dk_at dksX1_in_0 9 rfl rfl)
theorem dX1_in_10 : decode cX1_in 10 = .ok (.ifCond .gt 7, 3) := dk_157 0 7 (dk_at dksX1_in_0 10 rfl rfl)
theorem dX1_in_13 : decode cX1_in 13 = .ok (.iconst 1, 1) := dk_4 (dk_at dksX1_in_0 13 rfl rfl)
theorem dX1_in_14 : decode cX1_in 14 = .ok (.goto 4, 3) := dk_167 0 4 (dk_at dksX1_in_0 14 rfl rfl)
theorem dX1_in_17 : decode cX1_in 17 = .ok (.iconst 0, 1) := dk_3 (dk_at dksX1_in_0 17 rfl rfl)
theorem dX1_in_18 : decode cX1_in 18 = .ok (.ireturn, 1) := dk_172 (dk_at dksX1_in_0 18 rfl rfl)
abbrev cX1_forgetRows : ByteArray := prog_1_method_41_code
def yX1_forgetRows : MethodName := ⟨RX1, "forgetRows", "()V"⟩
def dkwX1_forgetRows_0 : List UInt8 := [3, 60, 27, 16, 12, 162, 0, 16, 42, 180, 0, 77, 27, 3, 84, 132, 1, 1, 167, 255, 240, 177]
abbrev dktX1_forgetRows_0 : List UInt8 := dkwX1_forgetRows_0 ++ []
theorem dksX1_forgetRows_0 : cX1_forgetRows.data.toList.drop 0 = dktX1_forgetRows_0 := by decide +kernel
theorem dX1_forgetRows_0 : decode cX1_forgetRows 0 = .ok (.iconst 0, 1) := dk_3 (dk_at dksX1_forgetRows_0 0 rfl rfl)
theorem dX1_forgetRows_1 : decode cX1_forgetRows 1 = .ok (.istore_n 1, 1) := dk_60 (dk_at dksX1_forgetRows_0 1 rfl rfl)
theorem dX1_forgetRows_2 : decode cX1_forgetRows 2 = .ok (.iload_n 1, 1) := dk_27 (dk_at dksX1_forgetRows_0 2 rfl rfl)
theorem dX1_forgetRows_3 : decode cX1_forgetRows 3 = .ok (.bipush 12, 2) := dk_16 12 (dk_at dksX1_forgetRows_0 3 rfl rfl)
theorem dX1_forgetRows_5 : decode cX1_forgetRows 5 = .ok (.if_icmp .ge 16, 3) := dk_162 0 16 (dk_at dksX1_forgetRows_0 5 rfl rfl)
theorem dX1_forgetRows_8 : decode cX1_forgetRows 8 = .ok (.aload_n 0, 1) := dk_42 (dk_at dksX1_forgetRows_0 8 rfl rfl)
theorem dX1_forgetRows_9 : decode cX1_forgetRows 9 = .ok (.getfield 77, 3) := dk_180 0 77 (dk_at dksX1_forgetRows_0 9 rfl rfl)
theorem dX1_forgetRows_12 : decode cX1_forgetRows 12 = .ok (.iload_n 1, 1) := dk_27 (dk_at dksX1_forgetRows_0 12 rfl rfl)
theorem dX1_forgetRows_13 : decode cX1_forgetRows 13 = .ok (.iconst 0, 1) := dk_3 (dk_at dksX1_forgetRows_0 13 rfl rfl)
theorem dX1_forgetRows_14 : decode cX1_forgetRows 14 = .ok (.bastore, 1) := dk_84 (dk_at dksX1_forgetRows_0 14 rfl rfl)
theorem dX1_forgetRows_15 : decode cX1_forgetRows 15 = .ok (.iinc 1 1, 3) := dk_132 1 1 (dk_at dksX1_forgetRows_0 15 rfl rfl)
theorem dX1_forgetRows_18 : decode cX1_forgetRows 18 = .ok (.goto (-16), 3) := dk_167 255 240 (dk_at dksX1_forgetRows_0 18 rfl rfl)
theorem dX1_forgetRows_21 : decode cX1_forgetRows 21 = .ok (.return_, 1) := dk_177 (dk_at dksX1_forgetRows_0 21 rfl rfl)
abbrev cX1_fault : ByteArray := prog_1_method_7_code
def yX1_fault : MethodName := ⟨RX1, "fault", "(I)I"⟩
def dkwX1_fault_1 : List UInt8 := [172]
abbrev dktX1_fault_1 : List UInt8 := dkwX1_fault_1 ++ []
def dkwX1_fault_0 : List UInt8 := [27, 154, 0, 10, 42, 180, 0, 100, 167, 0, 16, 27, 4, 160, 0, 10, 42, 180, 0, 23, 167, 0, 4, 2]
abbrev dktX1_fault_0 : List UInt8 := dkwX1_fault_0 ++ dktX1_fault_1
theorem dksX1_fault_0 : cX1_fault.data.toList.drop 0 = dktX1_fault_0 := by decide +kernel
theorem dksX1_fault_1 : cX1_fault.data.toList.drop 24 = dktX1_fault_1 := dk_seg dksX1_fault_0 24 rfl rfl
theorem dX1_fault_0 : decode cX1_fault 0 = .ok (.iload_n 1, 1) := dk_27 (dk_at dksX1_fault_0 0 rfl rfl)
theorem dX1_fault_1 : decode cX1_fault 1 = .ok (.ifCond .ne 10, 3) := dk_154 0 10 (dk_at dksX1_fault_0 1 rfl rfl)
theorem dX1_fault_4 : decode cX1_fault 4 = .ok (.aload_n 0, 1) := dk_42 (dk_at dksX1_fault_0 4 rfl rfl)
theorem dX1_fault_5 : decode cX1_fault 5 = .ok (.getfield 100, 3) := dk_180 0 100 (dk_at dksX1_fault_0 5 rfl rfl)
theorem dX1_fault_8 : decode cX1_fault 8 = .ok (.goto 16, 3) := dk_167 0 16 (dk_at dksX1_fault_0 8 rfl rfl)
theorem dX1_fault_11 : decode cX1_fault 11 = .ok (.iload_n 1, 1) := dk_27 (dk_at dksX1_fault_0 11 rfl rfl)
theorem dX1_fault_12 : decode cX1_fault 12 = .ok (.iconst 1, 1) := dk_4 (dk_at dksX1_fault_0 12 rfl rfl)
theorem dX1_fault_13 : decode cX1_fault 13 = .ok (.if_icmp .ne 10, 3) := dk_160 0 10 (dk_at dksX1_fault_0 13 rfl rfl)
theorem dX1_fault_16 : decode cX1_fault 16 = .ok (.aload_n 0, 1) := dk_42 (dk_at dksX1_fault_0 16 rfl rfl)
theorem dX1_fault_17 : decode cX1_fault 17 = .ok (.getfield 23, 3) := dk_180 0 23 (dk_at dksX1_fault_0 17 rfl rfl)
theorem dX1_fault_20 : decode cX1_fault 20 = .ok (.goto 4, 3) := dk_167 0 4 (dk_at dksX1_fault_0 20 rfl rfl)
theorem dX1_fault_23 : decode cX1_fault 23 = .ok (.iconst (-1), 1) := dk_2 (dk_at dksX1_fault_0 23 rfl rfl)
theorem dX1_fault_24 : decode cX1_fault 24 = .ok (.ireturn, 1) := dk_172 (dk_at dksX1_fault_1 0 rfl rfl)
abbrev cX1_named : ByteArray := prog_1_method_8_code
def yX1_named : MethodName := ⟨RX1, "named", "(II)I"⟩
def dkwX1_named_4 : List UInt8 := [42, 180, 0, 39, 180, 0, 115, 28, 184, 0, 154, 172, 2, 172]
abbrev dktX1_named_4 : List UInt8 := dkwX1_named_4 ++ []
def dkwX1_named_3 : List UInt8 := [42, 180, 0, 39, 180, 0, 163, 28, 184, 0, 154, 172, 42, 180, 0, 39, 180, 0, 166, 28, 184, 0, 154, 172]
abbrev dktX1_named_3 : List UInt8 := dkwX1_named_3 ++ dktX1_named_4
def dkwX1_named_2 : List UInt8 := [42, 180, 0, 39, 180, 0, 151, 28, 184, 0, 154, 172, 42, 180, 0, 39, 180, 0, 160, 28, 184, 0, 154, 172]
abbrev dktX1_named_2 : List UInt8 := dkwX1_named_2 ++ dktX1_named_3
def dkwX1_named_1 : List UInt8 := [170, 0, 0, 0, 0, 0, 95, 0, 0, 0, 0, 0, 0, 0, 4, 0, 0, 0, 35, 0, 0, 0, 47, 0, 0, 0, 59, 0, 0, 0, 71, 0, 0, 0, 83]
abbrev dktX1_named_1 : List UInt8 := dkwX1_named_1 ++ dktX1_named_2
def dkwX1_named_0 : List UInt8 := [27]
abbrev dktX1_named_0 : List UInt8 := dkwX1_named_0 ++ dktX1_named_1
theorem dksX1_named_0 : cX1_named.data.toList.drop 0 = dktX1_named_0 := by decide +kernel
theorem dksX1_named_1 : cX1_named.data.toList.drop 1 = dktX1_named_1 := dk_seg dksX1_named_0 1 rfl rfl
theorem dksX1_named_2 : cX1_named.data.toList.drop 36 = dktX1_named_2 := dk_seg dksX1_named_1 35 rfl rfl
theorem dksX1_named_3 : cX1_named.data.toList.drop 60 = dktX1_named_3 := dk_seg dksX1_named_2 24 rfl rfl
theorem dksX1_named_4 : cX1_named.data.toList.drop 84 = dktX1_named_4 := dk_seg dksX1_named_3 24 rfl rfl
theorem dX1_named_0 : decode cX1_named 0 = .ok (.iload_n 1, 1) := dk_27 (dk_at dksX1_named_0 0 rfl rfl)
theorem dX1_named_1 : decode cX1_named 1 = .ok (.tableswitch 95 0 4 #[35, 47, 59, 71, 83], 35) := by decide +kernel
theorem dX1_named_36 : decode cX1_named 36 = .ok (.aload_n 0, 1) := dk_42 (dk_at dksX1_named_2 0 rfl rfl)
theorem dX1_named_37 : decode cX1_named 37 = .ok (.getfield 39, 3) := dk_180 0 39 (dk_at dksX1_named_2 1 rfl rfl)
theorem dX1_named_40 : decode cX1_named 40 = .ok (.getfield 151, 3) := dk_180 0 151 (dk_at dksX1_named_2 4 rfl rfl)
theorem dX1_named_43 : decode cX1_named 43 = .ok (.iload_n 2, 1) := dk_28 (dk_at dksX1_named_2 7 rfl rfl)
theorem dX1_named_44 : decode cX1_named 44 = .ok (.invokestatic 154, 3) := dk_184 0 154 (dk_at dksX1_named_2 8 rfl rfl)
theorem dX1_named_47 : decode cX1_named 47 = .ok (.ireturn, 1) := dk_172 (dk_at dksX1_named_2 11 rfl rfl)
theorem dX1_named_48 : decode cX1_named 48 = .ok (.aload_n 0, 1) := dk_42 (dk_at dksX1_named_2 12 rfl rfl)
theorem dX1_named_49 : decode cX1_named 49 = .ok (.getfield 39, 3) := dk_180 0 39 (dk_at dksX1_named_2 13 rfl rfl)
theorem dX1_named_52 : decode cX1_named 52 = .ok (.getfield 160, 3) := dk_180 0 160 (dk_at dksX1_named_2 16 rfl rfl)
theorem dX1_named_55 : decode cX1_named 55 = .ok (.iload_n 2, 1) := dk_28 (dk_at dksX1_named_2 19 rfl rfl)
theorem dX1_named_56 : decode cX1_named 56 = .ok (.invokestatic 154, 3) := dk_184 0 154 (dk_at dksX1_named_2 20 rfl rfl)
theorem dX1_named_59 : decode cX1_named 59 = .ok (.ireturn, 1) := dk_172 (dk_at dksX1_named_2 23 rfl rfl)
theorem dX1_named_60 : decode cX1_named 60 = .ok (.aload_n 0, 1) := dk_42 (dk_at dksX1_named_3 0 rfl rfl)
theorem dX1_named_61 : decode cX1_named 61 = .ok (.getfield 39, 3) := dk_180 0 39 (dk_at dksX1_named_3 1 rfl rfl)
theorem dX1_named_64 : decode cX1_named 64 = .ok (.getfield 163, 3) := dk_180 0 163 (dk_at dksX1_named_3 4 rfl rfl)
theorem dX1_named_67 : decode cX1_named 67 = .ok (.iload_n 2, 1) := dk_28 (dk_at dksX1_named_3 7 rfl rfl)
theorem dX1_named_68 : decode cX1_named 68 = .ok (.invokestatic 154, 3) := dk_184 0 154 (dk_at dksX1_named_3 8 rfl rfl)
theorem dX1_named_71 : decode cX1_named 71 = .ok (.ireturn, 1) := dk_172 (dk_at dksX1_named_3 11 rfl rfl)
theorem dX1_named_72 : decode cX1_named 72 = .ok (.aload_n 0, 1) := dk_42 (dk_at dksX1_named_3 12 rfl rfl)
theorem dX1_named_73 : decode cX1_named 73 = .ok (.getfield 39, 3) := dk_180 0 39 (dk_at dksX1_named_3 13 rfl rfl)
theorem dX1_named_76 : decode cX1_named 76 = .ok (.getfield 166, 3) := dk_180 0 166 (dk_at dksX1_named_3 16 rfl rfl)
theorem dX1_named_79 : decode cX1_named 79 = .ok (.iload_n 2, 1) := dk_28 (dk_at dksX1_named_3 19 rfl rfl)
theorem dX1_named_80 : decode cX1_named 80 = .ok (.invokestatic 154, 3) := dk_184 0 154 (dk_at dksX1_named_3 20 rfl rfl)
theorem dX1_named_83 : decode cX1_named 83 = .ok (.ireturn, 1) := dk_172 (dk_at dksX1_named_3 23 rfl rfl)
theorem dX1_named_84 : decode cX1_named 84 = .ok (.aload_n 0, 1) := dk_42 (dk_at dksX1_named_4 0 rfl rfl)
theorem dX1_named_85 : decode cX1_named 85 = .ok (.getfield 39, 3) := dk_180 0 39 (dk_at dksX1_named_4 1 rfl rfl)
theorem dX1_named_88 : decode cX1_named 88 = .ok (.getfield 115, 3) := dk_180 0 115 (dk_at dksX1_named_4 4 rfl rfl)
theorem dX1_named_91 : decode cX1_named 91 = .ok (.iload_n 2, 1) := dk_28 (dk_at dksX1_named_4 7 rfl rfl)
theorem dX1_named_92 : decode cX1_named 92 = .ok (.invokestatic 154, 3) := dk_184 0 154 (dk_at dksX1_named_4 8 rfl rfl)
theorem dX1_named_95 : decode cX1_named 95 = .ok (.ireturn, 1) := dk_172 (dk_at dksX1_named_4 11 rfl rfl)
theorem dX1_named_96 : decode cX1_named 96 = .ok (.iconst (-1), 1) := dk_2 (dk_at dksX1_named_4 12 rfl rfl)
theorem dX1_named_97 : decode cX1_named 97 = .ok (.ireturn, 1) := dk_172 (dk_at dksX1_named_4 13 rfl rfl)
abbrev cX1_length : ByteArray := prog_1_method_16_code
def yX1_length : MethodName := ⟨RX1, "length", "(II)J"⟩
def dkwX1_length_1 : List UInt8 := [20, 0, 207, 173]
abbrev dktX1_length_1 : List UInt8 := dkwX1_length_1 ++ []
def dkwX1_length_0 : List UInt8 := [42, 27, 28, 182, 0, 200, 153, 0, 16, 42, 27, 182, 0, 177, 28, 133, 182, 0, 204, 167, 0, 6]
abbrev dktX1_length_0 : List UInt8 := dkwX1_length_0 ++ dktX1_length_1
theorem dksX1_length_0 : cX1_length.data.toList.drop 0 = dktX1_length_0 := by decide +kernel
theorem dksX1_length_1 : cX1_length.data.toList.drop 22 = dktX1_length_1 := dk_seg dksX1_length_0 22 rfl rfl
theorem dX1_length_0 : decode cX1_length 0 = .ok (.aload_n 0, 1) := dk_42 (dk_at dksX1_length_0 0 rfl rfl)
theorem dX1_length_1 : decode cX1_length 1 = .ok (.iload_n 1, 1) := dk_27 (dk_at dksX1_length_0 1 rfl rfl)
theorem dX1_length_2 : decode cX1_length 2 = .ok (.iload_n 2, 1) := dk_28 (dk_at dksX1_length_0 2 rfl rfl)
theorem dX1_length_3 : decode cX1_length 3 = .ok (.invokevirtual 200, 3) := dk_182 0 200 (dk_at dksX1_length_0 3 rfl rfl)
theorem dX1_length_6 : decode cX1_length 6 = .ok (.ifCond .eq 16, 3) := dk_153 0 16 (dk_at dksX1_length_0 6 rfl rfl)
theorem dX1_length_9 : decode cX1_length 9 = .ok (.aload_n 0, 1) := dk_42 (dk_at dksX1_length_0 9 rfl rfl)
theorem dX1_length_10 : decode cX1_length 10 = .ok (.iload_n 1, 1) := dk_27 (dk_at dksX1_length_0 10 rfl rfl)
theorem dX1_length_11 : decode cX1_length 11 = .ok (.invokevirtual 177, 3) := dk_182 0 177 (dk_at dksX1_length_0 11 rfl rfl)
theorem dX1_length_14 : decode cX1_length 14 = .ok (.iload_n 2, 1) := dk_28 (dk_at dksX1_length_0 14 rfl rfl)
theorem dX1_length_15 : decode cX1_length 15 = .ok (.i2l, 1) := dk_133 (dk_at dksX1_length_0 15 rfl rfl)
theorem dX1_length_16 : decode cX1_length 16 = .ok (.invokevirtual 204, 3) := dk_182 0 204 (dk_at dksX1_length_0 16 rfl rfl)
theorem dX1_length_19 : decode cX1_length 19 = .ok (.goto 6, 3) := dk_167 0 6 (dk_at dksX1_length_0 19 rfl rfl)
theorem dX1_length_22 : decode cX1_length 22 = .ok (.ldc2_w 207, 3) := dk_20 0 207 (dk_at dksX1_length_1 0 rfl rfl)
theorem dX1_length_25 : decode cX1_length 25 = .ok (.lreturn, 1) := dk_173 (dk_at dksX1_length_1 3 rfl rfl)
abbrev cX1_isYear : ByteArray := prog_1_method_14_code
def yX1_isYear : MethodName := ⟨RX1, "isYear", "(II)Z"⟩
def dkwX1_isYear_1 : List UInt8 := [182, 0, 177, 28, 133, 182, 0, 181, 153, 0, 7, 4, 167, 0, 4, 3, 172]
abbrev dktX1_isYear_1 : List UInt8 := dkwX1_isYear_1 ++ []
def dkwX1_isYear_0 : List UInt8 := [42, 27, 182, 0, 171, 153, 0, 32, 28, 133, 10, 20, 0, 175, 184, 0, 96, 153, 0, 20, 42, 27]
abbrev dktX1_isYear_0 : List UInt8 := dkwX1_isYear_0 ++ dktX1_isYear_1
theorem dksX1_isYear_0 : cX1_isYear.data.toList.drop 0 = dktX1_isYear_0 := by decide +kernel
theorem dksX1_isYear_1 : cX1_isYear.data.toList.drop 22 = dktX1_isYear_1 := dk_seg dksX1_isYear_0 22 rfl rfl
theorem dX1_isYear_0 : decode cX1_isYear 0 = .ok (.aload_n 0, 1) := dk_42 (dk_at dksX1_isYear_0 0 rfl rfl)
theorem dX1_isYear_1 : decode cX1_isYear 1 = .ok (.iload_n 1, 1) := dk_27 (dk_at dksX1_isYear_0 1 rfl rfl)
theorem dX1_isYear_2 : decode cX1_isYear 2 = .ok (.invokevirtual 171, 3) := dk_182 0 171 (dk_at dksX1_isYear_0 2 rfl rfl)
theorem dX1_isYear_5 : decode cX1_isYear 5 = .ok (.ifCond .eq 32, 3) := dk_153 0 32 (dk_at dksX1_isYear_0 5 rfl rfl)
theorem dX1_isYear_8 : decode cX1_isYear 8 = .ok (.iload_n 2, 1) := dk_28 (dk_at dksX1_isYear_0 8 rfl rfl)
theorem dX1_isYear_9 : decode cX1_isYear 9 = .ok (.i2l, 1) := dk_133 (dk_at dksX1_isYear_0 9 rfl rfl)
theorem dX1_isYear_10 : decode cX1_isYear 10 = .ok (.lconst 1, 1) := dk_10 (dk_at dksX1_isYear_0 10 rfl rfl)
theorem dX1_isYear_11 : decode cX1_isYear 11 = .ok (.ldc2_w 175, 3) := dk_20 0 175 (dk_at dksX1_isYear_0 11 rfl rfl)
theorem dX1_isYear_14 : decode cX1_isYear 14 = .ok (.invokestatic 96, 3) := dk_184 0 96 (dk_at dksX1_isYear_0 14 rfl rfl)
theorem dX1_isYear_17 : decode cX1_isYear 17 = .ok (.ifCond .eq 20, 3) := dk_153 0 20 (dk_at dksX1_isYear_0 17 rfl rfl)
theorem dX1_isYear_20 : decode cX1_isYear 20 = .ok (.aload_n 0, 1) := dk_42 (dk_at dksX1_isYear_0 20 rfl rfl)
theorem dX1_isYear_21 : decode cX1_isYear 21 = .ok (.iload_n 1, 1) := dk_27 (dk_at dksX1_isYear_0 21 rfl rfl)
theorem dX1_isYear_22 : decode cX1_isYear 22 = .ok (.invokevirtual 177, 3) := dk_182 0 177 (dk_at dksX1_isYear_1 0 rfl rfl)
theorem dX1_isYear_25 : decode cX1_isYear 25 = .ok (.iload_n 2, 1) := dk_28 (dk_at dksX1_isYear_1 3 rfl rfl)
theorem dX1_isYear_26 : decode cX1_isYear 26 = .ok (.i2l, 1) := dk_133 (dk_at dksX1_isYear_1 4 rfl rfl)
theorem dX1_isYear_27 : decode cX1_isYear 27 = .ok (.invokevirtual 181, 3) := dk_182 0 181 (dk_at dksX1_isYear_1 5 rfl rfl)
theorem dX1_isYear_30 : decode cX1_isYear 30 = .ok (.ifCond .eq 7, 3) := dk_153 0 7 (dk_at dksX1_isYear_1 8 rfl rfl)
theorem dX1_isYear_33 : decode cX1_isYear 33 = .ok (.iconst 1, 1) := dk_4 (dk_at dksX1_isYear_1 11 rfl rfl)
theorem dX1_isYear_34 : decode cX1_isYear 34 = .ok (.goto 4, 3) := dk_167 0 4 (dk_at dksX1_isYear_1 12 rfl rfl)
theorem dX1_isYear_37 : decode cX1_isYear 37 = .ok (.iconst 0, 1) := dk_3 (dk_at dksX1_isYear_1 15 rfl rfl)
theorem dX1_isYear_38 : decode cX1_isYear 38 = .ok (.ireturn, 1) := dk_172 (dk_at dksX1_isYear_1 16 rfl rfl)
abbrev cX1_isLand : ByteArray := prog_1_method_9_code
def yX1_isLand : MethodName := ⟨RX1, "isLand", "(I)Z"⟩
def dkwX1_isLand_0 : List UInt8 := [27, 133, 9, 42, 180, 0, 39, 180, 0, 151, 182, 0, 118, 4, 100, 133, 184, 0, 96, 172]
abbrev dktX1_isLand_0 : List UInt8 := dkwX1_isLand_0 ++ []
theorem dksX1_isLand_0 : cX1_isLand.data.toList.drop 0 = dktX1_isLand_0 := by decide +kernel
theorem dX1_isLand_0 : decode cX1_isLand 0 = .ok (.iload_n 1, 1) := dk_27 (dk_at dksX1_isLand_0 0 rfl rfl)
theorem dX1_isLand_1 : decode cX1_isLand 1 = .ok (.i2l, 1) := dk_133 (dk_at dksX1_isLand_0 1 rfl rfl)
theorem dX1_isLand_2 : decode cX1_isLand 2 = .ok (.lconst 0, 1) := dk_9 (dk_at dksX1_isLand_0 2 rfl rfl)
theorem dX1_isLand_3 : decode cX1_isLand 3 = .ok (.aload_n 0, 1) := dk_42 (dk_at dksX1_isLand_0 3 rfl rfl)
theorem dX1_isLand_4 : decode cX1_isLand 4 = .ok (.getfield 39, 3) := dk_180 0 39 (dk_at dksX1_isLand_0 4 rfl rfl)
theorem dX1_isLand_7 : decode cX1_isLand 7 = .ok (.getfield 151, 3) := dk_180 0 151 (dk_at dksX1_isLand_0 7 rfl rfl)
theorem dX1_isLand_10 : decode cX1_isLand 10 = .ok (.invokevirtual 118, 3) := dk_182 0 118 (dk_at dksX1_isLand_0 10 rfl rfl)
theorem dX1_isLand_13 : decode cX1_isLand 13 = .ok (.iconst 1, 1) := dk_4 (dk_at dksX1_isLand_0 13 rfl rfl)
theorem dX1_isLand_14 : decode cX1_isLand 14 = .ok (.isub, 1) := dk_100 (dk_at dksX1_isLand_0 14 rfl rfl)
theorem dX1_isLand_15 : decode cX1_isLand 15 = .ok (.i2l, 1) := dk_133 (dk_at dksX1_isLand_0 15 rfl rfl)
theorem dX1_isLand_16 : decode cX1_isLand 16 = .ok (.invokestatic 96, 3) := dk_184 0 96 (dk_at dksX1_isLand_0 16 rfl rfl)
theorem dX1_isLand_19 : decode cX1_isLand 19 = .ok (.ireturn, 1) := dk_172 (dk_at dksX1_isLand_0 19 rfl rfl)
abbrev cX1_land : ByteArray := prog_1_method_10_code
def yX1_land : MethodName := ⟨RX1, "land", "(I)LLongYears$Land;"⟩
def dkwX1_land_0 : List UInt8 := [42, 180, 0, 39, 180, 0, 151, 27, 182, 0, 127, 192, 0, 169, 176]
abbrev dktX1_land_0 : List UInt8 := dkwX1_land_0 ++ []
theorem dksX1_land_0 : cX1_land.data.toList.drop 0 = dktX1_land_0 := by decide +kernel
theorem dX1_land_0 : decode cX1_land 0 = .ok (.aload_n 0, 1) := dk_42 (dk_at dksX1_land_0 0 rfl rfl)
theorem dX1_land_1 : decode cX1_land 1 = .ok (.getfield 39, 3) := dk_180 0 39 (dk_at dksX1_land_0 1 rfl rfl)
theorem dX1_land_4 : decode cX1_land 4 = .ok (.getfield 151, 3) := dk_180 0 151 (dk_at dksX1_land_0 4 rfl rfl)
theorem dX1_land_7 : decode cX1_land 7 = .ok (.iload_n 1, 1) := dk_27 (dk_at dksX1_land_0 7 rfl rfl)
theorem dX1_land_8 : decode cX1_land 8 = .ok (.invokevirtual 127, 3) := dk_182 0 127 (dk_at dksX1_land_0 8 rfl rfl)
theorem dX1_land_11 : decode cX1_land 11 = .ok (.checkcast 169, 3) := dk_192 0 169 (dk_at dksX1_land_0 11 rfl rfl)
theorem dX1_land_14 : decode cX1_land 14 = .ok (.areturn, 1) := dk_176 (dk_at dksX1_land_0 14 rfl rfl)
abbrev cX1_date : ByteArray := prog_1_method_17_code
def yX1_date : MethodName := ⟨RX1, "date", "(IJI)J"⟩
def dkwX1_date_2 : List UInt8 := [153, 0, 8, 21, 4, 154, 0, 8, 22, 5, 167, 0, 12, 42, 27, 182, 0, 177, 32, 182, 0, 215, 173]
abbrev dktX1_date_2 : List UInt8 := dkwX1_date_2 ++ []
def dkwX1_date_1 : List UInt8 := [154, 0, 7, 20, 0, 207, 173, 42, 27, 182, 0, 177, 32, 182, 0, 212, 55, 5, 22, 5, 20, 0, 207, 148]
abbrev dktX1_date_1 : List UInt8 := dkwX1_date_1 ++ dktX1_date_2
def dkwX1_date_0 : List UInt8 := [42, 27, 182, 0, 171, 153, 0, 21, 32, 184, 0, 209, 153, 0, 14, 21, 4, 133, 9, 10, 184, 0, 96]
abbrev dktX1_date_0 : List UInt8 := dkwX1_date_0 ++ dktX1_date_1
theorem dksX1_date_0 : cX1_date.data.toList.drop 0 = dktX1_date_0 := by decide +kernel
theorem dksX1_date_1 : cX1_date.data.toList.drop 23 = dktX1_date_1 := dk_seg dksX1_date_0 23 rfl rfl
theorem dksX1_date_2 : cX1_date.data.toList.drop 47 = dktX1_date_2 := dk_seg dksX1_date_1 24 rfl rfl
theorem dX1_date_0 : decode cX1_date 0 = .ok (.aload_n 0, 1) := dk_42 (dk_at dksX1_date_0 0 rfl rfl)
theorem dX1_date_1 : decode cX1_date 1 = .ok (.iload_n 1, 1) := dk_27 (dk_at dksX1_date_0 1 rfl rfl)
theorem dX1_date_2 : decode cX1_date 2 = .ok (.invokevirtual 171, 3) := dk_182 0 171 (dk_at dksX1_date_0 2 rfl rfl)
theorem dX1_date_5 : decode cX1_date 5 = .ok (.ifCond .eq 21, 3) := dk_153 0 21 (dk_at dksX1_date_0 5 rfl rfl)
theorem dX1_date_8 : decode cX1_date 8 = .ok (.lload_n 2, 1) := dk_32 (dk_at dksX1_date_0 8 rfl rfl)
theorem dX1_date_9 : decode cX1_date 9 = .ok (.invokestatic 209, 3) := dk_184 0 209 (dk_at dksX1_date_0 9 rfl rfl)
theorem dX1_date_12 : decode cX1_date 12 = .ok (.ifCond .eq 14, 3) := dk_153 0 14 (dk_at dksX1_date_0 12 rfl rfl)
theorem dX1_date_15 : decode cX1_date 15 = .ok (.iload 4, 2) := dk_21 4 (dk_at dksX1_date_0 15 rfl rfl)
theorem dX1_date_17 : decode cX1_date 17 = .ok (.i2l, 1) := dk_133 (dk_at dksX1_date_0 17 rfl rfl)
theorem dX1_date_18 : decode cX1_date 18 = .ok (.lconst 0, 1) := dk_9 (dk_at dksX1_date_0 18 rfl rfl)
theorem dX1_date_19 : decode cX1_date 19 = .ok (.lconst 1, 1) := dk_10 (dk_at dksX1_date_0 19 rfl rfl)
theorem dX1_date_20 : decode cX1_date 20 = .ok (.invokestatic 96, 3) := dk_184 0 96 (dk_at dksX1_date_0 20 rfl rfl)
theorem dX1_date_23 : decode cX1_date 23 = .ok (.ifCond .ne 7, 3) := dk_154 0 7 (dk_at dksX1_date_1 0 rfl rfl)
theorem dX1_date_26 : decode cX1_date 26 = .ok (.ldc2_w 207, 3) := dk_20 0 207 (dk_at dksX1_date_1 3 rfl rfl)
theorem dX1_date_29 : decode cX1_date 29 = .ok (.lreturn, 1) := dk_173 (dk_at dksX1_date_1 6 rfl rfl)
theorem dX1_date_30 : decode cX1_date 30 = .ok (.aload_n 0, 1) := dk_42 (dk_at dksX1_date_1 7 rfl rfl)
theorem dX1_date_31 : decode cX1_date 31 = .ok (.iload_n 1, 1) := dk_27 (dk_at dksX1_date_1 8 rfl rfl)
theorem dX1_date_32 : decode cX1_date 32 = .ok (.invokevirtual 177, 3) := dk_182 0 177 (dk_at dksX1_date_1 9 rfl rfl)
theorem dX1_date_35 : decode cX1_date 35 = .ok (.lload_n 2, 1) := dk_32 (dk_at dksX1_date_1 12 rfl rfl)
theorem dX1_date_36 : decode cX1_date 36 = .ok (.invokevirtual 212, 3) := dk_182 0 212 (dk_at dksX1_date_1 13 rfl rfl)
theorem dX1_date_39 : decode cX1_date 39 = .ok (.lstore 5, 2) := dk_55 5 (dk_at dksX1_date_1 16 rfl rfl)
theorem dX1_date_41 : decode cX1_date 41 = .ok (.lload 5, 2) := dk_22 5 (dk_at dksX1_date_1 18 rfl rfl)
theorem dX1_date_43 : decode cX1_date 43 = .ok (.ldc2_w 207, 3) := dk_20 0 207 (dk_at dksX1_date_1 20 rfl rfl)
theorem dX1_date_46 : decode cX1_date 46 = .ok (.lcmp, 1) := dk_148 (dk_at dksX1_date_1 23 rfl rfl)
theorem dX1_date_47 : decode cX1_date 47 = .ok (.ifCond .eq 8, 3) := dk_153 0 8 (dk_at dksX1_date_2 0 rfl rfl)
theorem dX1_date_50 : decode cX1_date 50 = .ok (.iload 4, 2) := dk_21 4 (dk_at dksX1_date_2 3 rfl rfl)
theorem dX1_date_52 : decode cX1_date 52 = .ok (.ifCond .ne 8, 3) := dk_154 0 8 (dk_at dksX1_date_2 5 rfl rfl)
theorem dX1_date_55 : decode cX1_date 55 = .ok (.lload 5, 2) := dk_22 5 (dk_at dksX1_date_2 8 rfl rfl)
theorem dX1_date_57 : decode cX1_date 57 = .ok (.goto 12, 3) := dk_167 0 12 (dk_at dksX1_date_2 10 rfl rfl)
theorem dX1_date_60 : decode cX1_date 60 = .ok (.aload_n 0, 1) := dk_42 (dk_at dksX1_date_2 13 rfl rfl)
theorem dX1_date_61 : decode cX1_date 61 = .ok (.iload_n 1, 1) := dk_27 (dk_at dksX1_date_2 14 rfl rfl)
theorem dX1_date_62 : decode cX1_date 62 = .ok (.invokevirtual 177, 3) := dk_182 0 177 (dk_at dksX1_date_2 15 rfl rfl)
theorem dX1_date_65 : decode cX1_date 65 = .ok (.lload_n 2, 1) := dk_32 (dk_at dksX1_date_2 18 rfl rfl)
theorem dX1_date_66 : decode cX1_date 66 = .ok (.invokevirtual 215, 3) := dk_182 0 215 (dk_at dksX1_date_2 19 rfl rfl)
theorem dX1_date_69 : decode cX1_date 69 = .ok (.lreturn, 1) := dk_173 (dk_at dksX1_date_2 22 rfl rfl)
abbrev cX1_isCount : ByteArray := prog_1_method_13_code
def yX1_isCount : MethodName := ⟨RX1, "isCount", "(J)Z"⟩
def dkwX1_isCount_0 : List UInt8 := [30, 9, 20, 0, 5, 184, 0, 96, 172]
abbrev dktX1_isCount_0 : List UInt8 := dkwX1_isCount_0 ++ []
theorem dksX1_isCount_0 : cX1_isCount.data.toList.drop 0 = dktX1_isCount_0 := by decide +kernel
theorem dX1_isCount_0 : decode cX1_isCount 0 = .ok (.lload_n 0, 1) := dk_30 (dk_at dksX1_isCount_0 0 rfl rfl)
theorem dX1_isCount_1 : decode cX1_isCount 1 = .ok (.lconst 0, 1) := dk_9 (dk_at dksX1_isCount_0 1 rfl rfl)
theorem dX1_isCount_2 : decode cX1_isCount 2 = .ok (.ldc2_w 5, 3) := dk_20 0 5 (dk_at dksX1_isCount_0 2 rfl rfl)
theorem dX1_isCount_5 : decode cX1_isCount 5 = .ok (.invokestatic 96, 3) := dk_184 0 96 (dk_at dksX1_isCount_0 5 rfl rfl)
theorem dX1_isCount_8 : decode cX1_isCount 8 = .ok (.ireturn, 1) := dk_172 (dk_at dksX1_isCount_0 8 rfl rfl)
abbrev cX1_count : ByteArray := prog_1_method_18_code
def yX1_count : MethodName := ⟨RX1, "count", "(IIJ)J"⟩
def dkwX1_count_2 : List UInt8 := [42, 27, 182, 0, 177, 28, 133, 182, 0, 218, 33, 97, 10, 101, 184, 0, 221, 173]
abbrev dktX1_count_2 : List UInt8 := dkwX1_count_2 ++ []
def dkwX1_count_1 : List UInt8 := [153, 0, 20, 42, 27, 182, 0, 177, 28, 133, 182, 0, 218, 20, 0, 5, 148, 158, 0, 7, 20, 0, 207, 173]
abbrev dktX1_count_1 : List UInt8 := dkwX1_count_1 ++ dktX1_count_2
def dkwX1_count_0 : List UInt8 := [42, 27, 28, 182, 0, 200, 153, 0, 38, 33, 10, 42, 27, 182, 0, 177, 28, 133, 182, 0, 204, 184, 0, 96]
abbrev dktX1_count_0 : List UInt8 := dkwX1_count_0 ++ dktX1_count_1
theorem dksX1_count_0 : cX1_count.data.toList.drop 0 = dktX1_count_0 := by decide +kernel
theorem dksX1_count_1 : cX1_count.data.toList.drop 24 = dktX1_count_1 := dk_seg dksX1_count_0 24 rfl rfl
theorem dksX1_count_2 : cX1_count.data.toList.drop 48 = dktX1_count_2 := dk_seg dksX1_count_1 24 rfl rfl
theorem dX1_count_0 : decode cX1_count 0 = .ok (.aload_n 0, 1) := dk_42 (dk_at dksX1_count_0 0 rfl rfl)
theorem dX1_count_1 : decode cX1_count 1 = .ok (.iload_n 1, 1) := dk_27 (dk_at dksX1_count_0 1 rfl rfl)
theorem dX1_count_2 : decode cX1_count 2 = .ok (.iload_n 2, 1) := dk_28 (dk_at dksX1_count_0 2 rfl rfl)
theorem dX1_count_3 : decode cX1_count 3 = .ok (.invokevirtual 200, 3) := dk_182 0 200 (dk_at dksX1_count_0 3 rfl rfl)
theorem dX1_count_6 : decode cX1_count 6 = .ok (.ifCond .eq 38, 3) := dk_153 0 38 (dk_at dksX1_count_0 6 rfl rfl)
theorem dX1_count_9 : decode cX1_count 9 = .ok (.lload_n 3, 1) := dk_33 (dk_at dksX1_count_0 9 rfl rfl)
theorem dX1_count_10 : decode cX1_count 10 = .ok (.lconst 1, 1) := dk_10 (dk_at dksX1_count_0 10 rfl rfl)
theorem dX1_count_11 : decode cX1_count 11 = .ok (.aload_n 0, 1) := dk_42 (dk_at dksX1_count_0 11 rfl rfl)
theorem dX1_count_12 : decode cX1_count 12 = .ok (.iload_n 1, 1) := dk_27 (dk_at dksX1_count_0 12 rfl rfl)
theorem dX1_count_13 : decode cX1_count 13 = .ok (.invokevirtual 177, 3) := dk_182 0 177 (dk_at dksX1_count_0 13 rfl rfl)
theorem dX1_count_16 : decode cX1_count 16 = .ok (.iload_n 2, 1) := dk_28 (dk_at dksX1_count_0 16 rfl rfl)
theorem dX1_count_17 : decode cX1_count 17 = .ok (.i2l, 1) := dk_133 (dk_at dksX1_count_0 17 rfl rfl)
theorem dX1_count_18 : decode cX1_count 18 = .ok (.invokevirtual 204, 3) := dk_182 0 204 (dk_at dksX1_count_0 18 rfl rfl)
theorem dX1_count_21 : decode cX1_count 21 = .ok (.invokestatic 96, 3) := dk_184 0 96 (dk_at dksX1_count_0 21 rfl rfl)
theorem dX1_count_24 : decode cX1_count 24 = .ok (.ifCond .eq 20, 3) := dk_153 0 20 (dk_at dksX1_count_1 0 rfl rfl)
theorem dX1_count_27 : decode cX1_count 27 = .ok (.aload_n 0, 1) := dk_42 (dk_at dksX1_count_1 3 rfl rfl)
theorem dX1_count_28 : decode cX1_count 28 = .ok (.iload_n 1, 1) := dk_27 (dk_at dksX1_count_1 4 rfl rfl)
theorem dX1_count_29 : decode cX1_count 29 = .ok (.invokevirtual 177, 3) := dk_182 0 177 (dk_at dksX1_count_1 5 rfl rfl)
theorem dX1_count_32 : decode cX1_count 32 = .ok (.iload_n 2, 1) := dk_28 (dk_at dksX1_count_1 8 rfl rfl)
theorem dX1_count_33 : decode cX1_count 33 = .ok (.i2l, 1) := dk_133 (dk_at dksX1_count_1 9 rfl rfl)
theorem dX1_count_34 : decode cX1_count 34 = .ok (.invokevirtual 218, 3) := dk_182 0 218 (dk_at dksX1_count_1 10 rfl rfl)
theorem dX1_count_37 : decode cX1_count 37 = .ok (.ldc2_w 5, 3) := dk_20 0 5 (dk_at dksX1_count_1 13 rfl rfl)
theorem dX1_count_40 : decode cX1_count 40 = .ok (.lcmp, 1) := dk_148 (dk_at dksX1_count_1 16 rfl rfl)
theorem dX1_count_41 : decode cX1_count 41 = .ok (.ifCond .le 7, 3) := dk_158 0 7 (dk_at dksX1_count_1 17 rfl rfl)
theorem dX1_count_44 : decode cX1_count 44 = .ok (.ldc2_w 207, 3) := dk_20 0 207 (dk_at dksX1_count_1 20 rfl rfl)
theorem dX1_count_47 : decode cX1_count 47 = .ok (.lreturn, 1) := dk_173 (dk_at dksX1_count_1 23 rfl rfl)
theorem dX1_count_48 : decode cX1_count 48 = .ok (.aload_n 0, 1) := dk_42 (dk_at dksX1_count_2 0 rfl rfl)
theorem dX1_count_49 : decode cX1_count 49 = .ok (.iload_n 1, 1) := dk_27 (dk_at dksX1_count_2 1 rfl rfl)
theorem dX1_count_50 : decode cX1_count 50 = .ok (.invokevirtual 177, 3) := dk_182 0 177 (dk_at dksX1_count_2 2 rfl rfl)
theorem dX1_count_53 : decode cX1_count 53 = .ok (.iload_n 2, 1) := dk_28 (dk_at dksX1_count_2 5 rfl rfl)
theorem dX1_count_54 : decode cX1_count 54 = .ok (.i2l, 1) := dk_133 (dk_at dksX1_count_2 6 rfl rfl)
theorem dX1_count_55 : decode cX1_count 55 = .ok (.invokevirtual 218, 3) := dk_182 0 218 (dk_at dksX1_count_2 7 rfl rfl)
theorem dX1_count_58 : decode cX1_count 58 = .ok (.lload_n 3, 1) := dk_33 (dk_at dksX1_count_2 10 rfl rfl)
theorem dX1_count_59 : decode cX1_count 59 = .ok (.ladd, 1) := dk_97 (dk_at dksX1_count_2 11 rfl rfl)
theorem dX1_count_60 : decode cX1_count 60 = .ok (.lconst 1, 1) := dk_10 (dk_at dksX1_count_2 12 rfl rfl)
theorem dX1_count_61 : decode cX1_count 61 = .ok (.lsub, 1) := dk_101 (dk_at dksX1_count_2 13 rfl rfl)
theorem dX1_count_62 : decode cX1_count 62 = .ok (.invokestatic 221, 3) := dk_184 0 221 (dk_at dksX1_count_2 14 rfl rfl)
theorem dX1_count_65 : decode cX1_count 65 = .ok (.lreturn, 1) := dk_173 (dk_at dksX1_count_2 17 rfl rfl)
abbrev cX1_round : ByteArray := prog_1_method_19_code
def yX1_round : MethodName := ⟨RX1, "round", "(JI)I"⟩
def dkwX1_round_2 : List UInt8 := [180, 0, 39, 31, 182, 0, 233, 167, 0, 4, 2, 172]
abbrev dktX1_round_2 : List UInt8 := dkwX1_round_2 ++ []
def dkwX1_round_1 : List UInt8 := [29, 4, 160, 0, 14, 42, 180, 0, 39, 31, 182, 0, 230, 167, 0, 20, 29, 5, 160, 0, 14, 42]
abbrev dktX1_round_1 : List UInt8 := dkwX1_round_1 ++ dktX1_round_2
def dkwX1_round_0 : List UInt8 := [31, 184, 0, 209, 154, 0, 5, 2, 172, 29, 154, 0, 14, 42, 180, 0, 39, 31, 182, 0, 226, 167, 0, 36]
abbrev dktX1_round_0 : List UInt8 := dkwX1_round_0 ++ dktX1_round_1
theorem dksX1_round_0 : cX1_round.data.toList.drop 0 = dktX1_round_0 := by decide +kernel
theorem dksX1_round_1 : cX1_round.data.toList.drop 24 = dktX1_round_1 := dk_seg dksX1_round_0 24 rfl rfl
theorem dksX1_round_2 : cX1_round.data.toList.drop 46 = dktX1_round_2 := dk_seg dksX1_round_1 22 rfl rfl
theorem dX1_round_0 : decode cX1_round 0 = .ok (.lload_n 1, 1) := dk_31 (dk_at dksX1_round_0 0 rfl rfl)
theorem dX1_round_1 : decode cX1_round 1 = .ok (.invokestatic 209, 3) := dk_184 0 209 (dk_at dksX1_round_0 1 rfl rfl)
theorem dX1_round_4 : decode cX1_round 4 = .ok (.ifCond .ne 5, 3) := dk_154 0 5 (dk_at dksX1_round_0 4 rfl rfl)
theorem dX1_round_7 : decode cX1_round 7 = .ok (.iconst (-1), 1) := dk_2 (dk_at dksX1_round_0 7 rfl rfl)
theorem dX1_round_8 : decode cX1_round 8 = .ok (.ireturn, 1) := dk_172 (dk_at dksX1_round_0 8 rfl rfl)
theorem dX1_round_9 : decode cX1_round 9 = .ok (.iload_n 3, 1) := dk_29 (dk_at dksX1_round_0 9 rfl rfl)
theorem dX1_round_10 : decode cX1_round 10 = .ok (.ifCond .ne 14, 3) := dk_154 0 14 (dk_at dksX1_round_0 10 rfl rfl)
theorem dX1_round_13 : decode cX1_round 13 = .ok (.aload_n 0, 1) := dk_42 (dk_at dksX1_round_0 13 rfl rfl)
theorem dX1_round_14 : decode cX1_round 14 = .ok (.getfield 39, 3) := dk_180 0 39 (dk_at dksX1_round_0 14 rfl rfl)
theorem dX1_round_17 : decode cX1_round 17 = .ok (.lload_n 1, 1) := dk_31 (dk_at dksX1_round_0 17 rfl rfl)
theorem dX1_round_18 : decode cX1_round 18 = .ok (.invokevirtual 226, 3) := dk_182 0 226 (dk_at dksX1_round_0 18 rfl rfl)
theorem dX1_round_21 : decode cX1_round 21 = .ok (.goto 36, 3) := dk_167 0 36 (dk_at dksX1_round_0 21 rfl rfl)
theorem dX1_round_24 : decode cX1_round 24 = .ok (.iload_n 3, 1) := dk_29 (dk_at dksX1_round_1 0 rfl rfl)
theorem dX1_round_25 : decode cX1_round 25 = .ok (.iconst 1, 1) := dk_4 (dk_at dksX1_round_1 1 rfl rfl)
theorem dX1_round_26 : decode cX1_round 26 = .ok (.if_icmp .ne 14, 3) := dk_160 0 14 (dk_at dksX1_round_1 2 rfl rfl)
theorem dX1_round_29 : decode cX1_round 29 = .ok (.aload_n 0, 1) := dk_42 (dk_at dksX1_round_1 5 rfl rfl)
theorem dX1_round_30 : decode cX1_round 30 = .ok (.getfield 39, 3) := dk_180 0 39 (dk_at dksX1_round_1 6 rfl rfl)
theorem dX1_round_33 : decode cX1_round 33 = .ok (.lload_n 1, 1) := dk_31 (dk_at dksX1_round_1 9 rfl rfl)
theorem dX1_round_34 : decode cX1_round 34 = .ok (.invokevirtual 230, 3) := dk_182 0 230 (dk_at dksX1_round_1 10 rfl rfl)
theorem dX1_round_37 : decode cX1_round 37 = .ok (.goto 20, 3) := dk_167 0 20 (dk_at dksX1_round_1 13 rfl rfl)
theorem dX1_round_40 : decode cX1_round 40 = .ok (.iload_n 3, 1) := dk_29 (dk_at dksX1_round_1 16 rfl rfl)
theorem dX1_round_41 : decode cX1_round 41 = .ok (.iconst 2, 1) := dk_5 (dk_at dksX1_round_1 17 rfl rfl)
theorem dX1_round_42 : decode cX1_round 42 = .ok (.if_icmp .ne 14, 3) := dk_160 0 14 (dk_at dksX1_round_1 18 rfl rfl)
theorem dX1_round_45 : decode cX1_round 45 = .ok (.aload_n 0, 1) := dk_42 (dk_at dksX1_round_1 21 rfl rfl)
theorem dX1_round_46 : decode cX1_round 46 = .ok (.getfield 39, 3) := dk_180 0 39 (dk_at dksX1_round_2 0 rfl rfl)
theorem dX1_round_49 : decode cX1_round 49 = .ok (.lload_n 1, 1) := dk_31 (dk_at dksX1_round_2 3 rfl rfl)
theorem dX1_round_50 : decode cX1_round 50 = .ok (.invokevirtual 233, 3) := dk_182 0 233 (dk_at dksX1_round_2 4 rfl rfl)
theorem dX1_round_53 : decode cX1_round 53 = .ok (.goto 4, 3) := dk_167 0 4 (dk_at dksX1_round_2 7 rfl rfl)
theorem dX1_round_56 : decode cX1_round 56 = .ok (.iconst (-1), 1) := dk_2 (dk_at dksX1_round_2 10 rfl rfl)
theorem dX1_round_57 : decode cX1_round 57 = .ok (.ireturn, 1) := dk_172 (dk_at dksX1_round_2 11 rfl rfl)
abbrev cX1_feast : ByteArray := prog_1_method_23_code
def yX1_feast : MethodName := ⟨RX1, "feast", "(IJ)I"⟩
def dkwX1_feast_1 : List UInt8 := [182, 1, 3, 153, 0, 7, 4, 167, 0, 4, 3, 172]
abbrev dktX1_feast_1 : List UInt8 := dkwX1_feast_1 ++ []
def dkwX1_feast_0 : List UInt8 := [42, 27, 182, 1, 9, 153, 0, 10, 32, 184, 0, 209, 154, 0, 7, 2, 167, 0, 17, 42, 27, 32]
abbrev dktX1_feast_0 : List UInt8 := dkwX1_feast_0 ++ dktX1_feast_1
theorem dksX1_feast_0 : cX1_feast.data.toList.drop 0 = dktX1_feast_0 := by decide +kernel
theorem dksX1_feast_1 : cX1_feast.data.toList.drop 22 = dktX1_feast_1 := dk_seg dksX1_feast_0 22 rfl rfl
theorem dX1_feast_0 : decode cX1_feast 0 = .ok (.aload_n 0, 1) := dk_42 (dk_at dksX1_feast_0 0 rfl rfl)
theorem dX1_feast_1 : decode cX1_feast 1 = .ok (.iload_n 1, 1) := dk_27 (dk_at dksX1_feast_0 1 rfl rfl)
theorem dX1_feast_2 : decode cX1_feast 2 = .ok (.invokevirtual 265, 3) := dk_182 1 9 (dk_at dksX1_feast_0 2 rfl rfl)
theorem dX1_feast_5 : decode cX1_feast 5 = .ok (.ifCond .eq 10, 3) := dk_153 0 10 (dk_at dksX1_feast_0 5 rfl rfl)
theorem dX1_feast_8 : decode cX1_feast 8 = .ok (.lload_n 2, 1) := dk_32 (dk_at dksX1_feast_0 8 rfl rfl)
theorem dX1_feast_9 : decode cX1_feast 9 = .ok (.invokestatic 209, 3) := dk_184 0 209 (dk_at dksX1_feast_0 9 rfl rfl)
theorem dX1_feast_12 : decode cX1_feast 12 = .ok (.ifCond .ne 7, 3) := dk_154 0 7 (dk_at dksX1_feast_0 12 rfl rfl)
theorem dX1_feast_15 : decode cX1_feast 15 = .ok (.iconst (-1), 1) := dk_2 (dk_at dksX1_feast_0 15 rfl rfl)
theorem dX1_feast_16 : decode cX1_feast 16 = .ok (.goto 17, 3) := dk_167 0 17 (dk_at dksX1_feast_0 16 rfl rfl)
theorem dX1_feast_19 : decode cX1_feast 19 = .ok (.aload_n 0, 1) := dk_42 (dk_at dksX1_feast_0 19 rfl rfl)
theorem dX1_feast_20 : decode cX1_feast 20 = .ok (.iload_n 1, 1) := dk_27 (dk_at dksX1_feast_0 20 rfl rfl)
theorem dX1_feast_21 : decode cX1_feast 21 = .ok (.lload_n 2, 1) := dk_32 (dk_at dksX1_feast_0 21 rfl rfl)
theorem dX1_feast_22 : decode cX1_feast 22 = .ok (.invokevirtual 259, 3) := dk_182 1 3 (dk_at dksX1_feast_1 0 rfl rfl)
theorem dX1_feast_25 : decode cX1_feast 25 = .ok (.ifCond .eq 7, 3) := dk_153 0 7 (dk_at dksX1_feast_1 3 rfl rfl)
theorem dX1_feast_28 : decode cX1_feast 28 = .ok (.iconst 1, 1) := dk_4 (dk_at dksX1_feast_1 6 rfl rfl)
theorem dX1_feast_29 : decode cX1_feast 29 = .ok (.goto 4, 3) := dk_167 0 4 (dk_at dksX1_feast_1 7 rfl rfl)
theorem dX1_feast_32 : decode cX1_feast 32 = .ok (.iconst 0, 1) := dk_3 (dk_at dksX1_feast_1 10 rfl rfl)
theorem dX1_feast_33 : decode cX1_feast 33 = .ok (.ireturn, 1) := dk_172 (dk_at dksX1_feast_1 11 rfl rfl)
abbrev cX1_isFeast : ByteArray := prog_1_method_11_code
def yX1_isFeast : MethodName := ⟨RX1, "isFeast", "(I)Z"⟩
def dkwX1_isFeast_0 : List UInt8 := [27, 133, 9, 42, 180, 0, 39, 180, 0, 160, 182, 0, 118, 4, 100, 133, 184, 0, 96, 172]
abbrev dktX1_isFeast_0 : List UInt8 := dkwX1_isFeast_0 ++ []
theorem dksX1_isFeast_0 : cX1_isFeast.data.toList.drop 0 = dktX1_isFeast_0 := by decide +kernel
theorem dX1_isFeast_0 : decode cX1_isFeast 0 = .ok (.iload_n 1, 1) := dk_27 (dk_at dksX1_isFeast_0 0 rfl rfl)
theorem dX1_isFeast_1 : decode cX1_isFeast 1 = .ok (.i2l, 1) := dk_133 (dk_at dksX1_isFeast_0 1 rfl rfl)
theorem dX1_isFeast_2 : decode cX1_isFeast 2 = .ok (.lconst 0, 1) := dk_9 (dk_at dksX1_isFeast_0 2 rfl rfl)
theorem dX1_isFeast_3 : decode cX1_isFeast 3 = .ok (.aload_n 0, 1) := dk_42 (dk_at dksX1_isFeast_0 3 rfl rfl)
theorem dX1_isFeast_4 : decode cX1_isFeast 4 = .ok (.getfield 39, 3) := dk_180 0 39 (dk_at dksX1_isFeast_0 4 rfl rfl)
theorem dX1_isFeast_7 : decode cX1_isFeast 7 = .ok (.getfield 160, 3) := dk_180 0 160 (dk_at dksX1_isFeast_0 7 rfl rfl)
theorem dX1_isFeast_10 : decode cX1_isFeast 10 = .ok (.invokevirtual 118, 3) := dk_182 0 118 (dk_at dksX1_isFeast_0 10 rfl rfl)
theorem dX1_isFeast_13 : decode cX1_isFeast 13 = .ok (.iconst 1, 1) := dk_4 (dk_at dksX1_isFeast_0 13 rfl rfl)
theorem dX1_isFeast_14 : decode cX1_isFeast 14 = .ok (.isub, 1) := dk_100 (dk_at dksX1_isFeast_0 14 rfl rfl)
theorem dX1_isFeast_15 : decode cX1_isFeast 15 = .ok (.i2l, 1) := dk_133 (dk_at dksX1_isFeast_0 15 rfl rfl)
theorem dX1_isFeast_16 : decode cX1_isFeast 16 = .ok (.invokestatic 96, 3) := dk_184 0 96 (dk_at dksX1_isFeast_0 16 rfl rfl)
theorem dX1_isFeast_19 : decode cX1_isFeast 19 = .ok (.ireturn, 1) := dk_172 (dk_at dksX1_isFeast_0 19 rfl rfl)
abbrev cX1_isFestive : ByteArray := prog_1_method_21_code
def yX1_isFestive : MethodName := ⟨RX1, "isFestive", "(IJ)Z"⟩
def dkwX1_isFestive_1 : List UInt8 := [4, 167, 0, 4, 3, 172]
abbrev dktX1_isFestive_1 : List UInt8 := dkwX1_isFestive_1 ++ []
def dkwX1_isFestive_0 : List UInt8 := [42, 27, 32, 182, 0, 253, 55, 4, 22, 4, 9, 148, 153, 0, 16, 22, 4, 20, 0, 251, 148, 153, 0, 7]
abbrev dktX1_isFestive_0 : List UInt8 := dkwX1_isFestive_0 ++ dktX1_isFestive_1
theorem dksX1_isFestive_0 : cX1_isFestive.data.toList.drop 0 = dktX1_isFestive_0 := by decide +kernel
theorem dksX1_isFestive_1 : cX1_isFestive.data.toList.drop 24 = dktX1_isFestive_1 := dk_seg dksX1_isFestive_0 24 rfl rfl
theorem dX1_isFestive_0 : decode cX1_isFestive 0 = .ok (.aload_n 0, 1) := dk_42 (dk_at dksX1_isFestive_0 0 rfl rfl)
theorem dX1_isFestive_1 : decode cX1_isFestive 1 = .ok (.iload_n 1, 1) := dk_27 (dk_at dksX1_isFestive_0 1 rfl rfl)
theorem dX1_isFestive_2 : decode cX1_isFestive 2 = .ok (.lload_n 2, 1) := dk_32 (dk_at dksX1_isFestive_0 2 rfl rfl)
theorem dX1_isFestive_3 : decode cX1_isFestive 3 = .ok (.invokevirtual 253, 3) := dk_182 0 253 (dk_at dksX1_isFestive_0 3 rfl rfl)
theorem dX1_isFestive_6 : decode cX1_isFestive 6 = .ok (.lstore 4, 2) := dk_55 4 (dk_at dksX1_isFestive_0 6 rfl rfl)
theorem dX1_isFestive_8 : decode cX1_isFestive 8 = .ok (.lload 4, 2) := dk_22 4 (dk_at dksX1_isFestive_0 8 rfl rfl)
theorem dX1_isFestive_10 : decode cX1_isFestive 10 = .ok (.lconst 0, 1) := dk_9 (dk_at dksX1_isFestive_0 10 rfl rfl)
theorem dX1_isFestive_11 : decode cX1_isFestive 11 = .ok (.lcmp, 1) := dk_148 (dk_at dksX1_isFestive_0 11 rfl rfl)
theorem dX1_isFestive_12 : decode cX1_isFestive 12 = .ok (.ifCond .eq 16, 3) := dk_153 0 16 (dk_at dksX1_isFestive_0 12 rfl rfl)
theorem dX1_isFestive_15 : decode cX1_isFestive 15 = .ok (.lload 4, 2) := dk_22 4 (dk_at dksX1_isFestive_0 15 rfl rfl)
theorem dX1_isFestive_17 : decode cX1_isFestive 17 = .ok (.ldc2_w 251, 3) := dk_20 0 251 (dk_at dksX1_isFestive_0 17 rfl rfl)
theorem dX1_isFestive_20 : decode cX1_isFestive 20 = .ok (.lcmp, 1) := dk_148 (dk_at dksX1_isFestive_0 20 rfl rfl)
theorem dX1_isFestive_21 : decode cX1_isFestive 21 = .ok (.ifCond .eq 7, 3) := dk_153 0 7 (dk_at dksX1_isFestive_0 21 rfl rfl)
theorem dX1_isFestive_24 : decode cX1_isFestive 24 = .ok (.iconst 1, 1) := dk_4 (dk_at dksX1_isFestive_1 0 rfl rfl)
theorem dX1_isFestive_25 : decode cX1_isFestive 25 = .ok (.goto 4, 3) := dk_167 0 4 (dk_at dksX1_isFestive_1 1 rfl rfl)
theorem dX1_isFestive_28 : decode cX1_isFestive 28 = .ok (.iconst 0, 1) := dk_3 (dk_at dksX1_isFestive_1 4 rfl rfl)
theorem dX1_isFestive_29 : decode cX1_isFestive 29 = .ok (.ireturn, 1) := dk_172 (dk_at dksX1_isFestive_1 5 rfl rfl)
abbrev cX1_ruled : ByteArray := prog_1_method_20_code
def yX1_ruled : MethodName := ⟨RX1, "ruled", "(IJ)J"⟩
def dkwX1_ruled_7 : List UInt8 := [58, 6, 20, 0, 251, 173]
abbrev dktX1_ruled_7 : List UInt8 := dkwX1_ruled_7 ++ []
def dkwX1_ruled_6 : List UInt8 := [180, 0, 39, 180, 0, 160, 27, 182, 0, 127, 192, 0, 237, 180, 0, 239, 42, 180, 0, 43, 182, 0, 243, 173]
abbrev dktX1_ruled_6 : List UInt8 := dkwX1_ruled_6 ++ dktX1_ruled_7
def dkwX1_ruled_5 : List UInt8 := [20, 0, 207, 148, 154, 0, 7, 9, 167, 0, 13, 42, 3, 182, 0, 177, 22, 4, 182, 0, 204, 80, 42]
abbrev dktX1_ruled_5 : List UInt8 := dkwX1_ruled_5 ++ dktX1_ruled_6
def dkwX1_ruled_4 : List UInt8 := [32, 42, 3, 182, 0, 177, 22, 4, 182, 0, 218, 101, 10, 97, 80, 42, 180, 0, 43, 8, 22, 4]
abbrev dktX1_ruled_4 : List UInt8 := dkwX1_ruled_4 ++ dktX1_ruled_5
def dkwX1_ruled_3 : List UInt8 := [167, 0, 5, 22, 4, 80, 42, 180, 0, 43, 5, 22, 4, 20, 0, 207, 148, 154, 0, 7, 9, 167, 0, 17]
abbrev dktX1_ruled_3 : List UInt8 := dkwX1_ruled_3 ++ dktX1_ruled_4
def dkwX1_ruled_2 : List UInt8 := [180, 0, 39, 32, 182, 0, 233, 133, 80, 42, 180, 0, 43, 6, 22, 4, 20, 0, 207, 148, 154, 0, 7, 9]
abbrev dktX1_ruled_2 : List UInt8 := dkwX1_ruled_2 ++ dktX1_ruled_3
def dkwX1_ruled_1 : List UInt8 := [80, 42, 180, 0, 43, 4, 42, 180, 0, 39, 32, 182, 0, 230, 133, 80, 42, 180, 0, 43, 7, 42]
abbrev dktX1_ruled_1 : List UInt8 := dkwX1_ruled_1 ++ dktX1_ruled_2
def dkwX1_ruled_0 : List UInt8 := [42, 180, 0, 39, 32, 182, 0, 236, 55, 4, 42, 180, 0, 43, 3, 42, 180, 0, 39, 32, 182, 0, 226, 133]
abbrev dktX1_ruled_0 : List UInt8 := dkwX1_ruled_0 ++ dktX1_ruled_1
theorem dksX1_ruled_0 : cX1_ruled.data.toList.drop 0 = dktX1_ruled_0 := by decide +kernel
theorem dksX1_ruled_1 : cX1_ruled.data.toList.drop 24 = dktX1_ruled_1 := dk_seg dksX1_ruled_0 24 rfl rfl
theorem dksX1_ruled_2 : cX1_ruled.data.toList.drop 46 = dktX1_ruled_2 := dk_seg dksX1_ruled_1 22 rfl rfl
theorem dksX1_ruled_3 : cX1_ruled.data.toList.drop 70 = dktX1_ruled_3 := dk_seg dksX1_ruled_2 24 rfl rfl
theorem dksX1_ruled_4 : cX1_ruled.data.toList.drop 94 = dktX1_ruled_4 := dk_seg dksX1_ruled_3 24 rfl rfl
theorem dksX1_ruled_5 : cX1_ruled.data.toList.drop 116 = dktX1_ruled_5 := dk_seg dksX1_ruled_4 22 rfl rfl
theorem dksX1_ruled_6 : cX1_ruled.data.toList.drop 139 = dktX1_ruled_6 := dk_seg dksX1_ruled_5 23 rfl rfl
theorem dksX1_ruled_7 : cX1_ruled.data.toList.drop 163 = dktX1_ruled_7 := dk_seg dksX1_ruled_6 24 rfl rfl
theorem dX1_ruled_0 : decode cX1_ruled 0 = .ok (.aload_n 0, 1) := dk_42 (dk_at dksX1_ruled_0 0 rfl rfl)
theorem dX1_ruled_1 : decode cX1_ruled 1 = .ok (.getfield 39, 3) := dk_180 0 39 (dk_at dksX1_ruled_0 1 rfl rfl)
theorem dX1_ruled_4 : decode cX1_ruled 4 = .ok (.lload_n 2, 1) := dk_32 (dk_at dksX1_ruled_0 4 rfl rfl)
theorem dX1_ruled_5 : decode cX1_ruled 5 = .ok (.invokevirtual 236, 3) := dk_182 0 236 (dk_at dksX1_ruled_0 5 rfl rfl)
theorem dX1_ruled_8 : decode cX1_ruled 8 = .ok (.lstore 4, 2) := dk_55 4 (dk_at dksX1_ruled_0 8 rfl rfl)
theorem dX1_ruled_10 : decode cX1_ruled 10 = .ok (.aload_n 0, 1) := dk_42 (dk_at dksX1_ruled_0 10 rfl rfl)
theorem dX1_ruled_11 : decode cX1_ruled 11 = .ok (.getfield 43, 3) := dk_180 0 43 (dk_at dksX1_ruled_0 11 rfl rfl)
theorem dX1_ruled_14 : decode cX1_ruled 14 = .ok (.iconst 0, 1) := dk_3 (dk_at dksX1_ruled_0 14 rfl rfl)
theorem dX1_ruled_15 : decode cX1_ruled 15 = .ok (.aload_n 0, 1) := dk_42 (dk_at dksX1_ruled_0 15 rfl rfl)
theorem dX1_ruled_16 : decode cX1_ruled 16 = .ok (.getfield 39, 3) := dk_180 0 39 (dk_at dksX1_ruled_0 16 rfl rfl)
theorem dX1_ruled_19 : decode cX1_ruled 19 = .ok (.lload_n 2, 1) := dk_32 (dk_at dksX1_ruled_0 19 rfl rfl)
theorem dX1_ruled_20 : decode cX1_ruled 20 = .ok (.invokevirtual 226, 3) := dk_182 0 226 (dk_at dksX1_ruled_0 20 rfl rfl)
theorem dX1_ruled_23 : decode cX1_ruled 23 = .ok (.i2l, 1) := dk_133 (dk_at dksX1_ruled_0 23 rfl rfl)
theorem dX1_ruled_24 : decode cX1_ruled 24 = .ok (.lastore, 1) := dk_80 (dk_at dksX1_ruled_1 0 rfl rfl)
theorem dX1_ruled_25 : decode cX1_ruled 25 = .ok (.aload_n 0, 1) := dk_42 (dk_at dksX1_ruled_1 1 rfl rfl)
theorem dX1_ruled_26 : decode cX1_ruled 26 = .ok (.getfield 43, 3) := dk_180 0 43 (dk_at dksX1_ruled_1 2 rfl rfl)
theorem dX1_ruled_29 : decode cX1_ruled 29 = .ok (.iconst 1, 1) := dk_4 (dk_at dksX1_ruled_1 5 rfl rfl)
theorem dX1_ruled_30 : decode cX1_ruled 30 = .ok (.aload_n 0, 1) := dk_42 (dk_at dksX1_ruled_1 6 rfl rfl)
theorem dX1_ruled_31 : decode cX1_ruled 31 = .ok (.getfield 39, 3) := dk_180 0 39 (dk_at dksX1_ruled_1 7 rfl rfl)
theorem dX1_ruled_34 : decode cX1_ruled 34 = .ok (.lload_n 2, 1) := dk_32 (dk_at dksX1_ruled_1 10 rfl rfl)
theorem dX1_ruled_35 : decode cX1_ruled 35 = .ok (.invokevirtual 230, 3) := dk_182 0 230 (dk_at dksX1_ruled_1 11 rfl rfl)
theorem dX1_ruled_38 : decode cX1_ruled 38 = .ok (.i2l, 1) := dk_133 (dk_at dksX1_ruled_1 14 rfl rfl)
theorem dX1_ruled_39 : decode cX1_ruled 39 = .ok (.lastore, 1) := dk_80 (dk_at dksX1_ruled_1 15 rfl rfl)
theorem dX1_ruled_40 : decode cX1_ruled 40 = .ok (.aload_n 0, 1) := dk_42 (dk_at dksX1_ruled_1 16 rfl rfl)
theorem dX1_ruled_41 : decode cX1_ruled 41 = .ok (.getfield 43, 3) := dk_180 0 43 (dk_at dksX1_ruled_1 17 rfl rfl)
theorem dX1_ruled_44 : decode cX1_ruled 44 = .ok (.iconst 4, 1) := dk_7 (dk_at dksX1_ruled_1 20 rfl rfl)
theorem dX1_ruled_45 : decode cX1_ruled 45 = .ok (.aload_n 0, 1) := dk_42 (dk_at dksX1_ruled_1 21 rfl rfl)
theorem dX1_ruled_46 : decode cX1_ruled 46 = .ok (.getfield 39, 3) := dk_180 0 39 (dk_at dksX1_ruled_2 0 rfl rfl)
theorem dX1_ruled_49 : decode cX1_ruled 49 = .ok (.lload_n 2, 1) := dk_32 (dk_at dksX1_ruled_2 3 rfl rfl)
theorem dX1_ruled_50 : decode cX1_ruled 50 = .ok (.invokevirtual 233, 3) := dk_182 0 233 (dk_at dksX1_ruled_2 4 rfl rfl)
theorem dX1_ruled_53 : decode cX1_ruled 53 = .ok (.i2l, 1) := dk_133 (dk_at dksX1_ruled_2 7 rfl rfl)
theorem dX1_ruled_54 : decode cX1_ruled 54 = .ok (.lastore, 1) := dk_80 (dk_at dksX1_ruled_2 8 rfl rfl)
theorem dX1_ruled_55 : decode cX1_ruled 55 = .ok (.aload_n 0, 1) := dk_42 (dk_at dksX1_ruled_2 9 rfl rfl)
theorem dX1_ruled_56 : decode cX1_ruled 56 = .ok (.getfield 43, 3) := dk_180 0 43 (dk_at dksX1_ruled_2 10 rfl rfl)
theorem dX1_ruled_59 : decode cX1_ruled 59 = .ok (.iconst 3, 1) := dk_6 (dk_at dksX1_ruled_2 13 rfl rfl)
theorem dX1_ruled_60 : decode cX1_ruled 60 = .ok (.lload 4, 2) := dk_22 4 (dk_at dksX1_ruled_2 14 rfl rfl)
theorem dX1_ruled_62 : decode cX1_ruled 62 = .ok (.ldc2_w 207, 3) := dk_20 0 207 (dk_at dksX1_ruled_2 16 rfl rfl)
theorem dX1_ruled_65 : decode cX1_ruled 65 = .ok (.lcmp, 1) := dk_148 (dk_at dksX1_ruled_2 19 rfl rfl)
theorem dX1_ruled_66 : decode cX1_ruled 66 = .ok (.ifCond .ne 7, 3) := dk_154 0 7 (dk_at dksX1_ruled_2 20 rfl rfl)
theorem dX1_ruled_69 : decode cX1_ruled 69 = .ok (.lconst 0, 1) := dk_9 (dk_at dksX1_ruled_2 23 rfl rfl)
theorem dX1_ruled_70 : decode cX1_ruled 70 = .ok (.goto 5, 3) := dk_167 0 5 (dk_at dksX1_ruled_3 0 rfl rfl)
theorem dX1_ruled_73 : decode cX1_ruled 73 = .ok (.lload 4, 2) := dk_22 4 (dk_at dksX1_ruled_3 3 rfl rfl)
theorem dX1_ruled_75 : decode cX1_ruled 75 = .ok (.lastore, 1) := dk_80 (dk_at dksX1_ruled_3 5 rfl rfl)
theorem dX1_ruled_76 : decode cX1_ruled 76 = .ok (.aload_n 0, 1) := dk_42 (dk_at dksX1_ruled_3 6 rfl rfl)
theorem dX1_ruled_77 : decode cX1_ruled 77 = .ok (.getfield 43, 3) := dk_180 0 43 (dk_at dksX1_ruled_3 7 rfl rfl)
theorem dX1_ruled_80 : decode cX1_ruled 80 = .ok (.iconst 2, 1) := dk_5 (dk_at dksX1_ruled_3 10 rfl rfl)
theorem dX1_ruled_81 : decode cX1_ruled 81 = .ok (.lload 4, 2) := dk_22 4 (dk_at dksX1_ruled_3 11 rfl rfl)
theorem dX1_ruled_83 : decode cX1_ruled 83 = .ok (.ldc2_w 207, 3) := dk_20 0 207 (dk_at dksX1_ruled_3 13 rfl rfl)
theorem dX1_ruled_86 : decode cX1_ruled 86 = .ok (.lcmp, 1) := dk_148 (dk_at dksX1_ruled_3 16 rfl rfl)
theorem dX1_ruled_87 : decode cX1_ruled 87 = .ok (.ifCond .ne 7, 3) := dk_154 0 7 (dk_at dksX1_ruled_3 17 rfl rfl)
theorem dX1_ruled_90 : decode cX1_ruled 90 = .ok (.lconst 0, 1) := dk_9 (dk_at dksX1_ruled_3 20 rfl rfl)
theorem dX1_ruled_91 : decode cX1_ruled 91 = .ok (.goto 17, 3) := dk_167 0 17 (dk_at dksX1_ruled_3 21 rfl rfl)
theorem dX1_ruled_94 : decode cX1_ruled 94 = .ok (.lload_n 2, 1) := dk_32 (dk_at dksX1_ruled_4 0 rfl rfl)
theorem dX1_ruled_95 : decode cX1_ruled 95 = .ok (.aload_n 0, 1) := dk_42 (dk_at dksX1_ruled_4 1 rfl rfl)
theorem dX1_ruled_96 : decode cX1_ruled 96 = .ok (.iconst 0, 1) := dk_3 (dk_at dksX1_ruled_4 2 rfl rfl)
theorem dX1_ruled_97 : decode cX1_ruled 97 = .ok (.invokevirtual 177, 3) := dk_182 0 177 (dk_at dksX1_ruled_4 3 rfl rfl)
theorem dX1_ruled_100 : decode cX1_ruled 100 = .ok (.lload 4, 2) := dk_22 4 (dk_at dksX1_ruled_4 6 rfl rfl)
theorem dX1_ruled_102 : decode cX1_ruled 102 = .ok (.invokevirtual 218, 3) := dk_182 0 218 (dk_at dksX1_ruled_4 8 rfl rfl)
theorem dX1_ruled_105 : decode cX1_ruled 105 = .ok (.lsub, 1) := dk_101 (dk_at dksX1_ruled_4 11 rfl rfl)
theorem dX1_ruled_106 : decode cX1_ruled 106 = .ok (.lconst 1, 1) := dk_10 (dk_at dksX1_ruled_4 12 rfl rfl)
theorem dX1_ruled_107 : decode cX1_ruled 107 = .ok (.ladd, 1) := dk_97 (dk_at dksX1_ruled_4 13 rfl rfl)
theorem dX1_ruled_108 : decode cX1_ruled 108 = .ok (.lastore, 1) := dk_80 (dk_at dksX1_ruled_4 14 rfl rfl)
theorem dX1_ruled_109 : decode cX1_ruled 109 = .ok (.aload_n 0, 1) := dk_42 (dk_at dksX1_ruled_4 15 rfl rfl)
theorem dX1_ruled_110 : decode cX1_ruled 110 = .ok (.getfield 43, 3) := dk_180 0 43 (dk_at dksX1_ruled_4 16 rfl rfl)
theorem dX1_ruled_113 : decode cX1_ruled 113 = .ok (.iconst 5, 1) := dk_8 (dk_at dksX1_ruled_4 19 rfl rfl)
theorem dX1_ruled_114 : decode cX1_ruled 114 = .ok (.lload 4, 2) := dk_22 4 (dk_at dksX1_ruled_4 20 rfl rfl)
theorem dX1_ruled_116 : decode cX1_ruled 116 = .ok (.ldc2_w 207, 3) := dk_20 0 207 (dk_at dksX1_ruled_5 0 rfl rfl)
theorem dX1_ruled_119 : decode cX1_ruled 119 = .ok (.lcmp, 1) := dk_148 (dk_at dksX1_ruled_5 3 rfl rfl)
theorem dX1_ruled_120 : decode cX1_ruled 120 = .ok (.ifCond .ne 7, 3) := dk_154 0 7 (dk_at dksX1_ruled_5 4 rfl rfl)
theorem dX1_ruled_123 : decode cX1_ruled 123 = .ok (.lconst 0, 1) := dk_9 (dk_at dksX1_ruled_5 7 rfl rfl)
theorem dX1_ruled_124 : decode cX1_ruled 124 = .ok (.goto 13, 3) := dk_167 0 13 (dk_at dksX1_ruled_5 8 rfl rfl)
theorem dX1_ruled_127 : decode cX1_ruled 127 = .ok (.aload_n 0, 1) := dk_42 (dk_at dksX1_ruled_5 11 rfl rfl)
theorem dX1_ruled_128 : decode cX1_ruled 128 = .ok (.iconst 0, 1) := dk_3 (dk_at dksX1_ruled_5 12 rfl rfl)
theorem dX1_ruled_129 : decode cX1_ruled 129 = .ok (.invokevirtual 177, 3) := dk_182 0 177 (dk_at dksX1_ruled_5 13 rfl rfl)
theorem dX1_ruled_132 : decode cX1_ruled 132 = .ok (.lload 4, 2) := dk_22 4 (dk_at dksX1_ruled_5 16 rfl rfl)
theorem dX1_ruled_134 : decode cX1_ruled 134 = .ok (.invokevirtual 204, 3) := dk_182 0 204 (dk_at dksX1_ruled_5 18 rfl rfl)
theorem dX1_ruled_137 : decode cX1_ruled 137 = .ok (.lastore, 1) := dk_80 (dk_at dksX1_ruled_5 21 rfl rfl)
theorem dX1_ruled_138 : decode cX1_ruled 138 = .ok (.aload_n 0, 1) := dk_42 (dk_at dksX1_ruled_5 22 rfl rfl)
theorem dX1_ruled_139 : decode cX1_ruled 139 = .ok (.getfield 39, 3) := dk_180 0 39 (dk_at dksX1_ruled_6 0 rfl rfl)
theorem dX1_ruled_142 : decode cX1_ruled 142 = .ok (.getfield 160, 3) := dk_180 0 160 (dk_at dksX1_ruled_6 3 rfl rfl)
theorem dX1_ruled_145 : decode cX1_ruled 145 = .ok (.iload_n 1, 1) := dk_27 (dk_at dksX1_ruled_6 6 rfl rfl)
theorem dX1_ruled_146 : decode cX1_ruled 146 = .ok (.invokevirtual 127, 3) := dk_182 0 127 (dk_at dksX1_ruled_6 7 rfl rfl)
theorem dX1_ruled_149 : decode cX1_ruled 149 = .ok (.checkcast 237, 3) := dk_192 0 237 (dk_at dksX1_ruled_6 10 rfl rfl)
theorem dX1_ruled_152 : decode cX1_ruled 152 = .ok (.getfield 239, 3) := dk_180 0 239 (dk_at dksX1_ruled_6 13 rfl rfl)
theorem dX1_ruled_155 : decode cX1_ruled 155 = .ok (.aload_n 0, 1) := dk_42 (dk_at dksX1_ruled_6 16 rfl rfl)
theorem dX1_ruled_156 : decode cX1_ruled 156 = .ok (.getfield 43, 3) := dk_180 0 43 (dk_at dksX1_ruled_6 17 rfl rfl)
theorem dX1_ruled_159 : decode cX1_ruled 159 = .ok (.invokevirtual 243, 3) := dk_182 0 243 (dk_at dksX1_ruled_6 20 rfl rfl)
theorem dX1_ruled_162 : decode cX1_ruled 162 = .ok (.lreturn, 1) := dk_173 (dk_at dksX1_ruled_6 23 rfl rfl)
theorem dX1_ruled_163 : decode cX1_ruled 163 = .ok (.astore 6, 2) := dk_58 6 (dk_at dksX1_ruled_7 0 rfl rfl)
theorem dX1_ruled_165 : decode cX1_ruled 165 = .ok (.ldc2_w 251, 3) := dk_20 0 251 (dk_at dksX1_ruled_7 2 rfl rfl)
theorem dX1_ruled_168 : decode cX1_ruled 168 = .ok (.lreturn, 1) := dk_173 (dk_at dksX1_ruled_7 5 rfl rfl)
abbrev cX1_sure : ByteArray := prog_1_method_2_code
def yX1_sure : MethodName := ⟨RX1, "sure", "(J)J"⟩
def dkwX1_sure_0 : List UInt8 := [30, 20, 0, 5, 148, 157, 0, 11, 30, 20, 0, 7, 148, 156, 0, 7, 178, 0, 9, 191, 30, 173]
abbrev dktX1_sure_0 : List UInt8 := dkwX1_sure_0 ++ []
theorem dksX1_sure_0 : cX1_sure.data.toList.drop 0 = dktX1_sure_0 := by decide +kernel
theorem dX1_sure_0 : decode cX1_sure 0 = .ok (.lload_n 0, 1) := dk_30 (dk_at dksX1_sure_0 0 rfl rfl)
theorem dX1_sure_1 : decode cX1_sure 1 = .ok (.ldc2_w 5, 3) := dk_20 0 5 (dk_at dksX1_sure_0 1 rfl rfl)
theorem dX1_sure_4 : decode cX1_sure 4 = .ok (.lcmp, 1) := dk_148 (dk_at dksX1_sure_0 4 rfl rfl)
theorem dX1_sure_5 : decode cX1_sure 5 = .ok (.ifCond .gt 11, 3) := dk_157 0 11 (dk_at dksX1_sure_0 5 rfl rfl)
theorem dX1_sure_8 : decode cX1_sure 8 = .ok (.lload_n 0, 1) := dk_30 (dk_at dksX1_sure_0 8 rfl rfl)
theorem dX1_sure_9 : decode cX1_sure 9 = .ok (.ldc2_w 7, 3) := dk_20 0 7 (dk_at dksX1_sure_0 9 rfl rfl)
theorem dX1_sure_12 : decode cX1_sure 12 = .ok (.lcmp, 1) := dk_148 (dk_at dksX1_sure_0 12 rfl rfl)
theorem dX1_sure_13 : decode cX1_sure 13 = .ok (.ifCond .ge 7, 3) := dk_156 0 7 (dk_at dksX1_sure_0 13 rfl rfl)
theorem dX1_sure_16 : decode cX1_sure 16 = .ok (.getstatic 9, 3) := dk_178 0 9 (dk_at dksX1_sure_0 16 rfl rfl)
theorem dX1_sure_19 : decode cX1_sure 19 = .ok (.athrow, 1) := dk_191 (dk_at dksX1_sure_0 19 rfl rfl)
theorem dX1_sure_20 : decode cX1_sure 20 = .ok (.lload_n 0, 1) := dk_30 (dk_at dksX1_sure_0 20 rfl rfl)
theorem dX1_sure_21 : decode cX1_sure 21 = .ok (.lreturn, 1) := dk_173 (dk_at dksX1_sure_0 21 rfl rfl)
abbrev cX1_festive : ByteArray := prog_1_method_24_code
def yX1_festive : MethodName := ⟨RX1, "festive", "(IJ)J"⟩
def dkwX1_festive_1 : List UInt8 := [20, 0, 207, 173]
abbrev dktX1_festive_1 : List UInt8 := dkwX1_festive_1 ++ []
def dkwX1_festive_0 : List UInt8 := [42, 27, 182, 1, 9, 153, 0, 19, 32, 184, 0, 209, 153, 0, 12, 42, 27, 32, 182, 1, 12, 167, 0, 6]
abbrev dktX1_festive_0 : List UInt8 := dkwX1_festive_0 ++ dktX1_festive_1
theorem dksX1_festive_0 : cX1_festive.data.toList.drop 0 = dktX1_festive_0 := by decide +kernel
theorem dksX1_festive_1 : cX1_festive.data.toList.drop 24 = dktX1_festive_1 := dk_seg dksX1_festive_0 24 rfl rfl
theorem dX1_festive_0 : decode cX1_festive 0 = .ok (.aload_n 0, 1) := dk_42 (dk_at dksX1_festive_0 0 rfl rfl)
theorem dX1_festive_1 : decode cX1_festive 1 = .ok (.iload_n 1, 1) := dk_27 (dk_at dksX1_festive_0 1 rfl rfl)
theorem dX1_festive_2 : decode cX1_festive 2 = .ok (.invokevirtual 265, 3) := dk_182 1 9 (dk_at dksX1_festive_0 2 rfl rfl)
theorem dX1_festive_5 : decode cX1_festive 5 = .ok (.ifCond .eq 19, 3) := dk_153 0 19 (dk_at dksX1_festive_0 5 rfl rfl)
theorem dX1_festive_8 : decode cX1_festive 8 = .ok (.lload_n 2, 1) := dk_32 (dk_at dksX1_festive_0 8 rfl rfl)
theorem dX1_festive_9 : decode cX1_festive 9 = .ok (.invokestatic 209, 3) := dk_184 0 209 (dk_at dksX1_festive_0 9 rfl rfl)
theorem dX1_festive_12 : decode cX1_festive 12 = .ok (.ifCond .eq 12, 3) := dk_153 0 12 (dk_at dksX1_festive_0 12 rfl rfl)
theorem dX1_festive_15 : decode cX1_festive 15 = .ok (.aload_n 0, 1) := dk_42 (dk_at dksX1_festive_0 15 rfl rfl)
theorem dX1_festive_16 : decode cX1_festive 16 = .ok (.iload_n 1, 1) := dk_27 (dk_at dksX1_festive_0 16 rfl rfl)
theorem dX1_festive_17 : decode cX1_festive 17 = .ok (.lload_n 2, 1) := dk_32 (dk_at dksX1_festive_0 17 rfl rfl)
theorem dX1_festive_18 : decode cX1_festive 18 = .ok (.invokevirtual 268, 3) := dk_182 1 12 (dk_at dksX1_festive_0 18 rfl rfl)
theorem dX1_festive_21 : decode cX1_festive 21 = .ok (.goto 6, 3) := dk_167 0 6 (dk_at dksX1_festive_0 21 rfl rfl)
theorem dX1_festive_24 : decode cX1_festive 24 = .ok (.ldc2_w 207, 3) := dk_20 0 207 (dk_at dksX1_festive_1 0 rfl rfl)
theorem dX1_festive_27 : decode cX1_festive 27 = .ok (.lreturn, 1) := dk_173 (dk_at dksX1_festive_1 3 rfl rfl)
abbrev cX1_firstFeast : ByteArray := prog_1_method_22_code
def yX1_firstFeast : MethodName := ⟨RX1, "firstFeast", "(IJ)J"⟩
def dkwX1_firstFeast_2 : List UInt8 := [173]
abbrev dktX1_firstFeast_2 : List UInt8 := dkwX1_firstFeast_2 ++ []
def dkwX1_firstFeast_1 : List UInt8 := [27, 22, 4, 182, 1, 3, 153, 0, 6, 22, 4, 173, 22, 4, 10, 97, 55, 4, 167, 255, 217, 20, 1, 7]
abbrev dktX1_firstFeast_1 : List UInt8 := dkwX1_firstFeast_1 ++ dktX1_firstFeast_2
def dkwX1_firstFeast_0 : List UInt8 := [32, 55, 4, 22, 4, 32, 20, 1, 1, 97, 148, 156, 0, 34, 22, 4, 20, 0, 5, 148, 157, 0, 25, 42]
abbrev dktX1_firstFeast_0 : List UInt8 := dkwX1_firstFeast_0 ++ dktX1_firstFeast_1
theorem dksX1_firstFeast_0 : cX1_firstFeast.data.toList.drop 0 = dktX1_firstFeast_0 := by decide +kernel
theorem dksX1_firstFeast_1 : cX1_firstFeast.data.toList.drop 24 = dktX1_firstFeast_1 := dk_seg dksX1_firstFeast_0 24 rfl rfl
theorem dksX1_firstFeast_2 : cX1_firstFeast.data.toList.drop 48 = dktX1_firstFeast_2 := dk_seg dksX1_firstFeast_1 24 rfl rfl
theorem dX1_firstFeast_0 : decode cX1_firstFeast 0 = .ok (.lload_n 2, 1) := dk_32 (dk_at dksX1_firstFeast_0 0 rfl rfl)
theorem dX1_firstFeast_1 : decode cX1_firstFeast 1 = .ok (.lstore 4, 2) := dk_55 4 (dk_at dksX1_firstFeast_0 1 rfl rfl)
theorem dX1_firstFeast_3 : decode cX1_firstFeast 3 = .ok (.lload 4, 2) := dk_22 4 (dk_at dksX1_firstFeast_0 3 rfl rfl)
theorem dX1_firstFeast_5 : decode cX1_firstFeast 5 = .ok (.lload_n 2, 1) := dk_32 (dk_at dksX1_firstFeast_0 5 rfl rfl)
theorem dX1_firstFeast_6 : decode cX1_firstFeast 6 = .ok (.ldc2_w 257, 3) := dk_20 1 1 (dk_at dksX1_firstFeast_0 6 rfl rfl)
theorem dX1_firstFeast_9 : decode cX1_firstFeast 9 = .ok (.ladd, 1) := dk_97 (dk_at dksX1_firstFeast_0 9 rfl rfl)
theorem dX1_firstFeast_10 : decode cX1_firstFeast 10 = .ok (.lcmp, 1) := dk_148 (dk_at dksX1_firstFeast_0 10 rfl rfl)
theorem dX1_firstFeast_11 : decode cX1_firstFeast 11 = .ok (.ifCond .ge 34, 3) := dk_156 0 34 (dk_at dksX1_firstFeast_0 11 rfl rfl)
theorem dX1_firstFeast_14 : decode cX1_firstFeast 14 = .ok (.lload 4, 2) := dk_22 4 (dk_at dksX1_firstFeast_0 14 rfl rfl)
theorem dX1_firstFeast_16 : decode cX1_firstFeast 16 = .ok (.ldc2_w 5, 3) := dk_20 0 5 (dk_at dksX1_firstFeast_0 16 rfl rfl)
theorem dX1_firstFeast_19 : decode cX1_firstFeast 19 = .ok (.lcmp, 1) := dk_148 (dk_at dksX1_firstFeast_0 19 rfl rfl)
theorem dX1_firstFeast_20 : decode cX1_firstFeast 20 = .ok (.ifCond .gt 25, 3) := dk_157 0 25 (dk_at dksX1_firstFeast_0 20 rfl rfl)
theorem dX1_firstFeast_23 : decode cX1_firstFeast 23 = .ok (.aload_n 0, 1) := dk_42 (dk_at dksX1_firstFeast_0 23 rfl rfl)
theorem dX1_firstFeast_24 : decode cX1_firstFeast 24 = .ok (.iload_n 1, 1) := dk_27 (dk_at dksX1_firstFeast_1 0 rfl rfl)
theorem dX1_firstFeast_25 : decode cX1_firstFeast 25 = .ok (.lload 4, 2) := dk_22 4 (dk_at dksX1_firstFeast_1 1 rfl rfl)
theorem dX1_firstFeast_27 : decode cX1_firstFeast 27 = .ok (.invokevirtual 259, 3) := dk_182 1 3 (dk_at dksX1_firstFeast_1 3 rfl rfl)
theorem dX1_firstFeast_30 : decode cX1_firstFeast 30 = .ok (.ifCond .eq 6, 3) := dk_153 0 6 (dk_at dksX1_firstFeast_1 6 rfl rfl)
theorem dX1_firstFeast_33 : decode cX1_firstFeast 33 = .ok (.lload 4, 2) := dk_22 4 (dk_at dksX1_firstFeast_1 9 rfl rfl)
theorem dX1_firstFeast_35 : decode cX1_firstFeast 35 = .ok (.lreturn, 1) := dk_173 (dk_at dksX1_firstFeast_1 11 rfl rfl)
theorem dX1_firstFeast_36 : decode cX1_firstFeast 36 = .ok (.lload 4, 2) := dk_22 4 (dk_at dksX1_firstFeast_1 12 rfl rfl)
theorem dX1_firstFeast_38 : decode cX1_firstFeast 38 = .ok (.lconst 1, 1) := dk_10 (dk_at dksX1_firstFeast_1 14 rfl rfl)
theorem dX1_firstFeast_39 : decode cX1_firstFeast 39 = .ok (.ladd, 1) := dk_97 (dk_at dksX1_firstFeast_1 15 rfl rfl)
theorem dX1_firstFeast_40 : decode cX1_firstFeast 40 = .ok (.lstore 4, 2) := dk_55 4 (dk_at dksX1_firstFeast_1 16 rfl rfl)
theorem dX1_firstFeast_42 : decode cX1_firstFeast 42 = .ok (.goto (-39), 3) := dk_167 255 217 (dk_at dksX1_firstFeast_1 18 rfl rfl)
theorem dX1_firstFeast_45 : decode cX1_firstFeast 45 = .ok (.ldc2_w 263, 3) := dk_20 1 7 (dk_at dksX1_firstFeast_1 21 rfl rfl)
theorem dX1_firstFeast_48 : decode cX1_firstFeast 48 = .ok (.lreturn, 1) := dk_173 (dk_at dksX1_firstFeast_2 0 rfl rfl)
abbrev cX1_rule : ByteArray := prog_1_method_25_code
def yX1_rule : MethodName := ⟨RX1, "rule", "(IJ)J"⟩
def dkwX1_rule_1 : List UInt8 := [20, 0, 251, 173]
abbrev dktX1_rule_1 : List UInt8 := dkwX1_rule_1 ++ []
def dkwX1_rule_0 : List UInt8 := [42, 27, 182, 1, 9, 153, 0, 19, 32, 184, 0, 209, 153, 0, 12, 42, 27, 32, 182, 0, 253, 167, 0, 6]
abbrev dktX1_rule_0 : List UInt8 := dkwX1_rule_0 ++ dktX1_rule_1
theorem dksX1_rule_0 : cX1_rule.data.toList.drop 0 = dktX1_rule_0 := by decide +kernel
theorem dksX1_rule_1 : cX1_rule.data.toList.drop 24 = dktX1_rule_1 := dk_seg dksX1_rule_0 24 rfl rfl
theorem dX1_rule_0 : decode cX1_rule 0 = .ok (.aload_n 0, 1) := dk_42 (dk_at dksX1_rule_0 0 rfl rfl)
theorem dX1_rule_1 : decode cX1_rule 1 = .ok (.iload_n 1, 1) := dk_27 (dk_at dksX1_rule_0 1 rfl rfl)
theorem dX1_rule_2 : decode cX1_rule 2 = .ok (.invokevirtual 265, 3) := dk_182 1 9 (dk_at dksX1_rule_0 2 rfl rfl)
theorem dX1_rule_5 : decode cX1_rule 5 = .ok (.ifCond .eq 19, 3) := dk_153 0 19 (dk_at dksX1_rule_0 5 rfl rfl)
theorem dX1_rule_8 : decode cX1_rule 8 = .ok (.lload_n 2, 1) := dk_32 (dk_at dksX1_rule_0 8 rfl rfl)
theorem dX1_rule_9 : decode cX1_rule 9 = .ok (.invokestatic 209, 3) := dk_184 0 209 (dk_at dksX1_rule_0 9 rfl rfl)
theorem dX1_rule_12 : decode cX1_rule 12 = .ok (.ifCond .eq 12, 3) := dk_153 0 12 (dk_at dksX1_rule_0 12 rfl rfl)
theorem dX1_rule_15 : decode cX1_rule 15 = .ok (.aload_n 0, 1) := dk_42 (dk_at dksX1_rule_0 15 rfl rfl)
theorem dX1_rule_16 : decode cX1_rule 16 = .ok (.iload_n 1, 1) := dk_27 (dk_at dksX1_rule_0 16 rfl rfl)
theorem dX1_rule_17 : decode cX1_rule 17 = .ok (.lload_n 2, 1) := dk_32 (dk_at dksX1_rule_0 17 rfl rfl)
theorem dX1_rule_18 : decode cX1_rule 18 = .ok (.invokevirtual 253, 3) := dk_182 0 253 (dk_at dksX1_rule_0 18 rfl rfl)
theorem dX1_rule_21 : decode cX1_rule 21 = .ok (.goto 6, 3) := dk_167 0 6 (dk_at dksX1_rule_0 21 rfl rfl)
theorem dX1_rule_24 : decode cX1_rule 24 = .ok (.ldc2_w 251, 3) := dk_20 0 251 (dk_at dksX1_rule_1 0 rfl rfl)
theorem dX1_rule_27 : decode cX1_rule 27 = .ok (.lreturn, 1) := dk_173 (dk_at dksX1_rule_1 3 rfl rfl)
abbrev cX1_life : ByteArray := prog_1_method_26_code
def yX1_life : MethodName := ⟨RX1, "life", "(II)J"⟩
def dkwX1_life_2 : List UInt8 := [180, 0, 39, 180, 0, 163, 27, 182, 0, 127, 192, 1, 18, 180, 1, 24, 167, 0, 6, 20, 0, 207, 173]
abbrev dktX1_life_2 : List UInt8 := dkwX1_life_2 ++ []
def dkwX1_life_1 : List UInt8 := [180, 0, 163, 27, 182, 0, 127, 192, 1, 18, 180, 1, 20, 167, 0, 31, 28, 4, 160, 0, 23, 42]
abbrev dktX1_life_1 : List UInt8 := dkwX1_life_1 ++ dktX1_life_2
def dkwX1_life_0 : List UInt8 := [42, 27, 182, 1, 15, 154, 0, 9, 20, 0, 207, 167, 0, 55, 28, 154, 0, 23, 42, 180, 0, 39]
abbrev dktX1_life_0 : List UInt8 := dkwX1_life_0 ++ dktX1_life_1
theorem dksX1_life_0 : cX1_life.data.toList.drop 0 = dktX1_life_0 := by decide +kernel
theorem dksX1_life_1 : cX1_life.data.toList.drop 22 = dktX1_life_1 := dk_seg dksX1_life_0 22 rfl rfl
theorem dksX1_life_2 : cX1_life.data.toList.drop 44 = dktX1_life_2 := dk_seg dksX1_life_1 22 rfl rfl
theorem dX1_life_0 : decode cX1_life 0 = .ok (.aload_n 0, 1) := dk_42 (dk_at dksX1_life_0 0 rfl rfl)
theorem dX1_life_1 : decode cX1_life 1 = .ok (.iload_n 1, 1) := dk_27 (dk_at dksX1_life_0 1 rfl rfl)
theorem dX1_life_2 : decode cX1_life 2 = .ok (.invokevirtual 271, 3) := dk_182 1 15 (dk_at dksX1_life_0 2 rfl rfl)
theorem dX1_life_5 : decode cX1_life 5 = .ok (.ifCond .ne 9, 3) := dk_154 0 9 (dk_at dksX1_life_0 5 rfl rfl)
theorem dX1_life_8 : decode cX1_life 8 = .ok (.ldc2_w 207, 3) := dk_20 0 207 (dk_at dksX1_life_0 8 rfl rfl)
theorem dX1_life_11 : decode cX1_life 11 = .ok (.goto 55, 3) := dk_167 0 55 (dk_at dksX1_life_0 11 rfl rfl)
theorem dX1_life_14 : decode cX1_life 14 = .ok (.iload_n 2, 1) := dk_28 (dk_at dksX1_life_0 14 rfl rfl)
theorem dX1_life_15 : decode cX1_life 15 = .ok (.ifCond .ne 23, 3) := dk_154 0 23 (dk_at dksX1_life_0 15 rfl rfl)
theorem dX1_life_18 : decode cX1_life 18 = .ok (.aload_n 0, 1) := dk_42 (dk_at dksX1_life_0 18 rfl rfl)
theorem dX1_life_19 : decode cX1_life 19 = .ok (.getfield 39, 3) := dk_180 0 39 (dk_at dksX1_life_0 19 rfl rfl)
theorem dX1_life_22 : decode cX1_life 22 = .ok (.getfield 163, 3) := dk_180 0 163 (dk_at dksX1_life_1 0 rfl rfl)
theorem dX1_life_25 : decode cX1_life 25 = .ok (.iload_n 1, 1) := dk_27 (dk_at dksX1_life_1 3 rfl rfl)
theorem dX1_life_26 : decode cX1_life 26 = .ok (.invokevirtual 127, 3) := dk_182 0 127 (dk_at dksX1_life_1 4 rfl rfl)
theorem dX1_life_29 : decode cX1_life 29 = .ok (.checkcast 274, 3) := dk_192 1 18 (dk_at dksX1_life_1 7 rfl rfl)
theorem dX1_life_32 : decode cX1_life 32 = .ok (.getfield 276, 3) := dk_180 1 20 (dk_at dksX1_life_1 10 rfl rfl)
theorem dX1_life_35 : decode cX1_life 35 = .ok (.goto 31, 3) := dk_167 0 31 (dk_at dksX1_life_1 13 rfl rfl)
theorem dX1_life_38 : decode cX1_life 38 = .ok (.iload_n 2, 1) := dk_28 (dk_at dksX1_life_1 16 rfl rfl)
theorem dX1_life_39 : decode cX1_life 39 = .ok (.iconst 1, 1) := dk_4 (dk_at dksX1_life_1 17 rfl rfl)
theorem dX1_life_40 : decode cX1_life 40 = .ok (.if_icmp .ne 23, 3) := dk_160 0 23 (dk_at dksX1_life_1 18 rfl rfl)
theorem dX1_life_43 : decode cX1_life 43 = .ok (.aload_n 0, 1) := dk_42 (dk_at dksX1_life_1 21 rfl rfl)
theorem dX1_life_44 : decode cX1_life 44 = .ok (.getfield 39, 3) := dk_180 0 39 (dk_at dksX1_life_2 0 rfl rfl)
theorem dX1_life_47 : decode cX1_life 47 = .ok (.getfield 163, 3) := dk_180 0 163 (dk_at dksX1_life_2 3 rfl rfl)
theorem dX1_life_50 : decode cX1_life 50 = .ok (.iload_n 1, 1) := dk_27 (dk_at dksX1_life_2 6 rfl rfl)
theorem dX1_life_51 : decode cX1_life 51 = .ok (.invokevirtual 127, 3) := dk_182 0 127 (dk_at dksX1_life_2 7 rfl rfl)
theorem dX1_life_54 : decode cX1_life 54 = .ok (.checkcast 274, 3) := dk_192 1 18 (dk_at dksX1_life_2 10 rfl rfl)
theorem dX1_life_57 : decode cX1_life 57 = .ok (.getfield 280, 3) := dk_180 1 24 (dk_at dksX1_life_2 13 rfl rfl)
theorem dX1_life_60 : decode cX1_life 60 = .ok (.goto 6, 3) := dk_167 0 6 (dk_at dksX1_life_2 16 rfl rfl)
theorem dX1_life_63 : decode cX1_life 63 = .ok (.ldc2_w 207, 3) := dk_20 0 207 (dk_at dksX1_life_2 19 rfl rfl)
theorem dX1_life_66 : decode cX1_life 66 = .ok (.lreturn, 1) := dk_173 (dk_at dksX1_life_2 22 rfl rfl)
abbrev cX1_isPerson : ByteArray := prog_1_method_12_code
def yX1_isPerson : MethodName := ⟨RX1, "isPerson", "(I)Z"⟩
def dkwX1_isPerson_0 : List UInt8 := [27, 133, 9, 42, 180, 0, 39, 180, 0, 163, 182, 0, 118, 4, 100, 133, 184, 0, 96, 172]
abbrev dktX1_isPerson_0 : List UInt8 := dkwX1_isPerson_0 ++ []
theorem dksX1_isPerson_0 : cX1_isPerson.data.toList.drop 0 = dktX1_isPerson_0 := by decide +kernel
theorem dX1_isPerson_0 : decode cX1_isPerson 0 = .ok (.iload_n 1, 1) := dk_27 (dk_at dksX1_isPerson_0 0 rfl rfl)
theorem dX1_isPerson_1 : decode cX1_isPerson 1 = .ok (.i2l, 1) := dk_133 (dk_at dksX1_isPerson_0 1 rfl rfl)
theorem dX1_isPerson_2 : decode cX1_isPerson 2 = .ok (.lconst 0, 1) := dk_9 (dk_at dksX1_isPerson_0 2 rfl rfl)
theorem dX1_isPerson_3 : decode cX1_isPerson 3 = .ok (.aload_n 0, 1) := dk_42 (dk_at dksX1_isPerson_0 3 rfl rfl)
theorem dX1_isPerson_4 : decode cX1_isPerson 4 = .ok (.getfield 39, 3) := dk_180 0 39 (dk_at dksX1_isPerson_0 4 rfl rfl)
theorem dX1_isPerson_7 : decode cX1_isPerson 7 = .ok (.getfield 163, 3) := dk_180 0 163 (dk_at dksX1_isPerson_0 7 rfl rfl)
theorem dX1_isPerson_10 : decode cX1_isPerson 10 = .ok (.invokevirtual 118, 3) := dk_182 0 118 (dk_at dksX1_isPerson_0 10 rfl rfl)
theorem dX1_isPerson_13 : decode cX1_isPerson 13 = .ok (.iconst 1, 1) := dk_4 (dk_at dksX1_isPerson_0 13 rfl rfl)
theorem dX1_isPerson_14 : decode cX1_isPerson 14 = .ok (.isub, 1) := dk_100 (dk_at dksX1_isPerson_0 14 rfl rfl)
theorem dX1_isPerson_15 : decode cX1_isPerson 15 = .ok (.i2l, 1) := dk_133 (dk_at dksX1_isPerson_0 15 rfl rfl)
theorem dX1_isPerson_16 : decode cX1_isPerson 16 = .ok (.invokestatic 96, 3) := dk_184 0 96 (dk_at dksX1_isPerson_0 16 rfl rfl)
theorem dX1_isPerson_19 : decode cX1_isPerson 19 = .ok (.ireturn, 1) := dk_172 (dk_at dksX1_isPerson_0 19 rfl rfl)
abbrev cX1_age : ByteArray := prog_1_method_27_code
def yX1_age : MethodName := ⟨RX1, "age", "(IJI)J"⟩
def dkwX1_age_7 : List UInt8 := [22, 8, 101, 184, 1, 40, 173]
abbrev dktX1_age_7 : List UInt8 := dkwX1_age_7 ++ []
def dkwX1_age_6 : List UInt8 := [22, 14, 182, 0, 218, 22, 12, 97, 10, 101, 32, 148, 158, 0, 9, 22, 14, 10, 101, 55, 14, 9, 22, 14]
abbrev dktX1_age_6 : List UInt8 := dkwX1_age_6 ++ dktX1_age_7
def dkwX1_age_5 : List UInt8 := [182, 1, 30, 167, 0, 5, 22, 10, 184, 1, 34, 55, 14, 22, 14, 22, 10, 148, 154, 0, 26, 25, 7]
abbrev dktX1_age_5 : List UInt8 := dkwX1_age_5 ++ dktX1_age_6
def dkwX1_age_4 : List UInt8 := [182, 0, 215, 55, 12, 25, 7, 22, 12, 182, 1, 27, 22, 10, 20, 0, 207, 148, 154, 0, 11, 25, 7]
abbrev dktX1_age_4 : List UInt8 := dkwX1_age_4 ++ dktX1_age_5
def dkwX1_age_3 : List UInt8 := [32, 22, 5, 148, 155, 0, 12, 22, 8, 20, 0, 207, 148, 154, 0, 7, 20, 0, 207, 173, 25, 7, 22, 5]
abbrev dktX1_age_3 : List UInt8 := dkwX1_age_3 ++ dktX1_age_4
def dkwX1_age_2 : List UInt8 := [21, 4, 182, 0, 177, 58, 7, 25, 7, 22, 5, 182, 0, 212, 55, 8, 25, 7, 32, 182, 0, 212, 55, 10]
abbrev dktX1_age_2 : List UInt8 := dkwX1_age_2 ++ dktX1_age_3
def dkwX1_age_1 : List UInt8 := [20, 0, 207, 173, 42, 180, 0, 39, 180, 0, 163, 27, 182, 0, 127, 192, 1, 18, 180, 1, 20, 55, 5, 42]
abbrev dktX1_age_1 : List UInt8 := dkwX1_age_1 ++ dktX1_age_2
def dkwX1_age_0 : List UInt8 := [42, 27, 182, 1, 15, 153, 0, 19, 32, 184, 0, 209, 153, 0, 12, 42, 21, 4, 182, 0, 171, 154, 0, 7]
abbrev dktX1_age_0 : List UInt8 := dkwX1_age_0 ++ dktX1_age_1
theorem dksX1_age_0 : cX1_age.data.toList.drop 0 = dktX1_age_0 := by decide +kernel
theorem dksX1_age_1 : cX1_age.data.toList.drop 24 = dktX1_age_1 := dk_seg dksX1_age_0 24 rfl rfl
theorem dksX1_age_2 : cX1_age.data.toList.drop 48 = dktX1_age_2 := dk_seg dksX1_age_1 24 rfl rfl
theorem dksX1_age_3 : cX1_age.data.toList.drop 72 = dktX1_age_3 := dk_seg dksX1_age_2 24 rfl rfl
theorem dksX1_age_4 : cX1_age.data.toList.drop 96 = dktX1_age_4 := dk_seg dksX1_age_3 24 rfl rfl
theorem dksX1_age_5 : cX1_age.data.toList.drop 119 = dktX1_age_5 := dk_seg dksX1_age_4 23 rfl rfl
theorem dksX1_age_6 : cX1_age.data.toList.drop 142 = dktX1_age_6 := dk_seg dksX1_age_5 23 rfl rfl
theorem dksX1_age_7 : cX1_age.data.toList.drop 166 = dktX1_age_7 := dk_seg dksX1_age_6 24 rfl rfl
theorem dX1_age_0 : decode cX1_age 0 = .ok (.aload_n 0, 1) := dk_42 (dk_at dksX1_age_0 0 rfl rfl)
theorem dX1_age_1 : decode cX1_age 1 = .ok (.iload_n 1, 1) := dk_27 (dk_at dksX1_age_0 1 rfl rfl)
theorem dX1_age_2 : decode cX1_age 2 = .ok (.invokevirtual 271, 3) := dk_182 1 15 (dk_at dksX1_age_0 2 rfl rfl)
theorem dX1_age_5 : decode cX1_age 5 = .ok (.ifCond .eq 19, 3) := dk_153 0 19 (dk_at dksX1_age_0 5 rfl rfl)
theorem dX1_age_8 : decode cX1_age 8 = .ok (.lload_n 2, 1) := dk_32 (dk_at dksX1_age_0 8 rfl rfl)
theorem dX1_age_9 : decode cX1_age 9 = .ok (.invokestatic 209, 3) := dk_184 0 209 (dk_at dksX1_age_0 9 rfl rfl)
theorem dX1_age_12 : decode cX1_age 12 = .ok (.ifCond .eq 12, 3) := dk_153 0 12 (dk_at dksX1_age_0 12 rfl rfl)
theorem dX1_age_15 : decode cX1_age 15 = .ok (.aload_n 0, 1) := dk_42 (dk_at dksX1_age_0 15 rfl rfl)
theorem dX1_age_16 : decode cX1_age 16 = .ok (.iload 4, 2) := dk_21 4 (dk_at dksX1_age_0 16 rfl rfl)
theorem dX1_age_18 : decode cX1_age 18 = .ok (.invokevirtual 171, 3) := dk_182 0 171 (dk_at dksX1_age_0 18 rfl rfl)
theorem dX1_age_21 : decode cX1_age 21 = .ok (.ifCond .ne 7, 3) := dk_154 0 7 (dk_at dksX1_age_0 21 rfl rfl)
theorem dX1_age_24 : decode cX1_age 24 = .ok (.ldc2_w 207, 3) := dk_20 0 207 (dk_at dksX1_age_1 0 rfl rfl)
theorem dX1_age_27 : decode cX1_age 27 = .ok (.lreturn, 1) := dk_173 (dk_at dksX1_age_1 3 rfl rfl)
theorem dX1_age_28 : decode cX1_age 28 = .ok (.aload_n 0, 1) := dk_42 (dk_at dksX1_age_1 4 rfl rfl)
theorem dX1_age_29 : decode cX1_age 29 = .ok (.getfield 39, 3) := dk_180 0 39 (dk_at dksX1_age_1 5 rfl rfl)
theorem dX1_age_32 : decode cX1_age 32 = .ok (.getfield 163, 3) := dk_180 0 163 (dk_at dksX1_age_1 8 rfl rfl)
theorem dX1_age_35 : decode cX1_age 35 = .ok (.iload_n 1, 1) := dk_27 (dk_at dksX1_age_1 11 rfl rfl)
theorem dX1_age_36 : decode cX1_age 36 = .ok (.invokevirtual 127, 3) := dk_182 0 127 (dk_at dksX1_age_1 12 rfl rfl)
theorem dX1_age_39 : decode cX1_age 39 = .ok (.checkcast 274, 3) := dk_192 1 18 (dk_at dksX1_age_1 15 rfl rfl)
theorem dX1_age_42 : decode cX1_age 42 = .ok (.getfield 276, 3) := dk_180 1 20 (dk_at dksX1_age_1 18 rfl rfl)
theorem dX1_age_45 : decode cX1_age 45 = .ok (.lstore 5, 2) := dk_55 5 (dk_at dksX1_age_1 21 rfl rfl)
theorem dX1_age_47 : decode cX1_age 47 = .ok (.aload_n 0, 1) := dk_42 (dk_at dksX1_age_1 23 rfl rfl)
theorem dX1_age_48 : decode cX1_age 48 = .ok (.iload 4, 2) := dk_21 4 (dk_at dksX1_age_2 0 rfl rfl)
theorem dX1_age_50 : decode cX1_age 50 = .ok (.invokevirtual 177, 3) := dk_182 0 177 (dk_at dksX1_age_2 2 rfl rfl)
theorem dX1_age_53 : decode cX1_age 53 = .ok (.astore 7, 2) := dk_58 7 (dk_at dksX1_age_2 5 rfl rfl)
theorem dX1_age_55 : decode cX1_age 55 = .ok (.aload 7, 2) := dk_25 7 (dk_at dksX1_age_2 7 rfl rfl)
theorem dX1_age_57 : decode cX1_age 57 = .ok (.lload 5, 2) := dk_22 5 (dk_at dksX1_age_2 9 rfl rfl)
theorem dX1_age_59 : decode cX1_age 59 = .ok (.invokevirtual 212, 3) := dk_182 0 212 (dk_at dksX1_age_2 11 rfl rfl)
theorem dX1_age_62 : decode cX1_age 62 = .ok (.lstore 8, 2) := dk_55 8 (dk_at dksX1_age_2 14 rfl rfl)
theorem dX1_age_64 : decode cX1_age 64 = .ok (.aload 7, 2) := dk_25 7 (dk_at dksX1_age_2 16 rfl rfl)
theorem dX1_age_66 : decode cX1_age 66 = .ok (.lload_n 2, 1) := dk_32 (dk_at dksX1_age_2 18 rfl rfl)
theorem dX1_age_67 : decode cX1_age 67 = .ok (.invokevirtual 212, 3) := dk_182 0 212 (dk_at dksX1_age_2 19 rfl rfl)
theorem dX1_age_70 : decode cX1_age 70 = .ok (.lstore 10, 2) := dk_55 10 (dk_at dksX1_age_2 22 rfl rfl)
theorem dX1_age_72 : decode cX1_age 72 = .ok (.lload_n 2, 1) := dk_32 (dk_at dksX1_age_3 0 rfl rfl)
theorem dX1_age_73 : decode cX1_age 73 = .ok (.lload 5, 2) := dk_22 5 (dk_at dksX1_age_3 1 rfl rfl)
theorem dX1_age_75 : decode cX1_age 75 = .ok (.lcmp, 1) := dk_148 (dk_at dksX1_age_3 3 rfl rfl)
theorem dX1_age_76 : decode cX1_age 76 = .ok (.ifCond .lt 12, 3) := dk_155 0 12 (dk_at dksX1_age_3 4 rfl rfl)
theorem dX1_age_79 : decode cX1_age 79 = .ok (.lload 8, 2) := dk_22 8 (dk_at dksX1_age_3 7 rfl rfl)
theorem dX1_age_81 : decode cX1_age 81 = .ok (.ldc2_w 207, 3) := dk_20 0 207 (dk_at dksX1_age_3 9 rfl rfl)
theorem dX1_age_84 : decode cX1_age 84 = .ok (.lcmp, 1) := dk_148 (dk_at dksX1_age_3 12 rfl rfl)
theorem dX1_age_85 : decode cX1_age 85 = .ok (.ifCond .ne 7, 3) := dk_154 0 7 (dk_at dksX1_age_3 13 rfl rfl)
theorem dX1_age_88 : decode cX1_age 88 = .ok (.ldc2_w 207, 3) := dk_20 0 207 (dk_at dksX1_age_3 16 rfl rfl)
theorem dX1_age_91 : decode cX1_age 91 = .ok (.lreturn, 1) := dk_173 (dk_at dksX1_age_3 19 rfl rfl)
theorem dX1_age_92 : decode cX1_age 92 = .ok (.aload 7, 2) := dk_25 7 (dk_at dksX1_age_3 20 rfl rfl)
theorem dX1_age_94 : decode cX1_age 94 = .ok (.lload 5, 2) := dk_22 5 (dk_at dksX1_age_3 22 rfl rfl)
theorem dX1_age_96 : decode cX1_age 96 = .ok (.invokevirtual 215, 3) := dk_182 0 215 (dk_at dksX1_age_4 0 rfl rfl)
theorem dX1_age_99 : decode cX1_age 99 = .ok (.lstore 12, 2) := dk_55 12 (dk_at dksX1_age_4 3 rfl rfl)
theorem dX1_age_101 : decode cX1_age 101 = .ok (.aload 7, 2) := dk_25 7 (dk_at dksX1_age_4 5 rfl rfl)
theorem dX1_age_103 : decode cX1_age 103 = .ok (.lload 12, 2) := dk_22 12 (dk_at dksX1_age_4 7 rfl rfl)
theorem dX1_age_105 : decode cX1_age 105 = .ok (.invokevirtual 283, 3) := dk_182 1 27 (dk_at dksX1_age_4 9 rfl rfl)
theorem dX1_age_108 : decode cX1_age 108 = .ok (.lload 10, 2) := dk_22 10 (dk_at dksX1_age_4 12 rfl rfl)
theorem dX1_age_110 : decode cX1_age 110 = .ok (.ldc2_w 207, 3) := dk_20 0 207 (dk_at dksX1_age_4 14 rfl rfl)
theorem dX1_age_113 : decode cX1_age 113 = .ok (.lcmp, 1) := dk_148 (dk_at dksX1_age_4 17 rfl rfl)
theorem dX1_age_114 : decode cX1_age 114 = .ok (.ifCond .ne 11, 3) := dk_154 0 11 (dk_at dksX1_age_4 18 rfl rfl)
theorem dX1_age_117 : decode cX1_age 117 = .ok (.aload 7, 2) := dk_25 7 (dk_at dksX1_age_4 21 rfl rfl)
theorem dX1_age_119 : decode cX1_age 119 = .ok (.invokevirtual 286, 3) := dk_182 1 30 (dk_at dksX1_age_5 0 rfl rfl)
theorem dX1_age_122 : decode cX1_age 122 = .ok (.goto 5, 3) := dk_167 0 5 (dk_at dksX1_age_5 3 rfl rfl)
theorem dX1_age_125 : decode cX1_age 125 = .ok (.lload 10, 2) := dk_22 10 (dk_at dksX1_age_5 6 rfl rfl)
theorem dX1_age_127 : decode cX1_age 127 = .ok (.invokestatic 290, 3) := dk_184 1 34 (dk_at dksX1_age_5 8 rfl rfl)
theorem dX1_age_130 : decode cX1_age 130 = .ok (.lstore 14, 2) := dk_55 14 (dk_at dksX1_age_5 11 rfl rfl)
theorem dX1_age_132 : decode cX1_age 132 = .ok (.lload 14, 2) := dk_22 14 (dk_at dksX1_age_5 13 rfl rfl)
theorem dX1_age_134 : decode cX1_age 134 = .ok (.lload 10, 2) := dk_22 10 (dk_at dksX1_age_5 15 rfl rfl)
theorem dX1_age_136 : decode cX1_age 136 = .ok (.lcmp, 1) := dk_148 (dk_at dksX1_age_5 17 rfl rfl)
theorem dX1_age_137 : decode cX1_age 137 = .ok (.ifCond .ne 26, 3) := dk_154 0 26 (dk_at dksX1_age_5 18 rfl rfl)
theorem dX1_age_140 : decode cX1_age 140 = .ok (.aload 7, 2) := dk_25 7 (dk_at dksX1_age_5 21 rfl rfl)
theorem dX1_age_142 : decode cX1_age 142 = .ok (.lload 14, 2) := dk_22 14 (dk_at dksX1_age_6 0 rfl rfl)
theorem dX1_age_144 : decode cX1_age 144 = .ok (.invokevirtual 218, 3) := dk_182 0 218 (dk_at dksX1_age_6 2 rfl rfl)
theorem dX1_age_147 : decode cX1_age 147 = .ok (.lload 12, 2) := dk_22 12 (dk_at dksX1_age_6 5 rfl rfl)
theorem dX1_age_149 : decode cX1_age 149 = .ok (.ladd, 1) := dk_97 (dk_at dksX1_age_6 7 rfl rfl)
theorem dX1_age_150 : decode cX1_age 150 = .ok (.lconst 1, 1) := dk_10 (dk_at dksX1_age_6 8 rfl rfl)
theorem dX1_age_151 : decode cX1_age 151 = .ok (.lsub, 1) := dk_101 (dk_at dksX1_age_6 9 rfl rfl)
theorem dX1_age_152 : decode cX1_age 152 = .ok (.lload_n 2, 1) := dk_32 (dk_at dksX1_age_6 10 rfl rfl)
theorem dX1_age_153 : decode cX1_age 153 = .ok (.lcmp, 1) := dk_148 (dk_at dksX1_age_6 11 rfl rfl)
theorem dX1_age_154 : decode cX1_age 154 = .ok (.ifCond .le 9, 3) := dk_158 0 9 (dk_at dksX1_age_6 12 rfl rfl)
theorem dX1_age_157 : decode cX1_age 157 = .ok (.lload 14, 2) := dk_22 14 (dk_at dksX1_age_6 15 rfl rfl)
theorem dX1_age_159 : decode cX1_age 159 = .ok (.lconst 1, 1) := dk_10 (dk_at dksX1_age_6 17 rfl rfl)
theorem dX1_age_160 : decode cX1_age 160 = .ok (.lsub, 1) := dk_101 (dk_at dksX1_age_6 18 rfl rfl)
theorem dX1_age_161 : decode cX1_age 161 = .ok (.lstore 14, 2) := dk_55 14 (dk_at dksX1_age_6 19 rfl rfl)
theorem dX1_age_163 : decode cX1_age 163 = .ok (.lconst 0, 1) := dk_9 (dk_at dksX1_age_6 21 rfl rfl)
theorem dX1_age_164 : decode cX1_age 164 = .ok (.lload 14, 2) := dk_22 14 (dk_at dksX1_age_6 22 rfl rfl)
theorem dX1_age_166 : decode cX1_age 166 = .ok (.lload 8, 2) := dk_22 8 (dk_at dksX1_age_7 0 rfl rfl)
theorem dX1_age_168 : decode cX1_age 168 = .ok (.lsub, 1) := dk_101 (dk_at dksX1_age_7 2 rfl rfl)
theorem dX1_age_169 : decode cX1_age 169 = .ok (.invokestatic 296, 3) := dk_184 1 40 (dk_at dksX1_age_7 3 rfl rfl)
theorem dX1_age_172 : decode cX1_age 172 = .ok (.lreturn, 1) := dk_173 (dk_at dksX1_age_7 6 rfl rfl)
abbrev cX1_elder : ByteArray := prog_1_method_28_code
def yX1_elder : MethodName := ⟨RX1, "elder", "(II)I"⟩
def dkwX1_elder_2 : List UInt8 := [192, 1, 18, 180, 1, 20, 148, 157, 0, 7, 27, 167, 0, 4, 28, 172]
abbrev dktX1_elder_2 : List UInt8 := dkwX1_elder_2 ++ []
def dkwX1_elder_1 : List UInt8 := [180, 0, 163, 27, 182, 0, 127, 192, 1, 18, 180, 1, 20, 42, 180, 0, 39, 180, 0, 163, 28, 182, 0, 127]
abbrev dktX1_elder_1 : List UInt8 := dkwX1_elder_1 ++ dktX1_elder_2
def dkwX1_elder_0 : List UInt8 := [42, 27, 182, 1, 15, 153, 0, 11, 42, 28, 182, 1, 15, 154, 0, 7, 2, 167, 0, 46, 42, 180, 0, 39]
abbrev dktX1_elder_0 : List UInt8 := dkwX1_elder_0 ++ dktX1_elder_1
theorem dksX1_elder_0 : cX1_elder.data.toList.drop 0 = dktX1_elder_0 := by decide +kernel
theorem dksX1_elder_1 : cX1_elder.data.toList.drop 24 = dktX1_elder_1 := dk_seg dksX1_elder_0 24 rfl rfl
theorem dksX1_elder_2 : cX1_elder.data.toList.drop 48 = dktX1_elder_2 := dk_seg dksX1_elder_1 24 rfl rfl
theorem dX1_elder_0 : decode cX1_elder 0 = .ok (.aload_n 0, 1) := dk_42 (dk_at dksX1_elder_0 0 rfl rfl)
theorem dX1_elder_1 : decode cX1_elder 1 = .ok (.iload_n 1, 1) := dk_27 (dk_at dksX1_elder_0 1 rfl rfl)
theorem dX1_elder_2 : decode cX1_elder 2 = .ok (.invokevirtual 271, 3) := dk_182 1 15 (dk_at dksX1_elder_0 2 rfl rfl)
theorem dX1_elder_5 : decode cX1_elder 5 = .ok (.ifCond .eq 11, 3) := dk_153 0 11 (dk_at dksX1_elder_0 5 rfl rfl)
theorem dX1_elder_8 : decode cX1_elder 8 = .ok (.aload_n 0, 1) := dk_42 (dk_at dksX1_elder_0 8 rfl rfl)
theorem dX1_elder_9 : decode cX1_elder 9 = .ok (.iload_n 2, 1) := dk_28 (dk_at dksX1_elder_0 9 rfl rfl)
theorem dX1_elder_10 : decode cX1_elder 10 = .ok (.invokevirtual 271, 3) := dk_182 1 15 (dk_at dksX1_elder_0 10 rfl rfl)
theorem dX1_elder_13 : decode cX1_elder 13 = .ok (.ifCond .ne 7, 3) := dk_154 0 7 (dk_at dksX1_elder_0 13 rfl rfl)
theorem dX1_elder_16 : decode cX1_elder 16 = .ok (.iconst (-1), 1) := dk_2 (dk_at dksX1_elder_0 16 rfl rfl)
theorem dX1_elder_17 : decode cX1_elder 17 = .ok (.goto 46, 3) := dk_167 0 46 (dk_at dksX1_elder_0 17 rfl rfl)
theorem dX1_elder_20 : decode cX1_elder 20 = .ok (.aload_n 0, 1) := dk_42 (dk_at dksX1_elder_0 20 rfl rfl)
theorem dX1_elder_21 : decode cX1_elder 21 = .ok (.getfield 39, 3) := dk_180 0 39 (dk_at dksX1_elder_0 21 rfl rfl)
theorem dX1_elder_24 : decode cX1_elder 24 = .ok (.getfield 163, 3) := dk_180 0 163 (dk_at dksX1_elder_1 0 rfl rfl)
theorem dX1_elder_27 : decode cX1_elder 27 = .ok (.iload_n 1, 1) := dk_27 (dk_at dksX1_elder_1 3 rfl rfl)
theorem dX1_elder_28 : decode cX1_elder 28 = .ok (.invokevirtual 127, 3) := dk_182 0 127 (dk_at dksX1_elder_1 4 rfl rfl)
theorem dX1_elder_31 : decode cX1_elder 31 = .ok (.checkcast 274, 3) := dk_192 1 18 (dk_at dksX1_elder_1 7 rfl rfl)
theorem dX1_elder_34 : decode cX1_elder 34 = .ok (.getfield 276, 3) := dk_180 1 20 (dk_at dksX1_elder_1 10 rfl rfl)
theorem dX1_elder_37 : decode cX1_elder 37 = .ok (.aload_n 0, 1) := dk_42 (dk_at dksX1_elder_1 13 rfl rfl)
theorem dX1_elder_38 : decode cX1_elder 38 = .ok (.getfield 39, 3) := dk_180 0 39 (dk_at dksX1_elder_1 14 rfl rfl)
theorem dX1_elder_41 : decode cX1_elder 41 = .ok (.getfield 163, 3) := dk_180 0 163 (dk_at dksX1_elder_1 17 rfl rfl)
theorem dX1_elder_44 : decode cX1_elder 44 = .ok (.iload_n 2, 1) := dk_28 (dk_at dksX1_elder_1 20 rfl rfl)
theorem dX1_elder_45 : decode cX1_elder 45 = .ok (.invokevirtual 127, 3) := dk_182 0 127 (dk_at dksX1_elder_1 21 rfl rfl)
theorem dX1_elder_48 : decode cX1_elder 48 = .ok (.checkcast 274, 3) := dk_192 1 18 (dk_at dksX1_elder_2 0 rfl rfl)
theorem dX1_elder_51 : decode cX1_elder 51 = .ok (.getfield 276, 3) := dk_180 1 20 (dk_at dksX1_elder_2 3 rfl rfl)
theorem dX1_elder_54 : decode cX1_elder 54 = .ok (.lcmp, 1) := dk_148 (dk_at dksX1_elder_2 6 rfl rfl)
theorem dX1_elder_55 : decode cX1_elder 55 = .ok (.ifCond .gt 7, 3) := dk_157 0 7 (dk_at dksX1_elder_2 7 rfl rfl)
theorem dX1_elder_58 : decode cX1_elder 58 = .ok (.iload_n 1, 1) := dk_27 (dk_at dksX1_elder_2 10 rfl rfl)
theorem dX1_elder_59 : decode cX1_elder 59 = .ok (.goto 4, 3) := dk_167 0 4 (dk_at dksX1_elder_2 11 rfl rfl)
theorem dX1_elder_62 : decode cX1_elder 62 = .ok (.iload_n 2, 1) := dk_28 (dk_at dksX1_elder_2 14 rfl rfl)
theorem dX1_elder_63 : decode cX1_elder 63 = .ok (.ireturn, 1) := dk_172 (dk_at dksX1_elder_2 15 rfl rfl)
abbrev cX1_often : ByteArray := prog_1_method_29_code
def yX1_often : MethodName := ⟨RX1, "often", "(IIIJ)J"⟩
def dkwX1_often_5 : List UInt8 := [22, 7, 101, 10, 97, 184, 1, 40, 173]
abbrev dktX1_often_5 : List UInt8 := dkwX1_often_5 ++ []
def dkwX1_often_4 : List UInt8 := [182, 1, 27, 184, 1, 34, 55, 9, 9, 22, 7, 22, 9, 148, 158, 0, 7, 9, 167, 0, 10, 22, 9]
abbrev dktX1_often_4 : List UInt8 := dkwX1_often_4 ++ dktX1_often_5
def dkwX1_often_3 : List UInt8 := [20, 1, 45, 167, 0, 10, 25, 6, 22, 4, 182, 1, 47, 184, 1, 40, 55, 7, 29, 133, 25, 6, 22, 4]
abbrev dktX1_often_3 : List UInt8 := dkwX1_often_3 ++ dktX1_often_4
def dkwX1_often_2 : List UInt8 := [182, 0, 177, 58, 6, 28, 133, 22, 4, 25, 6, 180, 0, 188, 133, 101, 20, 1, 43, 148, 158, 0, 9]
abbrev dktX1_often_2 : List UInt8 := dkwX1_often_2 ++ dktX1_often_3
def dkwX1_often_1 : List UInt8 := [20, 0, 175, 184, 0, 96, 153, 0, 10, 22, 4, 10, 148, 156, 0, 7, 20, 0, 207, 173, 42, 27]
abbrev dktX1_often_1 : List UInt8 := dkwX1_often_1 ++ dktX1_often_2
def dkwX1_often_0 : List UInt8 := [42, 27, 182, 0, 171, 153, 0, 35, 28, 133, 10, 20, 0, 175, 184, 0, 96, 153, 0, 23, 29, 133, 28, 133]
abbrev dktX1_often_0 : List UInt8 := dkwX1_often_0 ++ dktX1_often_1
theorem dksX1_often_0 : cX1_often.data.toList.drop 0 = dktX1_often_0 := by decide +kernel
theorem dksX1_often_1 : cX1_often.data.toList.drop 24 = dktX1_often_1 := dk_seg dksX1_often_0 24 rfl rfl
theorem dksX1_often_2 : cX1_often.data.toList.drop 46 = dktX1_often_2 := dk_seg dksX1_often_1 22 rfl rfl
theorem dksX1_often_3 : cX1_often.data.toList.drop 69 = dktX1_often_3 := dk_seg dksX1_often_2 23 rfl rfl
theorem dksX1_often_4 : cX1_often.data.toList.drop 93 = dktX1_often_4 := dk_seg dksX1_often_3 24 rfl rfl
theorem dksX1_often_5 : cX1_often.data.toList.drop 116 = dktX1_often_5 := dk_seg dksX1_often_4 23 rfl rfl
theorem dX1_often_0 : decode cX1_often 0 = .ok (.aload_n 0, 1) := dk_42 (dk_at dksX1_often_0 0 rfl rfl)
theorem dX1_often_1 : decode cX1_often 1 = .ok (.iload_n 1, 1) := dk_27 (dk_at dksX1_often_0 1 rfl rfl)
theorem dX1_often_2 : decode cX1_often 2 = .ok (.invokevirtual 171, 3) := dk_182 0 171 (dk_at dksX1_often_0 2 rfl rfl)
theorem dX1_often_5 : decode cX1_often 5 = .ok (.ifCond .eq 35, 3) := dk_153 0 35 (dk_at dksX1_often_0 5 rfl rfl)
theorem dX1_often_8 : decode cX1_often 8 = .ok (.iload_n 2, 1) := dk_28 (dk_at dksX1_often_0 8 rfl rfl)
theorem dX1_often_9 : decode cX1_often 9 = .ok (.i2l, 1) := dk_133 (dk_at dksX1_often_0 9 rfl rfl)
theorem dX1_often_10 : decode cX1_often 10 = .ok (.lconst 1, 1) := dk_10 (dk_at dksX1_often_0 10 rfl rfl)
theorem dX1_often_11 : decode cX1_often 11 = .ok (.ldc2_w 175, 3) := dk_20 0 175 (dk_at dksX1_often_0 11 rfl rfl)
theorem dX1_often_14 : decode cX1_often 14 = .ok (.invokestatic 96, 3) := dk_184 0 96 (dk_at dksX1_often_0 14 rfl rfl)
theorem dX1_often_17 : decode cX1_often 17 = .ok (.ifCond .eq 23, 3) := dk_153 0 23 (dk_at dksX1_often_0 17 rfl rfl)
theorem dX1_often_20 : decode cX1_often 20 = .ok (.iload_n 3, 1) := dk_29 (dk_at dksX1_often_0 20 rfl rfl)
theorem dX1_often_21 : decode cX1_often 21 = .ok (.i2l, 1) := dk_133 (dk_at dksX1_often_0 21 rfl rfl)
theorem dX1_often_22 : decode cX1_often 22 = .ok (.iload_n 2, 1) := dk_28 (dk_at dksX1_often_0 22 rfl rfl)
theorem dX1_often_23 : decode cX1_often 23 = .ok (.i2l, 1) := dk_133 (dk_at dksX1_often_0 23 rfl rfl)
theorem dX1_often_24 : decode cX1_often 24 = .ok (.ldc2_w 175, 3) := dk_20 0 175 (dk_at dksX1_often_1 0 rfl rfl)
theorem dX1_often_27 : decode cX1_often 27 = .ok (.invokestatic 96, 3) := dk_184 0 96 (dk_at dksX1_often_1 3 rfl rfl)
theorem dX1_often_30 : decode cX1_often 30 = .ok (.ifCond .eq 10, 3) := dk_153 0 10 (dk_at dksX1_often_1 6 rfl rfl)
theorem dX1_often_33 : decode cX1_often 33 = .ok (.lload 4, 2) := dk_22 4 (dk_at dksX1_often_1 9 rfl rfl)
theorem dX1_often_35 : decode cX1_often 35 = .ok (.lconst 1, 1) := dk_10 (dk_at dksX1_often_1 11 rfl rfl)
theorem dX1_often_36 : decode cX1_often 36 = .ok (.lcmp, 1) := dk_148 (dk_at dksX1_often_1 12 rfl rfl)
theorem dX1_often_37 : decode cX1_often 37 = .ok (.ifCond .ge 7, 3) := dk_156 0 7 (dk_at dksX1_often_1 13 rfl rfl)
theorem dX1_often_40 : decode cX1_often 40 = .ok (.ldc2_w 207, 3) := dk_20 0 207 (dk_at dksX1_often_1 16 rfl rfl)
theorem dX1_often_43 : decode cX1_often 43 = .ok (.lreturn, 1) := dk_173 (dk_at dksX1_often_1 19 rfl rfl)
theorem dX1_often_44 : decode cX1_often 44 = .ok (.aload_n 0, 1) := dk_42 (dk_at dksX1_often_1 20 rfl rfl)
theorem dX1_often_45 : decode cX1_often 45 = .ok (.iload_n 1, 1) := dk_27 (dk_at dksX1_often_1 21 rfl rfl)
theorem dX1_often_46 : decode cX1_often 46 = .ok (.invokevirtual 177, 3) := dk_182 0 177 (dk_at dksX1_often_2 0 rfl rfl)
theorem dX1_often_49 : decode cX1_often 49 = .ok (.astore 6, 2) := dk_58 6 (dk_at dksX1_often_2 3 rfl rfl)
theorem dX1_often_51 : decode cX1_often 51 = .ok (.iload_n 2, 1) := dk_28 (dk_at dksX1_often_2 5 rfl rfl)
theorem dX1_often_52 : decode cX1_often 52 = .ok (.i2l, 1) := dk_133 (dk_at dksX1_often_2 6 rfl rfl)
theorem dX1_often_53 : decode cX1_often 53 = .ok (.lload 4, 2) := dk_22 4 (dk_at dksX1_often_2 7 rfl rfl)
theorem dX1_often_55 : decode cX1_often 55 = .ok (.aload 6, 2) := dk_25 6 (dk_at dksX1_often_2 9 rfl rfl)
theorem dX1_often_57 : decode cX1_often 57 = .ok (.getfield 188, 3) := dk_180 0 188 (dk_at dksX1_often_2 11 rfl rfl)
theorem dX1_often_60 : decode cX1_often 60 = .ok (.i2l, 1) := dk_133 (dk_at dksX1_often_2 14 rfl rfl)
theorem dX1_often_61 : decode cX1_often 61 = .ok (.lsub, 1) := dk_101 (dk_at dksX1_often_2 15 rfl rfl)
theorem dX1_often_62 : decode cX1_often 62 = .ok (.ldc2_w 299, 3) := dk_20 1 43 (dk_at dksX1_often_2 16 rfl rfl)
theorem dX1_often_65 : decode cX1_often 65 = .ok (.lcmp, 1) := dk_148 (dk_at dksX1_often_2 19 rfl rfl)
theorem dX1_often_66 : decode cX1_often 66 = .ok (.ifCond .le 9, 3) := dk_158 0 9 (dk_at dksX1_often_2 20 rfl rfl)
theorem dX1_often_69 : decode cX1_often 69 = .ok (.ldc2_w 301, 3) := dk_20 1 45 (dk_at dksX1_often_3 0 rfl rfl)
theorem dX1_often_72 : decode cX1_often 72 = .ok (.goto 10, 3) := dk_167 0 10 (dk_at dksX1_often_3 3 rfl rfl)
theorem dX1_often_75 : decode cX1_often 75 = .ok (.aload 6, 2) := dk_25 6 (dk_at dksX1_often_3 6 rfl rfl)
theorem dX1_often_77 : decode cX1_often 77 = .ok (.lload 4, 2) := dk_22 4 (dk_at dksX1_often_3 8 rfl rfl)
theorem dX1_often_79 : decode cX1_often 79 = .ok (.invokevirtual 303, 3) := dk_182 1 47 (dk_at dksX1_often_3 10 rfl rfl)
theorem dX1_often_82 : decode cX1_often 82 = .ok (.invokestatic 296, 3) := dk_184 1 40 (dk_at dksX1_often_3 13 rfl rfl)
theorem dX1_often_85 : decode cX1_often 85 = .ok (.lstore 7, 2) := dk_55 7 (dk_at dksX1_often_3 16 rfl rfl)
theorem dX1_often_87 : decode cX1_often 87 = .ok (.iload_n 3, 1) := dk_29 (dk_at dksX1_often_3 18 rfl rfl)
theorem dX1_often_88 : decode cX1_often 88 = .ok (.i2l, 1) := dk_133 (dk_at dksX1_often_3 19 rfl rfl)
theorem dX1_often_89 : decode cX1_often 89 = .ok (.aload 6, 2) := dk_25 6 (dk_at dksX1_often_3 20 rfl rfl)
theorem dX1_often_91 : decode cX1_often 91 = .ok (.lload 4, 2) := dk_22 4 (dk_at dksX1_often_3 22 rfl rfl)
theorem dX1_often_93 : decode cX1_often 93 = .ok (.invokevirtual 283, 3) := dk_182 1 27 (dk_at dksX1_often_4 0 rfl rfl)
theorem dX1_often_96 : decode cX1_often 96 = .ok (.invokestatic 290, 3) := dk_184 1 34 (dk_at dksX1_often_4 3 rfl rfl)
theorem dX1_often_99 : decode cX1_often 99 = .ok (.lstore 9, 2) := dk_55 9 (dk_at dksX1_often_4 6 rfl rfl)
theorem dX1_often_101 : decode cX1_often 101 = .ok (.lconst 0, 1) := dk_9 (dk_at dksX1_often_4 8 rfl rfl)
theorem dX1_often_102 : decode cX1_often 102 = .ok (.lload 7, 2) := dk_22 7 (dk_at dksX1_often_4 9 rfl rfl)
theorem dX1_often_104 : decode cX1_often 104 = .ok (.lload 9, 2) := dk_22 9 (dk_at dksX1_often_4 11 rfl rfl)
theorem dX1_often_106 : decode cX1_often 106 = .ok (.lcmp, 1) := dk_148 (dk_at dksX1_often_4 13 rfl rfl)
theorem dX1_often_107 : decode cX1_often 107 = .ok (.ifCond .le 7, 3) := dk_158 0 7 (dk_at dksX1_often_4 14 rfl rfl)
theorem dX1_often_110 : decode cX1_often 110 = .ok (.lconst 0, 1) := dk_9 (dk_at dksX1_often_4 17 rfl rfl)
theorem dX1_often_111 : decode cX1_often 111 = .ok (.goto 10, 3) := dk_167 0 10 (dk_at dksX1_often_4 18 rfl rfl)
theorem dX1_often_114 : decode cX1_often 114 = .ok (.lload 9, 2) := dk_22 9 (dk_at dksX1_often_4 21 rfl rfl)
theorem dX1_often_116 : decode cX1_often 116 = .ok (.lload 7, 2) := dk_22 7 (dk_at dksX1_often_5 0 rfl rfl)
theorem dX1_often_118 : decode cX1_often 118 = .ok (.lsub, 1) := dk_101 (dk_at dksX1_often_5 2 rfl rfl)
theorem dX1_often_119 : decode cX1_often 119 = .ok (.lconst 1, 1) := dk_10 (dk_at dksX1_often_5 3 rfl rfl)
theorem dX1_often_120 : decode cX1_often 120 = .ok (.ladd, 1) := dk_97 (dk_at dksX1_often_5 4 rfl rfl)
theorem dX1_often_121 : decode cX1_often 121 = .ok (.invokestatic 296, 3) := dk_184 1 40 (dk_at dksX1_often_5 5 rfl rfl)
theorem dX1_often_124 : decode cX1_often 124 = .ok (.lreturn, 1) := dk_173 (dk_at dksX1_often_5 8 rfl rfl)
abbrev cX1_springs : ByteArray := prog_1_method_32_code
def yX1_springs : MethodName := ⟨RX1, "springs", "(II)J"⟩
def dkwX1_springs_1 : List UInt8 := [182, 0, 177, 28, 133, 182, 1, 56, 167, 0, 6, 20, 0, 207, 173]
abbrev dktX1_springs_1 : List UInt8 := dkwX1_springs_1 ++ []
def dkwX1_springs_0 : List UInt8 := [42, 27, 28, 182, 0, 200, 153, 0, 27, 42, 27, 28, 133, 182, 1, 53, 153, 0, 17, 42, 42, 27]
abbrev dktX1_springs_0 : List UInt8 := dkwX1_springs_0 ++ dktX1_springs_1
theorem dksX1_springs_0 : cX1_springs.data.toList.drop 0 = dktX1_springs_0 := by decide +kernel
theorem dksX1_springs_1 : cX1_springs.data.toList.drop 22 = dktX1_springs_1 := dk_seg dksX1_springs_0 22 rfl rfl
theorem dX1_springs_0 : decode cX1_springs 0 = .ok (.aload_n 0, 1) := dk_42 (dk_at dksX1_springs_0 0 rfl rfl)
theorem dX1_springs_1 : decode cX1_springs 1 = .ok (.iload_n 1, 1) := dk_27 (dk_at dksX1_springs_0 1 rfl rfl)
theorem dX1_springs_2 : decode cX1_springs 2 = .ok (.iload_n 2, 1) := dk_28 (dk_at dksX1_springs_0 2 rfl rfl)
theorem dX1_springs_3 : decode cX1_springs 3 = .ok (.invokevirtual 200, 3) := dk_182 0 200 (dk_at dksX1_springs_0 3 rfl rfl)
theorem dX1_springs_6 : decode cX1_springs 6 = .ok (.ifCond .eq 27, 3) := dk_153 0 27 (dk_at dksX1_springs_0 6 rfl rfl)
theorem dX1_springs_9 : decode cX1_springs 9 = .ok (.aload_n 0, 1) := dk_42 (dk_at dksX1_springs_0 9 rfl rfl)
theorem dX1_springs_10 : decode cX1_springs 10 = .ok (.iload_n 1, 1) := dk_27 (dk_at dksX1_springs_0 10 rfl rfl)
theorem dX1_springs_11 : decode cX1_springs 11 = .ok (.iload_n 2, 1) := dk_28 (dk_at dksX1_springs_0 11 rfl rfl)
theorem dX1_springs_12 : decode cX1_springs 12 = .ok (.i2l, 1) := dk_133 (dk_at dksX1_springs_0 12 rfl rfl)
theorem dX1_springs_13 : decode cX1_springs 13 = .ok (.invokevirtual 309, 3) := dk_182 1 53 (dk_at dksX1_springs_0 13 rfl rfl)
theorem dX1_springs_16 : decode cX1_springs 16 = .ok (.ifCond .eq 17, 3) := dk_153 0 17 (dk_at dksX1_springs_0 16 rfl rfl)
theorem dX1_springs_19 : decode cX1_springs 19 = .ok (.aload_n 0, 1) := dk_42 (dk_at dksX1_springs_0 19 rfl rfl)
theorem dX1_springs_20 : decode cX1_springs 20 = .ok (.aload_n 0, 1) := dk_42 (dk_at dksX1_springs_0 20 rfl rfl)
theorem dX1_springs_21 : decode cX1_springs 21 = .ok (.iload_n 1, 1) := dk_27 (dk_at dksX1_springs_0 21 rfl rfl)
theorem dX1_springs_22 : decode cX1_springs 22 = .ok (.invokevirtual 177, 3) := dk_182 0 177 (dk_at dksX1_springs_1 0 rfl rfl)
theorem dX1_springs_25 : decode cX1_springs 25 = .ok (.iload_n 2, 1) := dk_28 (dk_at dksX1_springs_1 3 rfl rfl)
theorem dX1_springs_26 : decode cX1_springs 26 = .ok (.i2l, 1) := dk_133 (dk_at dksX1_springs_1 4 rfl rfl)
theorem dX1_springs_27 : decode cX1_springs 27 = .ok (.invokevirtual 312, 3) := dk_182 1 56 (dk_at dksX1_springs_1 5 rfl rfl)
theorem dX1_springs_30 : decode cX1_springs 30 = .ok (.goto 6, 3) := dk_167 0 6 (dk_at dksX1_springs_1 8 rfl rfl)
theorem dX1_springs_33 : decode cX1_springs 33 = .ok (.ldc2_w 207, 3) := dk_20 0 207 (dk_at dksX1_springs_1 11 rfl rfl)
theorem dX1_springs_36 : decode cX1_springs 36 = .ok (.lreturn, 1) := dk_173 (dk_at dksX1_springs_1 14 rfl rfl)
abbrev cX1_isBegun : ByteArray := prog_1_method_30_code
def yX1_isBegun : MethodName := ⟨RX1, "isBegun", "(IJ)Z"⟩
def dkwX1_isBegun_1 : List UInt8 := [182, 0, 177, 32, 182, 0, 218, 20, 0, 5, 148, 157, 0, 7, 4, 167, 0, 4, 3, 172]
abbrev dktX1_isBegun_1 : List UInt8 := dkwX1_isBegun_1 ++ []
def dkwX1_isBegun_0 : List UInt8 := [42, 27, 182, 0, 177, 32, 182, 0, 181, 153, 0, 31, 32, 20, 0, 175, 148, 157, 0, 23, 42, 27]
abbrev dktX1_isBegun_0 : List UInt8 := dkwX1_isBegun_0 ++ dktX1_isBegun_1
theorem dksX1_isBegun_0 : cX1_isBegun.data.toList.drop 0 = dktX1_isBegun_0 := by decide +kernel
theorem dksX1_isBegun_1 : cX1_isBegun.data.toList.drop 22 = dktX1_isBegun_1 := dk_seg dksX1_isBegun_0 22 rfl rfl
theorem dX1_isBegun_0 : decode cX1_isBegun 0 = .ok (.aload_n 0, 1) := dk_42 (dk_at dksX1_isBegun_0 0 rfl rfl)
theorem dX1_isBegun_1 : decode cX1_isBegun 1 = .ok (.iload_n 1, 1) := dk_27 (dk_at dksX1_isBegun_0 1 rfl rfl)
theorem dX1_isBegun_2 : decode cX1_isBegun 2 = .ok (.invokevirtual 177, 3) := dk_182 0 177 (dk_at dksX1_isBegun_0 2 rfl rfl)
theorem dX1_isBegun_5 : decode cX1_isBegun 5 = .ok (.lload_n 2, 1) := dk_32 (dk_at dksX1_isBegun_0 5 rfl rfl)
theorem dX1_isBegun_6 : decode cX1_isBegun 6 = .ok (.invokevirtual 181, 3) := dk_182 0 181 (dk_at dksX1_isBegun_0 6 rfl rfl)
theorem dX1_isBegun_9 : decode cX1_isBegun 9 = .ok (.ifCond .eq 31, 3) := dk_153 0 31 (dk_at dksX1_isBegun_0 9 rfl rfl)
theorem dX1_isBegun_12 : decode cX1_isBegun 12 = .ok (.lload_n 2, 1) := dk_32 (dk_at dksX1_isBegun_0 12 rfl rfl)
theorem dX1_isBegun_13 : decode cX1_isBegun 13 = .ok (.ldc2_w 175, 3) := dk_20 0 175 (dk_at dksX1_isBegun_0 13 rfl rfl)
theorem dX1_isBegun_16 : decode cX1_isBegun 16 = .ok (.lcmp, 1) := dk_148 (dk_at dksX1_isBegun_0 16 rfl rfl)
theorem dX1_isBegun_17 : decode cX1_isBegun 17 = .ok (.ifCond .gt 23, 3) := dk_157 0 23 (dk_at dksX1_isBegun_0 17 rfl rfl)
theorem dX1_isBegun_20 : decode cX1_isBegun 20 = .ok (.aload_n 0, 1) := dk_42 (dk_at dksX1_isBegun_0 20 rfl rfl)
theorem dX1_isBegun_21 : decode cX1_isBegun 21 = .ok (.iload_n 1, 1) := dk_27 (dk_at dksX1_isBegun_0 21 rfl rfl)
theorem dX1_isBegun_22 : decode cX1_isBegun 22 = .ok (.invokevirtual 177, 3) := dk_182 0 177 (dk_at dksX1_isBegun_1 0 rfl rfl)
theorem dX1_isBegun_25 : decode cX1_isBegun 25 = .ok (.lload_n 2, 1) := dk_32 (dk_at dksX1_isBegun_1 3 rfl rfl)
theorem dX1_isBegun_26 : decode cX1_isBegun 26 = .ok (.invokevirtual 218, 3) := dk_182 0 218 (dk_at dksX1_isBegun_1 4 rfl rfl)
theorem dX1_isBegun_29 : decode cX1_isBegun 29 = .ok (.ldc2_w 5, 3) := dk_20 0 5 (dk_at dksX1_isBegun_1 7 rfl rfl)
theorem dX1_isBegun_32 : decode cX1_isBegun 32 = .ok (.lcmp, 1) := dk_148 (dk_at dksX1_isBegun_1 10 rfl rfl)
theorem dX1_isBegun_33 : decode cX1_isBegun 33 = .ok (.ifCond .gt 7, 3) := dk_157 0 7 (dk_at dksX1_isBegun_1 11 rfl rfl)
theorem dX1_isBegun_36 : decode cX1_isBegun 36 = .ok (.iconst 1, 1) := dk_4 (dk_at dksX1_isBegun_1 14 rfl rfl)
theorem dX1_isBegun_37 : decode cX1_isBegun 37 = .ok (.goto 4, 3) := dk_167 0 4 (dk_at dksX1_isBegun_1 15 rfl rfl)
theorem dX1_isBegun_40 : decode cX1_isBegun 40 = .ok (.iconst 0, 1) := dk_3 (dk_at dksX1_isBegun_1 18 rfl rfl)
theorem dX1_isBegun_41 : decode cX1_isBegun 41 = .ok (.ireturn, 1) := dk_172 (dk_at dksX1_isBegun_1 19 rfl rfl)
abbrev cX1_springsIn : ByteArray := prog_1_method_31_code
def yX1_springsIn : MethodName := ⟨RX1, "springsIn", "(LLongYears$Land;J)J"⟩
def dkwX1_springsIn_1 : List UInt8 := [180, 0, 39, 22, 4, 182, 1, 50, 101, 173]
abbrev dktX1_springsIn_1 : List UInt8 := dkwX1_springsIn_1 ++ []
def dkwX1_springsIn_0 : List UInt8 := [43, 32, 182, 0, 218, 55, 4, 42, 180, 0, 39, 22, 4, 43, 32, 182, 0, 204, 97, 182, 1, 50, 42]
abbrev dktX1_springsIn_0 : List UInt8 := dkwX1_springsIn_0 ++ dktX1_springsIn_1
theorem dksX1_springsIn_0 : cX1_springsIn.data.toList.drop 0 = dktX1_springsIn_0 := by decide +kernel
theorem dksX1_springsIn_1 : cX1_springsIn.data.toList.drop 23 = dktX1_springsIn_1 := dk_seg dksX1_springsIn_0 23 rfl rfl
theorem dX1_springsIn_0 : decode cX1_springsIn 0 = .ok (.aload_n 1, 1) := dk_43 (dk_at dksX1_springsIn_0 0 rfl rfl)
theorem dX1_springsIn_1 : decode cX1_springsIn 1 = .ok (.lload_n 2, 1) := dk_32 (dk_at dksX1_springsIn_0 1 rfl rfl)
theorem dX1_springsIn_2 : decode cX1_springsIn 2 = .ok (.invokevirtual 218, 3) := dk_182 0 218 (dk_at dksX1_springsIn_0 2 rfl rfl)
theorem dX1_springsIn_5 : decode cX1_springsIn 5 = .ok (.lstore 4, 2) := dk_55 4 (dk_at dksX1_springsIn_0 5 rfl rfl)
theorem dX1_springsIn_7 : decode cX1_springsIn 7 = .ok (.aload_n 0, 1) := dk_42 (dk_at dksX1_springsIn_0 7 rfl rfl)
theorem dX1_springsIn_8 : decode cX1_springsIn 8 = .ok (.getfield 39, 3) := dk_180 0 39 (dk_at dksX1_springsIn_0 8 rfl rfl)
theorem dX1_springsIn_11 : decode cX1_springsIn 11 = .ok (.lload 4, 2) := dk_22 4 (dk_at dksX1_springsIn_0 11 rfl rfl)
theorem dX1_springsIn_13 : decode cX1_springsIn 13 = .ok (.aload_n 1, 1) := dk_43 (dk_at dksX1_springsIn_0 13 rfl rfl)
theorem dX1_springsIn_14 : decode cX1_springsIn 14 = .ok (.lload_n 2, 1) := dk_32 (dk_at dksX1_springsIn_0 14 rfl rfl)
theorem dX1_springsIn_15 : decode cX1_springsIn 15 = .ok (.invokevirtual 204, 3) := dk_182 0 204 (dk_at dksX1_springsIn_0 15 rfl rfl)
theorem dX1_springsIn_18 : decode cX1_springsIn 18 = .ok (.ladd, 1) := dk_97 (dk_at dksX1_springsIn_0 18 rfl rfl)
theorem dX1_springsIn_19 : decode cX1_springsIn 19 = .ok (.invokevirtual 306, 3) := dk_182 1 50 (dk_at dksX1_springsIn_0 19 rfl rfl)
theorem dX1_springsIn_22 : decode cX1_springsIn 22 = .ok (.aload_n 0, 1) := dk_42 (dk_at dksX1_springsIn_0 22 rfl rfl)
theorem dX1_springsIn_23 : decode cX1_springsIn 23 = .ok (.getfield 39, 3) := dk_180 0 39 (dk_at dksX1_springsIn_1 0 rfl rfl)
theorem dX1_springsIn_26 : decode cX1_springsIn 26 = .ok (.lload 4, 2) := dk_22 4 (dk_at dksX1_springsIn_1 3 rfl rfl)
theorem dX1_springsIn_28 : decode cX1_springsIn 28 = .ok (.invokevirtual 306, 3) := dk_182 1 50 (dk_at dksX1_springsIn_1 5 rfl rfl)
theorem dX1_springsIn_31 : decode cX1_springsIn 31 = .ok (.lsub, 1) := dk_101 (dk_at dksX1_springsIn_1 8 rfl rfl)
theorem dX1_springsIn_32 : decode cX1_springsIn 32 = .ok (.lreturn, 1) := dk_173 (dk_at dksX1_springsIn_1 9 rfl rfl)
abbrev cX1_many : ByteArray := prog_1_method_33_code
def yX1_many : MethodName := ⟨RX1, "many", "(III)I"⟩
def dkwX1_many_3 : List UInt8 := [29, 133, 148, 154, 0, 7, 22, 4, 136, 172, 22, 4, 10, 97, 55, 4, 167, 255, 207, 16, 254, 172]
abbrev dktX1_many_3 : List UInt8 := dkwX1_many_3 ++ []
def dkwX1_many_2 : List UInt8 := [156, 0, 43, 42, 27, 22, 4, 182, 1, 53, 153, 0, 33, 42, 42, 27, 182, 0, 177, 22, 4, 182, 1, 56]
abbrev dktX1_many_2 : List UInt8 := dkwX1_many_2 ++ dktX1_many_3
def dkwX1_many_1 : List UInt8 := [20, 1, 60, 184, 0, 96, 154, 0, 5, 2, 172, 28, 133, 55, 4, 22, 4, 28, 133, 20, 1, 62, 97, 148]
abbrev dktX1_many_1 : List UInt8 := dkwX1_many_1 ++ dktX1_many_2
def dkwX1_many_0 : List UInt8 := [42, 27, 28, 182, 0, 200, 153, 0, 25, 42, 27, 28, 133, 182, 1, 53, 153, 0, 15, 29, 133, 9]
abbrev dktX1_many_0 : List UInt8 := dkwX1_many_0 ++ dktX1_many_1
theorem dksX1_many_0 : cX1_many.data.toList.drop 0 = dktX1_many_0 := by decide +kernel
theorem dksX1_many_1 : cX1_many.data.toList.drop 22 = dktX1_many_1 := dk_seg dksX1_many_0 22 rfl rfl
theorem dksX1_many_2 : cX1_many.data.toList.drop 46 = dktX1_many_2 := dk_seg dksX1_many_1 24 rfl rfl
theorem dksX1_many_3 : cX1_many.data.toList.drop 70 = dktX1_many_3 := dk_seg dksX1_many_2 24 rfl rfl
theorem dX1_many_0 : decode cX1_many 0 = .ok (.aload_n 0, 1) := dk_42 (dk_at dksX1_many_0 0 rfl rfl)
theorem dX1_many_1 : decode cX1_many 1 = .ok (.iload_n 1, 1) := dk_27 (dk_at dksX1_many_0 1 rfl rfl)
theorem dX1_many_2 : decode cX1_many 2 = .ok (.iload_n 2, 1) := dk_28 (dk_at dksX1_many_0 2 rfl rfl)
theorem dX1_many_3 : decode cX1_many 3 = .ok (.invokevirtual 200, 3) := dk_182 0 200 (dk_at dksX1_many_0 3 rfl rfl)
theorem dX1_many_6 : decode cX1_many 6 = .ok (.ifCond .eq 25, 3) := dk_153 0 25 (dk_at dksX1_many_0 6 rfl rfl)
theorem dX1_many_9 : decode cX1_many 9 = .ok (.aload_n 0, 1) := dk_42 (dk_at dksX1_many_0 9 rfl rfl)
theorem dX1_many_10 : decode cX1_many 10 = .ok (.iload_n 1, 1) := dk_27 (dk_at dksX1_many_0 10 rfl rfl)
theorem dX1_many_11 : decode cX1_many 11 = .ok (.iload_n 2, 1) := dk_28 (dk_at dksX1_many_0 11 rfl rfl)
theorem dX1_many_12 : decode cX1_many 12 = .ok (.i2l, 1) := dk_133 (dk_at dksX1_many_0 12 rfl rfl)
theorem dX1_many_13 : decode cX1_many 13 = .ok (.invokevirtual 309, 3) := dk_182 1 53 (dk_at dksX1_many_0 13 rfl rfl)
theorem dX1_many_16 : decode cX1_many 16 = .ok (.ifCond .eq 15, 3) := dk_153 0 15 (dk_at dksX1_many_0 16 rfl rfl)
theorem dX1_many_19 : decode cX1_many 19 = .ok (.iload_n 3, 1) := dk_29 (dk_at dksX1_many_0 19 rfl rfl)
theorem dX1_many_20 : decode cX1_many 20 = .ok (.i2l, 1) := dk_133 (dk_at dksX1_many_0 20 rfl rfl)
theorem dX1_many_21 : decode cX1_many 21 = .ok (.lconst 0, 1) := dk_9 (dk_at dksX1_many_0 21 rfl rfl)
theorem dX1_many_22 : decode cX1_many 22 = .ok (.ldc2_w 316, 3) := dk_20 1 60 (dk_at dksX1_many_1 0 rfl rfl)
theorem dX1_many_25 : decode cX1_many 25 = .ok (.invokestatic 96, 3) := dk_184 0 96 (dk_at dksX1_many_1 3 rfl rfl)
theorem dX1_many_28 : decode cX1_many 28 = .ok (.ifCond .ne 5, 3) := dk_154 0 5 (dk_at dksX1_many_1 6 rfl rfl)
theorem dX1_many_31 : decode cX1_many 31 = .ok (.iconst (-1), 1) := dk_2 (dk_at dksX1_many_1 9 rfl rfl)
theorem dX1_many_32 : decode cX1_many 32 = .ok (.ireturn, 1) := dk_172 (dk_at dksX1_many_1 10 rfl rfl)
theorem dX1_many_33 : decode cX1_many 33 = .ok (.iload_n 2, 1) := dk_28 (dk_at dksX1_many_1 11 rfl rfl)
theorem dX1_many_34 : decode cX1_many 34 = .ok (.i2l, 1) := dk_133 (dk_at dksX1_many_1 12 rfl rfl)
theorem dX1_many_35 : decode cX1_many 35 = .ok (.lstore 4, 2) := dk_55 4 (dk_at dksX1_many_1 13 rfl rfl)
theorem dX1_many_37 : decode cX1_many 37 = .ok (.lload 4, 2) := dk_22 4 (dk_at dksX1_many_1 15 rfl rfl)
theorem dX1_many_39 : decode cX1_many 39 = .ok (.iload_n 2, 1) := dk_28 (dk_at dksX1_many_1 17 rfl rfl)
theorem dX1_many_40 : decode cX1_many 40 = .ok (.i2l, 1) := dk_133 (dk_at dksX1_many_1 18 rfl rfl)
theorem dX1_many_41 : decode cX1_many 41 = .ok (.ldc2_w 318, 3) := dk_20 1 62 (dk_at dksX1_many_1 19 rfl rfl)
theorem dX1_many_44 : decode cX1_many 44 = .ok (.ladd, 1) := dk_97 (dk_at dksX1_many_1 22 rfl rfl)
theorem dX1_many_45 : decode cX1_many 45 = .ok (.lcmp, 1) := dk_148 (dk_at dksX1_many_1 23 rfl rfl)
theorem dX1_many_46 : decode cX1_many 46 = .ok (.ifCond .ge 43, 3) := dk_156 0 43 (dk_at dksX1_many_2 0 rfl rfl)
theorem dX1_many_49 : decode cX1_many 49 = .ok (.aload_n 0, 1) := dk_42 (dk_at dksX1_many_2 3 rfl rfl)
theorem dX1_many_50 : decode cX1_many 50 = .ok (.iload_n 1, 1) := dk_27 (dk_at dksX1_many_2 4 rfl rfl)
theorem dX1_many_51 : decode cX1_many 51 = .ok (.lload 4, 2) := dk_22 4 (dk_at dksX1_many_2 5 rfl rfl)
theorem dX1_many_53 : decode cX1_many 53 = .ok (.invokevirtual 309, 3) := dk_182 1 53 (dk_at dksX1_many_2 7 rfl rfl)
theorem dX1_many_56 : decode cX1_many 56 = .ok (.ifCond .eq 33, 3) := dk_153 0 33 (dk_at dksX1_many_2 10 rfl rfl)
theorem dX1_many_59 : decode cX1_many 59 = .ok (.aload_n 0, 1) := dk_42 (dk_at dksX1_many_2 13 rfl rfl)
theorem dX1_many_60 : decode cX1_many 60 = .ok (.aload_n 0, 1) := dk_42 (dk_at dksX1_many_2 14 rfl rfl)
theorem dX1_many_61 : decode cX1_many 61 = .ok (.iload_n 1, 1) := dk_27 (dk_at dksX1_many_2 15 rfl rfl)
theorem dX1_many_62 : decode cX1_many 62 = .ok (.invokevirtual 177, 3) := dk_182 0 177 (dk_at dksX1_many_2 16 rfl rfl)
theorem dX1_many_65 : decode cX1_many 65 = .ok (.lload 4, 2) := dk_22 4 (dk_at dksX1_many_2 19 rfl rfl)
theorem dX1_many_67 : decode cX1_many 67 = .ok (.invokevirtual 312, 3) := dk_182 1 56 (dk_at dksX1_many_2 21 rfl rfl)
theorem dX1_many_70 : decode cX1_many 70 = .ok (.iload_n 3, 1) := dk_29 (dk_at dksX1_many_3 0 rfl rfl)
theorem dX1_many_71 : decode cX1_many 71 = .ok (.i2l, 1) := dk_133 (dk_at dksX1_many_3 1 rfl rfl)
theorem dX1_many_72 : decode cX1_many 72 = .ok (.lcmp, 1) := dk_148 (dk_at dksX1_many_3 2 rfl rfl)
theorem dX1_many_73 : decode cX1_many 73 = .ok (.ifCond .ne 7, 3) := dk_154 0 7 (dk_at dksX1_many_3 3 rfl rfl)
theorem dX1_many_76 : decode cX1_many 76 = .ok (.lload 4, 2) := dk_22 4 (dk_at dksX1_many_3 6 rfl rfl)
theorem dX1_many_78 : decode cX1_many 78 = .ok (.l2i, 1) := dk_136 (dk_at dksX1_many_3 8 rfl rfl)
theorem dX1_many_79 : decode cX1_many 79 = .ok (.ireturn, 1) := dk_172 (dk_at dksX1_many_3 9 rfl rfl)
theorem dX1_many_80 : decode cX1_many 80 = .ok (.lload 4, 2) := dk_22 4 (dk_at dksX1_many_3 10 rfl rfl)
theorem dX1_many_82 : decode cX1_many 82 = .ok (.lconst 1, 1) := dk_10 (dk_at dksX1_many_3 12 rfl rfl)
theorem dX1_many_83 : decode cX1_many 83 = .ok (.ladd, 1) := dk_97 (dk_at dksX1_many_3 13 rfl rfl)
theorem dX1_many_84 : decode cX1_many 84 = .ok (.lstore 4, 2) := dk_55 4 (dk_at dksX1_many_3 14 rfl rfl)
theorem dX1_many_86 : decode cX1_many 86 = .ok (.goto (-49), 3) := dk_167 255 207 (dk_at dksX1_many_3 16 rfl rfl)
theorem dX1_many_89 : decode cX1_many 89 = .ok (.bipush (-2), 2) := dk_16 254 (dk_at dksX1_many_3 19 rfl rfl)
theorem dX1_many_91 : decode cX1_many 91 = .ok (.ireturn, 1) := dk_172 (dk_at dksX1_many_3 21 rfl rfl)
abbrev cX1_next : ByteArray := prog_1_method_34_code
def yX1_next : MethodName := ⟨RX1, "next", "(JIII)J"⟩
def dkwX1_next_8 : List UInt8 := [22, 6, 10, 97, 55, 6, 167, 255, 138, 20, 1, 7, 173]
abbrev dktX1_next_8 : List UInt8 := dkwX1_next_8 ++ []
def dkwX1_next_7 : List UInt8 := [22, 6, 42, 3, 182, 0, 177, 22, 8, 182, 0, 218, 101, 10, 97, 29, 133, 148, 154, 0, 6, 22, 6, 173]
abbrev dktX1_next_7 : List UInt8 := dkwX1_next_7 ++ dktX1_next_8
def dkwX1_next_6 : List UInt8 := [180, 0, 39, 22, 6, 182, 0, 236, 55, 8, 29, 2, 159, 0, 33, 22, 8, 20, 0, 207, 148, 153, 0, 27]
abbrev dktX1_next_6 : List UInt8 := dkwX1_next_6 ++ dktX1_next_7
def dkwX1_next_5 : List UInt8 := [21, 5, 2, 159, 0, 20, 42, 180, 0, 39, 22, 6, 182, 0, 230, 21, 5, 159, 0, 6, 167, 0, 52, 42]
abbrev dktX1_next_5 : List UInt8 := dkwX1_next_5 ++ dktX1_next_6
def dkwX1_next_4 : List UInt8 := [157, 0, 104, 21, 4, 2, 159, 0, 17, 42, 180, 0, 39, 22, 6, 182, 0, 226, 21, 4, 160, 0, 75]
abbrev dktX1_next_4 : List UInt8 := dkwX1_next_4 ++ dktX1_next_5
def dkwX1_next_3 : List UInt8 := [20, 0, 207, 173, 31, 55, 6, 22, 6, 31, 20, 1, 1, 97, 148, 156, 0, 113, 22, 6, 20, 0, 5, 148]
abbrev dktX1_next_3 : List UInt8 := dkwX1_next_3 ++ dktX1_next_4
def dkwX1_next_2 : List UInt8 := [153, 0, 22, 21, 5, 2, 159, 0, 20, 21, 5, 133, 9, 20, 1, 68, 184, 0, 96, 154, 0, 7]
abbrev dktX1_next_2 : List UInt8 := dkwX1_next_2 ++ dktX1_next_3
def dkwX1_next_1 : List UInt8 := [21, 4, 2, 159, 0, 23, 21, 4, 133, 9, 42, 180, 0, 39, 180, 1, 66, 4, 100, 133, 184, 0, 96]
abbrev dktX1_next_1 : List UInt8 := dkwX1_next_1 ++ dktX1_next_2
def dkwX1_next_0 : List UInt8 := [31, 184, 0, 209, 153, 0, 65, 29, 2, 159, 0, 15, 29, 133, 10, 20, 1, 64, 184, 0, 96, 153, 0, 48]
abbrev dktX1_next_0 : List UInt8 := dkwX1_next_0 ++ dktX1_next_1
theorem dksX1_next_0 : cX1_next.data.toList.drop 0 = dktX1_next_0 := by decide +kernel
theorem dksX1_next_1 : cX1_next.data.toList.drop 24 = dktX1_next_1 := dk_seg dksX1_next_0 24 rfl rfl
theorem dksX1_next_2 : cX1_next.data.toList.drop 47 = dktX1_next_2 := dk_seg dksX1_next_1 23 rfl rfl
theorem dksX1_next_3 : cX1_next.data.toList.drop 69 = dktX1_next_3 := dk_seg dksX1_next_2 22 rfl rfl
theorem dksX1_next_4 : cX1_next.data.toList.drop 93 = dktX1_next_4 := dk_seg dksX1_next_3 24 rfl rfl
theorem dksX1_next_5 : cX1_next.data.toList.drop 116 = dktX1_next_5 := dk_seg dksX1_next_4 23 rfl rfl
theorem dksX1_next_6 : cX1_next.data.toList.drop 140 = dktX1_next_6 := dk_seg dksX1_next_5 24 rfl rfl
theorem dksX1_next_7 : cX1_next.data.toList.drop 164 = dktX1_next_7 := dk_seg dksX1_next_6 24 rfl rfl
theorem dksX1_next_8 : cX1_next.data.toList.drop 188 = dktX1_next_8 := dk_seg dksX1_next_7 24 rfl rfl
theorem dX1_next_0 : decode cX1_next 0 = .ok (.lload_n 1, 1) := dk_31 (dk_at dksX1_next_0 0 rfl rfl)
theorem dX1_next_1 : decode cX1_next 1 = .ok (.invokestatic 209, 3) := dk_184 0 209 (dk_at dksX1_next_0 1 rfl rfl)
theorem dX1_next_4 : decode cX1_next 4 = .ok (.ifCond .eq 65, 3) := dk_153 0 65 (dk_at dksX1_next_0 4 rfl rfl)
theorem dX1_next_7 : decode cX1_next 7 = .ok (.iload_n 3, 1) := dk_29 (dk_at dksX1_next_0 7 rfl rfl)
theorem dX1_next_8 : decode cX1_next 8 = .ok (.iconst (-1), 1) := dk_2 (dk_at dksX1_next_0 8 rfl rfl)
theorem dX1_next_9 : decode cX1_next 9 = .ok (.if_icmp .eq 15, 3) := dk_159 0 15 (dk_at dksX1_next_0 9 rfl rfl)
theorem dX1_next_12 : decode cX1_next 12 = .ok (.iload_n 3, 1) := dk_29 (dk_at dksX1_next_0 12 rfl rfl)
theorem dX1_next_13 : decode cX1_next 13 = .ok (.i2l, 1) := dk_133 (dk_at dksX1_next_0 13 rfl rfl)
theorem dX1_next_14 : decode cX1_next 14 = .ok (.lconst 1, 1) := dk_10 (dk_at dksX1_next_0 14 rfl rfl)
theorem dX1_next_15 : decode cX1_next 15 = .ok (.ldc2_w 320, 3) := dk_20 1 64 (dk_at dksX1_next_0 15 rfl rfl)
theorem dX1_next_18 : decode cX1_next 18 = .ok (.invokestatic 96, 3) := dk_184 0 96 (dk_at dksX1_next_0 18 rfl rfl)
theorem dX1_next_21 : decode cX1_next 21 = .ok (.ifCond .eq 48, 3) := dk_153 0 48 (dk_at dksX1_next_0 21 rfl rfl)
theorem dX1_next_24 : decode cX1_next 24 = .ok (.iload 4, 2) := dk_21 4 (dk_at dksX1_next_1 0 rfl rfl)
theorem dX1_next_26 : decode cX1_next 26 = .ok (.iconst (-1), 1) := dk_2 (dk_at dksX1_next_1 2 rfl rfl)
theorem dX1_next_27 : decode cX1_next 27 = .ok (.if_icmp .eq 23, 3) := dk_159 0 23 (dk_at dksX1_next_1 3 rfl rfl)
theorem dX1_next_30 : decode cX1_next 30 = .ok (.iload 4, 2) := dk_21 4 (dk_at dksX1_next_1 6 rfl rfl)
theorem dX1_next_32 : decode cX1_next 32 = .ok (.i2l, 1) := dk_133 (dk_at dksX1_next_1 8 rfl rfl)
theorem dX1_next_33 : decode cX1_next 33 = .ok (.lconst 0, 1) := dk_9 (dk_at dksX1_next_1 9 rfl rfl)
theorem dX1_next_34 : decode cX1_next 34 = .ok (.aload_n 0, 1) := dk_42 (dk_at dksX1_next_1 10 rfl rfl)
theorem dX1_next_35 : decode cX1_next 35 = .ok (.getfield 39, 3) := dk_180 0 39 (dk_at dksX1_next_1 11 rfl rfl)
theorem dX1_next_38 : decode cX1_next 38 = .ok (.getfield 322, 3) := dk_180 1 66 (dk_at dksX1_next_1 14 rfl rfl)
theorem dX1_next_41 : decode cX1_next 41 = .ok (.iconst 1, 1) := dk_4 (dk_at dksX1_next_1 17 rfl rfl)
theorem dX1_next_42 : decode cX1_next 42 = .ok (.isub, 1) := dk_100 (dk_at dksX1_next_1 18 rfl rfl)
theorem dX1_next_43 : decode cX1_next 43 = .ok (.i2l, 1) := dk_133 (dk_at dksX1_next_1 19 rfl rfl)
theorem dX1_next_44 : decode cX1_next 44 = .ok (.invokestatic 96, 3) := dk_184 0 96 (dk_at dksX1_next_1 20 rfl rfl)
theorem dX1_next_47 : decode cX1_next 47 = .ok (.ifCond .eq 22, 3) := dk_153 0 22 (dk_at dksX1_next_2 0 rfl rfl)
theorem dX1_next_50 : decode cX1_next 50 = .ok (.iload 5, 2) := dk_21 5 (dk_at dksX1_next_2 3 rfl rfl)
theorem dX1_next_52 : decode cX1_next 52 = .ok (.iconst (-1), 1) := dk_2 (dk_at dksX1_next_2 5 rfl rfl)
theorem dX1_next_53 : decode cX1_next 53 = .ok (.if_icmp .eq 20, 3) := dk_159 0 20 (dk_at dksX1_next_2 6 rfl rfl)
theorem dX1_next_56 : decode cX1_next 56 = .ok (.iload 5, 2) := dk_21 5 (dk_at dksX1_next_2 9 rfl rfl)
theorem dX1_next_58 : decode cX1_next 58 = .ok (.i2l, 1) := dk_133 (dk_at dksX1_next_2 11 rfl rfl)
theorem dX1_next_59 : decode cX1_next 59 = .ok (.lconst 0, 1) := dk_9 (dk_at dksX1_next_2 12 rfl rfl)
theorem dX1_next_60 : decode cX1_next 60 = .ok (.ldc2_w 324, 3) := dk_20 1 68 (dk_at dksX1_next_2 13 rfl rfl)
theorem dX1_next_63 : decode cX1_next 63 = .ok (.invokestatic 96, 3) := dk_184 0 96 (dk_at dksX1_next_2 16 rfl rfl)
theorem dX1_next_66 : decode cX1_next 66 = .ok (.ifCond .ne 7, 3) := dk_154 0 7 (dk_at dksX1_next_2 19 rfl rfl)
theorem dX1_next_69 : decode cX1_next 69 = .ok (.ldc2_w 207, 3) := dk_20 0 207 (dk_at dksX1_next_3 0 rfl rfl)
theorem dX1_next_72 : decode cX1_next 72 = .ok (.lreturn, 1) := dk_173 (dk_at dksX1_next_3 3 rfl rfl)
theorem dX1_next_73 : decode cX1_next 73 = .ok (.lload_n 1, 1) := dk_31 (dk_at dksX1_next_3 4 rfl rfl)
theorem dX1_next_74 : decode cX1_next 74 = .ok (.lstore 6, 2) := dk_55 6 (dk_at dksX1_next_3 5 rfl rfl)
theorem dX1_next_76 : decode cX1_next 76 = .ok (.lload 6, 2) := dk_22 6 (dk_at dksX1_next_3 7 rfl rfl)
theorem dX1_next_78 : decode cX1_next 78 = .ok (.lload_n 1, 1) := dk_31 (dk_at dksX1_next_3 9 rfl rfl)
theorem dX1_next_79 : decode cX1_next 79 = .ok (.ldc2_w 257, 3) := dk_20 1 1 (dk_at dksX1_next_3 10 rfl rfl)
theorem dX1_next_82 : decode cX1_next 82 = .ok (.ladd, 1) := dk_97 (dk_at dksX1_next_3 13 rfl rfl)
theorem dX1_next_83 : decode cX1_next 83 = .ok (.lcmp, 1) := dk_148 (dk_at dksX1_next_3 14 rfl rfl)
theorem dX1_next_84 : decode cX1_next 84 = .ok (.ifCond .ge 113, 3) := dk_156 0 113 (dk_at dksX1_next_3 15 rfl rfl)
theorem dX1_next_87 : decode cX1_next 87 = .ok (.lload 6, 2) := dk_22 6 (dk_at dksX1_next_3 18 rfl rfl)
theorem dX1_next_89 : decode cX1_next 89 = .ok (.ldc2_w 5, 3) := dk_20 0 5 (dk_at dksX1_next_3 20 rfl rfl)
theorem dX1_next_92 : decode cX1_next 92 = .ok (.lcmp, 1) := dk_148 (dk_at dksX1_next_3 23 rfl rfl)
theorem dX1_next_93 : decode cX1_next 93 = .ok (.ifCond .gt 104, 3) := dk_157 0 104 (dk_at dksX1_next_4 0 rfl rfl)
theorem dX1_next_96 : decode cX1_next 96 = .ok (.iload 4, 2) := dk_21 4 (dk_at dksX1_next_4 3 rfl rfl)
theorem dX1_next_98 : decode cX1_next 98 = .ok (.iconst (-1), 1) := dk_2 (dk_at dksX1_next_4 5 rfl rfl)
theorem dX1_next_99 : decode cX1_next 99 = .ok (.if_icmp .eq 17, 3) := dk_159 0 17 (dk_at dksX1_next_4 6 rfl rfl)
theorem dX1_next_102 : decode cX1_next 102 = .ok (.aload_n 0, 1) := dk_42 (dk_at dksX1_next_4 9 rfl rfl)
theorem dX1_next_103 : decode cX1_next 103 = .ok (.getfield 39, 3) := dk_180 0 39 (dk_at dksX1_next_4 10 rfl rfl)
theorem dX1_next_106 : decode cX1_next 106 = .ok (.lload 6, 2) := dk_22 6 (dk_at dksX1_next_4 13 rfl rfl)
theorem dX1_next_108 : decode cX1_next 108 = .ok (.invokevirtual 226, 3) := dk_182 0 226 (dk_at dksX1_next_4 15 rfl rfl)
theorem dX1_next_111 : decode cX1_next 111 = .ok (.iload 4, 2) := dk_21 4 (dk_at dksX1_next_4 18 rfl rfl)
theorem dX1_next_113 : decode cX1_next 113 = .ok (.if_icmp .ne 75, 3) := dk_160 0 75 (dk_at dksX1_next_4 20 rfl rfl)
theorem dX1_next_116 : decode cX1_next 116 = .ok (.iload 5, 2) := dk_21 5 (dk_at dksX1_next_5 0 rfl rfl)
theorem dX1_next_118 : decode cX1_next 118 = .ok (.iconst (-1), 1) := dk_2 (dk_at dksX1_next_5 2 rfl rfl)
theorem dX1_next_119 : decode cX1_next 119 = .ok (.if_icmp .eq 20, 3) := dk_159 0 20 (dk_at dksX1_next_5 3 rfl rfl)
theorem dX1_next_122 : decode cX1_next 122 = .ok (.aload_n 0, 1) := dk_42 (dk_at dksX1_next_5 6 rfl rfl)
theorem dX1_next_123 : decode cX1_next 123 = .ok (.getfield 39, 3) := dk_180 0 39 (dk_at dksX1_next_5 7 rfl rfl)
theorem dX1_next_126 : decode cX1_next 126 = .ok (.lload 6, 2) := dk_22 6 (dk_at dksX1_next_5 10 rfl rfl)
theorem dX1_next_128 : decode cX1_next 128 = .ok (.invokevirtual 230, 3) := dk_182 0 230 (dk_at dksX1_next_5 12 rfl rfl)
theorem dX1_next_131 : decode cX1_next 131 = .ok (.iload 5, 2) := dk_21 5 (dk_at dksX1_next_5 15 rfl rfl)
theorem dX1_next_133 : decode cX1_next 133 = .ok (.if_icmp .eq 6, 3) := dk_159 0 6 (dk_at dksX1_next_5 17 rfl rfl)
theorem dX1_next_136 : decode cX1_next 136 = .ok (.goto 52, 3) := dk_167 0 52 (dk_at dksX1_next_5 20 rfl rfl)
theorem dX1_next_139 : decode cX1_next 139 = .ok (.aload_n 0, 1) := dk_42 (dk_at dksX1_next_5 23 rfl rfl)
theorem dX1_next_140 : decode cX1_next 140 = .ok (.getfield 39, 3) := dk_180 0 39 (dk_at dksX1_next_6 0 rfl rfl)
theorem dX1_next_143 : decode cX1_next 143 = .ok (.lload 6, 2) := dk_22 6 (dk_at dksX1_next_6 3 rfl rfl)
theorem dX1_next_145 : decode cX1_next 145 = .ok (.invokevirtual 236, 3) := dk_182 0 236 (dk_at dksX1_next_6 5 rfl rfl)
theorem dX1_next_148 : decode cX1_next 148 = .ok (.lstore 8, 2) := dk_55 8 (dk_at dksX1_next_6 8 rfl rfl)
theorem dX1_next_150 : decode cX1_next 150 = .ok (.iload_n 3, 1) := dk_29 (dk_at dksX1_next_6 10 rfl rfl)
theorem dX1_next_151 : decode cX1_next 151 = .ok (.iconst (-1), 1) := dk_2 (dk_at dksX1_next_6 11 rfl rfl)
theorem dX1_next_152 : decode cX1_next 152 = .ok (.if_icmp .eq 33, 3) := dk_159 0 33 (dk_at dksX1_next_6 12 rfl rfl)
theorem dX1_next_155 : decode cX1_next 155 = .ok (.lload 8, 2) := dk_22 8 (dk_at dksX1_next_6 15 rfl rfl)
theorem dX1_next_157 : decode cX1_next 157 = .ok (.ldc2_w 207, 3) := dk_20 0 207 (dk_at dksX1_next_6 17 rfl rfl)
theorem dX1_next_160 : decode cX1_next 160 = .ok (.lcmp, 1) := dk_148 (dk_at dksX1_next_6 20 rfl rfl)
theorem dX1_next_161 : decode cX1_next 161 = .ok (.ifCond .eq 27, 3) := dk_153 0 27 (dk_at dksX1_next_6 21 rfl rfl)
theorem dX1_next_164 : decode cX1_next 164 = .ok (.lload 6, 2) := dk_22 6 (dk_at dksX1_next_7 0 rfl rfl)
theorem dX1_next_166 : decode cX1_next 166 = .ok (.aload_n 0, 1) := dk_42 (dk_at dksX1_next_7 2 rfl rfl)
theorem dX1_next_167 : decode cX1_next 167 = .ok (.iconst 0, 1) := dk_3 (dk_at dksX1_next_7 3 rfl rfl)
theorem dX1_next_168 : decode cX1_next 168 = .ok (.invokevirtual 177, 3) := dk_182 0 177 (dk_at dksX1_next_7 4 rfl rfl)
theorem dX1_next_171 : decode cX1_next 171 = .ok (.lload 8, 2) := dk_22 8 (dk_at dksX1_next_7 7 rfl rfl)
theorem dX1_next_173 : decode cX1_next 173 = .ok (.invokevirtual 218, 3) := dk_182 0 218 (dk_at dksX1_next_7 9 rfl rfl)
theorem dX1_next_176 : decode cX1_next 176 = .ok (.lsub, 1) := dk_101 (dk_at dksX1_next_7 12 rfl rfl)
theorem dX1_next_177 : decode cX1_next 177 = .ok (.lconst 1, 1) := dk_10 (dk_at dksX1_next_7 13 rfl rfl)
theorem dX1_next_178 : decode cX1_next 178 = .ok (.ladd, 1) := dk_97 (dk_at dksX1_next_7 14 rfl rfl)
theorem dX1_next_179 : decode cX1_next 179 = .ok (.iload_n 3, 1) := dk_29 (dk_at dksX1_next_7 15 rfl rfl)
theorem dX1_next_180 : decode cX1_next 180 = .ok (.i2l, 1) := dk_133 (dk_at dksX1_next_7 16 rfl rfl)
theorem dX1_next_181 : decode cX1_next 181 = .ok (.lcmp, 1) := dk_148 (dk_at dksX1_next_7 17 rfl rfl)
theorem dX1_next_182 : decode cX1_next 182 = .ok (.ifCond .ne 6, 3) := dk_154 0 6 (dk_at dksX1_next_7 18 rfl rfl)
theorem dX1_next_185 : decode cX1_next 185 = .ok (.lload 6, 2) := dk_22 6 (dk_at dksX1_next_7 21 rfl rfl)
theorem dX1_next_187 : decode cX1_next 187 = .ok (.lreturn, 1) := dk_173 (dk_at dksX1_next_7 23 rfl rfl)
theorem dX1_next_188 : decode cX1_next 188 = .ok (.lload 6, 2) := dk_22 6 (dk_at dksX1_next_8 0 rfl rfl)
theorem dX1_next_190 : decode cX1_next 190 = .ok (.lconst 1, 1) := dk_10 (dk_at dksX1_next_8 2 rfl rfl)
theorem dX1_next_191 : decode cX1_next 191 = .ok (.ladd, 1) := dk_97 (dk_at dksX1_next_8 3 rfl rfl)
theorem dX1_next_192 : decode cX1_next 192 = .ok (.lstore 6, 2) := dk_55 6 (dk_at dksX1_next_8 4 rfl rfl)
theorem dX1_next_194 : decode cX1_next 194 = .ok (.goto (-118), 3) := dk_167 255 138 (dk_at dksX1_next_8 6 rfl rfl)
theorem dX1_next_197 : decode cX1_next 197 = .ok (.ldc2_w 263, 3) := dk_20 1 7 (dk_at dksX1_next_8 9 rfl rfl)
theorem dX1_next_200 : decode cX1_next 200 = .ok (.lreturn, 1) := dk_173 (dk_at dksX1_next_8 12 rfl rfl)
abbrev cX1_alike : ByteArray := prog_1_method_35_code
def yX1_alike : MethodName := ⟨RX1, "alike", "(IIJZ)J"⟩
def dkwX1_alike_6 : List UInt8 := [182, 0, 218, 101, 148, 154, 0, 6, 22, 8, 173, 22, 8, 10, 97, 55, 8, 167, 255, 151, 20, 1, 7, 173]
abbrev dktX1_alike_6 : List UInt8 := dkwX1_alike_6 ++ []
def dkwX1_alike_5 : List UInt8 := [153, 0, 6, 167, 0, 30, 22, 8, 25, 6, 22, 10, 182, 0, 218, 101, 22, 8, 25, 7, 22, 12]
abbrev dktX1_alike_5 : List UInt8 := dkwX1_alike_5 ++ dktX1_alike_6
def dkwX1_alike_4 : List UInt8 := [153, 0, 55, 22, 12, 20, 0, 207, 148, 153, 0, 46, 21, 5, 153, 0, 14, 22, 10, 22, 12, 148]
abbrev dktX1_alike_4 : List UInt8 := dkwX1_alike_4 ++ dktX1_alike_5
def dkwX1_alike_3 : List UInt8 := [25, 6, 22, 8, 182, 0, 212, 55, 10, 25, 7, 22, 8, 182, 0, 212, 55, 12, 22, 10, 20, 0, 207, 148]
abbrev dktX1_alike_3 : List UInt8 := dkwX1_alike_3 ++ dktX1_alike_4
def dkwX1_alike_2 : List UInt8 := [33, 55, 8, 22, 8, 33, 20, 1, 1, 97, 148, 156, 0, 100, 22, 8, 20, 0, 5, 148, 157, 0, 91]
abbrev dktX1_alike_2 : List UInt8 := dkwX1_alike_2 ++ dktX1_alike_3
def dkwX1_alike_1 : List UInt8 := [184, 0, 209, 154, 0, 7, 20, 0, 207, 173, 42, 27, 182, 0, 177, 58, 6, 42, 28, 182, 0, 177, 58, 7]
abbrev dktX1_alike_1 : List UInt8 := dkwX1_alike_1 ++ dktX1_alike_2
def dkwX1_alike_0 : List UInt8 := [42, 27, 182, 0, 171, 153, 0, 23, 42, 28, 182, 0, 171, 153, 0, 15, 27, 28, 159, 0, 10, 33]
abbrev dktX1_alike_0 : List UInt8 := dkwX1_alike_0 ++ dktX1_alike_1
theorem dksX1_alike_0 : cX1_alike.data.toList.drop 0 = dktX1_alike_0 := by decide +kernel
theorem dksX1_alike_1 : cX1_alike.data.toList.drop 22 = dktX1_alike_1 := dk_seg dksX1_alike_0 22 rfl rfl
theorem dksX1_alike_2 : cX1_alike.data.toList.drop 46 = dktX1_alike_2 := dk_seg dksX1_alike_1 24 rfl rfl
theorem dksX1_alike_3 : cX1_alike.data.toList.drop 69 = dktX1_alike_3 := dk_seg dksX1_alike_2 23 rfl rfl
theorem dksX1_alike_4 : cX1_alike.data.toList.drop 93 = dktX1_alike_4 := dk_seg dksX1_alike_3 24 rfl rfl
theorem dksX1_alike_5 : cX1_alike.data.toList.drop 115 = dktX1_alike_5 := dk_seg dksX1_alike_4 22 rfl rfl
theorem dksX1_alike_6 : cX1_alike.data.toList.drop 137 = dktX1_alike_6 := dk_seg dksX1_alike_5 22 rfl rfl
theorem dX1_alike_0 : decode cX1_alike 0 = .ok (.aload_n 0, 1) := dk_42 (dk_at dksX1_alike_0 0 rfl rfl)
theorem dX1_alike_1 : decode cX1_alike 1 = .ok (.iload_n 1, 1) := dk_27 (dk_at dksX1_alike_0 1 rfl rfl)
theorem dX1_alike_2 : decode cX1_alike 2 = .ok (.invokevirtual 171, 3) := dk_182 0 171 (dk_at dksX1_alike_0 2 rfl rfl)
theorem dX1_alike_5 : decode cX1_alike 5 = .ok (.ifCond .eq 23, 3) := dk_153 0 23 (dk_at dksX1_alike_0 5 rfl rfl)
theorem dX1_alike_8 : decode cX1_alike 8 = .ok (.aload_n 0, 1) := dk_42 (dk_at dksX1_alike_0 8 rfl rfl)
theorem dX1_alike_9 : decode cX1_alike 9 = .ok (.iload_n 2, 1) := dk_28 (dk_at dksX1_alike_0 9 rfl rfl)
theorem dX1_alike_10 : decode cX1_alike 10 = .ok (.invokevirtual 171, 3) := dk_182 0 171 (dk_at dksX1_alike_0 10 rfl rfl)
theorem dX1_alike_13 : decode cX1_alike 13 = .ok (.ifCond .eq 15, 3) := dk_153 0 15 (dk_at dksX1_alike_0 13 rfl rfl)
theorem dX1_alike_16 : decode cX1_alike 16 = .ok (.iload_n 1, 1) := dk_27 (dk_at dksX1_alike_0 16 rfl rfl)
theorem dX1_alike_17 : decode cX1_alike 17 = .ok (.iload_n 2, 1) := dk_28 (dk_at dksX1_alike_0 17 rfl rfl)
theorem dX1_alike_18 : decode cX1_alike 18 = .ok (.if_icmp .eq 10, 3) := dk_159 0 10 (dk_at dksX1_alike_0 18 rfl rfl)
theorem dX1_alike_21 : decode cX1_alike 21 = .ok (.lload_n 3, 1) := dk_33 (dk_at dksX1_alike_0 21 rfl rfl)
theorem dX1_alike_22 : decode cX1_alike 22 = .ok (.invokestatic 209, 3) := dk_184 0 209 (dk_at dksX1_alike_1 0 rfl rfl)
theorem dX1_alike_25 : decode cX1_alike 25 = .ok (.ifCond .ne 7, 3) := dk_154 0 7 (dk_at dksX1_alike_1 3 rfl rfl)
theorem dX1_alike_28 : decode cX1_alike 28 = .ok (.ldc2_w 207, 3) := dk_20 0 207 (dk_at dksX1_alike_1 6 rfl rfl)
theorem dX1_alike_31 : decode cX1_alike 31 = .ok (.lreturn, 1) := dk_173 (dk_at dksX1_alike_1 9 rfl rfl)
theorem dX1_alike_32 : decode cX1_alike 32 = .ok (.aload_n 0, 1) := dk_42 (dk_at dksX1_alike_1 10 rfl rfl)
theorem dX1_alike_33 : decode cX1_alike 33 = .ok (.iload_n 1, 1) := dk_27 (dk_at dksX1_alike_1 11 rfl rfl)
theorem dX1_alike_34 : decode cX1_alike 34 = .ok (.invokevirtual 177, 3) := dk_182 0 177 (dk_at dksX1_alike_1 12 rfl rfl)
theorem dX1_alike_37 : decode cX1_alike 37 = .ok (.astore 6, 2) := dk_58 6 (dk_at dksX1_alike_1 15 rfl rfl)
theorem dX1_alike_39 : decode cX1_alike 39 = .ok (.aload_n 0, 1) := dk_42 (dk_at dksX1_alike_1 17 rfl rfl)
theorem dX1_alike_40 : decode cX1_alike 40 = .ok (.iload_n 2, 1) := dk_28 (dk_at dksX1_alike_1 18 rfl rfl)
theorem dX1_alike_41 : decode cX1_alike 41 = .ok (.invokevirtual 177, 3) := dk_182 0 177 (dk_at dksX1_alike_1 19 rfl rfl)
theorem dX1_alike_44 : decode cX1_alike 44 = .ok (.astore 7, 2) := dk_58 7 (dk_at dksX1_alike_1 22 rfl rfl)
theorem dX1_alike_46 : decode cX1_alike 46 = .ok (.lload_n 3, 1) := dk_33 (dk_at dksX1_alike_2 0 rfl rfl)
theorem dX1_alike_47 : decode cX1_alike 47 = .ok (.lstore 8, 2) := dk_55 8 (dk_at dksX1_alike_2 1 rfl rfl)
theorem dX1_alike_49 : decode cX1_alike 49 = .ok (.lload 8, 2) := dk_22 8 (dk_at dksX1_alike_2 3 rfl rfl)
theorem dX1_alike_51 : decode cX1_alike 51 = .ok (.lload_n 3, 1) := dk_33 (dk_at dksX1_alike_2 5 rfl rfl)
theorem dX1_alike_52 : decode cX1_alike 52 = .ok (.ldc2_w 257, 3) := dk_20 1 1 (dk_at dksX1_alike_2 6 rfl rfl)
theorem dX1_alike_55 : decode cX1_alike 55 = .ok (.ladd, 1) := dk_97 (dk_at dksX1_alike_2 9 rfl rfl)
theorem dX1_alike_56 : decode cX1_alike 56 = .ok (.lcmp, 1) := dk_148 (dk_at dksX1_alike_2 10 rfl rfl)
theorem dX1_alike_57 : decode cX1_alike 57 = .ok (.ifCond .ge 100, 3) := dk_156 0 100 (dk_at dksX1_alike_2 11 rfl rfl)
theorem dX1_alike_60 : decode cX1_alike 60 = .ok (.lload 8, 2) := dk_22 8 (dk_at dksX1_alike_2 14 rfl rfl)
theorem dX1_alike_62 : decode cX1_alike 62 = .ok (.ldc2_w 5, 3) := dk_20 0 5 (dk_at dksX1_alike_2 16 rfl rfl)
theorem dX1_alike_65 : decode cX1_alike 65 = .ok (.lcmp, 1) := dk_148 (dk_at dksX1_alike_2 19 rfl rfl)
theorem dX1_alike_66 : decode cX1_alike 66 = .ok (.ifCond .gt 91, 3) := dk_157 0 91 (dk_at dksX1_alike_2 20 rfl rfl)
theorem dX1_alike_69 : decode cX1_alike 69 = .ok (.aload 6, 2) := dk_25 6 (dk_at dksX1_alike_3 0 rfl rfl)
theorem dX1_alike_71 : decode cX1_alike 71 = .ok (.lload 8, 2) := dk_22 8 (dk_at dksX1_alike_3 2 rfl rfl)
theorem dX1_alike_73 : decode cX1_alike 73 = .ok (.invokevirtual 212, 3) := dk_182 0 212 (dk_at dksX1_alike_3 4 rfl rfl)
theorem dX1_alike_76 : decode cX1_alike 76 = .ok (.lstore 10, 2) := dk_55 10 (dk_at dksX1_alike_3 7 rfl rfl)
theorem dX1_alike_78 : decode cX1_alike 78 = .ok (.aload 7, 2) := dk_25 7 (dk_at dksX1_alike_3 9 rfl rfl)
theorem dX1_alike_80 : decode cX1_alike 80 = .ok (.lload 8, 2) := dk_22 8 (dk_at dksX1_alike_3 11 rfl rfl)
theorem dX1_alike_82 : decode cX1_alike 82 = .ok (.invokevirtual 212, 3) := dk_182 0 212 (dk_at dksX1_alike_3 13 rfl rfl)
theorem dX1_alike_85 : decode cX1_alike 85 = .ok (.lstore 12, 2) := dk_55 12 (dk_at dksX1_alike_3 16 rfl rfl)
theorem dX1_alike_87 : decode cX1_alike 87 = .ok (.lload 10, 2) := dk_22 10 (dk_at dksX1_alike_3 18 rfl rfl)
theorem dX1_alike_89 : decode cX1_alike 89 = .ok (.ldc2_w 207, 3) := dk_20 0 207 (dk_at dksX1_alike_3 20 rfl rfl)
theorem dX1_alike_92 : decode cX1_alike 92 = .ok (.lcmp, 1) := dk_148 (dk_at dksX1_alike_3 23 rfl rfl)
theorem dX1_alike_93 : decode cX1_alike 93 = .ok (.ifCond .eq 55, 3) := dk_153 0 55 (dk_at dksX1_alike_4 0 rfl rfl)
theorem dX1_alike_96 : decode cX1_alike 96 = .ok (.lload 12, 2) := dk_22 12 (dk_at dksX1_alike_4 3 rfl rfl)
theorem dX1_alike_98 : decode cX1_alike 98 = .ok (.ldc2_w 207, 3) := dk_20 0 207 (dk_at dksX1_alike_4 5 rfl rfl)
theorem dX1_alike_101 : decode cX1_alike 101 = .ok (.lcmp, 1) := dk_148 (dk_at dksX1_alike_4 8 rfl rfl)
theorem dX1_alike_102 : decode cX1_alike 102 = .ok (.ifCond .eq 46, 3) := dk_153 0 46 (dk_at dksX1_alike_4 9 rfl rfl)
theorem dX1_alike_105 : decode cX1_alike 105 = .ok (.iload 5, 2) := dk_21 5 (dk_at dksX1_alike_4 12 rfl rfl)
theorem dX1_alike_107 : decode cX1_alike 107 = .ok (.ifCond .eq 14, 3) := dk_153 0 14 (dk_at dksX1_alike_4 14 rfl rfl)
theorem dX1_alike_110 : decode cX1_alike 110 = .ok (.lload 10, 2) := dk_22 10 (dk_at dksX1_alike_4 17 rfl rfl)
theorem dX1_alike_112 : decode cX1_alike 112 = .ok (.lload 12, 2) := dk_22 12 (dk_at dksX1_alike_4 19 rfl rfl)
theorem dX1_alike_114 : decode cX1_alike 114 = .ok (.lcmp, 1) := dk_148 (dk_at dksX1_alike_4 21 rfl rfl)
theorem dX1_alike_115 : decode cX1_alike 115 = .ok (.ifCond .eq 6, 3) := dk_153 0 6 (dk_at dksX1_alike_5 0 rfl rfl)
theorem dX1_alike_118 : decode cX1_alike 118 = .ok (.goto 30, 3) := dk_167 0 30 (dk_at dksX1_alike_5 3 rfl rfl)
theorem dX1_alike_121 : decode cX1_alike 121 = .ok (.lload 8, 2) := dk_22 8 (dk_at dksX1_alike_5 6 rfl rfl)
theorem dX1_alike_123 : decode cX1_alike 123 = .ok (.aload 6, 2) := dk_25 6 (dk_at dksX1_alike_5 8 rfl rfl)
theorem dX1_alike_125 : decode cX1_alike 125 = .ok (.lload 10, 2) := dk_22 10 (dk_at dksX1_alike_5 10 rfl rfl)
theorem dX1_alike_127 : decode cX1_alike 127 = .ok (.invokevirtual 218, 3) := dk_182 0 218 (dk_at dksX1_alike_5 12 rfl rfl)
theorem dX1_alike_130 : decode cX1_alike 130 = .ok (.lsub, 1) := dk_101 (dk_at dksX1_alike_5 15 rfl rfl)
theorem dX1_alike_131 : decode cX1_alike 131 = .ok (.lload 8, 2) := dk_22 8 (dk_at dksX1_alike_5 16 rfl rfl)
theorem dX1_alike_133 : decode cX1_alike 133 = .ok (.aload 7, 2) := dk_25 7 (dk_at dksX1_alike_5 18 rfl rfl)
theorem dX1_alike_135 : decode cX1_alike 135 = .ok (.lload 12, 2) := dk_22 12 (dk_at dksX1_alike_5 20 rfl rfl)
theorem dX1_alike_137 : decode cX1_alike 137 = .ok (.invokevirtual 218, 3) := dk_182 0 218 (dk_at dksX1_alike_6 0 rfl rfl)
theorem dX1_alike_140 : decode cX1_alike 140 = .ok (.lsub, 1) := dk_101 (dk_at dksX1_alike_6 3 rfl rfl)
theorem dX1_alike_141 : decode cX1_alike 141 = .ok (.lcmp, 1) := dk_148 (dk_at dksX1_alike_6 4 rfl rfl)
theorem dX1_alike_142 : decode cX1_alike 142 = .ok (.ifCond .ne 6, 3) := dk_154 0 6 (dk_at dksX1_alike_6 5 rfl rfl)
theorem dX1_alike_145 : decode cX1_alike 145 = .ok (.lload 8, 2) := dk_22 8 (dk_at dksX1_alike_6 8 rfl rfl)
theorem dX1_alike_147 : decode cX1_alike 147 = .ok (.lreturn, 1) := dk_173 (dk_at dksX1_alike_6 10 rfl rfl)
theorem dX1_alike_148 : decode cX1_alike 148 = .ok (.lload 8, 2) := dk_22 8 (dk_at dksX1_alike_6 11 rfl rfl)
theorem dX1_alike_150 : decode cX1_alike 150 = .ok (.lconst 1, 1) := dk_10 (dk_at dksX1_alike_6 13 rfl rfl)
theorem dX1_alike_151 : decode cX1_alike 151 = .ok (.ladd, 1) := dk_97 (dk_at dksX1_alike_6 14 rfl rfl)
theorem dX1_alike_152 : decode cX1_alike 152 = .ok (.lstore 8, 2) := dk_55 8 (dk_at dksX1_alike_6 15 rfl rfl)
theorem dX1_alike_154 : decode cX1_alike 154 = .ok (.goto (-105), 3) := dk_167 255 151 (dk_at dksX1_alike_6 17 rfl rfl)
theorem dX1_alike_157 : decode cX1_alike 157 = .ok (.ldc2_w 263, 3) := dk_20 1 7 (dk_at dksX1_alike_6 20 rfl rfl)
theorem dX1_alike_160 : decode cX1_alike 160 = .ok (.lreturn, 1) := dk_173 (dk_at dksX1_alike_6 23 rfl rfl)
abbrev cX1_deed : ByteArray := prog_1_method_36_code
def yX1_deed : MethodName := ⟨RX1, "deed", "(III)J"⟩
def dkwX1_deed_6 : List UInt8 := [182, 1, 82, 42, 28, 182, 0, 177, 25, 4, 180, 1, 72, 182, 1, 82, 101, 105, 173]
abbrev dktX1_deed_6 : List UInt8 := dkwX1_deed_6 ++ []
def dkwX1_deed_5 : List UInt8 := [9, 148, 156, 0, 8, 22, 5, 167, 0, 34, 25, 4, 180, 1, 79, 133, 42, 28, 182, 0, 177, 22, 5]
abbrev dktX1_deed_5 : List UInt8 := dkwX1_deed_5 ++ dktX1_deed_6
def dkwX1_deed_4 : List UInt8 := [180, 1, 72, 173, 25, 4, 42, 42, 28, 182, 0, 177, 182, 1, 75, 55, 5, 29, 4, 159, 0, 10, 22, 5]
abbrev dktX1_deed_4 : List UInt8 := dkwX1_deed_4 ++ dktX1_deed_5
def dkwX1_deed_3 : List UInt8 := [180, 1, 72, 182, 0, 212, 20, 0, 207, 148, 154, 0, 7, 20, 0, 207, 173, 29, 154, 0, 9, 25, 4]
abbrev dktX1_deed_3 : List UInt8 := dkwX1_deed_3 ++ dktX1_deed_4
def dkwX1_deed_2 : List UInt8 := [180, 0, 39, 180, 0, 166, 27, 182, 0, 127, 192, 0, 222, 58, 4, 42, 28, 182, 0, 177, 25, 4]
abbrev dktX1_deed_2 : List UInt8 := dkwX1_deed_2 ++ dktX1_deed_3
def dkwX1_deed_1 : List UInt8 := [182, 0, 171, 153, 0, 15, 29, 133, 9, 20, 1, 70, 184, 0, 96, 154, 0, 7, 20, 0, 207, 173, 42]
abbrev dktX1_deed_1 : List UInt8 := dkwX1_deed_1 ++ dktX1_deed_2
def dkwX1_deed_0 : List UInt8 := [27, 133, 9, 42, 180, 0, 39, 180, 0, 166, 182, 0, 118, 4, 100, 133, 184, 0, 96, 153, 0, 23, 42, 28]
abbrev dktX1_deed_0 : List UInt8 := dkwX1_deed_0 ++ dktX1_deed_1
theorem dksX1_deed_0 : cX1_deed.data.toList.drop 0 = dktX1_deed_0 := by decide +kernel
theorem dksX1_deed_1 : cX1_deed.data.toList.drop 24 = dktX1_deed_1 := dk_seg dksX1_deed_0 24 rfl rfl
theorem dksX1_deed_2 : cX1_deed.data.toList.drop 47 = dktX1_deed_2 := dk_seg dksX1_deed_1 23 rfl rfl
theorem dksX1_deed_3 : cX1_deed.data.toList.drop 69 = dktX1_deed_3 := dk_seg dksX1_deed_2 22 rfl rfl
theorem dksX1_deed_4 : cX1_deed.data.toList.drop 92 = dktX1_deed_4 := dk_seg dksX1_deed_3 23 rfl rfl
theorem dksX1_deed_5 : cX1_deed.data.toList.drop 116 = dktX1_deed_5 := dk_seg dksX1_deed_4 24 rfl rfl
theorem dksX1_deed_6 : cX1_deed.data.toList.drop 139 = dktX1_deed_6 := dk_seg dksX1_deed_5 23 rfl rfl
theorem dX1_deed_0 : decode cX1_deed 0 = .ok (.iload_n 1, 1) := dk_27 (dk_at dksX1_deed_0 0 rfl rfl)
theorem dX1_deed_1 : decode cX1_deed 1 = .ok (.i2l, 1) := dk_133 (dk_at dksX1_deed_0 1 rfl rfl)
theorem dX1_deed_2 : decode cX1_deed 2 = .ok (.lconst 0, 1) := dk_9 (dk_at dksX1_deed_0 2 rfl rfl)
theorem dX1_deed_3 : decode cX1_deed 3 = .ok (.aload_n 0, 1) := dk_42 (dk_at dksX1_deed_0 3 rfl rfl)
theorem dX1_deed_4 : decode cX1_deed 4 = .ok (.getfield 39, 3) := dk_180 0 39 (dk_at dksX1_deed_0 4 rfl rfl)
theorem dX1_deed_7 : decode cX1_deed 7 = .ok (.getfield 166, 3) := dk_180 0 166 (dk_at dksX1_deed_0 7 rfl rfl)
theorem dX1_deed_10 : decode cX1_deed 10 = .ok (.invokevirtual 118, 3) := dk_182 0 118 (dk_at dksX1_deed_0 10 rfl rfl)
theorem dX1_deed_13 : decode cX1_deed 13 = .ok (.iconst 1, 1) := dk_4 (dk_at dksX1_deed_0 13 rfl rfl)
theorem dX1_deed_14 : decode cX1_deed 14 = .ok (.isub, 1) := dk_100 (dk_at dksX1_deed_0 14 rfl rfl)
theorem dX1_deed_15 : decode cX1_deed 15 = .ok (.i2l, 1) := dk_133 (dk_at dksX1_deed_0 15 rfl rfl)
theorem dX1_deed_16 : decode cX1_deed 16 = .ok (.invokestatic 96, 3) := dk_184 0 96 (dk_at dksX1_deed_0 16 rfl rfl)
theorem dX1_deed_19 : decode cX1_deed 19 = .ok (.ifCond .eq 23, 3) := dk_153 0 23 (dk_at dksX1_deed_0 19 rfl rfl)
theorem dX1_deed_22 : decode cX1_deed 22 = .ok (.aload_n 0, 1) := dk_42 (dk_at dksX1_deed_0 22 rfl rfl)
theorem dX1_deed_23 : decode cX1_deed 23 = .ok (.iload_n 2, 1) := dk_28 (dk_at dksX1_deed_0 23 rfl rfl)
theorem dX1_deed_24 : decode cX1_deed 24 = .ok (.invokevirtual 171, 3) := dk_182 0 171 (dk_at dksX1_deed_1 0 rfl rfl)
theorem dX1_deed_27 : decode cX1_deed 27 = .ok (.ifCond .eq 15, 3) := dk_153 0 15 (dk_at dksX1_deed_1 3 rfl rfl)
theorem dX1_deed_30 : decode cX1_deed 30 = .ok (.iload_n 3, 1) := dk_29 (dk_at dksX1_deed_1 6 rfl rfl)
theorem dX1_deed_31 : decode cX1_deed 31 = .ok (.i2l, 1) := dk_133 (dk_at dksX1_deed_1 7 rfl rfl)
theorem dX1_deed_32 : decode cX1_deed 32 = .ok (.lconst 0, 1) := dk_9 (dk_at dksX1_deed_1 8 rfl rfl)
theorem dX1_deed_33 : decode cX1_deed 33 = .ok (.ldc2_w 326, 3) := dk_20 1 70 (dk_at dksX1_deed_1 9 rfl rfl)
theorem dX1_deed_36 : decode cX1_deed 36 = .ok (.invokestatic 96, 3) := dk_184 0 96 (dk_at dksX1_deed_1 12 rfl rfl)
theorem dX1_deed_39 : decode cX1_deed 39 = .ok (.ifCond .ne 7, 3) := dk_154 0 7 (dk_at dksX1_deed_1 15 rfl rfl)
theorem dX1_deed_42 : decode cX1_deed 42 = .ok (.ldc2_w 207, 3) := dk_20 0 207 (dk_at dksX1_deed_1 18 rfl rfl)
theorem dX1_deed_45 : decode cX1_deed 45 = .ok (.lreturn, 1) := dk_173 (dk_at dksX1_deed_1 21 rfl rfl)
theorem dX1_deed_46 : decode cX1_deed 46 = .ok (.aload_n 0, 1) := dk_42 (dk_at dksX1_deed_1 22 rfl rfl)
theorem dX1_deed_47 : decode cX1_deed 47 = .ok (.getfield 39, 3) := dk_180 0 39 (dk_at dksX1_deed_2 0 rfl rfl)
theorem dX1_deed_50 : decode cX1_deed 50 = .ok (.getfield 166, 3) := dk_180 0 166 (dk_at dksX1_deed_2 3 rfl rfl)
theorem dX1_deed_53 : decode cX1_deed 53 = .ok (.iload_n 1, 1) := dk_27 (dk_at dksX1_deed_2 6 rfl rfl)
theorem dX1_deed_54 : decode cX1_deed 54 = .ok (.invokevirtual 127, 3) := dk_182 0 127 (dk_at dksX1_deed_2 7 rfl rfl)
theorem dX1_deed_57 : decode cX1_deed 57 = .ok (.checkcast 222, 3) := dk_192 0 222 (dk_at dksX1_deed_2 10 rfl rfl)
theorem dX1_deed_60 : decode cX1_deed 60 = .ok (.astore 4, 2) := dk_58 4 (dk_at dksX1_deed_2 13 rfl rfl)
theorem dX1_deed_62 : decode cX1_deed 62 = .ok (.aload_n 0, 1) := dk_42 (dk_at dksX1_deed_2 15 rfl rfl)
theorem dX1_deed_63 : decode cX1_deed 63 = .ok (.iload_n 2, 1) := dk_28 (dk_at dksX1_deed_2 16 rfl rfl)
theorem dX1_deed_64 : decode cX1_deed 64 = .ok (.invokevirtual 177, 3) := dk_182 0 177 (dk_at dksX1_deed_2 17 rfl rfl)
theorem dX1_deed_67 : decode cX1_deed 67 = .ok (.aload 4, 2) := dk_25 4 (dk_at dksX1_deed_2 20 rfl rfl)
theorem dX1_deed_69 : decode cX1_deed 69 = .ok (.getfield 328, 3) := dk_180 1 72 (dk_at dksX1_deed_3 0 rfl rfl)
theorem dX1_deed_72 : decode cX1_deed 72 = .ok (.invokevirtual 212, 3) := dk_182 0 212 (dk_at dksX1_deed_3 3 rfl rfl)
theorem dX1_deed_75 : decode cX1_deed 75 = .ok (.ldc2_w 207, 3) := dk_20 0 207 (dk_at dksX1_deed_3 6 rfl rfl)
theorem dX1_deed_78 : decode cX1_deed 78 = .ok (.lcmp, 1) := dk_148 (dk_at dksX1_deed_3 9 rfl rfl)
theorem dX1_deed_79 : decode cX1_deed 79 = .ok (.ifCond .ne 7, 3) := dk_154 0 7 (dk_at dksX1_deed_3 10 rfl rfl)
theorem dX1_deed_82 : decode cX1_deed 82 = .ok (.ldc2_w 207, 3) := dk_20 0 207 (dk_at dksX1_deed_3 13 rfl rfl)
theorem dX1_deed_85 : decode cX1_deed 85 = .ok (.lreturn, 1) := dk_173 (dk_at dksX1_deed_3 16 rfl rfl)
theorem dX1_deed_86 : decode cX1_deed 86 = .ok (.iload_n 3, 1) := dk_29 (dk_at dksX1_deed_3 17 rfl rfl)
theorem dX1_deed_87 : decode cX1_deed 87 = .ok (.ifCond .ne 9, 3) := dk_154 0 9 (dk_at dksX1_deed_3 18 rfl rfl)
theorem dX1_deed_90 : decode cX1_deed 90 = .ok (.aload 4, 2) := dk_25 4 (dk_at dksX1_deed_3 21 rfl rfl)
theorem dX1_deed_92 : decode cX1_deed 92 = .ok (.getfield 328, 3) := dk_180 1 72 (dk_at dksX1_deed_4 0 rfl rfl)
theorem dX1_deed_95 : decode cX1_deed 95 = .ok (.lreturn, 1) := dk_173 (dk_at dksX1_deed_4 3 rfl rfl)
theorem dX1_deed_96 : decode cX1_deed 96 = .ok (.aload 4, 2) := dk_25 4 (dk_at dksX1_deed_4 4 rfl rfl)
theorem dX1_deed_98 : decode cX1_deed 98 = .ok (.aload_n 0, 1) := dk_42 (dk_at dksX1_deed_4 6 rfl rfl)
theorem dX1_deed_99 : decode cX1_deed 99 = .ok (.aload_n 0, 1) := dk_42 (dk_at dksX1_deed_4 7 rfl rfl)
theorem dX1_deed_100 : decode cX1_deed 100 = .ok (.iload_n 2, 1) := dk_28 (dk_at dksX1_deed_4 8 rfl rfl)
theorem dX1_deed_101 : decode cX1_deed 101 = .ok (.invokevirtual 177, 3) := dk_182 0 177 (dk_at dksX1_deed_4 9 rfl rfl)
theorem dX1_deed_104 : decode cX1_deed 104 = .ok (.invokevirtual 331, 3) := dk_182 1 75 (dk_at dksX1_deed_4 12 rfl rfl)
theorem dX1_deed_107 : decode cX1_deed 107 = .ok (.lstore 5, 2) := dk_55 5 (dk_at dksX1_deed_4 15 rfl rfl)
theorem dX1_deed_109 : decode cX1_deed 109 = .ok (.iload_n 3, 1) := dk_29 (dk_at dksX1_deed_4 17 rfl rfl)
theorem dX1_deed_110 : decode cX1_deed 110 = .ok (.iconst 1, 1) := dk_4 (dk_at dksX1_deed_4 18 rfl rfl)
theorem dX1_deed_111 : decode cX1_deed 111 = .ok (.if_icmp .eq 10, 3) := dk_159 0 10 (dk_at dksX1_deed_4 19 rfl rfl)
theorem dX1_deed_114 : decode cX1_deed 114 = .ok (.lload 5, 2) := dk_22 5 (dk_at dksX1_deed_4 22 rfl rfl)
theorem dX1_deed_116 : decode cX1_deed 116 = .ok (.lconst 0, 1) := dk_9 (dk_at dksX1_deed_5 0 rfl rfl)
theorem dX1_deed_117 : decode cX1_deed 117 = .ok (.lcmp, 1) := dk_148 (dk_at dksX1_deed_5 1 rfl rfl)
theorem dX1_deed_118 : decode cX1_deed 118 = .ok (.ifCond .ge 8, 3) := dk_156 0 8 (dk_at dksX1_deed_5 2 rfl rfl)
theorem dX1_deed_121 : decode cX1_deed 121 = .ok (.lload 5, 2) := dk_22 5 (dk_at dksX1_deed_5 5 rfl rfl)
theorem dX1_deed_123 : decode cX1_deed 123 = .ok (.goto 34, 3) := dk_167 0 34 (dk_at dksX1_deed_5 7 rfl rfl)
theorem dX1_deed_126 : decode cX1_deed 126 = .ok (.aload 4, 2) := dk_25 4 (dk_at dksX1_deed_5 10 rfl rfl)
theorem dX1_deed_128 : decode cX1_deed 128 = .ok (.getfield 335, 3) := dk_180 1 79 (dk_at dksX1_deed_5 12 rfl rfl)
theorem dX1_deed_131 : decode cX1_deed 131 = .ok (.i2l, 1) := dk_133 (dk_at dksX1_deed_5 15 rfl rfl)
theorem dX1_deed_132 : decode cX1_deed 132 = .ok (.aload_n 0, 1) := dk_42 (dk_at dksX1_deed_5 16 rfl rfl)
theorem dX1_deed_133 : decode cX1_deed 133 = .ok (.iload_n 2, 1) := dk_28 (dk_at dksX1_deed_5 17 rfl rfl)
theorem dX1_deed_134 : decode cX1_deed 134 = .ok (.invokevirtual 177, 3) := dk_182 0 177 (dk_at dksX1_deed_5 18 rfl rfl)
theorem dX1_deed_137 : decode cX1_deed 137 = .ok (.lload 5, 2) := dk_22 5 (dk_at dksX1_deed_5 21 rfl rfl)
theorem dX1_deed_139 : decode cX1_deed 139 = .ok (.invokevirtual 338, 3) := dk_182 1 82 (dk_at dksX1_deed_6 0 rfl rfl)
theorem dX1_deed_142 : decode cX1_deed 142 = .ok (.aload_n 0, 1) := dk_42 (dk_at dksX1_deed_6 3 rfl rfl)
theorem dX1_deed_143 : decode cX1_deed 143 = .ok (.iload_n 2, 1) := dk_28 (dk_at dksX1_deed_6 4 rfl rfl)
theorem dX1_deed_144 : decode cX1_deed 144 = .ok (.invokevirtual 177, 3) := dk_182 0 177 (dk_at dksX1_deed_6 5 rfl rfl)
theorem dX1_deed_147 : decode cX1_deed 147 = .ok (.aload 4, 2) := dk_25 4 (dk_at dksX1_deed_6 8 rfl rfl)
theorem dX1_deed_149 : decode cX1_deed 149 = .ok (.getfield 328, 3) := dk_180 1 72 (dk_at dksX1_deed_6 10 rfl rfl)
theorem dX1_deed_152 : decode cX1_deed 152 = .ok (.invokevirtual 338, 3) := dk_182 1 82 (dk_at dksX1_deed_6 13 rfl rfl)
theorem dX1_deed_155 : decode cX1_deed 155 = .ok (.lsub, 1) := dk_101 (dk_at dksX1_deed_6 16 rfl rfl)
theorem dX1_deed_156 : decode cX1_deed 156 = .ok (.lmul, 1) := dk_105 (dk_at dksX1_deed_6 17 rfl rfl)
theorem dX1_deed_157 : decode cX1_deed 157 = .ok (.lreturn, 1) := dk_173 (dk_at dksX1_deed_6 18 rfl rfl)
abbrev cX1_ends : ByteArray := prog_1_method_37_code
def yX1_ends : MethodName := ⟨RX1, "ends", "(IJI)I"⟩
def dkwX1_ends_2 : List UInt8 := [182, 0, 177, 32, 21, 4, 133, 97, 182, 1, 82, 42, 27, 182, 0, 177, 32, 182, 1, 82, 101, 136, 172]
abbrev dktX1_ends_2 : List UInt8 := dkwX1_ends_2 ++ []
def dkwX1_ends_1 : List UInt8 := [184, 0, 96, 153, 0, 15, 32, 21, 4, 133, 97, 20, 0, 5, 148, 158, 0, 5, 2, 172, 42, 27]
abbrev dktX1_ends_1 : List UInt8 := dkwX1_ends_1 ++ dktX1_ends_2
def dkwX1_ends_0 : List UInt8 := [42, 27, 182, 0, 171, 153, 0, 35, 32, 184, 0, 209, 153, 0, 28, 21, 4, 133, 10, 20, 1, 64]
abbrev dktX1_ends_0 : List UInt8 := dkwX1_ends_0 ++ dktX1_ends_1
theorem dksX1_ends_0 : cX1_ends.data.toList.drop 0 = dktX1_ends_0 := by decide +kernel
theorem dksX1_ends_1 : cX1_ends.data.toList.drop 22 = dktX1_ends_1 := dk_seg dksX1_ends_0 22 rfl rfl
theorem dksX1_ends_2 : cX1_ends.data.toList.drop 44 = dktX1_ends_2 := dk_seg dksX1_ends_1 22 rfl rfl
theorem dX1_ends_0 : decode cX1_ends 0 = .ok (.aload_n 0, 1) := dk_42 (dk_at dksX1_ends_0 0 rfl rfl)
theorem dX1_ends_1 : decode cX1_ends 1 = .ok (.iload_n 1, 1) := dk_27 (dk_at dksX1_ends_0 1 rfl rfl)
theorem dX1_ends_2 : decode cX1_ends 2 = .ok (.invokevirtual 171, 3) := dk_182 0 171 (dk_at dksX1_ends_0 2 rfl rfl)
theorem dX1_ends_5 : decode cX1_ends 5 = .ok (.ifCond .eq 35, 3) := dk_153 0 35 (dk_at dksX1_ends_0 5 rfl rfl)
theorem dX1_ends_8 : decode cX1_ends 8 = .ok (.lload_n 2, 1) := dk_32 (dk_at dksX1_ends_0 8 rfl rfl)
theorem dX1_ends_9 : decode cX1_ends 9 = .ok (.invokestatic 209, 3) := dk_184 0 209 (dk_at dksX1_ends_0 9 rfl rfl)
theorem dX1_ends_12 : decode cX1_ends 12 = .ok (.ifCond .eq 28, 3) := dk_153 0 28 (dk_at dksX1_ends_0 12 rfl rfl)
theorem dX1_ends_15 : decode cX1_ends 15 = .ok (.iload 4, 2) := dk_21 4 (dk_at dksX1_ends_0 15 rfl rfl)
theorem dX1_ends_17 : decode cX1_ends 17 = .ok (.i2l, 1) := dk_133 (dk_at dksX1_ends_0 17 rfl rfl)
theorem dX1_ends_18 : decode cX1_ends 18 = .ok (.lconst 1, 1) := dk_10 (dk_at dksX1_ends_0 18 rfl rfl)
theorem dX1_ends_19 : decode cX1_ends 19 = .ok (.ldc2_w 320, 3) := dk_20 1 64 (dk_at dksX1_ends_0 19 rfl rfl)
theorem dX1_ends_22 : decode cX1_ends 22 = .ok (.invokestatic 96, 3) := dk_184 0 96 (dk_at dksX1_ends_1 0 rfl rfl)
theorem dX1_ends_25 : decode cX1_ends 25 = .ok (.ifCond .eq 15, 3) := dk_153 0 15 (dk_at dksX1_ends_1 3 rfl rfl)
theorem dX1_ends_28 : decode cX1_ends 28 = .ok (.lload_n 2, 1) := dk_32 (dk_at dksX1_ends_1 6 rfl rfl)
theorem dX1_ends_29 : decode cX1_ends 29 = .ok (.iload 4, 2) := dk_21 4 (dk_at dksX1_ends_1 7 rfl rfl)
theorem dX1_ends_31 : decode cX1_ends 31 = .ok (.i2l, 1) := dk_133 (dk_at dksX1_ends_1 9 rfl rfl)
theorem dX1_ends_32 : decode cX1_ends 32 = .ok (.ladd, 1) := dk_97 (dk_at dksX1_ends_1 10 rfl rfl)
theorem dX1_ends_33 : decode cX1_ends 33 = .ok (.ldc2_w 5, 3) := dk_20 0 5 (dk_at dksX1_ends_1 11 rfl rfl)
theorem dX1_ends_36 : decode cX1_ends 36 = .ok (.lcmp, 1) := dk_148 (dk_at dksX1_ends_1 14 rfl rfl)
theorem dX1_ends_37 : decode cX1_ends 37 = .ok (.ifCond .le 5, 3) := dk_158 0 5 (dk_at dksX1_ends_1 15 rfl rfl)
theorem dX1_ends_40 : decode cX1_ends 40 = .ok (.iconst (-1), 1) := dk_2 (dk_at dksX1_ends_1 18 rfl rfl)
theorem dX1_ends_41 : decode cX1_ends 41 = .ok (.ireturn, 1) := dk_172 (dk_at dksX1_ends_1 19 rfl rfl)
theorem dX1_ends_42 : decode cX1_ends 42 = .ok (.aload_n 0, 1) := dk_42 (dk_at dksX1_ends_1 20 rfl rfl)
theorem dX1_ends_43 : decode cX1_ends 43 = .ok (.iload_n 1, 1) := dk_27 (dk_at dksX1_ends_1 21 rfl rfl)
theorem dX1_ends_44 : decode cX1_ends 44 = .ok (.invokevirtual 177, 3) := dk_182 0 177 (dk_at dksX1_ends_2 0 rfl rfl)
theorem dX1_ends_47 : decode cX1_ends 47 = .ok (.lload_n 2, 1) := dk_32 (dk_at dksX1_ends_2 3 rfl rfl)
theorem dX1_ends_48 : decode cX1_ends 48 = .ok (.iload 4, 2) := dk_21 4 (dk_at dksX1_ends_2 4 rfl rfl)
theorem dX1_ends_50 : decode cX1_ends 50 = .ok (.i2l, 1) := dk_133 (dk_at dksX1_ends_2 6 rfl rfl)
theorem dX1_ends_51 : decode cX1_ends 51 = .ok (.ladd, 1) := dk_97 (dk_at dksX1_ends_2 7 rfl rfl)
theorem dX1_ends_52 : decode cX1_ends 52 = .ok (.invokevirtual 338, 3) := dk_182 1 82 (dk_at dksX1_ends_2 8 rfl rfl)
theorem dX1_ends_55 : decode cX1_ends 55 = .ok (.aload_n 0, 1) := dk_42 (dk_at dksX1_ends_2 11 rfl rfl)
theorem dX1_ends_56 : decode cX1_ends 56 = .ok (.iload_n 1, 1) := dk_27 (dk_at dksX1_ends_2 12 rfl rfl)
theorem dX1_ends_57 : decode cX1_ends 57 = .ok (.invokevirtual 177, 3) := dk_182 0 177 (dk_at dksX1_ends_2 13 rfl rfl)
theorem dX1_ends_60 : decode cX1_ends 60 = .ok (.lload_n 2, 1) := dk_32 (dk_at dksX1_ends_2 16 rfl rfl)
theorem dX1_ends_61 : decode cX1_ends 61 = .ok (.invokevirtual 338, 3) := dk_182 1 82 (dk_at dksX1_ends_2 17 rfl rfl)
theorem dX1_ends_64 : decode cX1_ends 64 = .ok (.lsub, 1) := dk_101 (dk_at dksX1_ends_2 20 rfl rfl)
theorem dX1_ends_65 : decode cX1_ends 65 = .ok (.l2i, 1) := dk_136 (dk_at dksX1_ends_2 21 rfl rfl)
theorem dX1_ends_66 : decode cX1_ends 66 = .ok (.ireturn, 1) := dk_172 (dk_at dksX1_ends_2 22 rfl rfl)
abbrev cX1_hire : ByteArray := prog_1_method_38_code
def yX1_hire : MethodName := ⟨RX1, "hire", "(IJII)J"⟩
def dkwX1_hire_5 : List UInt8 := [21, 11, 54, 8, 22, 9, 10, 97, 55, 9, 167, 255, 201, 22, 6, 173]
abbrev dktX1_hire_5 : List UInt8 := dkwX1_hire_5 ++ []
def dkwX1_hire_4 : List UInt8 := [22, 6, 20, 0, 207, 148, 153, 0, 13, 21, 11, 21, 8, 163, 0, 6, 167, 0, 11, 22, 9, 55, 6]
abbrev dktX1_hire_4 : List UInt8 := dkwX1_hire_4 ++ dktX1_hire_5
def dkwX1_hire_3 : List UInt8 := [55, 9, 22, 9, 32, 21, 4, 133, 97, 148, 157, 0, 50, 42, 27, 22, 9, 21, 5, 182, 1, 87, 54, 11]
abbrev dktX1_hire_3 : List UInt8 := dkwX1_hire_3 ++ dktX1_hire_4
def dkwX1_hire_2 : List UInt8 := [21, 5, 133, 97, 20, 0, 5, 148, 158, 0, 7, 20, 0, 207, 173, 20, 0, 207, 55, 6, 3, 54, 8, 32]
abbrev dktX1_hire_2 : List UInt8 := dkwX1_hire_2 ++ dktX1_hire_3
def dkwX1_hire_1 : List UInt8 := [184, 0, 96, 153, 0, 32, 21, 5, 133, 10, 20, 1, 64, 184, 0, 96, 153, 0, 19, 32, 21, 4, 133, 97]
abbrev dktX1_hire_1 : List UInt8 := dkwX1_hire_1 ++ dktX1_hire_2
def dkwX1_hire_0 : List UInt8 := [42, 27, 182, 0, 171, 153, 0, 52, 32, 184, 0, 209, 153, 0, 45, 21, 4, 133, 9, 20, 1, 85]
abbrev dktX1_hire_0 : List UInt8 := dkwX1_hire_0 ++ dktX1_hire_1
theorem dksX1_hire_0 : cX1_hire.data.toList.drop 0 = dktX1_hire_0 := by decide +kernel
theorem dksX1_hire_1 : cX1_hire.data.toList.drop 22 = dktX1_hire_1 := dk_seg dksX1_hire_0 22 rfl rfl
theorem dksX1_hire_2 : cX1_hire.data.toList.drop 46 = dktX1_hire_2 := dk_seg dksX1_hire_1 24 rfl rfl
theorem dksX1_hire_3 : cX1_hire.data.toList.drop 70 = dktX1_hire_3 := dk_seg dksX1_hire_2 24 rfl rfl
theorem dksX1_hire_4 : cX1_hire.data.toList.drop 94 = dktX1_hire_4 := dk_seg dksX1_hire_3 24 rfl rfl
theorem dksX1_hire_5 : cX1_hire.data.toList.drop 117 = dktX1_hire_5 := dk_seg dksX1_hire_4 23 rfl rfl
theorem dX1_hire_0 : decode cX1_hire 0 = .ok (.aload_n 0, 1) := dk_42 (dk_at dksX1_hire_0 0 rfl rfl)
theorem dX1_hire_1 : decode cX1_hire 1 = .ok (.iload_n 1, 1) := dk_27 (dk_at dksX1_hire_0 1 rfl rfl)
theorem dX1_hire_2 : decode cX1_hire 2 = .ok (.invokevirtual 171, 3) := dk_182 0 171 (dk_at dksX1_hire_0 2 rfl rfl)
theorem dX1_hire_5 : decode cX1_hire 5 = .ok (.ifCond .eq 52, 3) := dk_153 0 52 (dk_at dksX1_hire_0 5 rfl rfl)
theorem dX1_hire_8 : decode cX1_hire 8 = .ok (.lload_n 2, 1) := dk_32 (dk_at dksX1_hire_0 8 rfl rfl)
theorem dX1_hire_9 : decode cX1_hire 9 = .ok (.invokestatic 209, 3) := dk_184 0 209 (dk_at dksX1_hire_0 9 rfl rfl)
theorem dX1_hire_12 : decode cX1_hire 12 = .ok (.ifCond .eq 45, 3) := dk_153 0 45 (dk_at dksX1_hire_0 12 rfl rfl)
theorem dX1_hire_15 : decode cX1_hire 15 = .ok (.iload 4, 2) := dk_21 4 (dk_at dksX1_hire_0 15 rfl rfl)
theorem dX1_hire_17 : decode cX1_hire 17 = .ok (.i2l, 1) := dk_133 (dk_at dksX1_hire_0 17 rfl rfl)
theorem dX1_hire_18 : decode cX1_hire 18 = .ok (.lconst 0, 1) := dk_9 (dk_at dksX1_hire_0 18 rfl rfl)
theorem dX1_hire_19 : decode cX1_hire 19 = .ok (.ldc2_w 341, 3) := dk_20 1 85 (dk_at dksX1_hire_0 19 rfl rfl)
theorem dX1_hire_22 : decode cX1_hire 22 = .ok (.invokestatic 96, 3) := dk_184 0 96 (dk_at dksX1_hire_1 0 rfl rfl)
theorem dX1_hire_25 : decode cX1_hire 25 = .ok (.ifCond .eq 32, 3) := dk_153 0 32 (dk_at dksX1_hire_1 3 rfl rfl)
theorem dX1_hire_28 : decode cX1_hire 28 = .ok (.iload 5, 2) := dk_21 5 (dk_at dksX1_hire_1 6 rfl rfl)
theorem dX1_hire_30 : decode cX1_hire 30 = .ok (.i2l, 1) := dk_133 (dk_at dksX1_hire_1 8 rfl rfl)
theorem dX1_hire_31 : decode cX1_hire 31 = .ok (.lconst 1, 1) := dk_10 (dk_at dksX1_hire_1 9 rfl rfl)
theorem dX1_hire_32 : decode cX1_hire 32 = .ok (.ldc2_w 320, 3) := dk_20 1 64 (dk_at dksX1_hire_1 10 rfl rfl)
theorem dX1_hire_35 : decode cX1_hire 35 = .ok (.invokestatic 96, 3) := dk_184 0 96 (dk_at dksX1_hire_1 13 rfl rfl)
theorem dX1_hire_38 : decode cX1_hire 38 = .ok (.ifCond .eq 19, 3) := dk_153 0 19 (dk_at dksX1_hire_1 16 rfl rfl)
theorem dX1_hire_41 : decode cX1_hire 41 = .ok (.lload_n 2, 1) := dk_32 (dk_at dksX1_hire_1 19 rfl rfl)
theorem dX1_hire_42 : decode cX1_hire 42 = .ok (.iload 4, 2) := dk_21 4 (dk_at dksX1_hire_1 20 rfl rfl)
theorem dX1_hire_44 : decode cX1_hire 44 = .ok (.i2l, 1) := dk_133 (dk_at dksX1_hire_1 22 rfl rfl)
theorem dX1_hire_45 : decode cX1_hire 45 = .ok (.ladd, 1) := dk_97 (dk_at dksX1_hire_1 23 rfl rfl)
theorem dX1_hire_46 : decode cX1_hire 46 = .ok (.iload 5, 2) := dk_21 5 (dk_at dksX1_hire_2 0 rfl rfl)
theorem dX1_hire_48 : decode cX1_hire 48 = .ok (.i2l, 1) := dk_133 (dk_at dksX1_hire_2 2 rfl rfl)
theorem dX1_hire_49 : decode cX1_hire 49 = .ok (.ladd, 1) := dk_97 (dk_at dksX1_hire_2 3 rfl rfl)
theorem dX1_hire_50 : decode cX1_hire 50 = .ok (.ldc2_w 5, 3) := dk_20 0 5 (dk_at dksX1_hire_2 4 rfl rfl)
theorem dX1_hire_53 : decode cX1_hire 53 = .ok (.lcmp, 1) := dk_148 (dk_at dksX1_hire_2 7 rfl rfl)
theorem dX1_hire_54 : decode cX1_hire 54 = .ok (.ifCond .le 7, 3) := dk_158 0 7 (dk_at dksX1_hire_2 8 rfl rfl)
theorem dX1_hire_57 : decode cX1_hire 57 = .ok (.ldc2_w 207, 3) := dk_20 0 207 (dk_at dksX1_hire_2 11 rfl rfl)
theorem dX1_hire_60 : decode cX1_hire 60 = .ok (.lreturn, 1) := dk_173 (dk_at dksX1_hire_2 14 rfl rfl)
theorem dX1_hire_61 : decode cX1_hire 61 = .ok (.ldc2_w 207, 3) := dk_20 0 207 (dk_at dksX1_hire_2 15 rfl rfl)
theorem dX1_hire_64 : decode cX1_hire 64 = .ok (.lstore 6, 2) := dk_55 6 (dk_at dksX1_hire_2 18 rfl rfl)
theorem dX1_hire_66 : decode cX1_hire 66 = .ok (.iconst 0, 1) := dk_3 (dk_at dksX1_hire_2 20 rfl rfl)
theorem dX1_hire_67 : decode cX1_hire 67 = .ok (.istore 8, 2) := dk_54 8 (dk_at dksX1_hire_2 21 rfl rfl)
theorem dX1_hire_69 : decode cX1_hire 69 = .ok (.lload_n 2, 1) := dk_32 (dk_at dksX1_hire_2 23 rfl rfl)
theorem dX1_hire_70 : decode cX1_hire 70 = .ok (.lstore 9, 2) := dk_55 9 (dk_at dksX1_hire_3 0 rfl rfl)
theorem dX1_hire_72 : decode cX1_hire 72 = .ok (.lload 9, 2) := dk_22 9 (dk_at dksX1_hire_3 2 rfl rfl)
theorem dX1_hire_74 : decode cX1_hire 74 = .ok (.lload_n 2, 1) := dk_32 (dk_at dksX1_hire_3 4 rfl rfl)
theorem dX1_hire_75 : decode cX1_hire 75 = .ok (.iload 4, 2) := dk_21 4 (dk_at dksX1_hire_3 5 rfl rfl)
theorem dX1_hire_77 : decode cX1_hire 77 = .ok (.i2l, 1) := dk_133 (dk_at dksX1_hire_3 7 rfl rfl)
theorem dX1_hire_78 : decode cX1_hire 78 = .ok (.ladd, 1) := dk_97 (dk_at dksX1_hire_3 8 rfl rfl)
theorem dX1_hire_79 : decode cX1_hire 79 = .ok (.lcmp, 1) := dk_148 (dk_at dksX1_hire_3 9 rfl rfl)
theorem dX1_hire_80 : decode cX1_hire 80 = .ok (.ifCond .gt 50, 3) := dk_157 0 50 (dk_at dksX1_hire_3 10 rfl rfl)
theorem dX1_hire_83 : decode cX1_hire 83 = .ok (.aload_n 0, 1) := dk_42 (dk_at dksX1_hire_3 13 rfl rfl)
theorem dX1_hire_84 : decode cX1_hire 84 = .ok (.iload_n 1, 1) := dk_27 (dk_at dksX1_hire_3 14 rfl rfl)
theorem dX1_hire_85 : decode cX1_hire 85 = .ok (.lload 9, 2) := dk_22 9 (dk_at dksX1_hire_3 15 rfl rfl)
theorem dX1_hire_87 : decode cX1_hire 87 = .ok (.iload 5, 2) := dk_21 5 (dk_at dksX1_hire_3 17 rfl rfl)
theorem dX1_hire_89 : decode cX1_hire 89 = .ok (.invokevirtual 343, 3) := dk_182 1 87 (dk_at dksX1_hire_3 19 rfl rfl)
theorem dX1_hire_92 : decode cX1_hire 92 = .ok (.istore 11, 2) := dk_54 11 (dk_at dksX1_hire_3 22 rfl rfl)
theorem dX1_hire_94 : decode cX1_hire 94 = .ok (.lload 6, 2) := dk_22 6 (dk_at dksX1_hire_4 0 rfl rfl)
theorem dX1_hire_96 : decode cX1_hire 96 = .ok (.ldc2_w 207, 3) := dk_20 0 207 (dk_at dksX1_hire_4 2 rfl rfl)
theorem dX1_hire_99 : decode cX1_hire 99 = .ok (.lcmp, 1) := dk_148 (dk_at dksX1_hire_4 5 rfl rfl)
theorem dX1_hire_100 : decode cX1_hire 100 = .ok (.ifCond .eq 13, 3) := dk_153 0 13 (dk_at dksX1_hire_4 6 rfl rfl)
theorem dX1_hire_103 : decode cX1_hire 103 = .ok (.iload 11, 2) := dk_21 11 (dk_at dksX1_hire_4 9 rfl rfl)
theorem dX1_hire_105 : decode cX1_hire 105 = .ok (.iload 8, 2) := dk_21 8 (dk_at dksX1_hire_4 11 rfl rfl)
theorem dX1_hire_107 : decode cX1_hire 107 = .ok (.if_icmp .gt 6, 3) := dk_163 0 6 (dk_at dksX1_hire_4 13 rfl rfl)
theorem dX1_hire_110 : decode cX1_hire 110 = .ok (.goto 11, 3) := dk_167 0 11 (dk_at dksX1_hire_4 16 rfl rfl)
theorem dX1_hire_113 : decode cX1_hire 113 = .ok (.lload 9, 2) := dk_22 9 (dk_at dksX1_hire_4 19 rfl rfl)
theorem dX1_hire_115 : decode cX1_hire 115 = .ok (.lstore 6, 2) := dk_55 6 (dk_at dksX1_hire_4 21 rfl rfl)
theorem dX1_hire_117 : decode cX1_hire 117 = .ok (.iload 11, 2) := dk_21 11 (dk_at dksX1_hire_5 0 rfl rfl)
theorem dX1_hire_119 : decode cX1_hire 119 = .ok (.istore 8, 2) := dk_54 8 (dk_at dksX1_hire_5 2 rfl rfl)
theorem dX1_hire_121 : decode cX1_hire 121 = .ok (.lload 9, 2) := dk_22 9 (dk_at dksX1_hire_5 4 rfl rfl)
theorem dX1_hire_123 : decode cX1_hire 123 = .ok (.lconst 1, 1) := dk_10 (dk_at dksX1_hire_5 6 rfl rfl)
theorem dX1_hire_124 : decode cX1_hire 124 = .ok (.ladd, 1) := dk_97 (dk_at dksX1_hire_5 7 rfl rfl)
theorem dX1_hire_125 : decode cX1_hire 125 = .ok (.lstore 9, 2) := dk_55 9 (dk_at dksX1_hire_5 8 rfl rfl)
theorem dX1_hire_127 : decode cX1_hire 127 = .ok (.goto (-55), 3) := dk_167 255 201 (dk_at dksX1_hire_5 10 rfl rfl)
theorem dX1_hire_130 : decode cX1_hire 130 = .ok (.lload 6, 2) := dk_22 6 (dk_at dksX1_hire_5 13 rfl rfl)
theorem dX1_hire_132 : decode cX1_hire 132 = .ok (.lreturn, 1) := dk_173 (dk_at dksX1_hire_5 15 rfl rfl)
abbrev cX1_parts : ByteArray := prog_1_method_39_code
def yX1_parts : MethodName := ⟨RX1, "parts", "(III)I"⟩
def dkwX1_parts_3 : List UInt8 := [167, 255, 217, 29, 154, 0, 8, 21, 4, 167, 0, 5, 21, 5, 172]
abbrev dktX1_parts_3 : List UInt8 := dkwX1_parts_3 ++ []
def dkwX1_parts_2 : List UInt8 := [21, 6, 133, 113, 9, 148, 153, 0, 6, 167, 0, 10, 132, 4, 1, 21, 6, 54, 5, 132, 6, 1]
abbrev dktX1_parts_2 : List UInt8 := dkwX1_parts_2 ++ dktX1_parts_3
def dkwX1_parts_1 : List UInt8 := [3, 54, 5, 4, 54, 6, 21, 6, 16, 99, 163, 0, 38, 42, 27, 182, 0, 177, 28, 133, 182, 0, 204]
abbrev dktX1_parts_1 : List UInt8 := dkwX1_parts_1 ++ dktX1_parts_2
def dkwX1_parts_0 : List UInt8 := [42, 27, 28, 182, 0, 200, 153, 0, 13, 29, 133, 9, 10, 184, 0, 96, 154, 0, 5, 2, 172, 3, 54, 4]
abbrev dktX1_parts_0 : List UInt8 := dkwX1_parts_0 ++ dktX1_parts_1
theorem dksX1_parts_0 : cX1_parts.data.toList.drop 0 = dktX1_parts_0 := by decide +kernel
theorem dksX1_parts_1 : cX1_parts.data.toList.drop 24 = dktX1_parts_1 := dk_seg dksX1_parts_0 24 rfl rfl
theorem dksX1_parts_2 : cX1_parts.data.toList.drop 47 = dktX1_parts_2 := dk_seg dksX1_parts_1 23 rfl rfl
theorem dksX1_parts_3 : cX1_parts.data.toList.drop 69 = dktX1_parts_3 := dk_seg dksX1_parts_2 22 rfl rfl
theorem dX1_parts_0 : decode cX1_parts 0 = .ok (.aload_n 0, 1) := dk_42 (dk_at dksX1_parts_0 0 rfl rfl)
theorem dX1_parts_1 : decode cX1_parts 1 = .ok (.iload_n 1, 1) := dk_27 (dk_at dksX1_parts_0 1 rfl rfl)
theorem dX1_parts_2 : decode cX1_parts 2 = .ok (.iload_n 2, 1) := dk_28 (dk_at dksX1_parts_0 2 rfl rfl)
theorem dX1_parts_3 : decode cX1_parts 3 = .ok (.invokevirtual 200, 3) := dk_182 0 200 (dk_at dksX1_parts_0 3 rfl rfl)
theorem dX1_parts_6 : decode cX1_parts 6 = .ok (.ifCond .eq 13, 3) := dk_153 0 13 (dk_at dksX1_parts_0 6 rfl rfl)
theorem dX1_parts_9 : decode cX1_parts 9 = .ok (.iload_n 3, 1) := dk_29 (dk_at dksX1_parts_0 9 rfl rfl)
theorem dX1_parts_10 : decode cX1_parts 10 = .ok (.i2l, 1) := dk_133 (dk_at dksX1_parts_0 10 rfl rfl)
theorem dX1_parts_11 : decode cX1_parts 11 = .ok (.lconst 0, 1) := dk_9 (dk_at dksX1_parts_0 11 rfl rfl)
theorem dX1_parts_12 : decode cX1_parts 12 = .ok (.lconst 1, 1) := dk_10 (dk_at dksX1_parts_0 12 rfl rfl)
theorem dX1_parts_13 : decode cX1_parts 13 = .ok (.invokestatic 96, 3) := dk_184 0 96 (dk_at dksX1_parts_0 13 rfl rfl)
theorem dX1_parts_16 : decode cX1_parts 16 = .ok (.ifCond .ne 5, 3) := dk_154 0 5 (dk_at dksX1_parts_0 16 rfl rfl)
theorem dX1_parts_19 : decode cX1_parts 19 = .ok (.iconst (-1), 1) := dk_2 (dk_at dksX1_parts_0 19 rfl rfl)
theorem dX1_parts_20 : decode cX1_parts 20 = .ok (.ireturn, 1) := dk_172 (dk_at dksX1_parts_0 20 rfl rfl)
theorem dX1_parts_21 : decode cX1_parts 21 = .ok (.iconst 0, 1) := dk_3 (dk_at dksX1_parts_0 21 rfl rfl)
theorem dX1_parts_22 : decode cX1_parts 22 = .ok (.istore 4, 2) := dk_54 4 (dk_at dksX1_parts_0 22 rfl rfl)
theorem dX1_parts_24 : decode cX1_parts 24 = .ok (.iconst 0, 1) := dk_3 (dk_at dksX1_parts_1 0 rfl rfl)
theorem dX1_parts_25 : decode cX1_parts 25 = .ok (.istore 5, 2) := dk_54 5 (dk_at dksX1_parts_1 1 rfl rfl)
theorem dX1_parts_27 : decode cX1_parts 27 = .ok (.iconst 1, 1) := dk_4 (dk_at dksX1_parts_1 3 rfl rfl)
theorem dX1_parts_28 : decode cX1_parts 28 = .ok (.istore 6, 2) := dk_54 6 (dk_at dksX1_parts_1 4 rfl rfl)
theorem dX1_parts_30 : decode cX1_parts 30 = .ok (.iload 6, 2) := dk_21 6 (dk_at dksX1_parts_1 6 rfl rfl)
theorem dX1_parts_32 : decode cX1_parts 32 = .ok (.bipush 99, 2) := dk_16 99 (dk_at dksX1_parts_1 8 rfl rfl)
theorem dX1_parts_34 : decode cX1_parts 34 = .ok (.if_icmp .gt 38, 3) := dk_163 0 38 (dk_at dksX1_parts_1 10 rfl rfl)
theorem dX1_parts_37 : decode cX1_parts 37 = .ok (.aload_n 0, 1) := dk_42 (dk_at dksX1_parts_1 13 rfl rfl)
theorem dX1_parts_38 : decode cX1_parts 38 = .ok (.iload_n 1, 1) := dk_27 (dk_at dksX1_parts_1 14 rfl rfl)
theorem dX1_parts_39 : decode cX1_parts 39 = .ok (.invokevirtual 177, 3) := dk_182 0 177 (dk_at dksX1_parts_1 15 rfl rfl)
theorem dX1_parts_42 : decode cX1_parts 42 = .ok (.iload_n 2, 1) := dk_28 (dk_at dksX1_parts_1 18 rfl rfl)
theorem dX1_parts_43 : decode cX1_parts 43 = .ok (.i2l, 1) := dk_133 (dk_at dksX1_parts_1 19 rfl rfl)
theorem dX1_parts_44 : decode cX1_parts 44 = .ok (.invokevirtual 204, 3) := dk_182 0 204 (dk_at dksX1_parts_1 20 rfl rfl)
theorem dX1_parts_47 : decode cX1_parts 47 = .ok (.iload 6, 2) := dk_21 6 (dk_at dksX1_parts_2 0 rfl rfl)
theorem dX1_parts_49 : decode cX1_parts 49 = .ok (.i2l, 1) := dk_133 (dk_at dksX1_parts_2 2 rfl rfl)
theorem dX1_parts_50 : decode cX1_parts 50 = .ok (.lrem, 1) := dk_113 (dk_at dksX1_parts_2 3 rfl rfl)
theorem dX1_parts_51 : decode cX1_parts 51 = .ok (.lconst 0, 1) := dk_9 (dk_at dksX1_parts_2 4 rfl rfl)
theorem dX1_parts_52 : decode cX1_parts 52 = .ok (.lcmp, 1) := dk_148 (dk_at dksX1_parts_2 5 rfl rfl)
theorem dX1_parts_53 : decode cX1_parts 53 = .ok (.ifCond .eq 6, 3) := dk_153 0 6 (dk_at dksX1_parts_2 6 rfl rfl)
theorem dX1_parts_56 : decode cX1_parts 56 = .ok (.goto 10, 3) := dk_167 0 10 (dk_at dksX1_parts_2 9 rfl rfl)
theorem dX1_parts_59 : decode cX1_parts 59 = .ok (.iinc 4 1, 3) := dk_132 4 1 (dk_at dksX1_parts_2 12 rfl rfl)
theorem dX1_parts_62 : decode cX1_parts 62 = .ok (.iload 6, 2) := dk_21 6 (dk_at dksX1_parts_2 15 rfl rfl)
theorem dX1_parts_64 : decode cX1_parts 64 = .ok (.istore 5, 2) := dk_54 5 (dk_at dksX1_parts_2 17 rfl rfl)
theorem dX1_parts_66 : decode cX1_parts 66 = .ok (.iinc 6 1, 3) := dk_132 6 1 (dk_at dksX1_parts_2 19 rfl rfl)
theorem dX1_parts_69 : decode cX1_parts 69 = .ok (.goto (-39), 3) := dk_167 255 217 (dk_at dksX1_parts_3 0 rfl rfl)
theorem dX1_parts_72 : decode cX1_parts 72 = .ok (.iload_n 3, 1) := dk_29 (dk_at dksX1_parts_3 3 rfl rfl)
theorem dX1_parts_73 : decode cX1_parts 73 = .ok (.ifCond .ne 8, 3) := dk_154 0 8 (dk_at dksX1_parts_3 4 rfl rfl)
theorem dX1_parts_76 : decode cX1_parts 76 = .ok (.iload 4, 2) := dk_21 4 (dk_at dksX1_parts_3 7 rfl rfl)
theorem dX1_parts_78 : decode cX1_parts 78 = .ok (.goto 5, 3) := dk_167 0 5 (dk_at dksX1_parts_3 9 rfl rfl)
theorem dX1_parts_81 : decode cX1_parts 81 = .ok (.iload 5, 2) := dk_21 5 (dk_at dksX1_parts_3 12 rfl rfl)
theorem dX1_parts_83 : decode cX1_parts 83 = .ok (.ireturn, 1) := dk_172 (dk_at dksX1_parts_3 14 rfl rfl)
abbrev cX1_months : ByteArray := prog_1_method_40_code
def yX1_months : MethodName := ⟨RX1, "months", "(III)I"⟩
def dkwX1_months_3 : List UInt8 := [133, 113, 9, 148, 154, 0, 7, 22, 4, 136, 172, 22, 4, 10, 97, 55, 4, 167, 255, 194, 16, 254, 172]
abbrev dktX1_months_3 : List UInt8 := dkwX1_months_3 ++ []
def dkwX1_months_2 : List UInt8 := [42, 27, 182, 0, 177, 22, 4, 182, 0, 181, 153, 0, 34, 42, 27, 182, 0, 177, 22, 4, 182, 0, 204, 29]
abbrev dktX1_months_2 : List UInt8 := dkwX1_months_2 ++ dktX1_months_3
def dkwX1_months_1 : List UInt8 := [133, 55, 4, 22, 4, 28, 133, 20, 1, 62, 97, 148, 156, 0, 56, 22, 4, 20, 0, 175, 148, 157, 0, 47]
abbrev dktX1_months_1 : List UInt8 := dkwX1_months_1 ++ dktX1_months_2
def dkwX1_months_0 : List UInt8 := [42, 27, 28, 182, 0, 200, 153, 0, 15, 29, 133, 10, 20, 1, 60, 184, 0, 96, 154, 0, 5, 2, 172, 28]
abbrev dktX1_months_0 : List UInt8 := dkwX1_months_0 ++ dktX1_months_1
theorem dksX1_months_0 : cX1_months.data.toList.drop 0 = dktX1_months_0 := by decide +kernel
theorem dksX1_months_1 : cX1_months.data.toList.drop 24 = dktX1_months_1 := dk_seg dksX1_months_0 24 rfl rfl
theorem dksX1_months_2 : cX1_months.data.toList.drop 48 = dktX1_months_2 := dk_seg dksX1_months_1 24 rfl rfl
theorem dksX1_months_3 : cX1_months.data.toList.drop 72 = dktX1_months_3 := dk_seg dksX1_months_2 24 rfl rfl
theorem dX1_months_0 : decode cX1_months 0 = .ok (.aload_n 0, 1) := dk_42 (dk_at dksX1_months_0 0 rfl rfl)
theorem dX1_months_1 : decode cX1_months 1 = .ok (.iload_n 1, 1) := dk_27 (dk_at dksX1_months_0 1 rfl rfl)
theorem dX1_months_2 : decode cX1_months 2 = .ok (.iload_n 2, 1) := dk_28 (dk_at dksX1_months_0 2 rfl rfl)
theorem dX1_months_3 : decode cX1_months 3 = .ok (.invokevirtual 200, 3) := dk_182 0 200 (dk_at dksX1_months_0 3 rfl rfl)
theorem dX1_months_6 : decode cX1_months 6 = .ok (.ifCond .eq 15, 3) := dk_153 0 15 (dk_at dksX1_months_0 6 rfl rfl)
theorem dX1_months_9 : decode cX1_months 9 = .ok (.iload_n 3, 1) := dk_29 (dk_at dksX1_months_0 9 rfl rfl)
theorem dX1_months_10 : decode cX1_months 10 = .ok (.i2l, 1) := dk_133 (dk_at dksX1_months_0 10 rfl rfl)
theorem dX1_months_11 : decode cX1_months 11 = .ok (.lconst 1, 1) := dk_10 (dk_at dksX1_months_0 11 rfl rfl)
theorem dX1_months_12 : decode cX1_months 12 = .ok (.ldc2_w 316, 3) := dk_20 1 60 (dk_at dksX1_months_0 12 rfl rfl)
theorem dX1_months_15 : decode cX1_months 15 = .ok (.invokestatic 96, 3) := dk_184 0 96 (dk_at dksX1_months_0 15 rfl rfl)
theorem dX1_months_18 : decode cX1_months 18 = .ok (.ifCond .ne 5, 3) := dk_154 0 5 (dk_at dksX1_months_0 18 rfl rfl)
theorem dX1_months_21 : decode cX1_months 21 = .ok (.iconst (-1), 1) := dk_2 (dk_at dksX1_months_0 21 rfl rfl)
theorem dX1_months_22 : decode cX1_months 22 = .ok (.ireturn, 1) := dk_172 (dk_at dksX1_months_0 22 rfl rfl)
theorem dX1_months_23 : decode cX1_months 23 = .ok (.iload_n 2, 1) := dk_28 (dk_at dksX1_months_0 23 rfl rfl)
theorem dX1_months_24 : decode cX1_months 24 = .ok (.i2l, 1) := dk_133 (dk_at dksX1_months_1 0 rfl rfl)
theorem dX1_months_25 : decode cX1_months 25 = .ok (.lstore 4, 2) := dk_55 4 (dk_at dksX1_months_1 1 rfl rfl)
theorem dX1_months_27 : decode cX1_months 27 = .ok (.lload 4, 2) := dk_22 4 (dk_at dksX1_months_1 3 rfl rfl)
theorem dX1_months_29 : decode cX1_months 29 = .ok (.iload_n 2, 1) := dk_28 (dk_at dksX1_months_1 5 rfl rfl)
theorem dX1_months_30 : decode cX1_months 30 = .ok (.i2l, 1) := dk_133 (dk_at dksX1_months_1 6 rfl rfl)
theorem dX1_months_31 : decode cX1_months 31 = .ok (.ldc2_w 318, 3) := dk_20 1 62 (dk_at dksX1_months_1 7 rfl rfl)
theorem dX1_months_34 : decode cX1_months 34 = .ok (.ladd, 1) := dk_97 (dk_at dksX1_months_1 10 rfl rfl)
theorem dX1_months_35 : decode cX1_months 35 = .ok (.lcmp, 1) := dk_148 (dk_at dksX1_months_1 11 rfl rfl)
theorem dX1_months_36 : decode cX1_months 36 = .ok (.ifCond .ge 56, 3) := dk_156 0 56 (dk_at dksX1_months_1 12 rfl rfl)
theorem dX1_months_39 : decode cX1_months 39 = .ok (.lload 4, 2) := dk_22 4 (dk_at dksX1_months_1 15 rfl rfl)
theorem dX1_months_41 : decode cX1_months 41 = .ok (.ldc2_w 175, 3) := dk_20 0 175 (dk_at dksX1_months_1 17 rfl rfl)
theorem dX1_months_44 : decode cX1_months 44 = .ok (.lcmp, 1) := dk_148 (dk_at dksX1_months_1 20 rfl rfl)
theorem dX1_months_45 : decode cX1_months 45 = .ok (.ifCond .gt 47, 3) := dk_157 0 47 (dk_at dksX1_months_1 21 rfl rfl)
theorem dX1_months_48 : decode cX1_months 48 = .ok (.aload_n 0, 1) := dk_42 (dk_at dksX1_months_2 0 rfl rfl)
theorem dX1_months_49 : decode cX1_months 49 = .ok (.iload_n 1, 1) := dk_27 (dk_at dksX1_months_2 1 rfl rfl)
theorem dX1_months_50 : decode cX1_months 50 = .ok (.invokevirtual 177, 3) := dk_182 0 177 (dk_at dksX1_months_2 2 rfl rfl)
theorem dX1_months_53 : decode cX1_months 53 = .ok (.lload 4, 2) := dk_22 4 (dk_at dksX1_months_2 5 rfl rfl)
theorem dX1_months_55 : decode cX1_months 55 = .ok (.invokevirtual 181, 3) := dk_182 0 181 (dk_at dksX1_months_2 7 rfl rfl)
theorem dX1_months_58 : decode cX1_months 58 = .ok (.ifCond .eq 34, 3) := dk_153 0 34 (dk_at dksX1_months_2 10 rfl rfl)
theorem dX1_months_61 : decode cX1_months 61 = .ok (.aload_n 0, 1) := dk_42 (dk_at dksX1_months_2 13 rfl rfl)
theorem dX1_months_62 : decode cX1_months 62 = .ok (.iload_n 1, 1) := dk_27 (dk_at dksX1_months_2 14 rfl rfl)
theorem dX1_months_63 : decode cX1_months 63 = .ok (.invokevirtual 177, 3) := dk_182 0 177 (dk_at dksX1_months_2 15 rfl rfl)
theorem dX1_months_66 : decode cX1_months 66 = .ok (.lload 4, 2) := dk_22 4 (dk_at dksX1_months_2 18 rfl rfl)
theorem dX1_months_68 : decode cX1_months 68 = .ok (.invokevirtual 204, 3) := dk_182 0 204 (dk_at dksX1_months_2 20 rfl rfl)
theorem dX1_months_71 : decode cX1_months 71 = .ok (.iload_n 3, 1) := dk_29 (dk_at dksX1_months_2 23 rfl rfl)
theorem dX1_months_72 : decode cX1_months 72 = .ok (.i2l, 1) := dk_133 (dk_at dksX1_months_3 0 rfl rfl)
theorem dX1_months_73 : decode cX1_months 73 = .ok (.lrem, 1) := dk_113 (dk_at dksX1_months_3 1 rfl rfl)
theorem dX1_months_74 : decode cX1_months 74 = .ok (.lconst 0, 1) := dk_9 (dk_at dksX1_months_3 2 rfl rfl)
theorem dX1_months_75 : decode cX1_months 75 = .ok (.lcmp, 1) := dk_148 (dk_at dksX1_months_3 3 rfl rfl)
theorem dX1_months_76 : decode cX1_months 76 = .ok (.ifCond .ne 7, 3) := dk_154 0 7 (dk_at dksX1_months_3 4 rfl rfl)
theorem dX1_months_79 : decode cX1_months 79 = .ok (.lload 4, 2) := dk_22 4 (dk_at dksX1_months_3 7 rfl rfl)
theorem dX1_months_81 : decode cX1_months 81 = .ok (.l2i, 1) := dk_136 (dk_at dksX1_months_3 9 rfl rfl)
theorem dX1_months_82 : decode cX1_months 82 = .ok (.ireturn, 1) := dk_172 (dk_at dksX1_months_3 10 rfl rfl)
theorem dX1_months_83 : decode cX1_months 83 = .ok (.lload 4, 2) := dk_22 4 (dk_at dksX1_months_3 11 rfl rfl)
theorem dX1_months_85 : decode cX1_months 85 = .ok (.lconst 1, 1) := dk_10 (dk_at dksX1_months_3 13 rfl rfl)
theorem dX1_months_86 : decode cX1_months 86 = .ok (.ladd, 1) := dk_97 (dk_at dksX1_months_3 14 rfl rfl)
theorem dX1_months_87 : decode cX1_months 87 = .ok (.lstore 4, 2) := dk_55 4 (dk_at dksX1_months_3 15 rfl rfl)
theorem dX1_months_89 : decode cX1_months 89 = .ok (.goto (-62), 3) := dk_167 255 194 (dk_at dksX1_months_3 17 rfl rfl)
theorem dX1_months_92 : decode cX1_months 92 = .ok (.bipush (-2), 2) := dk_16 254 (dk_at dksX1_months_3 20 rfl rfl)
theorem dX1_months_94 : decode cX1_months 94 = .ok (.ireturn, 1) := dk_172 (dk_at dksX1_months_3 22 rfl rfl)
abbrev cX1_note : ByteArray := prog_1_method_52_code
def yX1_note : MethodName := ⟨RX1, "note", "()I"⟩
def dkwX1_note_2 : List UInt8 := [42, 89, 180, 0, 138, 90, 4, 96, 181, 0, 138, 2, 79, 42, 180, 0, 124, 4, 100, 172]
abbrev dktX1_note_2 : List UInt8 := dkwX1_note_2 ++ []
def dkwX1_note_1 : List UInt8 := [42, 180, 0, 77, 42, 180, 0, 124, 3, 84, 42, 89, 180, 0, 124, 4, 96, 181, 0, 124, 42, 180, 0, 56]
abbrev dktX1_note_1 : List UInt8 := dkwX1_note_1 ++ dktX1_note_2
def dkwX1_note_0 : List UInt8 := [42, 180, 0, 124, 16, 12, 160, 0, 5, 2, 172, 42, 180, 0, 49, 42, 180, 0, 124, 50, 3, 181, 1, 135]
abbrev dktX1_note_0 : List UInt8 := dkwX1_note_0 ++ dktX1_note_1
theorem dksX1_note_0 : cX1_note.data.toList.drop 0 = dktX1_note_0 := by decide +kernel
theorem dksX1_note_1 : cX1_note.data.toList.drop 24 = dktX1_note_1 := dk_seg dksX1_note_0 24 rfl rfl
theorem dksX1_note_2 : cX1_note.data.toList.drop 48 = dktX1_note_2 := dk_seg dksX1_note_1 24 rfl rfl
theorem dX1_note_0 : decode cX1_note 0 = .ok (.aload_n 0, 1) := dk_42 (dk_at dksX1_note_0 0 rfl rfl)
theorem dX1_note_1 : decode cX1_note 1 = .ok (.getfield 124, 3) := dk_180 0 124 (dk_at dksX1_note_0 1 rfl rfl)
theorem dX1_note_4 : decode cX1_note 4 = .ok (.bipush 12, 2) := dk_16 12 (dk_at dksX1_note_0 4 rfl rfl)
theorem dX1_note_6 : decode cX1_note 6 = .ok (.if_icmp .ne 5, 3) := dk_160 0 5 (dk_at dksX1_note_0 6 rfl rfl)
theorem dX1_note_9 : decode cX1_note 9 = .ok (.iconst (-1), 1) := dk_2 (dk_at dksX1_note_0 9 rfl rfl)
theorem dX1_note_10 : decode cX1_note 10 = .ok (.ireturn, 1) := dk_172 (dk_at dksX1_note_0 10 rfl rfl)
theorem dX1_note_11 : decode cX1_note 11 = .ok (.aload_n 0, 1) := dk_42 (dk_at dksX1_note_0 11 rfl rfl)
theorem dX1_note_12 : decode cX1_note 12 = .ok (.getfield 49, 3) := dk_180 0 49 (dk_at dksX1_note_0 12 rfl rfl)
theorem dX1_note_15 : decode cX1_note 15 = .ok (.aload_n 0, 1) := dk_42 (dk_at dksX1_note_0 15 rfl rfl)
theorem dX1_note_16 : decode cX1_note 16 = .ok (.getfield 124, 3) := dk_180 0 124 (dk_at dksX1_note_0 16 rfl rfl)
theorem dX1_note_19 : decode cX1_note 19 = .ok (.aaload, 1) := dk_50 (dk_at dksX1_note_0 19 rfl rfl)
theorem dX1_note_20 : decode cX1_note 20 = .ok (.iconst 0, 1) := dk_3 (dk_at dksX1_note_0 20 rfl rfl)
theorem dX1_note_21 : decode cX1_note 21 = .ok (.putfield 391, 3) := dk_181 1 135 (dk_at dksX1_note_0 21 rfl rfl)
theorem dX1_note_24 : decode cX1_note 24 = .ok (.aload_n 0, 1) := dk_42 (dk_at dksX1_note_1 0 rfl rfl)
theorem dX1_note_25 : decode cX1_note 25 = .ok (.getfield 77, 3) := dk_180 0 77 (dk_at dksX1_note_1 1 rfl rfl)
theorem dX1_note_28 : decode cX1_note 28 = .ok (.aload_n 0, 1) := dk_42 (dk_at dksX1_note_1 4 rfl rfl)
theorem dX1_note_29 : decode cX1_note 29 = .ok (.getfield 124, 3) := dk_180 0 124 (dk_at dksX1_note_1 5 rfl rfl)
theorem dX1_note_32 : decode cX1_note 32 = .ok (.iconst 0, 1) := dk_3 (dk_at dksX1_note_1 8 rfl rfl)
theorem dX1_note_33 : decode cX1_note 33 = .ok (.bastore, 1) := dk_84 (dk_at dksX1_note_1 9 rfl rfl)
theorem dX1_note_34 : decode cX1_note 34 = .ok (.aload_n 0, 1) := dk_42 (dk_at dksX1_note_1 10 rfl rfl)
theorem dX1_note_35 : decode cX1_note 35 = .ok (.dup, 1) := dk_89 (dk_at dksX1_note_1 11 rfl rfl)
theorem dX1_note_36 : decode cX1_note 36 = .ok (.getfield 124, 3) := dk_180 0 124 (dk_at dksX1_note_1 12 rfl rfl)
theorem dX1_note_39 : decode cX1_note 39 = .ok (.iconst 1, 1) := dk_4 (dk_at dksX1_note_1 15 rfl rfl)
theorem dX1_note_40 : decode cX1_note 40 = .ok (.iadd, 1) := dk_96 (dk_at dksX1_note_1 16 rfl rfl)
theorem dX1_note_41 : decode cX1_note 41 = .ok (.putfield 124, 3) := dk_181 0 124 (dk_at dksX1_note_1 17 rfl rfl)
theorem dX1_note_44 : decode cX1_note 44 = .ok (.aload_n 0, 1) := dk_42 (dk_at dksX1_note_1 20 rfl rfl)
theorem dX1_note_45 : decode cX1_note 45 = .ok (.getfield 56, 3) := dk_180 0 56 (dk_at dksX1_note_1 21 rfl rfl)
theorem dX1_note_48 : decode cX1_note 48 = .ok (.aload_n 0, 1) := dk_42 (dk_at dksX1_note_2 0 rfl rfl)
theorem dX1_note_49 : decode cX1_note 49 = .ok (.dup, 1) := dk_89 (dk_at dksX1_note_2 1 rfl rfl)
theorem dX1_note_50 : decode cX1_note 50 = .ok (.getfield 138, 3) := dk_180 0 138 (dk_at dksX1_note_2 2 rfl rfl)
theorem dX1_note_53 : decode cX1_note 53 = .ok (.dup_x1, 1) := dk_90 (dk_at dksX1_note_2 5 rfl rfl)
theorem dX1_note_54 : decode cX1_note 54 = .ok (.iconst 1, 1) := dk_4 (dk_at dksX1_note_2 6 rfl rfl)
theorem dX1_note_55 : decode cX1_note 55 = .ok (.iadd, 1) := dk_96 (dk_at dksX1_note_2 7 rfl rfl)
theorem dX1_note_56 : decode cX1_note 56 = .ok (.putfield 138, 3) := dk_181 0 138 (dk_at dksX1_note_2 8 rfl rfl)
theorem dX1_note_59 : decode cX1_note 59 = .ok (.iconst (-1), 1) := dk_2 (dk_at dksX1_note_2 11 rfl rfl)
theorem dX1_note_60 : decode cX1_note 60 = .ok (.iastore, 1) := dk_79 (dk_at dksX1_note_2 12 rfl rfl)
theorem dX1_note_61 : decode cX1_note 61 = .ok (.aload_n 0, 1) := dk_42 (dk_at dksX1_note_2 13 rfl rfl)
theorem dX1_note_62 : decode cX1_note 62 = .ok (.getfield 124, 3) := dk_180 0 124 (dk_at dksX1_note_2 14 rfl rfl)
theorem dX1_note_65 : decode cX1_note 65 = .ok (.iconst 1, 1) := dk_4 (dk_at dksX1_note_2 17 rfl rfl)
theorem dX1_note_66 : decode cX1_note 66 = .ok (.isub, 1) := dk_100 (dk_at dksX1_note_2 18 rfl rfl)
theorem dX1_note_67 : decode cX1_note 67 = .ok (.ireturn, 1) := dk_172 (dk_at dksX1_note_2 19 rfl rfl)
abbrev cX1_says : ByteArray := prog_1_method_54_code
def yX1_says : MethodName := ⟨RX1, "says", "(III)Z"⟩
def dkwX1_says_3 : List UInt8 := [42, 89, 180, 0, 138, 90, 4, 96, 181, 0, 138, 27, 79, 4, 172]
abbrev dktX1_says_3 : List UInt8 := dkwX1_says_3 ++ []
def dkwX1_says_2 : List UInt8 := [100, 50, 27, 28, 29, 182, 1, 147, 42, 180, 0, 77, 42, 180, 0, 124, 4, 100, 3, 84, 42, 180, 0, 56]
abbrev dktX1_says_2 : List UInt8 := dkwX1_says_2 ++ dktX1_says_3
def dkwX1_says_1 : List UInt8 := [180, 0, 124, 4, 100, 50, 27, 182, 1, 91, 153, 0, 5, 3, 172, 42, 180, 0, 49, 42, 180, 0, 124, 4]
abbrev dktX1_says_1 : List UInt8 := dkwX1_says_1 ++ dktX1_says_2
def dkwX1_says_0 : List UInt8 := [42, 180, 0, 124, 153, 0, 31, 42, 27, 28, 29, 182, 1, 144, 153, 0, 21, 42, 180, 0, 49, 42]
abbrev dktX1_says_0 : List UInt8 := dkwX1_says_0 ++ dktX1_says_1
theorem dksX1_says_0 : cX1_says.data.toList.drop 0 = dktX1_says_0 := by decide +kernel
theorem dksX1_says_1 : cX1_says.data.toList.drop 22 = dktX1_says_1 := dk_seg dksX1_says_0 22 rfl rfl
theorem dksX1_says_2 : cX1_says.data.toList.drop 46 = dktX1_says_2 := dk_seg dksX1_says_1 24 rfl rfl
theorem dksX1_says_3 : cX1_says.data.toList.drop 70 = dktX1_says_3 := dk_seg dksX1_says_2 24 rfl rfl
theorem dX1_says_0 : decode cX1_says 0 = .ok (.aload_n 0, 1) := dk_42 (dk_at dksX1_says_0 0 rfl rfl)
theorem dX1_says_1 : decode cX1_says 1 = .ok (.getfield 124, 3) := dk_180 0 124 (dk_at dksX1_says_0 1 rfl rfl)
theorem dX1_says_4 : decode cX1_says 4 = .ok (.ifCond .eq 31, 3) := dk_153 0 31 (dk_at dksX1_says_0 4 rfl rfl)
theorem dX1_says_7 : decode cX1_says 7 = .ok (.aload_n 0, 1) := dk_42 (dk_at dksX1_says_0 7 rfl rfl)
theorem dX1_says_8 : decode cX1_says 8 = .ok (.iload_n 1, 1) := dk_27 (dk_at dksX1_says_0 8 rfl rfl)
theorem dX1_says_9 : decode cX1_says 9 = .ok (.iload_n 2, 1) := dk_28 (dk_at dksX1_says_0 9 rfl rfl)
theorem dX1_says_10 : decode cX1_says 10 = .ok (.iload_n 3, 1) := dk_29 (dk_at dksX1_says_0 10 rfl rfl)
theorem dX1_says_11 : decode cX1_says 11 = .ok (.invokevirtual 400, 3) := dk_182 1 144 (dk_at dksX1_says_0 11 rfl rfl)
theorem dX1_says_14 : decode cX1_says 14 = .ok (.ifCond .eq 21, 3) := dk_153 0 21 (dk_at dksX1_says_0 14 rfl rfl)
theorem dX1_says_17 : decode cX1_says 17 = .ok (.aload_n 0, 1) := dk_42 (dk_at dksX1_says_0 17 rfl rfl)
theorem dX1_says_18 : decode cX1_says 18 = .ok (.getfield 49, 3) := dk_180 0 49 (dk_at dksX1_says_0 18 rfl rfl)
theorem dX1_says_21 : decode cX1_says 21 = .ok (.aload_n 0, 1) := dk_42 (dk_at dksX1_says_0 21 rfl rfl)
theorem dX1_says_22 : decode cX1_says 22 = .ok (.getfield 124, 3) := dk_180 0 124 (dk_at dksX1_says_1 0 rfl rfl)
theorem dX1_says_25 : decode cX1_says 25 = .ok (.iconst 1, 1) := dk_4 (dk_at dksX1_says_1 3 rfl rfl)
theorem dX1_says_26 : decode cX1_says 26 = .ok (.isub, 1) := dk_100 (dk_at dksX1_says_1 4 rfl rfl)
theorem dX1_says_27 : decode cX1_says 27 = .ok (.aaload, 1) := dk_50 (dk_at dksX1_says_1 5 rfl rfl)
theorem dX1_says_28 : decode cX1_says 28 = .ok (.iload_n 1, 1) := dk_27 (dk_at dksX1_says_1 6 rfl rfl)
theorem dX1_says_29 : decode cX1_says 29 = .ok (.invokevirtual 347, 3) := dk_182 1 91 (dk_at dksX1_says_1 7 rfl rfl)
theorem dX1_says_32 : decode cX1_says 32 = .ok (.ifCond .eq 5, 3) := dk_153 0 5 (dk_at dksX1_says_1 10 rfl rfl)
theorem dX1_says_35 : decode cX1_says 35 = .ok (.iconst 0, 1) := dk_3 (dk_at dksX1_says_1 13 rfl rfl)
theorem dX1_says_36 : decode cX1_says 36 = .ok (.ireturn, 1) := dk_172 (dk_at dksX1_says_1 14 rfl rfl)
theorem dX1_says_37 : decode cX1_says 37 = .ok (.aload_n 0, 1) := dk_42 (dk_at dksX1_says_1 15 rfl rfl)
theorem dX1_says_38 : decode cX1_says 38 = .ok (.getfield 49, 3) := dk_180 0 49 (dk_at dksX1_says_1 16 rfl rfl)
theorem dX1_says_41 : decode cX1_says 41 = .ok (.aload_n 0, 1) := dk_42 (dk_at dksX1_says_1 19 rfl rfl)
theorem dX1_says_42 : decode cX1_says 42 = .ok (.getfield 124, 3) := dk_180 0 124 (dk_at dksX1_says_1 20 rfl rfl)
theorem dX1_says_45 : decode cX1_says 45 = .ok (.iconst 1, 1) := dk_4 (dk_at dksX1_says_1 23 rfl rfl)
theorem dX1_says_46 : decode cX1_says 46 = .ok (.isub, 1) := dk_100 (dk_at dksX1_says_2 0 rfl rfl)
theorem dX1_says_47 : decode cX1_says 47 = .ok (.aaload, 1) := dk_50 (dk_at dksX1_says_2 1 rfl rfl)
theorem dX1_says_48 : decode cX1_says 48 = .ok (.iload_n 1, 1) := dk_27 (dk_at dksX1_says_2 2 rfl rfl)
theorem dX1_says_49 : decode cX1_says 49 = .ok (.iload_n 2, 1) := dk_28 (dk_at dksX1_says_2 3 rfl rfl)
theorem dX1_says_50 : decode cX1_says 50 = .ok (.iload_n 3, 1) := dk_29 (dk_at dksX1_says_2 4 rfl rfl)
theorem dX1_says_51 : decode cX1_says 51 = .ok (.invokevirtual 403, 3) := dk_182 1 147 (dk_at dksX1_says_2 5 rfl rfl)
theorem dX1_says_54 : decode cX1_says 54 = .ok (.aload_n 0, 1) := dk_42 (dk_at dksX1_says_2 8 rfl rfl)
theorem dX1_says_55 : decode cX1_says 55 = .ok (.getfield 77, 3) := dk_180 0 77 (dk_at dksX1_says_2 9 rfl rfl)
theorem dX1_says_58 : decode cX1_says 58 = .ok (.aload_n 0, 1) := dk_42 (dk_at dksX1_says_2 12 rfl rfl)
theorem dX1_says_59 : decode cX1_says 59 = .ok (.getfield 124, 3) := dk_180 0 124 (dk_at dksX1_says_2 13 rfl rfl)
theorem dX1_says_62 : decode cX1_says 62 = .ok (.iconst 1, 1) := dk_4 (dk_at dksX1_says_2 16 rfl rfl)
theorem dX1_says_63 : decode cX1_says 63 = .ok (.isub, 1) := dk_100 (dk_at dksX1_says_2 17 rfl rfl)
theorem dX1_says_64 : decode cX1_says 64 = .ok (.iconst 0, 1) := dk_3 (dk_at dksX1_says_2 18 rfl rfl)
theorem dX1_says_65 : decode cX1_says 65 = .ok (.bastore, 1) := dk_84 (dk_at dksX1_says_2 19 rfl rfl)
theorem dX1_says_66 : decode cX1_says 66 = .ok (.aload_n 0, 1) := dk_42 (dk_at dksX1_says_2 20 rfl rfl)
theorem dX1_says_67 : decode cX1_says 67 = .ok (.getfield 56, 3) := dk_180 0 56 (dk_at dksX1_says_2 21 rfl rfl)
theorem dX1_says_70 : decode cX1_says 70 = .ok (.aload_n 0, 1) := dk_42 (dk_at dksX1_says_3 0 rfl rfl)
theorem dX1_says_71 : decode cX1_says 71 = .ok (.dup, 1) := dk_89 (dk_at dksX1_says_3 1 rfl rfl)
theorem dX1_says_72 : decode cX1_says 72 = .ok (.getfield 138, 3) := dk_180 0 138 (dk_at dksX1_says_3 2 rfl rfl)
theorem dX1_says_75 : decode cX1_says 75 = .ok (.dup_x1, 1) := dk_90 (dk_at dksX1_says_3 5 rfl rfl)
theorem dX1_says_76 : decode cX1_says 76 = .ok (.iconst 1, 1) := dk_4 (dk_at dksX1_says_3 6 rfl rfl)
theorem dX1_says_77 : decode cX1_says 77 = .ok (.iadd, 1) := dk_96 (dk_at dksX1_says_3 7 rfl rfl)
theorem dX1_says_78 : decode cX1_says 78 = .ok (.putfield 138, 3) := dk_181 0 138 (dk_at dksX1_says_3 8 rfl rfl)
theorem dX1_says_81 : decode cX1_says 81 = .ok (.iload_n 1, 1) := dk_27 (dk_at dksX1_says_3 11 rfl rfl)
theorem dX1_says_82 : decode cX1_says 82 = .ok (.iastore, 1) := dk_79 (dk_at dksX1_says_3 12 rfl rfl)
theorem dX1_says_83 : decode cX1_says 83 = .ok (.iconst 1, 1) := dk_4 (dk_at dksX1_says_3 13 rfl rfl)
theorem dX1_says_84 : decode cX1_says 84 = .ok (.ireturn, 1) := dk_172 (dk_at dksX1_says_3 14 rfl rfl)
abbrev cX1_isSaying : ByteArray := prog_1_method_53_code
def yX1_isSaying : MethodName := ⟨RX1, "isSaying", "(III)Z"⟩
def dkwX1_isSaying_7 : List UInt8 := [167, 0, 4, 3, 172, 3, 172]
abbrev dktX1_isSaying_7 : List UInt8 := dkwX1_isSaying_7 ++ []
def dkwX1_isSaying_6 : List UInt8 := [100, 133, 184, 0, 96, 153, 0, 21, 29, 133, 20, 1, 142, 20, 1, 138, 184, 0, 96, 153, 0, 7, 4]
abbrev dktX1_isSaying_6 : List UInt8 := dkwX1_isSaying_6 ++ dktX1_isSaying_7
def dkwX1_isSaying_5 : List UInt8 := [184, 0, 96, 172, 42, 28, 182, 1, 15, 172, 42, 28, 182, 1, 9, 172, 28, 133, 9, 42, 180, 0, 124, 5]
abbrev dktX1_isSaying_5 : List UInt8 := dkwX1_isSaying_5 ++ dktX1_isSaying_6
def dkwX1_isSaying_4 : List UInt8 := [20, 1, 64, 184, 0, 96, 172, 28, 133, 9, 20, 1, 68, 184, 0, 96, 172, 28, 133, 9, 20, 1, 140]
abbrev dktX1_isSaying_4 : List UInt8 := dkwX1_isSaying_4 ++ dktX1_isSaying_5
def dkwX1_isSaying_3 : List UInt8 := [153, 0, 7, 4, 167, 0, 4, 3, 172, 28, 133, 10, 20, 1, 64, 184, 0, 96, 172, 28, 133, 9]
abbrev dktX1_isSaying_3 : List UInt8 := dkwX1_isSaying_3 ++ dktX1_isSaying_4
def dkwX1_isSaying_2 : List UInt8 := [28, 133, 10, 20, 1, 138, 184, 0, 96, 153, 0, 20, 29, 133, 28, 133, 20, 1, 138, 184, 0, 96]
abbrev dktX1_isSaying_2 : List UInt8 := dkwX1_isSaying_2 ++ dktX1_isSaying_3
def dkwX1_isSaying_1 : List UInt8 := [170, 0, 0, 0, 0, 0, 166, 0, 0, 0, 0, 0, 0, 0, 7, 0, 0, 0, 47, 0, 0, 0, 78, 0, 0, 0, 88, 0, 0, 0, 98, 0, 0, 0, 108, 0, 0, 0, 118, 0, 0, 0, 124, 0, 0, 0, 130]
abbrev dktX1_isSaying_1 : List UInt8 := dkwX1_isSaying_1 ++ dktX1_isSaying_2
def dkwX1_isSaying_0 : List UInt8 := [27]
abbrev dktX1_isSaying_0 : List UInt8 := dkwX1_isSaying_0 ++ dktX1_isSaying_1
theorem dksX1_isSaying_0 : cX1_isSaying.data.toList.drop 0 = dktX1_isSaying_0 := by decide +kernel
theorem dksX1_isSaying_1 : cX1_isSaying.data.toList.drop 1 = dktX1_isSaying_1 := dk_seg dksX1_isSaying_0 1 rfl rfl
theorem dksX1_isSaying_2 : cX1_isSaying.data.toList.drop 48 = dktX1_isSaying_2 := dk_seg dksX1_isSaying_1 47 rfl rfl
theorem dksX1_isSaying_3 : cX1_isSaying.data.toList.drop 70 = dktX1_isSaying_3 := dk_seg dksX1_isSaying_2 22 rfl rfl
theorem dksX1_isSaying_4 : cX1_isSaying.data.toList.drop 92 = dktX1_isSaying_4 := dk_seg dksX1_isSaying_3 22 rfl rfl
theorem dksX1_isSaying_5 : cX1_isSaying.data.toList.drop 115 = dktX1_isSaying_5 := dk_seg dksX1_isSaying_4 23 rfl rfl
theorem dksX1_isSaying_6 : cX1_isSaying.data.toList.drop 139 = dktX1_isSaying_6 := dk_seg dksX1_isSaying_5 24 rfl rfl
theorem dksX1_isSaying_7 : cX1_isSaying.data.toList.drop 162 = dktX1_isSaying_7 := dk_seg dksX1_isSaying_6 23 rfl rfl
theorem dX1_isSaying_0 : decode cX1_isSaying 0 = .ok (.iload_n 1, 1) := dk_27 (dk_at dksX1_isSaying_0 0 rfl rfl)
theorem dX1_isSaying_1 : decode cX1_isSaying 1 = .ok (.tableswitch 166 0 7 #[47, 78, 88, 98, 108, 118, 124, 130], 47) := by decide +kernel
theorem dX1_isSaying_48 : decode cX1_isSaying 48 = .ok (.iload_n 2, 1) := dk_28 (dk_at dksX1_isSaying_2 0 rfl rfl)
theorem dX1_isSaying_49 : decode cX1_isSaying 49 = .ok (.i2l, 1) := dk_133 (dk_at dksX1_isSaying_2 1 rfl rfl)
theorem dX1_isSaying_50 : decode cX1_isSaying 50 = .ok (.lconst 1, 1) := dk_10 (dk_at dksX1_isSaying_2 2 rfl rfl)
theorem dX1_isSaying_51 : decode cX1_isSaying 51 = .ok (.ldc2_w 394, 3) := dk_20 1 138 (dk_at dksX1_isSaying_2 3 rfl rfl)
theorem dX1_isSaying_54 : decode cX1_isSaying 54 = .ok (.invokestatic 96, 3) := dk_184 0 96 (dk_at dksX1_isSaying_2 6 rfl rfl)
theorem dX1_isSaying_57 : decode cX1_isSaying 57 = .ok (.ifCond .eq 20, 3) := dk_153 0 20 (dk_at dksX1_isSaying_2 9 rfl rfl)
theorem dX1_isSaying_60 : decode cX1_isSaying 60 = .ok (.iload_n 3, 1) := dk_29 (dk_at dksX1_isSaying_2 12 rfl rfl)
theorem dX1_isSaying_61 : decode cX1_isSaying 61 = .ok (.i2l, 1) := dk_133 (dk_at dksX1_isSaying_2 13 rfl rfl)
theorem dX1_isSaying_62 : decode cX1_isSaying 62 = .ok (.iload_n 2, 1) := dk_28 (dk_at dksX1_isSaying_2 14 rfl rfl)
theorem dX1_isSaying_63 : decode cX1_isSaying 63 = .ok (.i2l, 1) := dk_133 (dk_at dksX1_isSaying_2 15 rfl rfl)
theorem dX1_isSaying_64 : decode cX1_isSaying 64 = .ok (.ldc2_w 394, 3) := dk_20 1 138 (dk_at dksX1_isSaying_2 16 rfl rfl)
theorem dX1_isSaying_67 : decode cX1_isSaying 67 = .ok (.invokestatic 96, 3) := dk_184 0 96 (dk_at dksX1_isSaying_2 19 rfl rfl)
theorem dX1_isSaying_70 : decode cX1_isSaying 70 = .ok (.ifCond .eq 7, 3) := dk_153 0 7 (dk_at dksX1_isSaying_3 0 rfl rfl)
theorem dX1_isSaying_73 : decode cX1_isSaying 73 = .ok (.iconst 1, 1) := dk_4 (dk_at dksX1_isSaying_3 3 rfl rfl)
theorem dX1_isSaying_74 : decode cX1_isSaying 74 = .ok (.goto 4, 3) := dk_167 0 4 (dk_at dksX1_isSaying_3 4 rfl rfl)
theorem dX1_isSaying_77 : decode cX1_isSaying 77 = .ok (.iconst 0, 1) := dk_3 (dk_at dksX1_isSaying_3 7 rfl rfl)
theorem dX1_isSaying_78 : decode cX1_isSaying 78 = .ok (.ireturn, 1) := dk_172 (dk_at dksX1_isSaying_3 8 rfl rfl)
theorem dX1_isSaying_79 : decode cX1_isSaying 79 = .ok (.iload_n 2, 1) := dk_28 (dk_at dksX1_isSaying_3 9 rfl rfl)
theorem dX1_isSaying_80 : decode cX1_isSaying 80 = .ok (.i2l, 1) := dk_133 (dk_at dksX1_isSaying_3 10 rfl rfl)
theorem dX1_isSaying_81 : decode cX1_isSaying 81 = .ok (.lconst 1, 1) := dk_10 (dk_at dksX1_isSaying_3 11 rfl rfl)
theorem dX1_isSaying_82 : decode cX1_isSaying 82 = .ok (.ldc2_w 320, 3) := dk_20 1 64 (dk_at dksX1_isSaying_3 12 rfl rfl)
theorem dX1_isSaying_85 : decode cX1_isSaying 85 = .ok (.invokestatic 96, 3) := dk_184 0 96 (dk_at dksX1_isSaying_3 15 rfl rfl)
theorem dX1_isSaying_88 : decode cX1_isSaying 88 = .ok (.ireturn, 1) := dk_172 (dk_at dksX1_isSaying_3 18 rfl rfl)
theorem dX1_isSaying_89 : decode cX1_isSaying 89 = .ok (.iload_n 2, 1) := dk_28 (dk_at dksX1_isSaying_3 19 rfl rfl)
theorem dX1_isSaying_90 : decode cX1_isSaying 90 = .ok (.i2l, 1) := dk_133 (dk_at dksX1_isSaying_3 20 rfl rfl)
theorem dX1_isSaying_91 : decode cX1_isSaying 91 = .ok (.lconst 0, 1) := dk_9 (dk_at dksX1_isSaying_3 21 rfl rfl)
theorem dX1_isSaying_92 : decode cX1_isSaying 92 = .ok (.ldc2_w 320, 3) := dk_20 1 64 (dk_at dksX1_isSaying_4 0 rfl rfl)
theorem dX1_isSaying_95 : decode cX1_isSaying 95 = .ok (.invokestatic 96, 3) := dk_184 0 96 (dk_at dksX1_isSaying_4 3 rfl rfl)
theorem dX1_isSaying_98 : decode cX1_isSaying 98 = .ok (.ireturn, 1) := dk_172 (dk_at dksX1_isSaying_4 6 rfl rfl)
theorem dX1_isSaying_99 : decode cX1_isSaying 99 = .ok (.iload_n 2, 1) := dk_28 (dk_at dksX1_isSaying_4 7 rfl rfl)
theorem dX1_isSaying_100 : decode cX1_isSaying 100 = .ok (.i2l, 1) := dk_133 (dk_at dksX1_isSaying_4 8 rfl rfl)
theorem dX1_isSaying_101 : decode cX1_isSaying 101 = .ok (.lconst 0, 1) := dk_9 (dk_at dksX1_isSaying_4 9 rfl rfl)
theorem dX1_isSaying_102 : decode cX1_isSaying 102 = .ok (.ldc2_w 324, 3) := dk_20 1 68 (dk_at dksX1_isSaying_4 10 rfl rfl)
theorem dX1_isSaying_105 : decode cX1_isSaying 105 = .ok (.invokestatic 96, 3) := dk_184 0 96 (dk_at dksX1_isSaying_4 13 rfl rfl)
theorem dX1_isSaying_108 : decode cX1_isSaying 108 = .ok (.ireturn, 1) := dk_172 (dk_at dksX1_isSaying_4 16 rfl rfl)
theorem dX1_isSaying_109 : decode cX1_isSaying 109 = .ok (.iload_n 2, 1) := dk_28 (dk_at dksX1_isSaying_4 17 rfl rfl)
theorem dX1_isSaying_110 : decode cX1_isSaying 110 = .ok (.i2l, 1) := dk_133 (dk_at dksX1_isSaying_4 18 rfl rfl)
theorem dX1_isSaying_111 : decode cX1_isSaying 111 = .ok (.lconst 0, 1) := dk_9 (dk_at dksX1_isSaying_4 19 rfl rfl)
theorem dX1_isSaying_112 : decode cX1_isSaying 112 = .ok (.ldc2_w 396, 3) := dk_20 1 140 (dk_at dksX1_isSaying_4 20 rfl rfl)
theorem dX1_isSaying_115 : decode cX1_isSaying 115 = .ok (.invokestatic 96, 3) := dk_184 0 96 (dk_at dksX1_isSaying_5 0 rfl rfl)
theorem dX1_isSaying_118 : decode cX1_isSaying 118 = .ok (.ireturn, 1) := dk_172 (dk_at dksX1_isSaying_5 3 rfl rfl)
theorem dX1_isSaying_119 : decode cX1_isSaying 119 = .ok (.aload_n 0, 1) := dk_42 (dk_at dksX1_isSaying_5 4 rfl rfl)
theorem dX1_isSaying_120 : decode cX1_isSaying 120 = .ok (.iload_n 2, 1) := dk_28 (dk_at dksX1_isSaying_5 5 rfl rfl)
theorem dX1_isSaying_121 : decode cX1_isSaying 121 = .ok (.invokevirtual 271, 3) := dk_182 1 15 (dk_at dksX1_isSaying_5 6 rfl rfl)
theorem dX1_isSaying_124 : decode cX1_isSaying 124 = .ok (.ireturn, 1) := dk_172 (dk_at dksX1_isSaying_5 9 rfl rfl)
theorem dX1_isSaying_125 : decode cX1_isSaying 125 = .ok (.aload_n 0, 1) := dk_42 (dk_at dksX1_isSaying_5 10 rfl rfl)
theorem dX1_isSaying_126 : decode cX1_isSaying 126 = .ok (.iload_n 2, 1) := dk_28 (dk_at dksX1_isSaying_5 11 rfl rfl)
theorem dX1_isSaying_127 : decode cX1_isSaying 127 = .ok (.invokevirtual 265, 3) := dk_182 1 9 (dk_at dksX1_isSaying_5 12 rfl rfl)
theorem dX1_isSaying_130 : decode cX1_isSaying 130 = .ok (.ireturn, 1) := dk_172 (dk_at dksX1_isSaying_5 15 rfl rfl)
theorem dX1_isSaying_131 : decode cX1_isSaying 131 = .ok (.iload_n 2, 1) := dk_28 (dk_at dksX1_isSaying_5 16 rfl rfl)
theorem dX1_isSaying_132 : decode cX1_isSaying 132 = .ok (.i2l, 1) := dk_133 (dk_at dksX1_isSaying_5 17 rfl rfl)
theorem dX1_isSaying_133 : decode cX1_isSaying 133 = .ok (.lconst 0, 1) := dk_9 (dk_at dksX1_isSaying_5 18 rfl rfl)
theorem dX1_isSaying_134 : decode cX1_isSaying 134 = .ok (.aload_n 0, 1) := dk_42 (dk_at dksX1_isSaying_5 19 rfl rfl)
theorem dX1_isSaying_135 : decode cX1_isSaying 135 = .ok (.getfield 124, 3) := dk_180 0 124 (dk_at dksX1_isSaying_5 20 rfl rfl)
theorem dX1_isSaying_138 : decode cX1_isSaying 138 = .ok (.iconst 2, 1) := dk_5 (dk_at dksX1_isSaying_5 23 rfl rfl)
theorem dX1_isSaying_139 : decode cX1_isSaying 139 = .ok (.isub, 1) := dk_100 (dk_at dksX1_isSaying_6 0 rfl rfl)
theorem dX1_isSaying_140 : decode cX1_isSaying 140 = .ok (.i2l, 1) := dk_133 (dk_at dksX1_isSaying_6 1 rfl rfl)
theorem dX1_isSaying_141 : decode cX1_isSaying 141 = .ok (.invokestatic 96, 3) := dk_184 0 96 (dk_at dksX1_isSaying_6 2 rfl rfl)
theorem dX1_isSaying_144 : decode cX1_isSaying 144 = .ok (.ifCond .eq 21, 3) := dk_153 0 21 (dk_at dksX1_isSaying_6 5 rfl rfl)
theorem dX1_isSaying_147 : decode cX1_isSaying 147 = .ok (.iload_n 3, 1) := dk_29 (dk_at dksX1_isSaying_6 8 rfl rfl)
theorem dX1_isSaying_148 : decode cX1_isSaying 148 = .ok (.i2l, 1) := dk_133 (dk_at dksX1_isSaying_6 9 rfl rfl)
theorem dX1_isSaying_149 : decode cX1_isSaying 149 = .ok (.ldc2_w 398, 3) := dk_20 1 142 (dk_at dksX1_isSaying_6 10 rfl rfl)
theorem dX1_isSaying_152 : decode cX1_isSaying 152 = .ok (.ldc2_w 394, 3) := dk_20 1 138 (dk_at dksX1_isSaying_6 13 rfl rfl)
theorem dX1_isSaying_155 : decode cX1_isSaying 155 = .ok (.invokestatic 96, 3) := dk_184 0 96 (dk_at dksX1_isSaying_6 16 rfl rfl)
theorem dX1_isSaying_158 : decode cX1_isSaying 158 = .ok (.ifCond .eq 7, 3) := dk_153 0 7 (dk_at dksX1_isSaying_6 19 rfl rfl)
theorem dX1_isSaying_161 : decode cX1_isSaying 161 = .ok (.iconst 1, 1) := dk_4 (dk_at dksX1_isSaying_6 22 rfl rfl)
theorem dX1_isSaying_162 : decode cX1_isSaying 162 = .ok (.goto 4, 3) := dk_167 0 4 (dk_at dksX1_isSaying_7 0 rfl rfl)
theorem dX1_isSaying_165 : decode cX1_isSaying 165 = .ok (.iconst 0, 1) := dk_3 (dk_at dksX1_isSaying_7 3 rfl rfl)
theorem dX1_isSaying_166 : decode cX1_isSaying 166 = .ok (.ireturn, 1) := dk_172 (dk_at dksX1_isSaying_7 4 rfl rfl)
theorem dX1_isSaying_167 : decode cX1_isSaying 167 = .ok (.iconst 0, 1) := dk_3 (dk_at dksX1_isSaying_7 5 rfl rfl)
theorem dX1_isSaying_168 : decode cX1_isSaying 168 = .ok (.ireturn, 1) := dk_172 (dk_at dksX1_isSaying_7 6 rfl rfl)
abbrev cX1_undo : ByteArray := prog_1_method_55_code
def yX1_undo : MethodName := ⟨RX1, "undo", "()I"⟩
def dkwX1_undo_4 : List UInt8 := [180, 0, 138, 172]
abbrev dktX1_undo_4 : List UInt8 := dkwX1_undo_4 ++ []
def dkwX1_undo_3 : List UInt8 := [120, 2, 130, 126, 181, 1, 135, 42, 180, 0, 77, 3, 42, 180, 0, 124, 4, 100, 184, 1, 151, 3, 84, 42]
abbrev dktX1_undo_3 : List UInt8 := dkwX1_undo_3 ++ dktX1_undo_4
def dkwX1_undo_2 : List UInt8 := [180, 0, 49, 42, 180, 0, 124, 4, 100, 50, 89, 180, 1, 135, 4, 42, 180, 0, 56, 42, 180, 0, 138, 46]
abbrev dktX1_undo_2 : List UInt8 := dkwX1_undo_2 ++ dktX1_undo_3
def dkwX1_undo_1 : List UInt8 := [180, 0, 138, 46, 2, 160, 0, 16, 42, 89, 180, 0, 124, 4, 100, 181, 0, 124, 167, 0, 35, 42]
abbrev dktX1_undo_1 : List UInt8 := dkwX1_undo_1 ++ dktX1_undo_2
def dkwX1_undo_0 : List UInt8 := [42, 180, 0, 138, 154, 0, 5, 2, 172, 42, 89, 180, 0, 138, 4, 100, 181, 0, 138, 42, 180, 0, 56, 42]
abbrev dktX1_undo_0 : List UInt8 := dkwX1_undo_0 ++ dktX1_undo_1
theorem dksX1_undo_0 : cX1_undo.data.toList.drop 0 = dktX1_undo_0 := by decide +kernel
theorem dksX1_undo_1 : cX1_undo.data.toList.drop 24 = dktX1_undo_1 := dk_seg dksX1_undo_0 24 rfl rfl
theorem dksX1_undo_2 : cX1_undo.data.toList.drop 46 = dktX1_undo_2 := dk_seg dksX1_undo_1 22 rfl rfl
theorem dksX1_undo_3 : cX1_undo.data.toList.drop 70 = dktX1_undo_3 := dk_seg dksX1_undo_2 24 rfl rfl
theorem dksX1_undo_4 : cX1_undo.data.toList.drop 94 = dktX1_undo_4 := dk_seg dksX1_undo_3 24 rfl rfl
theorem dX1_undo_0 : decode cX1_undo 0 = .ok (.aload_n 0, 1) := dk_42 (dk_at dksX1_undo_0 0 rfl rfl)
theorem dX1_undo_1 : decode cX1_undo 1 = .ok (.getfield 138, 3) := dk_180 0 138 (dk_at dksX1_undo_0 1 rfl rfl)
theorem dX1_undo_4 : decode cX1_undo 4 = .ok (.ifCond .ne 5, 3) := dk_154 0 5 (dk_at dksX1_undo_0 4 rfl rfl)
theorem dX1_undo_7 : decode cX1_undo 7 = .ok (.iconst (-1), 1) := dk_2 (dk_at dksX1_undo_0 7 rfl rfl)
theorem dX1_undo_8 : decode cX1_undo 8 = .ok (.ireturn, 1) := dk_172 (dk_at dksX1_undo_0 8 rfl rfl)
theorem dX1_undo_9 : decode cX1_undo 9 = .ok (.aload_n 0, 1) := dk_42 (dk_at dksX1_undo_0 9 rfl rfl)
theorem dX1_undo_10 : decode cX1_undo 10 = .ok (.dup, 1) := dk_89 (dk_at dksX1_undo_0 10 rfl rfl)
theorem dX1_undo_11 : decode cX1_undo 11 = .ok (.getfield 138, 3) := dk_180 0 138 (dk_at dksX1_undo_0 11 rfl rfl)
theorem dX1_undo_14 : decode cX1_undo 14 = .ok (.iconst 1, 1) := dk_4 (dk_at dksX1_undo_0 14 rfl rfl)
theorem dX1_undo_15 : decode cX1_undo 15 = .ok (.isub, 1) := dk_100 (dk_at dksX1_undo_0 15 rfl rfl)
theorem dX1_undo_16 : decode cX1_undo 16 = .ok (.putfield 138, 3) := dk_181 0 138 (dk_at dksX1_undo_0 16 rfl rfl)
theorem dX1_undo_19 : decode cX1_undo 19 = .ok (.aload_n 0, 1) := dk_42 (dk_at dksX1_undo_0 19 rfl rfl)
theorem dX1_undo_20 : decode cX1_undo 20 = .ok (.getfield 56, 3) := dk_180 0 56 (dk_at dksX1_undo_0 20 rfl rfl)
theorem dX1_undo_23 : decode cX1_undo 23 = .ok (.aload_n 0, 1) := dk_42 (dk_at dksX1_undo_0 23 rfl rfl)
theorem dX1_undo_24 : decode cX1_undo 24 = .ok (.getfield 138, 3) := dk_180 0 138 (dk_at dksX1_undo_1 0 rfl rfl)
theorem dX1_undo_27 : decode cX1_undo 27 = .ok (.iaload, 1) := dk_46 (dk_at dksX1_undo_1 3 rfl rfl)
theorem dX1_undo_28 : decode cX1_undo 28 = .ok (.iconst (-1), 1) := dk_2 (dk_at dksX1_undo_1 4 rfl rfl)
theorem dX1_undo_29 : decode cX1_undo 29 = .ok (.if_icmp .ne 16, 3) := dk_160 0 16 (dk_at dksX1_undo_1 5 rfl rfl)
theorem dX1_undo_32 : decode cX1_undo 32 = .ok (.aload_n 0, 1) := dk_42 (dk_at dksX1_undo_1 8 rfl rfl)
theorem dX1_undo_33 : decode cX1_undo 33 = .ok (.dup, 1) := dk_89 (dk_at dksX1_undo_1 9 rfl rfl)
theorem dX1_undo_34 : decode cX1_undo 34 = .ok (.getfield 124, 3) := dk_180 0 124 (dk_at dksX1_undo_1 10 rfl rfl)
theorem dX1_undo_37 : decode cX1_undo 37 = .ok (.iconst 1, 1) := dk_4 (dk_at dksX1_undo_1 13 rfl rfl)
theorem dX1_undo_38 : decode cX1_undo 38 = .ok (.isub, 1) := dk_100 (dk_at dksX1_undo_1 14 rfl rfl)
theorem dX1_undo_39 : decode cX1_undo 39 = .ok (.putfield 124, 3) := dk_181 0 124 (dk_at dksX1_undo_1 15 rfl rfl)
theorem dX1_undo_42 : decode cX1_undo 42 = .ok (.goto 35, 3) := dk_167 0 35 (dk_at dksX1_undo_1 18 rfl rfl)
theorem dX1_undo_45 : decode cX1_undo 45 = .ok (.aload_n 0, 1) := dk_42 (dk_at dksX1_undo_1 21 rfl rfl)
theorem dX1_undo_46 : decode cX1_undo 46 = .ok (.getfield 49, 3) := dk_180 0 49 (dk_at dksX1_undo_2 0 rfl rfl)
theorem dX1_undo_49 : decode cX1_undo 49 = .ok (.aload_n 0, 1) := dk_42 (dk_at dksX1_undo_2 3 rfl rfl)
theorem dX1_undo_50 : decode cX1_undo 50 = .ok (.getfield 124, 3) := dk_180 0 124 (dk_at dksX1_undo_2 4 rfl rfl)
theorem dX1_undo_53 : decode cX1_undo 53 = .ok (.iconst 1, 1) := dk_4 (dk_at dksX1_undo_2 7 rfl rfl)
theorem dX1_undo_54 : decode cX1_undo 54 = .ok (.isub, 1) := dk_100 (dk_at dksX1_undo_2 8 rfl rfl)
theorem dX1_undo_55 : decode cX1_undo 55 = .ok (.aaload, 1) := dk_50 (dk_at dksX1_undo_2 9 rfl rfl)
theorem dX1_undo_56 : decode cX1_undo 56 = .ok (.dup, 1) := dk_89 (dk_at dksX1_undo_2 10 rfl rfl)
theorem dX1_undo_57 : decode cX1_undo 57 = .ok (.getfield 391, 3) := dk_180 1 135 (dk_at dksX1_undo_2 11 rfl rfl)
theorem dX1_undo_60 : decode cX1_undo 60 = .ok (.iconst 1, 1) := dk_4 (dk_at dksX1_undo_2 14 rfl rfl)
theorem dX1_undo_61 : decode cX1_undo 61 = .ok (.aload_n 0, 1) := dk_42 (dk_at dksX1_undo_2 15 rfl rfl)
theorem dX1_undo_62 : decode cX1_undo 62 = .ok (.getfield 56, 3) := dk_180 0 56 (dk_at dksX1_undo_2 16 rfl rfl)
theorem dX1_undo_65 : decode cX1_undo 65 = .ok (.aload_n 0, 1) := dk_42 (dk_at dksX1_undo_2 19 rfl rfl)
theorem dX1_undo_66 : decode cX1_undo 66 = .ok (.getfield 138, 3) := dk_180 0 138 (dk_at dksX1_undo_2 20 rfl rfl)
theorem dX1_undo_69 : decode cX1_undo 69 = .ok (.iaload, 1) := dk_46 (dk_at dksX1_undo_2 23 rfl rfl)
theorem dX1_undo_70 : decode cX1_undo 70 = .ok (.ishl, 1) := dk_120 (dk_at dksX1_undo_3 0 rfl rfl)
theorem dX1_undo_71 : decode cX1_undo 71 = .ok (.iconst (-1), 1) := dk_2 (dk_at dksX1_undo_3 1 rfl rfl)
theorem dX1_undo_72 : decode cX1_undo 72 = .ok (.ixor, 1) := dk_130 (dk_at dksX1_undo_3 2 rfl rfl)
theorem dX1_undo_73 : decode cX1_undo 73 = .ok (.iand, 1) := dk_126 (dk_at dksX1_undo_3 3 rfl rfl)
theorem dX1_undo_74 : decode cX1_undo 74 = .ok (.putfield 391, 3) := dk_181 1 135 (dk_at dksX1_undo_3 4 rfl rfl)
theorem dX1_undo_77 : decode cX1_undo 77 = .ok (.aload_n 0, 1) := dk_42 (dk_at dksX1_undo_3 7 rfl rfl)
theorem dX1_undo_78 : decode cX1_undo 78 = .ok (.getfield 77, 3) := dk_180 0 77 (dk_at dksX1_undo_3 8 rfl rfl)
theorem dX1_undo_81 : decode cX1_undo 81 = .ok (.iconst 0, 1) := dk_3 (dk_at dksX1_undo_3 11 rfl rfl)
theorem dX1_undo_82 : decode cX1_undo 82 = .ok (.aload_n 0, 1) := dk_42 (dk_at dksX1_undo_3 12 rfl rfl)
theorem dX1_undo_83 : decode cX1_undo 83 = .ok (.getfield 124, 3) := dk_180 0 124 (dk_at dksX1_undo_3 13 rfl rfl)
theorem dX1_undo_86 : decode cX1_undo 86 = .ok (.iconst 1, 1) := dk_4 (dk_at dksX1_undo_3 16 rfl rfl)
theorem dX1_undo_87 : decode cX1_undo 87 = .ok (.isub, 1) := dk_100 (dk_at dksX1_undo_3 17 rfl rfl)
theorem dX1_undo_88 : decode cX1_undo 88 = .ok (.invokestatic 407, 3) := dk_184 1 151 (dk_at dksX1_undo_3 18 rfl rfl)
theorem dX1_undo_91 : decode cX1_undo 91 = .ok (.iconst 0, 1) := dk_3 (dk_at dksX1_undo_3 21 rfl rfl)
theorem dX1_undo_92 : decode cX1_undo 92 = .ok (.bastore, 1) := dk_84 (dk_at dksX1_undo_3 22 rfl rfl)
theorem dX1_undo_93 : decode cX1_undo 93 = .ok (.aload_n 0, 1) := dk_42 (dk_at dksX1_undo_3 23 rfl rfl)
theorem dX1_undo_94 : decode cX1_undo 94 = .ok (.getfield 138, 3) := dk_180 0 138 (dk_at dksX1_undo_4 0 rfl rfl)
theorem dX1_undo_97 : decode cX1_undo 97 = .ok (.ireturn, 1) := dk_172 (dk_at dksX1_undo_4 3 rfl rfl)
abbrev cX1_alone : ByteArray := prog_1_method_56_code
def yX1_alone : MethodName := ⟨RX1, "alone", "(II)I"⟩
def dkwX1_alone_2 : List UInt8 := [4, 160, 0, 10, 42, 180, 1, 119, 167, 0, 7, 42, 180, 1, 122, 172]
abbrev dktX1_alone_2 : List UInt8 := dkwX1_alone_2 ++ []
def dkwX1_alone_1 : List UInt8 := [182, 1, 129, 42, 4, 27, 120, 27, 182, 1, 157, 87, 28, 154, 0, 10, 42, 180, 1, 116, 167, 0, 19, 28]
abbrev dktX1_alone_1 : List UInt8 := dkwX1_alone_1 ++ dktX1_alone_2
def dkwX1_alone_0 : List UInt8 := [42, 27, 182, 1, 154, 153, 0, 15, 28, 133, 9, 20, 1, 70, 184, 0, 96, 154, 0, 5, 2, 172, 42, 3]
abbrev dktX1_alone_0 : List UInt8 := dkwX1_alone_0 ++ dktX1_alone_1
theorem dksX1_alone_0 : cX1_alone.data.toList.drop 0 = dktX1_alone_0 := by decide +kernel
theorem dksX1_alone_1 : cX1_alone.data.toList.drop 24 = dktX1_alone_1 := dk_seg dksX1_alone_0 24 rfl rfl
theorem dksX1_alone_2 : cX1_alone.data.toList.drop 48 = dktX1_alone_2 := dk_seg dksX1_alone_1 24 rfl rfl
theorem dX1_alone_0 : decode cX1_alone 0 = .ok (.aload_n 0, 1) := dk_42 (dk_at dksX1_alone_0 0 rfl rfl)
theorem dX1_alone_1 : decode cX1_alone 1 = .ok (.iload_n 1, 1) := dk_27 (dk_at dksX1_alone_0 1 rfl rfl)
theorem dX1_alone_2 : decode cX1_alone 2 = .ok (.invokevirtual 410, 3) := dk_182 1 154 (dk_at dksX1_alone_0 2 rfl rfl)
theorem dX1_alone_5 : decode cX1_alone 5 = .ok (.ifCond .eq 15, 3) := dk_153 0 15 (dk_at dksX1_alone_0 5 rfl rfl)
theorem dX1_alone_8 : decode cX1_alone 8 = .ok (.iload_n 2, 1) := dk_28 (dk_at dksX1_alone_0 8 rfl rfl)
theorem dX1_alone_9 : decode cX1_alone 9 = .ok (.i2l, 1) := dk_133 (dk_at dksX1_alone_0 9 rfl rfl)
theorem dX1_alone_10 : decode cX1_alone 10 = .ok (.lconst 0, 1) := dk_9 (dk_at dksX1_alone_0 10 rfl rfl)
theorem dX1_alone_11 : decode cX1_alone 11 = .ok (.ldc2_w 326, 3) := dk_20 1 70 (dk_at dksX1_alone_0 11 rfl rfl)
theorem dX1_alone_14 : decode cX1_alone 14 = .ok (.invokestatic 96, 3) := dk_184 0 96 (dk_at dksX1_alone_0 14 rfl rfl)
theorem dX1_alone_17 : decode cX1_alone 17 = .ok (.ifCond .ne 5, 3) := dk_154 0 5 (dk_at dksX1_alone_0 17 rfl rfl)
theorem dX1_alone_20 : decode cX1_alone 20 = .ok (.iconst (-1), 1) := dk_2 (dk_at dksX1_alone_0 20 rfl rfl)
theorem dX1_alone_21 : decode cX1_alone 21 = .ok (.ireturn, 1) := dk_172 (dk_at dksX1_alone_0 21 rfl rfl)
theorem dX1_alone_22 : decode cX1_alone 22 = .ok (.aload_n 0, 1) := dk_42 (dk_at dksX1_alone_0 22 rfl rfl)
theorem dX1_alone_23 : decode cX1_alone 23 = .ok (.iconst 0, 1) := dk_3 (dk_at dksX1_alone_0 23 rfl rfl)
theorem dX1_alone_24 : decode cX1_alone 24 = .ok (.invokevirtual 385, 3) := dk_182 1 129 (dk_at dksX1_alone_1 0 rfl rfl)
theorem dX1_alone_27 : decode cX1_alone 27 = .ok (.aload_n 0, 1) := dk_42 (dk_at dksX1_alone_1 3 rfl rfl)
theorem dX1_alone_28 : decode cX1_alone 28 = .ok (.iconst 1, 1) := dk_4 (dk_at dksX1_alone_1 4 rfl rfl)
theorem dX1_alone_29 : decode cX1_alone 29 = .ok (.iload_n 1, 1) := dk_27 (dk_at dksX1_alone_1 5 rfl rfl)
theorem dX1_alone_30 : decode cX1_alone 30 = .ok (.ishl, 1) := dk_120 (dk_at dksX1_alone_1 6 rfl rfl)
theorem dX1_alone_31 : decode cX1_alone 31 = .ok (.iload_n 1, 1) := dk_27 (dk_at dksX1_alone_1 7 rfl rfl)
theorem dX1_alone_32 : decode cX1_alone 32 = .ok (.invokevirtual 413, 3) := dk_182 1 157 (dk_at dksX1_alone_1 8 rfl rfl)
theorem dX1_alone_35 : decode cX1_alone 35 = .ok (.pop, 1) := dk_87 (dk_at dksX1_alone_1 11 rfl rfl)
theorem dX1_alone_36 : decode cX1_alone 36 = .ok (.iload_n 2, 1) := dk_28 (dk_at dksX1_alone_1 12 rfl rfl)
theorem dX1_alone_37 : decode cX1_alone 37 = .ok (.ifCond .ne 10, 3) := dk_154 0 10 (dk_at dksX1_alone_1 13 rfl rfl)
theorem dX1_alone_40 : decode cX1_alone 40 = .ok (.aload_n 0, 1) := dk_42 (dk_at dksX1_alone_1 16 rfl rfl)
theorem dX1_alone_41 : decode cX1_alone 41 = .ok (.getfield 372, 3) := dk_180 1 116 (dk_at dksX1_alone_1 17 rfl rfl)
theorem dX1_alone_44 : decode cX1_alone 44 = .ok (.goto 19, 3) := dk_167 0 19 (dk_at dksX1_alone_1 20 rfl rfl)
theorem dX1_alone_47 : decode cX1_alone 47 = .ok (.iload_n 2, 1) := dk_28 (dk_at dksX1_alone_1 23 rfl rfl)
theorem dX1_alone_48 : decode cX1_alone 48 = .ok (.iconst 1, 1) := dk_4 (dk_at dksX1_alone_2 0 rfl rfl)
theorem dX1_alone_49 : decode cX1_alone 49 = .ok (.if_icmp .ne 10, 3) := dk_160 0 10 (dk_at dksX1_alone_2 1 rfl rfl)
theorem dX1_alone_52 : decode cX1_alone 52 = .ok (.aload_n 0, 1) := dk_42 (dk_at dksX1_alone_2 4 rfl rfl)
theorem dX1_alone_53 : decode cX1_alone 53 = .ok (.getfield 375, 3) := dk_180 1 119 (dk_at dksX1_alone_2 5 rfl rfl)
theorem dX1_alone_56 : decode cX1_alone 56 = .ok (.goto 7, 3) := dk_167 0 7 (dk_at dksX1_alone_2 8 rfl rfl)
theorem dX1_alone_59 : decode cX1_alone 59 = .ok (.aload_n 0, 1) := dk_42 (dk_at dksX1_alone_2 11 rfl rfl)
theorem dX1_alone_60 : decode cX1_alone 60 = .ok (.getfield 378, 3) := dk_180 1 122 (dk_at dksX1_alone_2 12 rfl rfl)
theorem dX1_alone_63 : decode cX1_alone 63 = .ok (.ireturn, 1) := dk_172 (dk_at dksX1_alone_2 15 rfl rfl)
abbrev cX1_isNote : ByteArray := prog_1_method_51_code
def yX1_isNote : MethodName := ⟨RX1, "isNote", "(I)Z"⟩
def dkwX1_isNote_0 : List UInt8 := [27, 133, 9, 42, 180, 0, 124, 4, 100, 133, 184, 0, 96, 172]
abbrev dktX1_isNote_0 : List UInt8 := dkwX1_isNote_0 ++ []
theorem dksX1_isNote_0 : cX1_isNote.data.toList.drop 0 = dktX1_isNote_0 := by decide +kernel
theorem dX1_isNote_0 : decode cX1_isNote 0 = .ok (.iload_n 1, 1) := dk_27 (dk_at dksX1_isNote_0 0 rfl rfl)
theorem dX1_isNote_1 : decode cX1_isNote 1 = .ok (.i2l, 1) := dk_133 (dk_at dksX1_isNote_0 1 rfl rfl)
theorem dX1_isNote_2 : decode cX1_isNote 2 = .ok (.lconst 0, 1) := dk_9 (dk_at dksX1_isNote_0 2 rfl rfl)
theorem dX1_isNote_3 : decode cX1_isNote 3 = .ok (.aload_n 0, 1) := dk_42 (dk_at dksX1_isNote_0 3 rfl rfl)
theorem dX1_isNote_4 : decode cX1_isNote 4 = .ok (.getfield 124, 3) := dk_180 0 124 (dk_at dksX1_isNote_0 4 rfl rfl)
theorem dX1_isNote_7 : decode cX1_isNote 7 = .ok (.iconst 1, 1) := dk_4 (dk_at dksX1_isNote_0 7 rfl rfl)
theorem dX1_isNote_8 : decode cX1_isNote 8 = .ok (.isub, 1) := dk_100 (dk_at dksX1_isNote_0 8 rfl rfl)
theorem dX1_isNote_9 : decode cX1_isNote 9 = .ok (.i2l, 1) := dk_133 (dk_at dksX1_isNote_0 9 rfl rfl)
theorem dX1_isNote_10 : decode cX1_isNote 10 = .ok (.invokestatic 96, 3) := dk_184 0 96 (dk_at dksX1_isNote_0 10 rfl rfl)
theorem dX1_isNote_13 : decode cX1_isNote 13 = .ok (.ireturn, 1) := dk_172 (dk_at dksX1_isNote_0 13 rfl rfl)
abbrev cX1_link : ByteArray := prog_1_method_45_code
def yX1_link : MethodName := ⟨RX1, "link", "(I)V"⟩
def dkwX1_link_5 : List UInt8 := [180, 1, 96, 16, 7, 46, 96, 79, 132, 2, 1, 167, 255, 128, 177]
abbrev dktX1_link_5 : List UInt8 := dkwX1_link_5 ++ []
def dkwX1_link_4 : List UInt8 := [42, 180, 0, 84, 42, 180, 0, 49, 28, 50, 180, 1, 93, 16, 7, 46, 46, 42, 180, 0, 49, 28, 50]
abbrev dktX1_link_4 : List UInt8 := dkwX1_link_4 ++ dktX1_link_5
def dkwX1_link_3 : List UInt8 := [28, 42, 180, 0, 81, 42, 180, 0, 49, 28, 50, 180, 1, 93, 16, 7, 46, 46, 79, 42, 180, 0, 84, 28]
abbrev dktX1_link_3 : List UInt8 := dkwX1_link_3 ++ dktX1_link_4
def dkwX1_link_2 : List UInt8 := [180, 0, 49, 28, 50, 180, 1, 93, 16, 7, 46, 122, 4, 126, 154, 0, 6, 167, 0, 62, 42, 180, 0, 81]
abbrev dktX1_link_2 : List UInt8 := dkwX1_link_2 ++ dktX1_link_3
def dkwX1_link_1 : List UInt8 := [27, 28, 122, 4, 126, 153, 0, 98, 42, 180, 0, 49, 28, 50, 16, 7, 182, 1, 91, 153, 0, 84, 27, 42]
abbrev dktX1_link_1 : List UInt8 := dkwX1_link_1 ++ dktX1_link_2
def dkwX1_link_0 : List UInt8 := [3, 61, 28, 42, 180, 0, 124, 162, 0, 126, 42, 180, 0, 81, 28, 28, 79, 42, 180, 0, 84, 28, 3, 79]
abbrev dktX1_link_0 : List UInt8 := dkwX1_link_0 ++ dktX1_link_1
theorem dksX1_link_0 : cX1_link.data.toList.drop 0 = dktX1_link_0 := by decide +kernel
theorem dksX1_link_1 : cX1_link.data.toList.drop 24 = dktX1_link_1 := dk_seg dksX1_link_0 24 rfl rfl
theorem dksX1_link_2 : cX1_link.data.toList.drop 48 = dktX1_link_2 := dk_seg dksX1_link_1 24 rfl rfl
theorem dksX1_link_3 : cX1_link.data.toList.drop 72 = dktX1_link_3 := dk_seg dksX1_link_2 24 rfl rfl
theorem dksX1_link_4 : cX1_link.data.toList.drop 96 = dktX1_link_4 := dk_seg dksX1_link_3 24 rfl rfl
theorem dksX1_link_5 : cX1_link.data.toList.drop 119 = dktX1_link_5 := dk_seg dksX1_link_4 23 rfl rfl
theorem dX1_link_0 : decode cX1_link 0 = .ok (.iconst 0, 1) := dk_3 (dk_at dksX1_link_0 0 rfl rfl)
theorem dX1_link_1 : decode cX1_link 1 = .ok (.istore_n 2, 1) := dk_61 (dk_at dksX1_link_0 1 rfl rfl)
theorem dX1_link_2 : decode cX1_link 2 = .ok (.iload_n 2, 1) := dk_28 (dk_at dksX1_link_0 2 rfl rfl)
theorem dX1_link_3 : decode cX1_link 3 = .ok (.aload_n 0, 1) := dk_42 (dk_at dksX1_link_0 3 rfl rfl)
theorem dX1_link_4 : decode cX1_link 4 = .ok (.getfield 124, 3) := dk_180 0 124 (dk_at dksX1_link_0 4 rfl rfl)
theorem dX1_link_7 : decode cX1_link 7 = .ok (.if_icmp .ge 126, 3) := dk_162 0 126 (dk_at dksX1_link_0 7 rfl rfl)
theorem dX1_link_10 : decode cX1_link 10 = .ok (.aload_n 0, 1) := dk_42 (dk_at dksX1_link_0 10 rfl rfl)
theorem dX1_link_11 : decode cX1_link 11 = .ok (.getfield 81, 3) := dk_180 0 81 (dk_at dksX1_link_0 11 rfl rfl)
theorem dX1_link_14 : decode cX1_link 14 = .ok (.iload_n 2, 1) := dk_28 (dk_at dksX1_link_0 14 rfl rfl)
theorem dX1_link_15 : decode cX1_link 15 = .ok (.iload_n 2, 1) := dk_28 (dk_at dksX1_link_0 15 rfl rfl)
theorem dX1_link_16 : decode cX1_link 16 = .ok (.iastore, 1) := dk_79 (dk_at dksX1_link_0 16 rfl rfl)
theorem dX1_link_17 : decode cX1_link 17 = .ok (.aload_n 0, 1) := dk_42 (dk_at dksX1_link_0 17 rfl rfl)
theorem dX1_link_18 : decode cX1_link 18 = .ok (.getfield 84, 3) := dk_180 0 84 (dk_at dksX1_link_0 18 rfl rfl)
theorem dX1_link_21 : decode cX1_link 21 = .ok (.iload_n 2, 1) := dk_28 (dk_at dksX1_link_0 21 rfl rfl)
theorem dX1_link_22 : decode cX1_link 22 = .ok (.iconst 0, 1) := dk_3 (dk_at dksX1_link_0 22 rfl rfl)
theorem dX1_link_23 : decode cX1_link 23 = .ok (.iastore, 1) := dk_79 (dk_at dksX1_link_0 23 rfl rfl)
theorem dX1_link_24 : decode cX1_link 24 = .ok (.iload_n 1, 1) := dk_27 (dk_at dksX1_link_1 0 rfl rfl)
theorem dX1_link_25 : decode cX1_link 25 = .ok (.iload_n 2, 1) := dk_28 (dk_at dksX1_link_1 1 rfl rfl)
theorem dX1_link_26 : decode cX1_link 26 = .ok (.ishr, 1) := dk_122 (dk_at dksX1_link_1 2 rfl rfl)
theorem dX1_link_27 : decode cX1_link 27 = .ok (.iconst 1, 1) := dk_4 (dk_at dksX1_link_1 3 rfl rfl)
theorem dX1_link_28 : decode cX1_link 28 = .ok (.iand, 1) := dk_126 (dk_at dksX1_link_1 4 rfl rfl)
theorem dX1_link_29 : decode cX1_link 29 = .ok (.ifCond .eq 98, 3) := dk_153 0 98 (dk_at dksX1_link_1 5 rfl rfl)
theorem dX1_link_32 : decode cX1_link 32 = .ok (.aload_n 0, 1) := dk_42 (dk_at dksX1_link_1 8 rfl rfl)
theorem dX1_link_33 : decode cX1_link 33 = .ok (.getfield 49, 3) := dk_180 0 49 (dk_at dksX1_link_1 9 rfl rfl)
theorem dX1_link_36 : decode cX1_link 36 = .ok (.iload_n 2, 1) := dk_28 (dk_at dksX1_link_1 12 rfl rfl)
theorem dX1_link_37 : decode cX1_link 37 = .ok (.aaload, 1) := dk_50 (dk_at dksX1_link_1 13 rfl rfl)
theorem dX1_link_38 : decode cX1_link 38 = .ok (.bipush 7, 2) := dk_16 7 (dk_at dksX1_link_1 14 rfl rfl)
theorem dX1_link_40 : decode cX1_link 40 = .ok (.invokevirtual 347, 3) := dk_182 1 91 (dk_at dksX1_link_1 16 rfl rfl)
theorem dX1_link_43 : decode cX1_link 43 = .ok (.ifCond .eq 84, 3) := dk_153 0 84 (dk_at dksX1_link_1 19 rfl rfl)
theorem dX1_link_46 : decode cX1_link 46 = .ok (.iload_n 1, 1) := dk_27 (dk_at dksX1_link_1 22 rfl rfl)
theorem dX1_link_47 : decode cX1_link 47 = .ok (.aload_n 0, 1) := dk_42 (dk_at dksX1_link_1 23 rfl rfl)
theorem dX1_link_48 : decode cX1_link 48 = .ok (.getfield 49, 3) := dk_180 0 49 (dk_at dksX1_link_2 0 rfl rfl)
theorem dX1_link_51 : decode cX1_link 51 = .ok (.iload_n 2, 1) := dk_28 (dk_at dksX1_link_2 3 rfl rfl)
theorem dX1_link_52 : decode cX1_link 52 = .ok (.aaload, 1) := dk_50 (dk_at dksX1_link_2 4 rfl rfl)
theorem dX1_link_53 : decode cX1_link 53 = .ok (.getfield 349, 3) := dk_180 1 93 (dk_at dksX1_link_2 5 rfl rfl)
theorem dX1_link_56 : decode cX1_link 56 = .ok (.bipush 7, 2) := dk_16 7 (dk_at dksX1_link_2 8 rfl rfl)
theorem dX1_link_58 : decode cX1_link 58 = .ok (.iaload, 1) := dk_46 (dk_at dksX1_link_2 10 rfl rfl)
theorem dX1_link_59 : decode cX1_link 59 = .ok (.ishr, 1) := dk_122 (dk_at dksX1_link_2 11 rfl rfl)
theorem dX1_link_60 : decode cX1_link 60 = .ok (.iconst 1, 1) := dk_4 (dk_at dksX1_link_2 12 rfl rfl)
theorem dX1_link_61 : decode cX1_link 61 = .ok (.iand, 1) := dk_126 (dk_at dksX1_link_2 13 rfl rfl)
theorem dX1_link_62 : decode cX1_link 62 = .ok (.ifCond .ne 6, 3) := dk_154 0 6 (dk_at dksX1_link_2 14 rfl rfl)
theorem dX1_link_65 : decode cX1_link 65 = .ok (.goto 62, 3) := dk_167 0 62 (dk_at dksX1_link_2 17 rfl rfl)
theorem dX1_link_68 : decode cX1_link 68 = .ok (.aload_n 0, 1) := dk_42 (dk_at dksX1_link_2 20 rfl rfl)
theorem dX1_link_69 : decode cX1_link 69 = .ok (.getfield 81, 3) := dk_180 0 81 (dk_at dksX1_link_2 21 rfl rfl)
theorem dX1_link_72 : decode cX1_link 72 = .ok (.iload_n 2, 1) := dk_28 (dk_at dksX1_link_3 0 rfl rfl)
theorem dX1_link_73 : decode cX1_link 73 = .ok (.aload_n 0, 1) := dk_42 (dk_at dksX1_link_3 1 rfl rfl)
theorem dX1_link_74 : decode cX1_link 74 = .ok (.getfield 81, 3) := dk_180 0 81 (dk_at dksX1_link_3 2 rfl rfl)
theorem dX1_link_77 : decode cX1_link 77 = .ok (.aload_n 0, 1) := dk_42 (dk_at dksX1_link_3 5 rfl rfl)
theorem dX1_link_78 : decode cX1_link 78 = .ok (.getfield 49, 3) := dk_180 0 49 (dk_at dksX1_link_3 6 rfl rfl)
theorem dX1_link_81 : decode cX1_link 81 = .ok (.iload_n 2, 1) := dk_28 (dk_at dksX1_link_3 9 rfl rfl)
theorem dX1_link_82 : decode cX1_link 82 = .ok (.aaload, 1) := dk_50 (dk_at dksX1_link_3 10 rfl rfl)
theorem dX1_link_83 : decode cX1_link 83 = .ok (.getfield 349, 3) := dk_180 1 93 (dk_at dksX1_link_3 11 rfl rfl)
theorem dX1_link_86 : decode cX1_link 86 = .ok (.bipush 7, 2) := dk_16 7 (dk_at dksX1_link_3 14 rfl rfl)
theorem dX1_link_88 : decode cX1_link 88 = .ok (.iaload, 1) := dk_46 (dk_at dksX1_link_3 16 rfl rfl)
theorem dX1_link_89 : decode cX1_link 89 = .ok (.iaload, 1) := dk_46 (dk_at dksX1_link_3 17 rfl rfl)
theorem dX1_link_90 : decode cX1_link 90 = .ok (.iastore, 1) := dk_79 (dk_at dksX1_link_3 18 rfl rfl)
theorem dX1_link_91 : decode cX1_link 91 = .ok (.aload_n 0, 1) := dk_42 (dk_at dksX1_link_3 19 rfl rfl)
theorem dX1_link_92 : decode cX1_link 92 = .ok (.getfield 84, 3) := dk_180 0 84 (dk_at dksX1_link_3 20 rfl rfl)
theorem dX1_link_95 : decode cX1_link 95 = .ok (.iload_n 2, 1) := dk_28 (dk_at dksX1_link_3 23 rfl rfl)
theorem dX1_link_96 : decode cX1_link 96 = .ok (.aload_n 0, 1) := dk_42 (dk_at dksX1_link_4 0 rfl rfl)
theorem dX1_link_97 : decode cX1_link 97 = .ok (.getfield 84, 3) := dk_180 0 84 (dk_at dksX1_link_4 1 rfl rfl)
theorem dX1_link_100 : decode cX1_link 100 = .ok (.aload_n 0, 1) := dk_42 (dk_at dksX1_link_4 4 rfl rfl)
theorem dX1_link_101 : decode cX1_link 101 = .ok (.getfield 49, 3) := dk_180 0 49 (dk_at dksX1_link_4 5 rfl rfl)
theorem dX1_link_104 : decode cX1_link 104 = .ok (.iload_n 2, 1) := dk_28 (dk_at dksX1_link_4 8 rfl rfl)
theorem dX1_link_105 : decode cX1_link 105 = .ok (.aaload, 1) := dk_50 (dk_at dksX1_link_4 9 rfl rfl)
theorem dX1_link_106 : decode cX1_link 106 = .ok (.getfield 349, 3) := dk_180 1 93 (dk_at dksX1_link_4 10 rfl rfl)
theorem dX1_link_109 : decode cX1_link 109 = .ok (.bipush 7, 2) := dk_16 7 (dk_at dksX1_link_4 13 rfl rfl)
theorem dX1_link_111 : decode cX1_link 111 = .ok (.iaload, 1) := dk_46 (dk_at dksX1_link_4 15 rfl rfl)
theorem dX1_link_112 : decode cX1_link 112 = .ok (.iaload, 1) := dk_46 (dk_at dksX1_link_4 16 rfl rfl)
theorem dX1_link_113 : decode cX1_link 113 = .ok (.aload_n 0, 1) := dk_42 (dk_at dksX1_link_4 17 rfl rfl)
theorem dX1_link_114 : decode cX1_link 114 = .ok (.getfield 49, 3) := dk_180 0 49 (dk_at dksX1_link_4 18 rfl rfl)
theorem dX1_link_117 : decode cX1_link 117 = .ok (.iload_n 2, 1) := dk_28 (dk_at dksX1_link_4 21 rfl rfl)
theorem dX1_link_118 : decode cX1_link 118 = .ok (.aaload, 1) := dk_50 (dk_at dksX1_link_4 22 rfl rfl)
theorem dX1_link_119 : decode cX1_link 119 = .ok (.getfield 352, 3) := dk_180 1 96 (dk_at dksX1_link_5 0 rfl rfl)
theorem dX1_link_122 : decode cX1_link 122 = .ok (.bipush 7, 2) := dk_16 7 (dk_at dksX1_link_5 3 rfl rfl)
theorem dX1_link_124 : decode cX1_link 124 = .ok (.iaload, 1) := dk_46 (dk_at dksX1_link_5 5 rfl rfl)
theorem dX1_link_125 : decode cX1_link 125 = .ok (.iadd, 1) := dk_96 (dk_at dksX1_link_5 6 rfl rfl)
theorem dX1_link_126 : decode cX1_link 126 = .ok (.iastore, 1) := dk_79 (dk_at dksX1_link_5 7 rfl rfl)
theorem dX1_link_127 : decode cX1_link 127 = .ok (.iinc 2 1, 3) := dk_132 2 1 (dk_at dksX1_link_5 8 rfl rfl)
theorem dX1_link_130 : decode cX1_link 130 = .ok (.goto (-128), 3) := dk_167 255 128 (dk_at dksX1_link_5 11 rfl rfl)
theorem dX1_link_133 : decode cX1_link 133 = .ok (.return_, 1) := dk_177 (dk_at dksX1_link_5 14 rfl rfl)
abbrev cX1_fit : ByteArray := prog_1_method_47_code
def yX1_fit : MethodName := ⟨RX1, "fit", "(II)I"⟩
def dkwX1_fit_3 : List UInt8 := [42, 180, 1, 116, 172]
abbrev dktX1_fit_3 : List UInt8 := dkwX1_fit_3 ++ []
def dkwX1_fit_2 : List UInt8 := [181, 1, 119, 42, 29, 181, 1, 122, 42, 89, 180, 1, 116, 4, 96, 181, 1, 116, 132, 3, 1, 167, 255, 206]
abbrev dktX1_fit_2 : List UInt8 := dkwX1_fit_2 ++ dktX1_fit_3
def dkwX1_fit_1 : List UInt8 := [42, 27, 28, 29, 182, 1, 125, 154, 0, 6, 167, 0, 30, 42, 180, 1, 116, 154, 0, 8, 42, 29]
abbrev dktX1_fit_1 : List UInt8 := dkwX1_fit_1 ++ dktX1_fit_2
def dkwX1_fit_0 : List UInt8 := [42, 3, 181, 1, 116, 42, 2, 181, 1, 119, 42, 2, 181, 1, 122, 3, 62, 29, 17, 78, 32, 162, 0, 49]
abbrev dktX1_fit_0 : List UInt8 := dkwX1_fit_0 ++ dktX1_fit_1
theorem dksX1_fit_0 : cX1_fit.data.toList.drop 0 = dktX1_fit_0 := by decide +kernel
theorem dksX1_fit_1 : cX1_fit.data.toList.drop 24 = dktX1_fit_1 := dk_seg dksX1_fit_0 24 rfl rfl
theorem dksX1_fit_2 : cX1_fit.data.toList.drop 46 = dktX1_fit_2 := dk_seg dksX1_fit_1 22 rfl rfl
theorem dksX1_fit_3 : cX1_fit.data.toList.drop 70 = dktX1_fit_3 := dk_seg dksX1_fit_2 24 rfl rfl
theorem dX1_fit_0 : decode cX1_fit 0 = .ok (.aload_n 0, 1) := dk_42 (dk_at dksX1_fit_0 0 rfl rfl)
theorem dX1_fit_1 : decode cX1_fit 1 = .ok (.iconst 0, 1) := dk_3 (dk_at dksX1_fit_0 1 rfl rfl)
theorem dX1_fit_2 : decode cX1_fit 2 = .ok (.putfield 372, 3) := dk_181 1 116 (dk_at dksX1_fit_0 2 rfl rfl)
theorem dX1_fit_5 : decode cX1_fit 5 = .ok (.aload_n 0, 1) := dk_42 (dk_at dksX1_fit_0 5 rfl rfl)
theorem dX1_fit_6 : decode cX1_fit 6 = .ok (.iconst (-1), 1) := dk_2 (dk_at dksX1_fit_0 6 rfl rfl)
theorem dX1_fit_7 : decode cX1_fit 7 = .ok (.putfield 375, 3) := dk_181 1 119 (dk_at dksX1_fit_0 7 rfl rfl)
theorem dX1_fit_10 : decode cX1_fit 10 = .ok (.aload_n 0, 1) := dk_42 (dk_at dksX1_fit_0 10 rfl rfl)
theorem dX1_fit_11 : decode cX1_fit 11 = .ok (.iconst (-1), 1) := dk_2 (dk_at dksX1_fit_0 11 rfl rfl)
theorem dX1_fit_12 : decode cX1_fit 12 = .ok (.putfield 378, 3) := dk_181 1 122 (dk_at dksX1_fit_0 12 rfl rfl)
theorem dX1_fit_15 : decode cX1_fit 15 = .ok (.iconst 0, 1) := dk_3 (dk_at dksX1_fit_0 15 rfl rfl)
theorem dX1_fit_16 : decode cX1_fit 16 = .ok (.istore_n 3, 1) := dk_62 (dk_at dksX1_fit_0 16 rfl rfl)
theorem dX1_fit_17 : decode cX1_fit 17 = .ok (.iload_n 3, 1) := dk_29 (dk_at dksX1_fit_0 17 rfl rfl)
theorem dX1_fit_18 : decode cX1_fit 18 = .ok (.sipush 20000, 3) := dk_17 78 32 (dk_at dksX1_fit_0 18 rfl rfl)
theorem dX1_fit_21 : decode cX1_fit 21 = .ok (.if_icmp .ge 49, 3) := dk_162 0 49 (dk_at dksX1_fit_0 21 rfl rfl)
theorem dX1_fit_24 : decode cX1_fit 24 = .ok (.aload_n 0, 1) := dk_42 (dk_at dksX1_fit_1 0 rfl rfl)
theorem dX1_fit_25 : decode cX1_fit 25 = .ok (.iload_n 1, 1) := dk_27 (dk_at dksX1_fit_1 1 rfl rfl)
theorem dX1_fit_26 : decode cX1_fit 26 = .ok (.iload_n 2, 1) := dk_28 (dk_at dksX1_fit_1 2 rfl rfl)
theorem dX1_fit_27 : decode cX1_fit 27 = .ok (.iload_n 3, 1) := dk_29 (dk_at dksX1_fit_1 3 rfl rfl)
theorem dX1_fit_28 : decode cX1_fit 28 = .ok (.invokevirtual 381, 3) := dk_182 1 125 (dk_at dksX1_fit_1 4 rfl rfl)
theorem dX1_fit_31 : decode cX1_fit 31 = .ok (.ifCond .ne 6, 3) := dk_154 0 6 (dk_at dksX1_fit_1 7 rfl rfl)
theorem dX1_fit_34 : decode cX1_fit 34 = .ok (.goto 30, 3) := dk_167 0 30 (dk_at dksX1_fit_1 10 rfl rfl)
theorem dX1_fit_37 : decode cX1_fit 37 = .ok (.aload_n 0, 1) := dk_42 (dk_at dksX1_fit_1 13 rfl rfl)
theorem dX1_fit_38 : decode cX1_fit 38 = .ok (.getfield 372, 3) := dk_180 1 116 (dk_at dksX1_fit_1 14 rfl rfl)
theorem dX1_fit_41 : decode cX1_fit 41 = .ok (.ifCond .ne 8, 3) := dk_154 0 8 (dk_at dksX1_fit_1 17 rfl rfl)
theorem dX1_fit_44 : decode cX1_fit 44 = .ok (.aload_n 0, 1) := dk_42 (dk_at dksX1_fit_1 20 rfl rfl)
theorem dX1_fit_45 : decode cX1_fit 45 = .ok (.iload_n 3, 1) := dk_29 (dk_at dksX1_fit_1 21 rfl rfl)
theorem dX1_fit_46 : decode cX1_fit 46 = .ok (.putfield 375, 3) := dk_181 1 119 (dk_at dksX1_fit_2 0 rfl rfl)
theorem dX1_fit_49 : decode cX1_fit 49 = .ok (.aload_n 0, 1) := dk_42 (dk_at dksX1_fit_2 3 rfl rfl)
theorem dX1_fit_50 : decode cX1_fit 50 = .ok (.iload_n 3, 1) := dk_29 (dk_at dksX1_fit_2 4 rfl rfl)
theorem dX1_fit_51 : decode cX1_fit 51 = .ok (.putfield 378, 3) := dk_181 1 122 (dk_at dksX1_fit_2 5 rfl rfl)
theorem dX1_fit_54 : decode cX1_fit 54 = .ok (.aload_n 0, 1) := dk_42 (dk_at dksX1_fit_2 8 rfl rfl)
theorem dX1_fit_55 : decode cX1_fit 55 = .ok (.dup, 1) := dk_89 (dk_at dksX1_fit_2 9 rfl rfl)
theorem dX1_fit_56 : decode cX1_fit 56 = .ok (.getfield 372, 3) := dk_180 1 116 (dk_at dksX1_fit_2 10 rfl rfl)
theorem dX1_fit_59 : decode cX1_fit 59 = .ok (.iconst 1, 1) := dk_4 (dk_at dksX1_fit_2 13 rfl rfl)
theorem dX1_fit_60 : decode cX1_fit 60 = .ok (.iadd, 1) := dk_96 (dk_at dksX1_fit_2 14 rfl rfl)
theorem dX1_fit_61 : decode cX1_fit 61 = .ok (.putfield 372, 3) := dk_181 1 116 (dk_at dksX1_fit_2 15 rfl rfl)
theorem dX1_fit_64 : decode cX1_fit 64 = .ok (.iinc 3 1, 3) := dk_132 3 1 (dk_at dksX1_fit_2 18 rfl rfl)
theorem dX1_fit_67 : decode cX1_fit 67 = .ok (.goto (-50), 3) := dk_167 255 206 (dk_at dksX1_fit_2 21 rfl rfl)
theorem dX1_fit_70 : decode cX1_fit 70 = .ok (.aload_n 0, 1) := dk_42 (dk_at dksX1_fit_3 0 rfl rfl)
theorem dX1_fit_71 : decode cX1_fit 71 = .ok (.getfield 372, 3) := dk_180 1 116 (dk_at dksX1_fit_3 1 rfl rfl)
theorem dX1_fit_74 : decode cX1_fit 74 = .ok (.ireturn, 1) := dk_172 (dk_at dksX1_fit_3 4 rfl rfl)
abbrev cX1_holds : ByteArray := prog_1_method_46_code
def yX1_holds : MethodName := ⟨RX1, "holds", "(III)Z"⟩
def dkwX1_holds_2 : List UInt8 := [182, 1, 113, 154, 0, 5, 3, 172, 132, 4, 1, 167, 255, 201, 4, 172]
abbrev dktX1_holds_2 : List UInt8 := dkwX1_holds_2 ++ []
def dkwX1_holds_1 : List UInt8 := [180, 0, 81, 21, 4, 46, 28, 160, 0, 25, 42, 21, 4, 29, 133, 42, 180, 0, 84, 21, 4, 46, 133, 97]
abbrev dktX1_holds_1 : List UInt8 := dkwX1_holds_1 ++ dktX1_holds_2
def dkwX1_holds_0 : List UInt8 := [3, 54, 4, 21, 4, 42, 180, 0, 124, 162, 0, 52, 27, 21, 4, 122, 4, 126, 4, 160, 0, 36, 42]
abbrev dktX1_holds_0 : List UInt8 := dkwX1_holds_0 ++ dktX1_holds_1
theorem dksX1_holds_0 : cX1_holds.data.toList.drop 0 = dktX1_holds_0 := by decide +kernel
theorem dksX1_holds_1 : cX1_holds.data.toList.drop 23 = dktX1_holds_1 := dk_seg dksX1_holds_0 23 rfl rfl
theorem dksX1_holds_2 : cX1_holds.data.toList.drop 47 = dktX1_holds_2 := dk_seg dksX1_holds_1 24 rfl rfl
theorem dX1_holds_0 : decode cX1_holds 0 = .ok (.iconst 0, 1) := dk_3 (dk_at dksX1_holds_0 0 rfl rfl)
theorem dX1_holds_1 : decode cX1_holds 1 = .ok (.istore 4, 2) := dk_54 4 (dk_at dksX1_holds_0 1 rfl rfl)
theorem dX1_holds_3 : decode cX1_holds 3 = .ok (.iload 4, 2) := dk_21 4 (dk_at dksX1_holds_0 3 rfl rfl)
theorem dX1_holds_5 : decode cX1_holds 5 = .ok (.aload_n 0, 1) := dk_42 (dk_at dksX1_holds_0 5 rfl rfl)
theorem dX1_holds_6 : decode cX1_holds 6 = .ok (.getfield 124, 3) := dk_180 0 124 (dk_at dksX1_holds_0 6 rfl rfl)
theorem dX1_holds_9 : decode cX1_holds 9 = .ok (.if_icmp .ge 52, 3) := dk_162 0 52 (dk_at dksX1_holds_0 9 rfl rfl)
theorem dX1_holds_12 : decode cX1_holds 12 = .ok (.iload_n 1, 1) := dk_27 (dk_at dksX1_holds_0 12 rfl rfl)
theorem dX1_holds_13 : decode cX1_holds 13 = .ok (.iload 4, 2) := dk_21 4 (dk_at dksX1_holds_0 13 rfl rfl)
theorem dX1_holds_15 : decode cX1_holds 15 = .ok (.ishr, 1) := dk_122 (dk_at dksX1_holds_0 15 rfl rfl)
theorem dX1_holds_16 : decode cX1_holds 16 = .ok (.iconst 1, 1) := dk_4 (dk_at dksX1_holds_0 16 rfl rfl)
theorem dX1_holds_17 : decode cX1_holds 17 = .ok (.iand, 1) := dk_126 (dk_at dksX1_holds_0 17 rfl rfl)
theorem dX1_holds_18 : decode cX1_holds 18 = .ok (.iconst 1, 1) := dk_4 (dk_at dksX1_holds_0 18 rfl rfl)
theorem dX1_holds_19 : decode cX1_holds 19 = .ok (.if_icmp .ne 36, 3) := dk_160 0 36 (dk_at dksX1_holds_0 19 rfl rfl)
theorem dX1_holds_22 : decode cX1_holds 22 = .ok (.aload_n 0, 1) := dk_42 (dk_at dksX1_holds_0 22 rfl rfl)
theorem dX1_holds_23 : decode cX1_holds 23 = .ok (.getfield 81, 3) := dk_180 0 81 (dk_at dksX1_holds_1 0 rfl rfl)
theorem dX1_holds_26 : decode cX1_holds 26 = .ok (.iload 4, 2) := dk_21 4 (dk_at dksX1_holds_1 3 rfl rfl)
theorem dX1_holds_28 : decode cX1_holds 28 = .ok (.iaload, 1) := dk_46 (dk_at dksX1_holds_1 5 rfl rfl)
theorem dX1_holds_29 : decode cX1_holds 29 = .ok (.iload_n 2, 1) := dk_28 (dk_at dksX1_holds_1 6 rfl rfl)
theorem dX1_holds_30 : decode cX1_holds 30 = .ok (.if_icmp .ne 25, 3) := dk_160 0 25 (dk_at dksX1_holds_1 7 rfl rfl)
theorem dX1_holds_33 : decode cX1_holds 33 = .ok (.aload_n 0, 1) := dk_42 (dk_at dksX1_holds_1 10 rfl rfl)
theorem dX1_holds_34 : decode cX1_holds 34 = .ok (.iload 4, 2) := dk_21 4 (dk_at dksX1_holds_1 11 rfl rfl)
theorem dX1_holds_36 : decode cX1_holds 36 = .ok (.iload_n 3, 1) := dk_29 (dk_at dksX1_holds_1 13 rfl rfl)
theorem dX1_holds_37 : decode cX1_holds 37 = .ok (.i2l, 1) := dk_133 (dk_at dksX1_holds_1 14 rfl rfl)
theorem dX1_holds_38 : decode cX1_holds 38 = .ok (.aload_n 0, 1) := dk_42 (dk_at dksX1_holds_1 15 rfl rfl)
theorem dX1_holds_39 : decode cX1_holds 39 = .ok (.getfield 84, 3) := dk_180 0 84 (dk_at dksX1_holds_1 16 rfl rfl)
theorem dX1_holds_42 : decode cX1_holds 42 = .ok (.iload 4, 2) := dk_21 4 (dk_at dksX1_holds_1 19 rfl rfl)
theorem dX1_holds_44 : decode cX1_holds 44 = .ok (.iaload, 1) := dk_46 (dk_at dksX1_holds_1 21 rfl rfl)
theorem dX1_holds_45 : decode cX1_holds 45 = .ok (.i2l, 1) := dk_133 (dk_at dksX1_holds_1 22 rfl rfl)
theorem dX1_holds_46 : decode cX1_holds 46 = .ok (.ladd, 1) := dk_97 (dk_at dksX1_holds_1 23 rfl rfl)
theorem dX1_holds_47 : decode cX1_holds 47 = .ok (.invokevirtual 369, 3) := dk_182 1 113 (dk_at dksX1_holds_2 0 rfl rfl)
theorem dX1_holds_50 : decode cX1_holds 50 = .ok (.ifCond .ne 5, 3) := dk_154 0 5 (dk_at dksX1_holds_2 3 rfl rfl)
theorem dX1_holds_53 : decode cX1_holds 53 = .ok (.iconst 0, 1) := dk_3 (dk_at dksX1_holds_2 6 rfl rfl)
theorem dX1_holds_54 : decode cX1_holds 54 = .ok (.ireturn, 1) := dk_172 (dk_at dksX1_holds_2 7 rfl rfl)
theorem dX1_holds_55 : decode cX1_holds 55 = .ok (.iinc 4 1, 3) := dk_132 4 1 (dk_at dksX1_holds_2 8 rfl rfl)
theorem dX1_holds_58 : decode cX1_holds 58 = .ok (.goto (-55), 3) := dk_167 255 201 (dk_at dksX1_holds_2 11 rfl rfl)
theorem dX1_holds_61 : decode cX1_holds 61 = .ok (.iconst 1, 1) := dk_4 (dk_at dksX1_holds_2 14 rfl rfl)
theorem dX1_holds_62 : decode cX1_holds 62 = .ok (.ireturn, 1) := dk_172 (dk_at dksX1_holds_2 15 rfl rfl)
abbrev cX1_can : ByteArray := prog_1_method_43_code
def yX1_can : MethodName := ⟨RX1, "can", "(IJ)Z"⟩
def dkwX1_can_2 : List UInt8 := [10, 148, 154, 0, 7, 4, 167, 0, 4, 3, 172]
abbrev dktX1_can_2 : List UInt8 := dkwX1_can_2 ++ []
def dkwX1_can_1 : List UInt8 := [182, 1, 104, 42, 180, 0, 74, 27, 50, 32, 136, 16, 6, 122, 47, 32, 20, 1, 107, 127, 136, 123, 10, 127]
abbrev dktX1_can_1 : List UInt8 := dkwX1_can_1 ++ dktX1_can_2
def dkwX1_can_0 : List UInt8 := [32, 9, 20, 1, 102, 184, 0, 96, 154, 0, 5, 3, 172, 42, 180, 0, 77, 27, 51, 154, 0, 8, 42, 27]
abbrev dktX1_can_0 : List UInt8 := dkwX1_can_0 ++ dktX1_can_1
theorem dksX1_can_0 : cX1_can.data.toList.drop 0 = dktX1_can_0 := by decide +kernel
theorem dksX1_can_1 : cX1_can.data.toList.drop 24 = dktX1_can_1 := dk_seg dksX1_can_0 24 rfl rfl
theorem dksX1_can_2 : cX1_can.data.toList.drop 48 = dktX1_can_2 := dk_seg dksX1_can_1 24 rfl rfl
theorem dX1_can_0 : decode cX1_can 0 = .ok (.lload_n 2, 1) := dk_32 (dk_at dksX1_can_0 0 rfl rfl)
theorem dX1_can_1 : decode cX1_can 1 = .ok (.lconst 0, 1) := dk_9 (dk_at dksX1_can_0 1 rfl rfl)
theorem dX1_can_2 : decode cX1_can 2 = .ok (.ldc2_w 358, 3) := dk_20 1 102 (dk_at dksX1_can_0 2 rfl rfl)
theorem dX1_can_5 : decode cX1_can 5 = .ok (.invokestatic 96, 3) := dk_184 0 96 (dk_at dksX1_can_0 5 rfl rfl)
theorem dX1_can_8 : decode cX1_can 8 = .ok (.ifCond .ne 5, 3) := dk_154 0 5 (dk_at dksX1_can_0 8 rfl rfl)
theorem dX1_can_11 : decode cX1_can 11 = .ok (.iconst 0, 1) := dk_3 (dk_at dksX1_can_0 11 rfl rfl)
theorem dX1_can_12 : decode cX1_can 12 = .ok (.ireturn, 1) := dk_172 (dk_at dksX1_can_0 12 rfl rfl)
theorem dX1_can_13 : decode cX1_can 13 = .ok (.aload_n 0, 1) := dk_42 (dk_at dksX1_can_0 13 rfl rfl)
theorem dX1_can_14 : decode cX1_can 14 = .ok (.getfield 77, 3) := dk_180 0 77 (dk_at dksX1_can_0 14 rfl rfl)
theorem dX1_can_17 : decode cX1_can 17 = .ok (.iload_n 1, 1) := dk_27 (dk_at dksX1_can_0 17 rfl rfl)
theorem dX1_can_18 : decode cX1_can 18 = .ok (.baload, 1) := dk_51 (dk_at dksX1_can_0 18 rfl rfl)
theorem dX1_can_19 : decode cX1_can 19 = .ok (.ifCond .ne 8, 3) := dk_154 0 8 (dk_at dksX1_can_0 19 rfl rfl)
theorem dX1_can_22 : decode cX1_can 22 = .ok (.aload_n 0, 1) := dk_42 (dk_at dksX1_can_0 22 rfl rfl)
theorem dX1_can_23 : decode cX1_can 23 = .ok (.iload_n 1, 1) := dk_27 (dk_at dksX1_can_0 23 rfl rfl)
theorem dX1_can_24 : decode cX1_can 24 = .ok (.invokevirtual 360, 3) := dk_182 1 104 (dk_at dksX1_can_1 0 rfl rfl)
theorem dX1_can_27 : decode cX1_can 27 = .ok (.aload_n 0, 1) := dk_42 (dk_at dksX1_can_1 3 rfl rfl)
theorem dX1_can_28 : decode cX1_can 28 = .ok (.getfield 74, 3) := dk_180 0 74 (dk_at dksX1_can_1 4 rfl rfl)
theorem dX1_can_31 : decode cX1_can 31 = .ok (.iload_n 1, 1) := dk_27 (dk_at dksX1_can_1 7 rfl rfl)
theorem dX1_can_32 : decode cX1_can 32 = .ok (.aaload, 1) := dk_50 (dk_at dksX1_can_1 8 rfl rfl)
theorem dX1_can_33 : decode cX1_can 33 = .ok (.lload_n 2, 1) := dk_32 (dk_at dksX1_can_1 9 rfl rfl)
theorem dX1_can_34 : decode cX1_can 34 = .ok (.l2i, 1) := dk_136 (dk_at dksX1_can_1 10 rfl rfl)
theorem dX1_can_35 : decode cX1_can 35 = .ok (.bipush 6, 2) := dk_16 6 (dk_at dksX1_can_1 11 rfl rfl)
theorem dX1_can_37 : decode cX1_can 37 = .ok (.ishr, 1) := dk_122 (dk_at dksX1_can_1 13 rfl rfl)
theorem dX1_can_38 : decode cX1_can 38 = .ok (.laload, 1) := dk_47 (dk_at dksX1_can_1 14 rfl rfl)
theorem dX1_can_39 : decode cX1_can 39 = .ok (.lload_n 2, 1) := dk_32 (dk_at dksX1_can_1 15 rfl rfl)
theorem dX1_can_40 : decode cX1_can 40 = .ok (.ldc2_w 363, 3) := dk_20 1 107 (dk_at dksX1_can_1 16 rfl rfl)
theorem dX1_can_43 : decode cX1_can 43 = .ok (.land, 1) := dk_127 (dk_at dksX1_can_1 19 rfl rfl)
theorem dX1_can_44 : decode cX1_can 44 = .ok (.l2i, 1) := dk_136 (dk_at dksX1_can_1 20 rfl rfl)
theorem dX1_can_45 : decode cX1_can 45 = .ok (.lshr, 1) := dk_123 (dk_at dksX1_can_1 21 rfl rfl)
theorem dX1_can_46 : decode cX1_can 46 = .ok (.lconst 1, 1) := dk_10 (dk_at dksX1_can_1 22 rfl rfl)
theorem dX1_can_47 : decode cX1_can 47 = .ok (.land, 1) := dk_127 (dk_at dksX1_can_1 23 rfl rfl)
theorem dX1_can_48 : decode cX1_can 48 = .ok (.lconst 1, 1) := dk_10 (dk_at dksX1_can_2 0 rfl rfl)
theorem dX1_can_49 : decode cX1_can 49 = .ok (.lcmp, 1) := dk_148 (dk_at dksX1_can_2 1 rfl rfl)
theorem dX1_can_50 : decode cX1_can 50 = .ok (.ifCond .ne 7, 3) := dk_154 0 7 (dk_at dksX1_can_2 2 rfl rfl)
theorem dX1_can_53 : decode cX1_can 53 = .ok (.iconst 1, 1) := dk_4 (dk_at dksX1_can_2 5 rfl rfl)
theorem dX1_can_54 : decode cX1_can 54 = .ok (.goto 4, 3) := dk_167 0 4 (dk_at dksX1_can_2 6 rfl rfl)
theorem dX1_can_57 : decode cX1_can 57 = .ok (.iconst 0, 1) := dk_3 (dk_at dksX1_can_2 9 rfl rfl)
theorem dX1_can_58 : decode cX1_can 58 = .ok (.ireturn, 1) := dk_172 (dk_at dksX1_can_2 10 rfl rfl)
abbrev cX1_lay : ByteArray := prog_1_method_44_code
def yX1_lay : MethodName := ⟨RX1, "lay", "(I)V"⟩
def dkwX1_lay_3 : List UInt8 := [167, 255, 212, 42, 180, 0, 77, 27, 4, 84, 177]
abbrev dktX1_lay_3 : List UInt8 := dkwX1_lay_3 ++ []
def dkwX1_lay_2 : List UInt8 := [180, 0, 74, 27, 50, 28, 16, 6, 122, 92, 47, 10, 28, 16, 63, 126, 121, 129, 80, 132, 2, 1]
abbrev dktX1_lay_2 : List UInt8 := dkwX1_lay_2 ++ dktX1_lay_3
def dkwX1_lay_1 : List UInt8 := [3, 61, 28, 17, 78, 32, 162, 0, 43, 42, 42, 180, 0, 49, 27, 50, 28, 182, 1, 109, 153, 0, 23, 42]
abbrev dktX1_lay_1 : List UInt8 := dkwX1_lay_1 ++ dktX1_lay_2
def dkwX1_lay_0 : List UInt8 := [3, 61, 28, 17, 1, 57, 162, 0, 18, 42, 180, 0, 74, 27, 50, 28, 9, 80, 132, 2, 1, 167, 255, 237]
abbrev dktX1_lay_0 : List UInt8 := dkwX1_lay_0 ++ dktX1_lay_1
theorem dksX1_lay_0 : cX1_lay.data.toList.drop 0 = dktX1_lay_0 := by decide +kernel
theorem dksX1_lay_1 : cX1_lay.data.toList.drop 24 = dktX1_lay_1 := dk_seg dksX1_lay_0 24 rfl rfl
theorem dksX1_lay_2 : cX1_lay.data.toList.drop 48 = dktX1_lay_2 := dk_seg dksX1_lay_1 24 rfl rfl
theorem dksX1_lay_3 : cX1_lay.data.toList.drop 70 = dktX1_lay_3 := dk_seg dksX1_lay_2 22 rfl rfl
theorem dX1_lay_0 : decode cX1_lay 0 = .ok (.iconst 0, 1) := dk_3 (dk_at dksX1_lay_0 0 rfl rfl)
theorem dX1_lay_1 : decode cX1_lay 1 = .ok (.istore_n 2, 1) := dk_61 (dk_at dksX1_lay_0 1 rfl rfl)
theorem dX1_lay_2 : decode cX1_lay 2 = .ok (.iload_n 2, 1) := dk_28 (dk_at dksX1_lay_0 2 rfl rfl)
theorem dX1_lay_3 : decode cX1_lay 3 = .ok (.sipush 313, 3) := dk_17 1 57 (dk_at dksX1_lay_0 3 rfl rfl)
theorem dX1_lay_6 : decode cX1_lay 6 = .ok (.if_icmp .ge 18, 3) := dk_162 0 18 (dk_at dksX1_lay_0 6 rfl rfl)
theorem dX1_lay_9 : decode cX1_lay 9 = .ok (.aload_n 0, 1) := dk_42 (dk_at dksX1_lay_0 9 rfl rfl)
theorem dX1_lay_10 : decode cX1_lay 10 = .ok (.getfield 74, 3) := dk_180 0 74 (dk_at dksX1_lay_0 10 rfl rfl)
theorem dX1_lay_13 : decode cX1_lay 13 = .ok (.iload_n 1, 1) := dk_27 (dk_at dksX1_lay_0 13 rfl rfl)
theorem dX1_lay_14 : decode cX1_lay 14 = .ok (.aaload, 1) := dk_50 (dk_at dksX1_lay_0 14 rfl rfl)
theorem dX1_lay_15 : decode cX1_lay 15 = .ok (.iload_n 2, 1) := dk_28 (dk_at dksX1_lay_0 15 rfl rfl)
theorem dX1_lay_16 : decode cX1_lay 16 = .ok (.lconst 0, 1) := dk_9 (dk_at dksX1_lay_0 16 rfl rfl)
theorem dX1_lay_17 : decode cX1_lay 17 = .ok (.lastore, 1) := dk_80 (dk_at dksX1_lay_0 17 rfl rfl)
theorem dX1_lay_18 : decode cX1_lay 18 = .ok (.iinc 2 1, 3) := dk_132 2 1 (dk_at dksX1_lay_0 18 rfl rfl)
theorem dX1_lay_21 : decode cX1_lay 21 = .ok (.goto (-19), 3) := dk_167 255 237 (dk_at dksX1_lay_0 21 rfl rfl)
theorem dX1_lay_24 : decode cX1_lay 24 = .ok (.iconst 0, 1) := dk_3 (dk_at dksX1_lay_1 0 rfl rfl)
theorem dX1_lay_25 : decode cX1_lay 25 = .ok (.istore_n 2, 1) := dk_61 (dk_at dksX1_lay_1 1 rfl rfl)
theorem dX1_lay_26 : decode cX1_lay 26 = .ok (.iload_n 2, 1) := dk_28 (dk_at dksX1_lay_1 2 rfl rfl)
theorem dX1_lay_27 : decode cX1_lay 27 = .ok (.sipush 20000, 3) := dk_17 78 32 (dk_at dksX1_lay_1 3 rfl rfl)
theorem dX1_lay_30 : decode cX1_lay 30 = .ok (.if_icmp .ge 43, 3) := dk_162 0 43 (dk_at dksX1_lay_1 6 rfl rfl)
theorem dX1_lay_33 : decode cX1_lay 33 = .ok (.aload_n 0, 1) := dk_42 (dk_at dksX1_lay_1 9 rfl rfl)
theorem dX1_lay_34 : decode cX1_lay 34 = .ok (.aload_n 0, 1) := dk_42 (dk_at dksX1_lay_1 10 rfl rfl)
theorem dX1_lay_35 : decode cX1_lay 35 = .ok (.getfield 49, 3) := dk_180 0 49 (dk_at dksX1_lay_1 11 rfl rfl)
theorem dX1_lay_38 : decode cX1_lay 38 = .ok (.iload_n 1, 1) := dk_27 (dk_at dksX1_lay_1 14 rfl rfl)
theorem dX1_lay_39 : decode cX1_lay 39 = .ok (.aaload, 1) := dk_50 (dk_at dksX1_lay_1 15 rfl rfl)
theorem dX1_lay_40 : decode cX1_lay 40 = .ok (.iload_n 2, 1) := dk_28 (dk_at dksX1_lay_1 16 rfl rfl)
theorem dX1_lay_41 : decode cX1_lay 41 = .ok (.invokevirtual 365, 3) := dk_182 1 109 (dk_at dksX1_lay_1 17 rfl rfl)
theorem dX1_lay_44 : decode cX1_lay 44 = .ok (.ifCond .eq 23, 3) := dk_153 0 23 (dk_at dksX1_lay_1 20 rfl rfl)
theorem dX1_lay_47 : decode cX1_lay 47 = .ok (.aload_n 0, 1) := dk_42 (dk_at dksX1_lay_1 23 rfl rfl)
theorem dX1_lay_48 : decode cX1_lay 48 = .ok (.getfield 74, 3) := dk_180 0 74 (dk_at dksX1_lay_2 0 rfl rfl)
theorem dX1_lay_51 : decode cX1_lay 51 = .ok (.iload_n 1, 1) := dk_27 (dk_at dksX1_lay_2 3 rfl rfl)
theorem dX1_lay_52 : decode cX1_lay 52 = .ok (.aaload, 1) := dk_50 (dk_at dksX1_lay_2 4 rfl rfl)
theorem dX1_lay_53 : decode cX1_lay 53 = .ok (.iload_n 2, 1) := dk_28 (dk_at dksX1_lay_2 5 rfl rfl)
theorem dX1_lay_54 : decode cX1_lay 54 = .ok (.bipush 6, 2) := dk_16 6 (dk_at dksX1_lay_2 6 rfl rfl)
theorem dX1_lay_56 : decode cX1_lay 56 = .ok (.ishr, 1) := dk_122 (dk_at dksX1_lay_2 8 rfl rfl)
theorem dX1_lay_57 : decode cX1_lay 57 = .ok (.dup2, 1) := dk_92 (dk_at dksX1_lay_2 9 rfl rfl)
theorem dX1_lay_58 : decode cX1_lay 58 = .ok (.laload, 1) := dk_47 (dk_at dksX1_lay_2 10 rfl rfl)
theorem dX1_lay_59 : decode cX1_lay 59 = .ok (.lconst 1, 1) := dk_10 (dk_at dksX1_lay_2 11 rfl rfl)
theorem dX1_lay_60 : decode cX1_lay 60 = .ok (.iload_n 2, 1) := dk_28 (dk_at dksX1_lay_2 12 rfl rfl)
theorem dX1_lay_61 : decode cX1_lay 61 = .ok (.bipush 63, 2) := dk_16 63 (dk_at dksX1_lay_2 13 rfl rfl)
theorem dX1_lay_63 : decode cX1_lay 63 = .ok (.iand, 1) := dk_126 (dk_at dksX1_lay_2 15 rfl rfl)
theorem dX1_lay_64 : decode cX1_lay 64 = .ok (.lshl, 1) := dk_121 (dk_at dksX1_lay_2 16 rfl rfl)
theorem dX1_lay_65 : decode cX1_lay 65 = .ok (.lor, 1) := dk_129 (dk_at dksX1_lay_2 17 rfl rfl)
theorem dX1_lay_66 : decode cX1_lay 66 = .ok (.lastore, 1) := dk_80 (dk_at dksX1_lay_2 18 rfl rfl)
theorem dX1_lay_67 : decode cX1_lay 67 = .ok (.iinc 2 1, 3) := dk_132 2 1 (dk_at dksX1_lay_2 19 rfl rfl)
theorem dX1_lay_70 : decode cX1_lay 70 = .ok (.goto (-44), 3) := dk_167 255 212 (dk_at dksX1_lay_3 0 rfl rfl)
theorem dX1_lay_73 : decode cX1_lay 73 = .ok (.aload_n 0, 1) := dk_42 (dk_at dksX1_lay_3 3 rfl rfl)
theorem dX1_lay_74 : decode cX1_lay 74 = .ok (.getfield 77, 3) := dk_180 0 77 (dk_at dksX1_lay_3 4 rfl rfl)
theorem dX1_lay_77 : decode cX1_lay 77 = .ok (.iload_n 1, 1) := dk_27 (dk_at dksX1_lay_3 7 rfl rfl)
theorem dX1_lay_78 : decode cX1_lay 78 = .ok (.iconst 1, 1) := dk_4 (dk_at dksX1_lay_3 8 rfl rfl)
theorem dX1_lay_79 : decode cX1_lay 79 = .ok (.bastore, 1) := dk_84 (dk_at dksX1_lay_3 9 rfl rfl)
theorem dX1_lay_80 : decode cX1_lay 80 = .ok (.return_, 1) := dk_177 (dk_at dksX1_lay_3 10 rfl rfl)
abbrev cX1_isSaid : ByteArray := prog_1_method_42_code
def yX1_isSaid : MethodName := ⟨RX1, "isSaid", "(LLongYears$Note;I)Z"⟩
def dkwX1_isSaid_10 : List UInt8 := [153, 0, 7, 4, 167, 0, 4, 3, 172]
abbrev dktX1_isSaid_10 : List UInt8 := dkwX1_isSaid_10 ++ []
def dkwX1_isSaid_9 : List UInt8 := [172, 43, 16, 6, 182, 1, 91, 153, 0, 19, 42, 43, 180, 1, 93, 16, 6, 46, 28, 133, 182, 1, 3]
abbrev dktX1_isSaid_9 : List UInt8 := dkwX1_isSaid_9 ++ dktX1_isSaid_10
def dkwX1_isSaid_8 : List UInt8 := [180, 0, 163, 43, 180, 1, 93, 8, 46, 182, 0, 127, 192, 1, 18, 28, 133, 182, 1, 99, 154, 0, 5, 3]
abbrev dktX1_isSaid_8 : List UInt8 := dkwX1_isSaid_8 ++ dktX1_isSaid_9
def dkwX1_isSaid_7 : List UInt8 := [180, 1, 93, 7, 46, 159, 0, 5, 3, 172, 43, 8, 182, 1, 91, 153, 0, 32, 42, 180, 0, 39]
abbrev dktX1_isSaid_7 : List UInt8 := dkwX1_isSaid_7 ++ dktX1_isSaid_8
def dkwX1_isSaid_6 : List UInt8 := [6, 46, 160, 0, 29, 43, 7, 182, 1, 91, 153, 0, 23, 42, 180, 0, 39, 28, 133, 182, 0, 233, 43]
abbrev dktX1_isSaid_6 : List UInt8 := dkwX1_isSaid_6 ++ dktX1_isSaid_7
def dkwX1_isSaid_5 : List UInt8 := [160, 0, 55, 43, 6, 182, 1, 91, 153, 0, 21, 42, 180, 0, 39, 28, 133, 182, 0, 230, 43, 180, 1, 93]
abbrev dktX1_isSaid_5 : List UInt8 := dkwX1_isSaid_5 ++ dktX1_isSaid_6
def dkwX1_isSaid_4 : List UInt8 := [5, 182, 1, 91, 153, 0, 21, 42, 180, 0, 39, 28, 133, 182, 0, 226, 43, 180, 1, 93, 5, 46]
abbrev dktX1_isSaid_4 : List UInt8 := dkwX1_isSaid_4 ++ dktX1_isSaid_5
def dkwX1_isSaid_3 : List UInt8 := [182, 0, 177, 33, 182, 0, 218, 101, 10, 97, 43, 180, 1, 93, 4, 46, 133, 148, 153, 0, 5, 3, 172, 43]
abbrev dktX1_isSaid_3 : List UInt8 := dkwX1_isSaid_3 ++ dktX1_isSaid_4
def dkwX1_isSaid_2 : List UInt8 := [3, 172, 43, 4, 182, 1, 91, 153, 0, 38, 33, 20, 0, 207, 148, 153, 0, 28, 28, 133, 42, 3]
abbrev dktX1_isSaid_2 : List UInt8 := dkwX1_isSaid_2 ++ dktX1_isSaid_3
def dkwX1_isSaid_1 : List UInt8 := [153, 0, 24, 33, 43, 180, 1, 93, 3, 46, 133, 43, 180, 1, 96, 3, 46, 133, 184, 0, 96, 154, 0, 5]
abbrev dktX1_isSaid_1 : List UInt8 := dkwX1_isSaid_1 ++ dktX1_isSaid_2
def dkwX1_isSaid_0 : List UInt8 := [42, 180, 0, 39, 28, 133, 182, 0, 236, 66, 43, 3, 182, 1, 91, 153, 0, 34, 33, 20, 0, 207, 148]
abbrev dktX1_isSaid_0 : List UInt8 := dkwX1_isSaid_0 ++ dktX1_isSaid_1
theorem dksX1_isSaid_0 : cX1_isSaid.data.toList.drop 0 = dktX1_isSaid_0 := by decide +kernel
theorem dksX1_isSaid_1 : cX1_isSaid.data.toList.drop 23 = dktX1_isSaid_1 := dk_seg dksX1_isSaid_0 23 rfl rfl
theorem dksX1_isSaid_2 : cX1_isSaid.data.toList.drop 47 = dktX1_isSaid_2 := dk_seg dksX1_isSaid_1 24 rfl rfl
theorem dksX1_isSaid_3 : cX1_isSaid.data.toList.drop 69 = dktX1_isSaid_3 := dk_seg dksX1_isSaid_2 22 rfl rfl
theorem dksX1_isSaid_4 : cX1_isSaid.data.toList.drop 93 = dktX1_isSaid_4 := dk_seg dksX1_isSaid_3 24 rfl rfl
theorem dksX1_isSaid_5 : cX1_isSaid.data.toList.drop 115 = dktX1_isSaid_5 := dk_seg dksX1_isSaid_4 22 rfl rfl
theorem dksX1_isSaid_6 : cX1_isSaid.data.toList.drop 139 = dktX1_isSaid_6 := dk_seg dksX1_isSaid_5 24 rfl rfl
theorem dksX1_isSaid_7 : cX1_isSaid.data.toList.drop 162 = dktX1_isSaid_7 := dk_seg dksX1_isSaid_6 23 rfl rfl
theorem dksX1_isSaid_8 : cX1_isSaid.data.toList.drop 184 = dktX1_isSaid_8 := dk_seg dksX1_isSaid_7 22 rfl rfl
theorem dksX1_isSaid_9 : cX1_isSaid.data.toList.drop 208 = dktX1_isSaid_9 := dk_seg dksX1_isSaid_8 24 rfl rfl
theorem dksX1_isSaid_10 : cX1_isSaid.data.toList.drop 231 = dktX1_isSaid_10 := dk_seg dksX1_isSaid_9 23 rfl rfl
theorem dX1_isSaid_0 : decode cX1_isSaid 0 = .ok (.aload_n 0, 1) := dk_42 (dk_at dksX1_isSaid_0 0 rfl rfl)
theorem dX1_isSaid_1 : decode cX1_isSaid 1 = .ok (.getfield 39, 3) := dk_180 0 39 (dk_at dksX1_isSaid_0 1 rfl rfl)
theorem dX1_isSaid_4 : decode cX1_isSaid 4 = .ok (.iload_n 2, 1) := dk_28 (dk_at dksX1_isSaid_0 4 rfl rfl)
theorem dX1_isSaid_5 : decode cX1_isSaid 5 = .ok (.i2l, 1) := dk_133 (dk_at dksX1_isSaid_0 5 rfl rfl)
theorem dX1_isSaid_6 : decode cX1_isSaid 6 = .ok (.invokevirtual 236, 3) := dk_182 0 236 (dk_at dksX1_isSaid_0 6 rfl rfl)
theorem dX1_isSaid_9 : decode cX1_isSaid 9 = .ok (.lstore_n 3, 1) := dk_66 (dk_at dksX1_isSaid_0 9 rfl rfl)
theorem dX1_isSaid_10 : decode cX1_isSaid 10 = .ok (.aload_n 1, 1) := dk_43 (dk_at dksX1_isSaid_0 10 rfl rfl)
theorem dX1_isSaid_11 : decode cX1_isSaid 11 = .ok (.iconst 0, 1) := dk_3 (dk_at dksX1_isSaid_0 11 rfl rfl)
theorem dX1_isSaid_12 : decode cX1_isSaid 12 = .ok (.invokevirtual 347, 3) := dk_182 1 91 (dk_at dksX1_isSaid_0 12 rfl rfl)
theorem dX1_isSaid_15 : decode cX1_isSaid 15 = .ok (.ifCond .eq 34, 3) := dk_153 0 34 (dk_at dksX1_isSaid_0 15 rfl rfl)
theorem dX1_isSaid_18 : decode cX1_isSaid 18 = .ok (.lload_n 3, 1) := dk_33 (dk_at dksX1_isSaid_0 18 rfl rfl)
theorem dX1_isSaid_19 : decode cX1_isSaid 19 = .ok (.ldc2_w 207, 3) := dk_20 0 207 (dk_at dksX1_isSaid_0 19 rfl rfl)
theorem dX1_isSaid_22 : decode cX1_isSaid 22 = .ok (.lcmp, 1) := dk_148 (dk_at dksX1_isSaid_0 22 rfl rfl)
theorem dX1_isSaid_23 : decode cX1_isSaid 23 = .ok (.ifCond .eq 24, 3) := dk_153 0 24 (dk_at dksX1_isSaid_1 0 rfl rfl)
theorem dX1_isSaid_26 : decode cX1_isSaid 26 = .ok (.lload_n 3, 1) := dk_33 (dk_at dksX1_isSaid_1 3 rfl rfl)
theorem dX1_isSaid_27 : decode cX1_isSaid 27 = .ok (.aload_n 1, 1) := dk_43 (dk_at dksX1_isSaid_1 4 rfl rfl)
theorem dX1_isSaid_28 : decode cX1_isSaid 28 = .ok (.getfield 349, 3) := dk_180 1 93 (dk_at dksX1_isSaid_1 5 rfl rfl)
theorem dX1_isSaid_31 : decode cX1_isSaid 31 = .ok (.iconst 0, 1) := dk_3 (dk_at dksX1_isSaid_1 8 rfl rfl)
theorem dX1_isSaid_32 : decode cX1_isSaid 32 = .ok (.iaload, 1) := dk_46 (dk_at dksX1_isSaid_1 9 rfl rfl)
theorem dX1_isSaid_33 : decode cX1_isSaid 33 = .ok (.i2l, 1) := dk_133 (dk_at dksX1_isSaid_1 10 rfl rfl)
theorem dX1_isSaid_34 : decode cX1_isSaid 34 = .ok (.aload_n 1, 1) := dk_43 (dk_at dksX1_isSaid_1 11 rfl rfl)
theorem dX1_isSaid_35 : decode cX1_isSaid 35 = .ok (.getfield 352, 3) := dk_180 1 96 (dk_at dksX1_isSaid_1 12 rfl rfl)
theorem dX1_isSaid_38 : decode cX1_isSaid 38 = .ok (.iconst 0, 1) := dk_3 (dk_at dksX1_isSaid_1 15 rfl rfl)
theorem dX1_isSaid_39 : decode cX1_isSaid 39 = .ok (.iaload, 1) := dk_46 (dk_at dksX1_isSaid_1 16 rfl rfl)
theorem dX1_isSaid_40 : decode cX1_isSaid 40 = .ok (.i2l, 1) := dk_133 (dk_at dksX1_isSaid_1 17 rfl rfl)
theorem dX1_isSaid_41 : decode cX1_isSaid 41 = .ok (.invokestatic 96, 3) := dk_184 0 96 (dk_at dksX1_isSaid_1 18 rfl rfl)
theorem dX1_isSaid_44 : decode cX1_isSaid 44 = .ok (.ifCond .ne 5, 3) := dk_154 0 5 (dk_at dksX1_isSaid_1 21 rfl rfl)
theorem dX1_isSaid_47 : decode cX1_isSaid 47 = .ok (.iconst 0, 1) := dk_3 (dk_at dksX1_isSaid_2 0 rfl rfl)
theorem dX1_isSaid_48 : decode cX1_isSaid 48 = .ok (.ireturn, 1) := dk_172 (dk_at dksX1_isSaid_2 1 rfl rfl)
theorem dX1_isSaid_49 : decode cX1_isSaid 49 = .ok (.aload_n 1, 1) := dk_43 (dk_at dksX1_isSaid_2 2 rfl rfl)
theorem dX1_isSaid_50 : decode cX1_isSaid 50 = .ok (.iconst 1, 1) := dk_4 (dk_at dksX1_isSaid_2 3 rfl rfl)
theorem dX1_isSaid_51 : decode cX1_isSaid 51 = .ok (.invokevirtual 347, 3) := dk_182 1 91 (dk_at dksX1_isSaid_2 4 rfl rfl)
theorem dX1_isSaid_54 : decode cX1_isSaid 54 = .ok (.ifCond .eq 38, 3) := dk_153 0 38 (dk_at dksX1_isSaid_2 7 rfl rfl)
theorem dX1_isSaid_57 : decode cX1_isSaid 57 = .ok (.lload_n 3, 1) := dk_33 (dk_at dksX1_isSaid_2 10 rfl rfl)
theorem dX1_isSaid_58 : decode cX1_isSaid 58 = .ok (.ldc2_w 207, 3) := dk_20 0 207 (dk_at dksX1_isSaid_2 11 rfl rfl)
theorem dX1_isSaid_61 : decode cX1_isSaid 61 = .ok (.lcmp, 1) := dk_148 (dk_at dksX1_isSaid_2 14 rfl rfl)
theorem dX1_isSaid_62 : decode cX1_isSaid 62 = .ok (.ifCond .eq 28, 3) := dk_153 0 28 (dk_at dksX1_isSaid_2 15 rfl rfl)
theorem dX1_isSaid_65 : decode cX1_isSaid 65 = .ok (.iload_n 2, 1) := dk_28 (dk_at dksX1_isSaid_2 18 rfl rfl)
theorem dX1_isSaid_66 : decode cX1_isSaid 66 = .ok (.i2l, 1) := dk_133 (dk_at dksX1_isSaid_2 19 rfl rfl)
theorem dX1_isSaid_67 : decode cX1_isSaid 67 = .ok (.aload_n 0, 1) := dk_42 (dk_at dksX1_isSaid_2 20 rfl rfl)
theorem dX1_isSaid_68 : decode cX1_isSaid 68 = .ok (.iconst 0, 1) := dk_3 (dk_at dksX1_isSaid_2 21 rfl rfl)
theorem dX1_isSaid_69 : decode cX1_isSaid 69 = .ok (.invokevirtual 177, 3) := dk_182 0 177 (dk_at dksX1_isSaid_3 0 rfl rfl)
theorem dX1_isSaid_72 : decode cX1_isSaid 72 = .ok (.lload_n 3, 1) := dk_33 (dk_at dksX1_isSaid_3 3 rfl rfl)
theorem dX1_isSaid_73 : decode cX1_isSaid 73 = .ok (.invokevirtual 218, 3) := dk_182 0 218 (dk_at dksX1_isSaid_3 4 rfl rfl)
theorem dX1_isSaid_76 : decode cX1_isSaid 76 = .ok (.lsub, 1) := dk_101 (dk_at dksX1_isSaid_3 7 rfl rfl)
theorem dX1_isSaid_77 : decode cX1_isSaid 77 = .ok (.lconst 1, 1) := dk_10 (dk_at dksX1_isSaid_3 8 rfl rfl)
theorem dX1_isSaid_78 : decode cX1_isSaid 78 = .ok (.ladd, 1) := dk_97 (dk_at dksX1_isSaid_3 9 rfl rfl)
theorem dX1_isSaid_79 : decode cX1_isSaid 79 = .ok (.aload_n 1, 1) := dk_43 (dk_at dksX1_isSaid_3 10 rfl rfl)
theorem dX1_isSaid_80 : decode cX1_isSaid 80 = .ok (.getfield 349, 3) := dk_180 1 93 (dk_at dksX1_isSaid_3 11 rfl rfl)
theorem dX1_isSaid_83 : decode cX1_isSaid 83 = .ok (.iconst 1, 1) := dk_4 (dk_at dksX1_isSaid_3 14 rfl rfl)
theorem dX1_isSaid_84 : decode cX1_isSaid 84 = .ok (.iaload, 1) := dk_46 (dk_at dksX1_isSaid_3 15 rfl rfl)
theorem dX1_isSaid_85 : decode cX1_isSaid 85 = .ok (.i2l, 1) := dk_133 (dk_at dksX1_isSaid_3 16 rfl rfl)
theorem dX1_isSaid_86 : decode cX1_isSaid 86 = .ok (.lcmp, 1) := dk_148 (dk_at dksX1_isSaid_3 17 rfl rfl)
theorem dX1_isSaid_87 : decode cX1_isSaid 87 = .ok (.ifCond .eq 5, 3) := dk_153 0 5 (dk_at dksX1_isSaid_3 18 rfl rfl)
theorem dX1_isSaid_90 : decode cX1_isSaid 90 = .ok (.iconst 0, 1) := dk_3 (dk_at dksX1_isSaid_3 21 rfl rfl)
theorem dX1_isSaid_91 : decode cX1_isSaid 91 = .ok (.ireturn, 1) := dk_172 (dk_at dksX1_isSaid_3 22 rfl rfl)
theorem dX1_isSaid_92 : decode cX1_isSaid 92 = .ok (.aload_n 1, 1) := dk_43 (dk_at dksX1_isSaid_3 23 rfl rfl)
theorem dX1_isSaid_93 : decode cX1_isSaid 93 = .ok (.iconst 2, 1) := dk_5 (dk_at dksX1_isSaid_4 0 rfl rfl)
theorem dX1_isSaid_94 : decode cX1_isSaid 94 = .ok (.invokevirtual 347, 3) := dk_182 1 91 (dk_at dksX1_isSaid_4 1 rfl rfl)
theorem dX1_isSaid_97 : decode cX1_isSaid 97 = .ok (.ifCond .eq 21, 3) := dk_153 0 21 (dk_at dksX1_isSaid_4 4 rfl rfl)
theorem dX1_isSaid_100 : decode cX1_isSaid 100 = .ok (.aload_n 0, 1) := dk_42 (dk_at dksX1_isSaid_4 7 rfl rfl)
theorem dX1_isSaid_101 : decode cX1_isSaid 101 = .ok (.getfield 39, 3) := dk_180 0 39 (dk_at dksX1_isSaid_4 8 rfl rfl)
theorem dX1_isSaid_104 : decode cX1_isSaid 104 = .ok (.iload_n 2, 1) := dk_28 (dk_at dksX1_isSaid_4 11 rfl rfl)
theorem dX1_isSaid_105 : decode cX1_isSaid 105 = .ok (.i2l, 1) := dk_133 (dk_at dksX1_isSaid_4 12 rfl rfl)
theorem dX1_isSaid_106 : decode cX1_isSaid 106 = .ok (.invokevirtual 226, 3) := dk_182 0 226 (dk_at dksX1_isSaid_4 13 rfl rfl)
theorem dX1_isSaid_109 : decode cX1_isSaid 109 = .ok (.aload_n 1, 1) := dk_43 (dk_at dksX1_isSaid_4 16 rfl rfl)
theorem dX1_isSaid_110 : decode cX1_isSaid 110 = .ok (.getfield 349, 3) := dk_180 1 93 (dk_at dksX1_isSaid_4 17 rfl rfl)
theorem dX1_isSaid_113 : decode cX1_isSaid 113 = .ok (.iconst 2, 1) := dk_5 (dk_at dksX1_isSaid_4 20 rfl rfl)
theorem dX1_isSaid_114 : decode cX1_isSaid 114 = .ok (.iaload, 1) := dk_46 (dk_at dksX1_isSaid_4 21 rfl rfl)
theorem dX1_isSaid_115 : decode cX1_isSaid 115 = .ok (.if_icmp .ne 55, 3) := dk_160 0 55 (dk_at dksX1_isSaid_5 0 rfl rfl)
theorem dX1_isSaid_118 : decode cX1_isSaid 118 = .ok (.aload_n 1, 1) := dk_43 (dk_at dksX1_isSaid_5 3 rfl rfl)
theorem dX1_isSaid_119 : decode cX1_isSaid 119 = .ok (.iconst 3, 1) := dk_6 (dk_at dksX1_isSaid_5 4 rfl rfl)
theorem dX1_isSaid_120 : decode cX1_isSaid 120 = .ok (.invokevirtual 347, 3) := dk_182 1 91 (dk_at dksX1_isSaid_5 5 rfl rfl)
theorem dX1_isSaid_123 : decode cX1_isSaid 123 = .ok (.ifCond .eq 21, 3) := dk_153 0 21 (dk_at dksX1_isSaid_5 8 rfl rfl)
theorem dX1_isSaid_126 : decode cX1_isSaid 126 = .ok (.aload_n 0, 1) := dk_42 (dk_at dksX1_isSaid_5 11 rfl rfl)
theorem dX1_isSaid_127 : decode cX1_isSaid 127 = .ok (.getfield 39, 3) := dk_180 0 39 (dk_at dksX1_isSaid_5 12 rfl rfl)
theorem dX1_isSaid_130 : decode cX1_isSaid 130 = .ok (.iload_n 2, 1) := dk_28 (dk_at dksX1_isSaid_5 15 rfl rfl)
theorem dX1_isSaid_131 : decode cX1_isSaid 131 = .ok (.i2l, 1) := dk_133 (dk_at dksX1_isSaid_5 16 rfl rfl)
theorem dX1_isSaid_132 : decode cX1_isSaid 132 = .ok (.invokevirtual 230, 3) := dk_182 0 230 (dk_at dksX1_isSaid_5 17 rfl rfl)
theorem dX1_isSaid_135 : decode cX1_isSaid 135 = .ok (.aload_n 1, 1) := dk_43 (dk_at dksX1_isSaid_5 20 rfl rfl)
theorem dX1_isSaid_136 : decode cX1_isSaid 136 = .ok (.getfield 349, 3) := dk_180 1 93 (dk_at dksX1_isSaid_5 21 rfl rfl)
theorem dX1_isSaid_139 : decode cX1_isSaid 139 = .ok (.iconst 3, 1) := dk_6 (dk_at dksX1_isSaid_6 0 rfl rfl)
theorem dX1_isSaid_140 : decode cX1_isSaid 140 = .ok (.iaload, 1) := dk_46 (dk_at dksX1_isSaid_6 1 rfl rfl)
theorem dX1_isSaid_141 : decode cX1_isSaid 141 = .ok (.if_icmp .ne 29, 3) := dk_160 0 29 (dk_at dksX1_isSaid_6 2 rfl rfl)
theorem dX1_isSaid_144 : decode cX1_isSaid 144 = .ok (.aload_n 1, 1) := dk_43 (dk_at dksX1_isSaid_6 5 rfl rfl)
theorem dX1_isSaid_145 : decode cX1_isSaid 145 = .ok (.iconst 4, 1) := dk_7 (dk_at dksX1_isSaid_6 6 rfl rfl)
theorem dX1_isSaid_146 : decode cX1_isSaid 146 = .ok (.invokevirtual 347, 3) := dk_182 1 91 (dk_at dksX1_isSaid_6 7 rfl rfl)
theorem dX1_isSaid_149 : decode cX1_isSaid 149 = .ok (.ifCond .eq 23, 3) := dk_153 0 23 (dk_at dksX1_isSaid_6 10 rfl rfl)
theorem dX1_isSaid_152 : decode cX1_isSaid 152 = .ok (.aload_n 0, 1) := dk_42 (dk_at dksX1_isSaid_6 13 rfl rfl)
theorem dX1_isSaid_153 : decode cX1_isSaid 153 = .ok (.getfield 39, 3) := dk_180 0 39 (dk_at dksX1_isSaid_6 14 rfl rfl)
theorem dX1_isSaid_156 : decode cX1_isSaid 156 = .ok (.iload_n 2, 1) := dk_28 (dk_at dksX1_isSaid_6 17 rfl rfl)
theorem dX1_isSaid_157 : decode cX1_isSaid 157 = .ok (.i2l, 1) := dk_133 (dk_at dksX1_isSaid_6 18 rfl rfl)
theorem dX1_isSaid_158 : decode cX1_isSaid 158 = .ok (.invokevirtual 233, 3) := dk_182 0 233 (dk_at dksX1_isSaid_6 19 rfl rfl)
theorem dX1_isSaid_161 : decode cX1_isSaid 161 = .ok (.aload_n 1, 1) := dk_43 (dk_at dksX1_isSaid_6 22 rfl rfl)
theorem dX1_isSaid_162 : decode cX1_isSaid 162 = .ok (.getfield 349, 3) := dk_180 1 93 (dk_at dksX1_isSaid_7 0 rfl rfl)
theorem dX1_isSaid_165 : decode cX1_isSaid 165 = .ok (.iconst 4, 1) := dk_7 (dk_at dksX1_isSaid_7 3 rfl rfl)
theorem dX1_isSaid_166 : decode cX1_isSaid 166 = .ok (.iaload, 1) := dk_46 (dk_at dksX1_isSaid_7 4 rfl rfl)
theorem dX1_isSaid_167 : decode cX1_isSaid 167 = .ok (.if_icmp .eq 5, 3) := dk_159 0 5 (dk_at dksX1_isSaid_7 5 rfl rfl)
theorem dX1_isSaid_170 : decode cX1_isSaid 170 = .ok (.iconst 0, 1) := dk_3 (dk_at dksX1_isSaid_7 8 rfl rfl)
theorem dX1_isSaid_171 : decode cX1_isSaid 171 = .ok (.ireturn, 1) := dk_172 (dk_at dksX1_isSaid_7 9 rfl rfl)
theorem dX1_isSaid_172 : decode cX1_isSaid 172 = .ok (.aload_n 1, 1) := dk_43 (dk_at dksX1_isSaid_7 10 rfl rfl)
theorem dX1_isSaid_173 : decode cX1_isSaid 173 = .ok (.iconst 5, 1) := dk_8 (dk_at dksX1_isSaid_7 11 rfl rfl)
theorem dX1_isSaid_174 : decode cX1_isSaid 174 = .ok (.invokevirtual 347, 3) := dk_182 1 91 (dk_at dksX1_isSaid_7 12 rfl rfl)
theorem dX1_isSaid_177 : decode cX1_isSaid 177 = .ok (.ifCond .eq 32, 3) := dk_153 0 32 (dk_at dksX1_isSaid_7 15 rfl rfl)
theorem dX1_isSaid_180 : decode cX1_isSaid 180 = .ok (.aload_n 0, 1) := dk_42 (dk_at dksX1_isSaid_7 18 rfl rfl)
theorem dX1_isSaid_181 : decode cX1_isSaid 181 = .ok (.getfield 39, 3) := dk_180 0 39 (dk_at dksX1_isSaid_7 19 rfl rfl)
theorem dX1_isSaid_184 : decode cX1_isSaid 184 = .ok (.getfield 163, 3) := dk_180 0 163 (dk_at dksX1_isSaid_8 0 rfl rfl)
theorem dX1_isSaid_187 : decode cX1_isSaid 187 = .ok (.aload_n 1, 1) := dk_43 (dk_at dksX1_isSaid_8 3 rfl rfl)
theorem dX1_isSaid_188 : decode cX1_isSaid 188 = .ok (.getfield 349, 3) := dk_180 1 93 (dk_at dksX1_isSaid_8 4 rfl rfl)
theorem dX1_isSaid_191 : decode cX1_isSaid 191 = .ok (.iconst 5, 1) := dk_8 (dk_at dksX1_isSaid_8 7 rfl rfl)
theorem dX1_isSaid_192 : decode cX1_isSaid 192 = .ok (.iaload, 1) := dk_46 (dk_at dksX1_isSaid_8 8 rfl rfl)
theorem dX1_isSaid_193 : decode cX1_isSaid 193 = .ok (.invokevirtual 127, 3) := dk_182 0 127 (dk_at dksX1_isSaid_8 9 rfl rfl)
theorem dX1_isSaid_196 : decode cX1_isSaid 196 = .ok (.checkcast 274, 3) := dk_192 1 18 (dk_at dksX1_isSaid_8 12 rfl rfl)
theorem dX1_isSaid_199 : decode cX1_isSaid 199 = .ok (.iload_n 2, 1) := dk_28 (dk_at dksX1_isSaid_8 15 rfl rfl)
theorem dX1_isSaid_200 : decode cX1_isSaid 200 = .ok (.i2l, 1) := dk_133 (dk_at dksX1_isSaid_8 16 rfl rfl)
theorem dX1_isSaid_201 : decode cX1_isSaid 201 = .ok (.invokevirtual 355, 3) := dk_182 1 99 (dk_at dksX1_isSaid_8 17 rfl rfl)
theorem dX1_isSaid_204 : decode cX1_isSaid 204 = .ok (.ifCond .ne 5, 3) := dk_154 0 5 (dk_at dksX1_isSaid_8 20 rfl rfl)
theorem dX1_isSaid_207 : decode cX1_isSaid 207 = .ok (.iconst 0, 1) := dk_3 (dk_at dksX1_isSaid_8 23 rfl rfl)
theorem dX1_isSaid_208 : decode cX1_isSaid 208 = .ok (.ireturn, 1) := dk_172 (dk_at dksX1_isSaid_9 0 rfl rfl)
theorem dX1_isSaid_209 : decode cX1_isSaid 209 = .ok (.aload_n 1, 1) := dk_43 (dk_at dksX1_isSaid_9 1 rfl rfl)
theorem dX1_isSaid_210 : decode cX1_isSaid 210 = .ok (.bipush 6, 2) := dk_16 6 (dk_at dksX1_isSaid_9 2 rfl rfl)
theorem dX1_isSaid_212 : decode cX1_isSaid 212 = .ok (.invokevirtual 347, 3) := dk_182 1 91 (dk_at dksX1_isSaid_9 4 rfl rfl)
theorem dX1_isSaid_215 : decode cX1_isSaid 215 = .ok (.ifCond .eq 19, 3) := dk_153 0 19 (dk_at dksX1_isSaid_9 7 rfl rfl)
theorem dX1_isSaid_218 : decode cX1_isSaid 218 = .ok (.aload_n 0, 1) := dk_42 (dk_at dksX1_isSaid_9 10 rfl rfl)
theorem dX1_isSaid_219 : decode cX1_isSaid 219 = .ok (.aload_n 1, 1) := dk_43 (dk_at dksX1_isSaid_9 11 rfl rfl)
theorem dX1_isSaid_220 : decode cX1_isSaid 220 = .ok (.getfield 349, 3) := dk_180 1 93 (dk_at dksX1_isSaid_9 12 rfl rfl)
theorem dX1_isSaid_223 : decode cX1_isSaid 223 = .ok (.bipush 6, 2) := dk_16 6 (dk_at dksX1_isSaid_9 15 rfl rfl)
theorem dX1_isSaid_225 : decode cX1_isSaid 225 = .ok (.iaload, 1) := dk_46 (dk_at dksX1_isSaid_9 17 rfl rfl)
theorem dX1_isSaid_226 : decode cX1_isSaid 226 = .ok (.iload_n 2, 1) := dk_28 (dk_at dksX1_isSaid_9 18 rfl rfl)
theorem dX1_isSaid_227 : decode cX1_isSaid 227 = .ok (.i2l, 1) := dk_133 (dk_at dksX1_isSaid_9 19 rfl rfl)
theorem dX1_isSaid_228 : decode cX1_isSaid 228 = .ok (.invokevirtual 259, 3) := dk_182 1 3 (dk_at dksX1_isSaid_9 20 rfl rfl)
theorem dX1_isSaid_231 : decode cX1_isSaid 231 = .ok (.ifCond .eq 7, 3) := dk_153 0 7 (dk_at dksX1_isSaid_10 0 rfl rfl)
theorem dX1_isSaid_234 : decode cX1_isSaid 234 = .ok (.iconst 1, 1) := dk_4 (dk_at dksX1_isSaid_10 3 rfl rfl)
theorem dX1_isSaid_235 : decode cX1_isSaid 235 = .ok (.goto 4, 3) := dk_167 0 4 (dk_at dksX1_isSaid_10 4 rfl rfl)
theorem dX1_isSaid_238 : decode cX1_isSaid 238 = .ok (.iconst 0, 1) := dk_3 (dk_at dksX1_isSaid_10 7 rfl rfl)
theorem dX1_isSaid_239 : decode cX1_isSaid 239 = .ok (.ireturn, 1) := dk_172 (dk_at dksX1_isSaid_10 8 rfl rfl)
abbrev cX1_fits : ByteArray := prog_1_method_57_code
def yX1_fits : MethodName := ⟨RX1, "fits", "(II)I"⟩
def dkwX1_fits_3 : List UInt8 := [160, 0, 10, 42, 180, 1, 119, 167, 0, 7, 42, 180, 1, 122, 42, 180, 0, 84, 27, 46, 96, 172]
abbrev dktX1_fits_3 : List UInt8 := dkwX1_fits_3 ++ []
def dkwX1_fits_2 : List UInt8 := [42, 180, 0, 81, 27, 46, 182, 1, 157, 87, 28, 154, 0, 10, 42, 180, 1, 116, 167, 0, 26, 28, 4]
abbrev dktX1_fits_2 : List UInt8 := dkwX1_fits_2 ++ dktX1_fits_3
def dkwX1_fits_1 : List UInt8 := [182, 1, 160, 182, 1, 163, 154, 0, 13, 28, 154, 0, 7, 3, 167, 0, 4, 2, 172, 42, 42, 182, 1, 160]
abbrev dktX1_fits_1 : List UInt8 := dkwX1_fits_1 ++ dktX1_fits_2
def dkwX1_fits_0 : List UInt8 := [42, 27, 182, 1, 154, 153, 0, 15, 28, 133, 9, 20, 1, 70, 184, 0, 96, 154, 0, 5, 2, 172, 42, 42]
abbrev dktX1_fits_0 : List UInt8 := dkwX1_fits_0 ++ dktX1_fits_1
theorem dksX1_fits_0 : cX1_fits.data.toList.drop 0 = dktX1_fits_0 := by decide +kernel
theorem dksX1_fits_1 : cX1_fits.data.toList.drop 24 = dktX1_fits_1 := dk_seg dksX1_fits_0 24 rfl rfl
theorem dksX1_fits_2 : cX1_fits.data.toList.drop 48 = dktX1_fits_2 := dk_seg dksX1_fits_1 24 rfl rfl
theorem dksX1_fits_3 : cX1_fits.data.toList.drop 71 = dktX1_fits_3 := dk_seg dksX1_fits_2 23 rfl rfl
theorem dX1_fits_0 : decode cX1_fits 0 = .ok (.aload_n 0, 1) := dk_42 (dk_at dksX1_fits_0 0 rfl rfl)
theorem dX1_fits_1 : decode cX1_fits 1 = .ok (.iload_n 1, 1) := dk_27 (dk_at dksX1_fits_0 1 rfl rfl)
theorem dX1_fits_2 : decode cX1_fits 2 = .ok (.invokevirtual 410, 3) := dk_182 1 154 (dk_at dksX1_fits_0 2 rfl rfl)
theorem dX1_fits_5 : decode cX1_fits 5 = .ok (.ifCond .eq 15, 3) := dk_153 0 15 (dk_at dksX1_fits_0 5 rfl rfl)
theorem dX1_fits_8 : decode cX1_fits 8 = .ok (.iload_n 2, 1) := dk_28 (dk_at dksX1_fits_0 8 rfl rfl)
theorem dX1_fits_9 : decode cX1_fits 9 = .ok (.i2l, 1) := dk_133 (dk_at dksX1_fits_0 9 rfl rfl)
theorem dX1_fits_10 : decode cX1_fits 10 = .ok (.lconst 0, 1) := dk_9 (dk_at dksX1_fits_0 10 rfl rfl)
theorem dX1_fits_11 : decode cX1_fits 11 = .ok (.ldc2_w 326, 3) := dk_20 1 70 (dk_at dksX1_fits_0 11 rfl rfl)
theorem dX1_fits_14 : decode cX1_fits 14 = .ok (.invokestatic 96, 3) := dk_184 0 96 (dk_at dksX1_fits_0 14 rfl rfl)
theorem dX1_fits_17 : decode cX1_fits 17 = .ok (.ifCond .ne 5, 3) := dk_154 0 5 (dk_at dksX1_fits_0 17 rfl rfl)
theorem dX1_fits_20 : decode cX1_fits 20 = .ok (.iconst (-1), 1) := dk_2 (dk_at dksX1_fits_0 20 rfl rfl)
theorem dX1_fits_21 : decode cX1_fits 21 = .ok (.ireturn, 1) := dk_172 (dk_at dksX1_fits_0 21 rfl rfl)
theorem dX1_fits_22 : decode cX1_fits 22 = .ok (.aload_n 0, 1) := dk_42 (dk_at dksX1_fits_0 22 rfl rfl)
theorem dX1_fits_23 : decode cX1_fits 23 = .ok (.aload_n 0, 1) := dk_42 (dk_at dksX1_fits_0 23 rfl rfl)
theorem dX1_fits_24 : decode cX1_fits 24 = .ok (.invokevirtual 416, 3) := dk_182 1 160 (dk_at dksX1_fits_1 0 rfl rfl)
theorem dX1_fits_27 : decode cX1_fits 27 = .ok (.invokevirtual 419, 3) := dk_182 1 163 (dk_at dksX1_fits_1 3 rfl rfl)
theorem dX1_fits_30 : decode cX1_fits 30 = .ok (.ifCond .ne 13, 3) := dk_154 0 13 (dk_at dksX1_fits_1 6 rfl rfl)
theorem dX1_fits_33 : decode cX1_fits 33 = .ok (.iload_n 2, 1) := dk_28 (dk_at dksX1_fits_1 9 rfl rfl)
theorem dX1_fits_34 : decode cX1_fits 34 = .ok (.ifCond .ne 7, 3) := dk_154 0 7 (dk_at dksX1_fits_1 10 rfl rfl)
theorem dX1_fits_37 : decode cX1_fits 37 = .ok (.iconst 0, 1) := dk_3 (dk_at dksX1_fits_1 13 rfl rfl)
theorem dX1_fits_38 : decode cX1_fits 38 = .ok (.goto 4, 3) := dk_167 0 4 (dk_at dksX1_fits_1 14 rfl rfl)
theorem dX1_fits_41 : decode cX1_fits 41 = .ok (.iconst (-1), 1) := dk_2 (dk_at dksX1_fits_1 17 rfl rfl)
theorem dX1_fits_42 : decode cX1_fits 42 = .ok (.ireturn, 1) := dk_172 (dk_at dksX1_fits_1 18 rfl rfl)
theorem dX1_fits_43 : decode cX1_fits 43 = .ok (.aload_n 0, 1) := dk_42 (dk_at dksX1_fits_1 19 rfl rfl)
theorem dX1_fits_44 : decode cX1_fits 44 = .ok (.aload_n 0, 1) := dk_42 (dk_at dksX1_fits_1 20 rfl rfl)
theorem dX1_fits_45 : decode cX1_fits 45 = .ok (.invokevirtual 416, 3) := dk_182 1 160 (dk_at dksX1_fits_1 21 rfl rfl)
theorem dX1_fits_48 : decode cX1_fits 48 = .ok (.aload_n 0, 1) := dk_42 (dk_at dksX1_fits_2 0 rfl rfl)
theorem dX1_fits_49 : decode cX1_fits 49 = .ok (.getfield 81, 3) := dk_180 0 81 (dk_at dksX1_fits_2 1 rfl rfl)
theorem dX1_fits_52 : decode cX1_fits 52 = .ok (.iload_n 1, 1) := dk_27 (dk_at dksX1_fits_2 4 rfl rfl)
theorem dX1_fits_53 : decode cX1_fits 53 = .ok (.iaload, 1) := dk_46 (dk_at dksX1_fits_2 5 rfl rfl)
theorem dX1_fits_54 : decode cX1_fits 54 = .ok (.invokevirtual 413, 3) := dk_182 1 157 (dk_at dksX1_fits_2 6 rfl rfl)
theorem dX1_fits_57 : decode cX1_fits 57 = .ok (.pop, 1) := dk_87 (dk_at dksX1_fits_2 9 rfl rfl)
theorem dX1_fits_58 : decode cX1_fits 58 = .ok (.iload_n 2, 1) := dk_28 (dk_at dksX1_fits_2 10 rfl rfl)
theorem dX1_fits_59 : decode cX1_fits 59 = .ok (.ifCond .ne 10, 3) := dk_154 0 10 (dk_at dksX1_fits_2 11 rfl rfl)
theorem dX1_fits_62 : decode cX1_fits 62 = .ok (.aload_n 0, 1) := dk_42 (dk_at dksX1_fits_2 14 rfl rfl)
theorem dX1_fits_63 : decode cX1_fits 63 = .ok (.getfield 372, 3) := dk_180 1 116 (dk_at dksX1_fits_2 15 rfl rfl)
theorem dX1_fits_66 : decode cX1_fits 66 = .ok (.goto 26, 3) := dk_167 0 26 (dk_at dksX1_fits_2 18 rfl rfl)
theorem dX1_fits_69 : decode cX1_fits 69 = .ok (.iload_n 2, 1) := dk_28 (dk_at dksX1_fits_2 21 rfl rfl)
theorem dX1_fits_70 : decode cX1_fits 70 = .ok (.iconst 1, 1) := dk_4 (dk_at dksX1_fits_2 22 rfl rfl)
theorem dX1_fits_71 : decode cX1_fits 71 = .ok (.if_icmp .ne 10, 3) := dk_160 0 10 (dk_at dksX1_fits_3 0 rfl rfl)
theorem dX1_fits_74 : decode cX1_fits 74 = .ok (.aload_n 0, 1) := dk_42 (dk_at dksX1_fits_3 3 rfl rfl)
theorem dX1_fits_75 : decode cX1_fits 75 = .ok (.getfield 375, 3) := dk_180 1 119 (dk_at dksX1_fits_3 4 rfl rfl)
theorem dX1_fits_78 : decode cX1_fits 78 = .ok (.goto 7, 3) := dk_167 0 7 (dk_at dksX1_fits_3 7 rfl rfl)
theorem dX1_fits_81 : decode cX1_fits 81 = .ok (.aload_n 0, 1) := dk_42 (dk_at dksX1_fits_3 10 rfl rfl)
theorem dX1_fits_82 : decode cX1_fits 82 = .ok (.getfield 378, 3) := dk_180 1 122 (dk_at dksX1_fits_3 11 rfl rfl)
theorem dX1_fits_85 : decode cX1_fits 85 = .ok (.aload_n 0, 1) := dk_42 (dk_at dksX1_fits_3 14 rfl rfl)
theorem dX1_fits_86 : decode cX1_fits 86 = .ok (.getfield 84, 3) := dk_180 0 84 (dk_at dksX1_fits_3 15 rfl rfl)
theorem dX1_fits_89 : decode cX1_fits 89 = .ok (.iload_n 1, 1) := dk_27 (dk_at dksX1_fits_3 18 rfl rfl)
theorem dX1_fits_90 : decode cX1_fits 90 = .ok (.iaload, 1) := dk_46 (dk_at dksX1_fits_3 19 rfl rfl)
theorem dX1_fits_91 : decode cX1_fits 91 = .ok (.iadd, 1) := dk_96 (dk_at dksX1_fits_3 20 rfl rfl)
theorem dX1_fits_92 : decode cX1_fits 92 = .ok (.ireturn, 1) := dk_172 (dk_at dksX1_fits_3 21 rfl rfl)
abbrev cX1_all : ByteArray := prog_1_method_50_code
def yX1_all : MethodName := ⟨RX1, "all", "()I"⟩
def dkwX1_all_0 : List UInt8 := [4, 42, 180, 0, 124, 120, 4, 100, 172]
abbrev dktX1_all_0 : List UInt8 := dkwX1_all_0 ++ []
theorem dksX1_all_0 : cX1_all.data.toList.drop 0 = dktX1_all_0 := by decide +kernel
theorem dX1_all_0 : decode cX1_all 0 = .ok (.iconst 1, 1) := dk_4 (dk_at dksX1_all_0 0 rfl rfl)
theorem dX1_all_1 : decode cX1_all 1 = .ok (.aload_n 0, 1) := dk_42 (dk_at dksX1_all_0 1 rfl rfl)
theorem dX1_all_2 : decode cX1_all 2 = .ok (.getfield 124, 3) := dk_180 0 124 (dk_at dksX1_all_0 2 rfl rfl)
theorem dX1_all_5 : decode cX1_all 5 = .ok (.ishl, 1) := dk_120 (dk_at dksX1_all_0 5 rfl rfl)
theorem dX1_all_6 : decode cX1_all 6 = .ok (.iconst 1, 1) := dk_4 (dk_at dksX1_all_0 6 rfl rfl)
theorem dX1_all_7 : decode cX1_all 7 = .ok (.isub, 1) := dk_100 (dk_at dksX1_all_0 7 rfl rfl)
theorem dX1_all_8 : decode cX1_all 8 = .ok (.ireturn, 1) := dk_172 (dk_at dksX1_all_0 8 rfl rfl)
abbrev cX1_holdsAll : ByteArray := prog_1_method_48_code
def yX1_holdsAll : MethodName := ⟨RX1, "holdsAll", "(I)Z"⟩
def dkwX1_holdsAll_2 : List UInt8 := [167, 255, 215, 4, 172]
abbrev dktX1_holdsAll_2 : List UInt8 := dkwX1_holdsAll_2 ++ []
def dkwX1_holdsAll_1 : List UInt8 := [42, 180, 0, 81, 28, 46, 28, 160, 0, 14, 42, 27, 28, 182, 1, 132, 154, 0, 5, 3, 172, 132, 2, 1]
abbrev dktX1_holdsAll_1 : List UInt8 := dkwX1_holdsAll_1 ++ dktX1_holdsAll_2
def dkwX1_holdsAll_0 : List UInt8 := [42, 27, 182, 1, 129, 3, 61, 28, 42, 180, 0, 124, 162, 0, 39, 27, 28, 122, 4, 126, 4, 160, 0, 24]
abbrev dktX1_holdsAll_0 : List UInt8 := dkwX1_holdsAll_0 ++ dktX1_holdsAll_1
theorem dksX1_holdsAll_0 : cX1_holdsAll.data.toList.drop 0 = dktX1_holdsAll_0 := by decide +kernel
theorem dksX1_holdsAll_1 : cX1_holdsAll.data.toList.drop 24 = dktX1_holdsAll_1 := dk_seg dksX1_holdsAll_0 24 rfl rfl
theorem dksX1_holdsAll_2 : cX1_holdsAll.data.toList.drop 48 = dktX1_holdsAll_2 := dk_seg dksX1_holdsAll_1 24 rfl rfl
theorem dX1_holdsAll_0 : decode cX1_holdsAll 0 = .ok (.aload_n 0, 1) := dk_42 (dk_at dksX1_holdsAll_0 0 rfl rfl)
theorem dX1_holdsAll_1 : decode cX1_holdsAll 1 = .ok (.iload_n 1, 1) := dk_27 (dk_at dksX1_holdsAll_0 1 rfl rfl)
theorem dX1_holdsAll_2 : decode cX1_holdsAll 2 = .ok (.invokevirtual 385, 3) := dk_182 1 129 (dk_at dksX1_holdsAll_0 2 rfl rfl)
theorem dX1_holdsAll_5 : decode cX1_holdsAll 5 = .ok (.iconst 0, 1) := dk_3 (dk_at dksX1_holdsAll_0 5 rfl rfl)
theorem dX1_holdsAll_6 : decode cX1_holdsAll 6 = .ok (.istore_n 2, 1) := dk_61 (dk_at dksX1_holdsAll_0 6 rfl rfl)
theorem dX1_holdsAll_7 : decode cX1_holdsAll 7 = .ok (.iload_n 2, 1) := dk_28 (dk_at dksX1_holdsAll_0 7 rfl rfl)
theorem dX1_holdsAll_8 : decode cX1_holdsAll 8 = .ok (.aload_n 0, 1) := dk_42 (dk_at dksX1_holdsAll_0 8 rfl rfl)
theorem dX1_holdsAll_9 : decode cX1_holdsAll 9 = .ok (.getfield 124, 3) := dk_180 0 124 (dk_at dksX1_holdsAll_0 9 rfl rfl)
theorem dX1_holdsAll_12 : decode cX1_holdsAll 12 = .ok (.if_icmp .ge 39, 3) := dk_162 0 39 (dk_at dksX1_holdsAll_0 12 rfl rfl)
theorem dX1_holdsAll_15 : decode cX1_holdsAll 15 = .ok (.iload_n 1, 1) := dk_27 (dk_at dksX1_holdsAll_0 15 rfl rfl)
theorem dX1_holdsAll_16 : decode cX1_holdsAll 16 = .ok (.iload_n 2, 1) := dk_28 (dk_at dksX1_holdsAll_0 16 rfl rfl)
theorem dX1_holdsAll_17 : decode cX1_holdsAll 17 = .ok (.ishr, 1) := dk_122 (dk_at dksX1_holdsAll_0 17 rfl rfl)
theorem dX1_holdsAll_18 : decode cX1_holdsAll 18 = .ok (.iconst 1, 1) := dk_4 (dk_at dksX1_holdsAll_0 18 rfl rfl)
theorem dX1_holdsAll_19 : decode cX1_holdsAll 19 = .ok (.iand, 1) := dk_126 (dk_at dksX1_holdsAll_0 19 rfl rfl)
theorem dX1_holdsAll_20 : decode cX1_holdsAll 20 = .ok (.iconst 1, 1) := dk_4 (dk_at dksX1_holdsAll_0 20 rfl rfl)
theorem dX1_holdsAll_21 : decode cX1_holdsAll 21 = .ok (.if_icmp .ne 24, 3) := dk_160 0 24 (dk_at dksX1_holdsAll_0 21 rfl rfl)
theorem dX1_holdsAll_24 : decode cX1_holdsAll 24 = .ok (.aload_n 0, 1) := dk_42 (dk_at dksX1_holdsAll_1 0 rfl rfl)
theorem dX1_holdsAll_25 : decode cX1_holdsAll 25 = .ok (.getfield 81, 3) := dk_180 0 81 (dk_at dksX1_holdsAll_1 1 rfl rfl)
theorem dX1_holdsAll_28 : decode cX1_holdsAll 28 = .ok (.iload_n 2, 1) := dk_28 (dk_at dksX1_holdsAll_1 4 rfl rfl)
theorem dX1_holdsAll_29 : decode cX1_holdsAll 29 = .ok (.iaload, 1) := dk_46 (dk_at dksX1_holdsAll_1 5 rfl rfl)
theorem dX1_holdsAll_30 : decode cX1_holdsAll 30 = .ok (.iload_n 2, 1) := dk_28 (dk_at dksX1_holdsAll_1 6 rfl rfl)
theorem dX1_holdsAll_31 : decode cX1_holdsAll 31 = .ok (.if_icmp .ne 14, 3) := dk_160 0 14 (dk_at dksX1_holdsAll_1 7 rfl rfl)
theorem dX1_holdsAll_34 : decode cX1_holdsAll 34 = .ok (.aload_n 0, 1) := dk_42 (dk_at dksX1_holdsAll_1 10 rfl rfl)
theorem dX1_holdsAll_35 : decode cX1_holdsAll 35 = .ok (.iload_n 1, 1) := dk_27 (dk_at dksX1_holdsAll_1 11 rfl rfl)
theorem dX1_holdsAll_36 : decode cX1_holdsAll 36 = .ok (.iload_n 2, 1) := dk_28 (dk_at dksX1_holdsAll_1 12 rfl rfl)
theorem dX1_holdsAll_37 : decode cX1_holdsAll 37 = .ok (.invokevirtual 388, 3) := dk_182 1 132 (dk_at dksX1_holdsAll_1 13 rfl rfl)
theorem dX1_holdsAll_40 : decode cX1_holdsAll 40 = .ok (.ifCond .ne 5, 3) := dk_154 0 5 (dk_at dksX1_holdsAll_1 16 rfl rfl)
theorem dX1_holdsAll_43 : decode cX1_holdsAll 43 = .ok (.iconst 0, 1) := dk_3 (dk_at dksX1_holdsAll_1 19 rfl rfl)
theorem dX1_holdsAll_44 : decode cX1_holdsAll 44 = .ok (.ireturn, 1) := dk_172 (dk_at dksX1_holdsAll_1 20 rfl rfl)
theorem dX1_holdsAll_45 : decode cX1_holdsAll 45 = .ok (.iinc 2 1, 3) := dk_132 2 1 (dk_at dksX1_holdsAll_1 21 rfl rfl)
theorem dX1_holdsAll_48 : decode cX1_holdsAll 48 = .ok (.goto (-41), 3) := dk_167 255 215 (dk_at dksX1_holdsAll_2 0 rfl rfl)
theorem dX1_holdsAll_51 : decode cX1_holdsAll 51 = .ok (.iconst 1, 1) := dk_4 (dk_at dksX1_holdsAll_2 3 rfl rfl)
theorem dX1_holdsAll_52 : decode cX1_holdsAll 52 = .ok (.ireturn, 1) := dk_172 (dk_at dksX1_holdsAll_2 4 rfl rfl)
abbrev cX1_isFit : ByteArray := prog_1_method_49_code
def yX1_isFit : MethodName := ⟨RX1, "isFit", "(II)Z"⟩
def dkwX1_isFit_1 : List UInt8 := [167, 255, 234, 3, 172]
abbrev dktX1_isFit_1 : List UInt8 := dkwX1_isFit_1 ++ []
def dkwX1_isFit_0 : List UInt8 := [3, 62, 29, 17, 78, 32, 162, 0, 21, 42, 27, 28, 29, 182, 1, 125, 153, 0, 5, 4, 172, 132, 3, 1]
abbrev dktX1_isFit_0 : List UInt8 := dkwX1_isFit_0 ++ dktX1_isFit_1
theorem dksX1_isFit_0 : cX1_isFit.data.toList.drop 0 = dktX1_isFit_0 := by decide +kernel
theorem dksX1_isFit_1 : cX1_isFit.data.toList.drop 24 = dktX1_isFit_1 := dk_seg dksX1_isFit_0 24 rfl rfl
theorem dX1_isFit_0 : decode cX1_isFit 0 = .ok (.iconst 0, 1) := dk_3 (dk_at dksX1_isFit_0 0 rfl rfl)
theorem dX1_isFit_1 : decode cX1_isFit 1 = .ok (.istore_n 3, 1) := dk_62 (dk_at dksX1_isFit_0 1 rfl rfl)
theorem dX1_isFit_2 : decode cX1_isFit 2 = .ok (.iload_n 3, 1) := dk_29 (dk_at dksX1_isFit_0 2 rfl rfl)
theorem dX1_isFit_3 : decode cX1_isFit 3 = .ok (.sipush 20000, 3) := dk_17 78 32 (dk_at dksX1_isFit_0 3 rfl rfl)
theorem dX1_isFit_6 : decode cX1_isFit 6 = .ok (.if_icmp .ge 21, 3) := dk_162 0 21 (dk_at dksX1_isFit_0 6 rfl rfl)
theorem dX1_isFit_9 : decode cX1_isFit 9 = .ok (.aload_n 0, 1) := dk_42 (dk_at dksX1_isFit_0 9 rfl rfl)
theorem dX1_isFit_10 : decode cX1_isFit 10 = .ok (.iload_n 1, 1) := dk_27 (dk_at dksX1_isFit_0 10 rfl rfl)
theorem dX1_isFit_11 : decode cX1_isFit 11 = .ok (.iload_n 2, 1) := dk_28 (dk_at dksX1_isFit_0 11 rfl rfl)
theorem dX1_isFit_12 : decode cX1_isFit 12 = .ok (.iload_n 3, 1) := dk_29 (dk_at dksX1_isFit_0 12 rfl rfl)
theorem dX1_isFit_13 : decode cX1_isFit 13 = .ok (.invokevirtual 381, 3) := dk_182 1 125 (dk_at dksX1_isFit_0 13 rfl rfl)
theorem dX1_isFit_16 : decode cX1_isFit 16 = .ok (.ifCond .eq 5, 3) := dk_153 0 5 (dk_at dksX1_isFit_0 16 rfl rfl)
theorem dX1_isFit_19 : decode cX1_isFit 19 = .ok (.iconst 1, 1) := dk_4 (dk_at dksX1_isFit_0 19 rfl rfl)
theorem dX1_isFit_20 : decode cX1_isFit 20 = .ok (.ireturn, 1) := dk_172 (dk_at dksX1_isFit_0 20 rfl rfl)
theorem dX1_isFit_21 : decode cX1_isFit 21 = .ok (.iinc 3 1, 3) := dk_132 3 1 (dk_at dksX1_isFit_0 21 rfl rfl)
theorem dX1_isFit_24 : decode cX1_isFit 24 = .ok (.goto (-22), 3) := dk_167 255 234 (dk_at dksX1_isFit_1 0 rfl rfl)
theorem dX1_isFit_27 : decode cX1_isFit 27 = .ok (.iconst 0, 1) := dk_3 (dk_at dksX1_isFit_1 3 rfl rfl)
theorem dX1_isFit_28 : decode cX1_isFit 28 = .ok (.ireturn, 1) := dk_172 (dk_at dksX1_isFit_1 4 rfl rfl)
abbrev cX1_gap : ByteArray := prog_1_method_59_code
def yX1_gap : MethodName := ⟨RX1, "gap", "()I"⟩
def dkwX1_gap_3 : List UInt8 := [167, 255, 203, 3, 172]
abbrev dktX1_gap_3 : List UInt8 := dkwX1_gap_3 ++ []
def dkwX1_gap_2 : List UInt8 := [153, 0, 13, 42, 28, 182, 1, 163, 154, 0, 5, 28, 172, 132, 2, 1, 167, 255, 219, 132, 1, 1]
abbrev dktX1_gap_2 : List UInt8 := dkwX1_gap_2 ++ dktX1_gap_3
def dkwX1_gap_1 : List UInt8 := [61, 28, 42, 182, 1, 160, 163, 0, 35, 28, 184, 1, 166, 27, 160, 0, 21, 42, 28, 182, 1, 172]
abbrev dktX1_gap_1 : List UInt8 := dkwX1_gap_1 ++ dktX1_gap_2
def dkwX1_gap_0 : List UInt8 := [42, 42, 182, 1, 160, 182, 1, 163, 153, 0, 5, 3, 172, 4, 60, 27, 42, 180, 0, 124, 163, 0, 51, 4]
abbrev dktX1_gap_0 : List UInt8 := dkwX1_gap_0 ++ dktX1_gap_1
theorem dksX1_gap_0 : cX1_gap.data.toList.drop 0 = dktX1_gap_0 := by decide +kernel
theorem dksX1_gap_1 : cX1_gap.data.toList.drop 24 = dktX1_gap_1 := dk_seg dksX1_gap_0 24 rfl rfl
theorem dksX1_gap_2 : cX1_gap.data.toList.drop 46 = dktX1_gap_2 := dk_seg dksX1_gap_1 22 rfl rfl
theorem dksX1_gap_3 : cX1_gap.data.toList.drop 68 = dktX1_gap_3 := dk_seg dksX1_gap_2 22 rfl rfl
theorem dX1_gap_0 : decode cX1_gap 0 = .ok (.aload_n 0, 1) := dk_42 (dk_at dksX1_gap_0 0 rfl rfl)
theorem dX1_gap_1 : decode cX1_gap 1 = .ok (.aload_n 0, 1) := dk_42 (dk_at dksX1_gap_0 1 rfl rfl)
theorem dX1_gap_2 : decode cX1_gap 2 = .ok (.invokevirtual 416, 3) := dk_182 1 160 (dk_at dksX1_gap_0 2 rfl rfl)
theorem dX1_gap_5 : decode cX1_gap 5 = .ok (.invokevirtual 419, 3) := dk_182 1 163 (dk_at dksX1_gap_0 5 rfl rfl)
theorem dX1_gap_8 : decode cX1_gap 8 = .ok (.ifCond .eq 5, 3) := dk_153 0 5 (dk_at dksX1_gap_0 8 rfl rfl)
theorem dX1_gap_11 : decode cX1_gap 11 = .ok (.iconst 0, 1) := dk_3 (dk_at dksX1_gap_0 11 rfl rfl)
theorem dX1_gap_12 : decode cX1_gap 12 = .ok (.ireturn, 1) := dk_172 (dk_at dksX1_gap_0 12 rfl rfl)
theorem dX1_gap_13 : decode cX1_gap 13 = .ok (.iconst 1, 1) := dk_4 (dk_at dksX1_gap_0 13 rfl rfl)
theorem dX1_gap_14 : decode cX1_gap 14 = .ok (.istore_n 1, 1) := dk_60 (dk_at dksX1_gap_0 14 rfl rfl)
theorem dX1_gap_15 : decode cX1_gap 15 = .ok (.iload_n 1, 1) := dk_27 (dk_at dksX1_gap_0 15 rfl rfl)
theorem dX1_gap_16 : decode cX1_gap 16 = .ok (.aload_n 0, 1) := dk_42 (dk_at dksX1_gap_0 16 rfl rfl)
theorem dX1_gap_17 : decode cX1_gap 17 = .ok (.getfield 124, 3) := dk_180 0 124 (dk_at dksX1_gap_0 17 rfl rfl)
theorem dX1_gap_20 : decode cX1_gap 20 = .ok (.if_icmp .gt 51, 3) := dk_163 0 51 (dk_at dksX1_gap_0 20 rfl rfl)
theorem dX1_gap_23 : decode cX1_gap 23 = .ok (.iconst 1, 1) := dk_4 (dk_at dksX1_gap_0 23 rfl rfl)
theorem dX1_gap_24 : decode cX1_gap 24 = .ok (.istore_n 2, 1) := dk_61 (dk_at dksX1_gap_1 0 rfl rfl)
theorem dX1_gap_25 : decode cX1_gap 25 = .ok (.iload_n 2, 1) := dk_28 (dk_at dksX1_gap_1 1 rfl rfl)
theorem dX1_gap_26 : decode cX1_gap 26 = .ok (.aload_n 0, 1) := dk_42 (dk_at dksX1_gap_1 2 rfl rfl)
theorem dX1_gap_27 : decode cX1_gap 27 = .ok (.invokevirtual 416, 3) := dk_182 1 160 (dk_at dksX1_gap_1 3 rfl rfl)
theorem dX1_gap_30 : decode cX1_gap 30 = .ok (.if_icmp .gt 35, 3) := dk_163 0 35 (dk_at dksX1_gap_1 6 rfl rfl)
theorem dX1_gap_33 : decode cX1_gap 33 = .ok (.iload_n 2, 1) := dk_28 (dk_at dksX1_gap_1 9 rfl rfl)
theorem dX1_gap_34 : decode cX1_gap 34 = .ok (.invokestatic 422, 3) := dk_184 1 166 (dk_at dksX1_gap_1 10 rfl rfl)
theorem dX1_gap_37 : decode cX1_gap 37 = .ok (.iload_n 1, 1) := dk_27 (dk_at dksX1_gap_1 13 rfl rfl)
theorem dX1_gap_38 : decode cX1_gap 38 = .ok (.if_icmp .ne 21, 3) := dk_160 0 21 (dk_at dksX1_gap_1 14 rfl rfl)
theorem dX1_gap_41 : decode cX1_gap 41 = .ok (.aload_n 0, 1) := dk_42 (dk_at dksX1_gap_1 17 rfl rfl)
theorem dX1_gap_42 : decode cX1_gap 42 = .ok (.iload_n 2, 1) := dk_28 (dk_at dksX1_gap_1 18 rfl rfl)
theorem dX1_gap_43 : decode cX1_gap 43 = .ok (.invokevirtual 428, 3) := dk_182 1 172 (dk_at dksX1_gap_1 19 rfl rfl)
theorem dX1_gap_46 : decode cX1_gap 46 = .ok (.ifCond .eq 13, 3) := dk_153 0 13 (dk_at dksX1_gap_2 0 rfl rfl)
theorem dX1_gap_49 : decode cX1_gap 49 = .ok (.aload_n 0, 1) := dk_42 (dk_at dksX1_gap_2 3 rfl rfl)
theorem dX1_gap_50 : decode cX1_gap 50 = .ok (.iload_n 2, 1) := dk_28 (dk_at dksX1_gap_2 4 rfl rfl)
theorem dX1_gap_51 : decode cX1_gap 51 = .ok (.invokevirtual 419, 3) := dk_182 1 163 (dk_at dksX1_gap_2 5 rfl rfl)
theorem dX1_gap_54 : decode cX1_gap 54 = .ok (.ifCond .ne 5, 3) := dk_154 0 5 (dk_at dksX1_gap_2 8 rfl rfl)
theorem dX1_gap_57 : decode cX1_gap 57 = .ok (.iload_n 2, 1) := dk_28 (dk_at dksX1_gap_2 11 rfl rfl)
theorem dX1_gap_58 : decode cX1_gap 58 = .ok (.ireturn, 1) := dk_172 (dk_at dksX1_gap_2 12 rfl rfl)
theorem dX1_gap_59 : decode cX1_gap 59 = .ok (.iinc 2 1, 3) := dk_132 2 1 (dk_at dksX1_gap_2 13 rfl rfl)
theorem dX1_gap_62 : decode cX1_gap 62 = .ok (.goto (-37), 3) := dk_167 255 219 (dk_at dksX1_gap_2 16 rfl rfl)
theorem dX1_gap_65 : decode cX1_gap 65 = .ok (.iinc 1 1, 3) := dk_132 1 1 (dk_at dksX1_gap_2 19 rfl rfl)
theorem dX1_gap_68 : decode cX1_gap 68 = .ok (.goto (-53), 3) := dk_167 255 203 (dk_at dksX1_gap_3 0 rfl rfl)
theorem dX1_gap_71 : decode cX1_gap 71 = .ok (.iconst 0, 1) := dk_3 (dk_at dksX1_gap_3 3 rfl rfl)
theorem dX1_gap_72 : decode cX1_gap 72 = .ok (.ireturn, 1) := dk_172 (dk_at dksX1_gap_3 4 rfl rfl)
abbrev cX1_isOne : ByteArray := prog_1_method_58_code
def yX1_isOne : MethodName := ⟨RX1, "isOne", "(I)Z"⟩
def dkwX1_isOne_2 : List UInt8 := [167, 255, 218, 28, 4, 160, 0, 7, 4, 167, 0, 4, 3, 172]
abbrev dktX1_isOne_2 : List UInt8 := dkwX1_isOne_2 ++ []
def dkwX1_isOne_1 : List UInt8 := [160, 0, 17, 42, 180, 0, 81, 29, 46, 29, 160, 0, 7, 4, 167, 0, 4, 3, 96, 61, 132, 3, 1]
abbrev dktX1_isOne_1 : List UInt8 := dkwX1_isOne_1 ++ dktX1_isOne_2
def dkwX1_isOne_0 : List UInt8 := [3, 61, 42, 27, 182, 1, 129, 3, 62, 29, 42, 180, 0, 124, 162, 0, 36, 28, 27, 29, 122, 4, 126, 4]
abbrev dktX1_isOne_0 : List UInt8 := dkwX1_isOne_0 ++ dktX1_isOne_1
theorem dksX1_isOne_0 : cX1_isOne.data.toList.drop 0 = dktX1_isOne_0 := by decide +kernel
theorem dksX1_isOne_1 : cX1_isOne.data.toList.drop 24 = dktX1_isOne_1 := dk_seg dksX1_isOne_0 24 rfl rfl
theorem dksX1_isOne_2 : cX1_isOne.data.toList.drop 47 = dktX1_isOne_2 := dk_seg dksX1_isOne_1 23 rfl rfl
theorem dX1_isOne_0 : decode cX1_isOne 0 = .ok (.iconst 0, 1) := dk_3 (dk_at dksX1_isOne_0 0 rfl rfl)
theorem dX1_isOne_1 : decode cX1_isOne 1 = .ok (.istore_n 2, 1) := dk_61 (dk_at dksX1_isOne_0 1 rfl rfl)
theorem dX1_isOne_2 : decode cX1_isOne 2 = .ok (.aload_n 0, 1) := dk_42 (dk_at dksX1_isOne_0 2 rfl rfl)
theorem dX1_isOne_3 : decode cX1_isOne 3 = .ok (.iload_n 1, 1) := dk_27 (dk_at dksX1_isOne_0 3 rfl rfl)
theorem dX1_isOne_4 : decode cX1_isOne 4 = .ok (.invokevirtual 385, 3) := dk_182 1 129 (dk_at dksX1_isOne_0 4 rfl rfl)
theorem dX1_isOne_7 : decode cX1_isOne 7 = .ok (.iconst 0, 1) := dk_3 (dk_at dksX1_isOne_0 7 rfl rfl)
theorem dX1_isOne_8 : decode cX1_isOne 8 = .ok (.istore_n 3, 1) := dk_62 (dk_at dksX1_isOne_0 8 rfl rfl)
theorem dX1_isOne_9 : decode cX1_isOne 9 = .ok (.iload_n 3, 1) := dk_29 (dk_at dksX1_isOne_0 9 rfl rfl)
theorem dX1_isOne_10 : decode cX1_isOne 10 = .ok (.aload_n 0, 1) := dk_42 (dk_at dksX1_isOne_0 10 rfl rfl)
theorem dX1_isOne_11 : decode cX1_isOne 11 = .ok (.getfield 124, 3) := dk_180 0 124 (dk_at dksX1_isOne_0 11 rfl rfl)
theorem dX1_isOne_14 : decode cX1_isOne 14 = .ok (.if_icmp .ge 36, 3) := dk_162 0 36 (dk_at dksX1_isOne_0 14 rfl rfl)
theorem dX1_isOne_17 : decode cX1_isOne 17 = .ok (.iload_n 2, 1) := dk_28 (dk_at dksX1_isOne_0 17 rfl rfl)
theorem dX1_isOne_18 : decode cX1_isOne 18 = .ok (.iload_n 1, 1) := dk_27 (dk_at dksX1_isOne_0 18 rfl rfl)
theorem dX1_isOne_19 : decode cX1_isOne 19 = .ok (.iload_n 3, 1) := dk_29 (dk_at dksX1_isOne_0 19 rfl rfl)
theorem dX1_isOne_20 : decode cX1_isOne 20 = .ok (.ishr, 1) := dk_122 (dk_at dksX1_isOne_0 20 rfl rfl)
theorem dX1_isOne_21 : decode cX1_isOne 21 = .ok (.iconst 1, 1) := dk_4 (dk_at dksX1_isOne_0 21 rfl rfl)
theorem dX1_isOne_22 : decode cX1_isOne 22 = .ok (.iand, 1) := dk_126 (dk_at dksX1_isOne_0 22 rfl rfl)
theorem dX1_isOne_23 : decode cX1_isOne 23 = .ok (.iconst 1, 1) := dk_4 (dk_at dksX1_isOne_0 23 rfl rfl)
theorem dX1_isOne_24 : decode cX1_isOne 24 = .ok (.if_icmp .ne 17, 3) := dk_160 0 17 (dk_at dksX1_isOne_1 0 rfl rfl)
theorem dX1_isOne_27 : decode cX1_isOne 27 = .ok (.aload_n 0, 1) := dk_42 (dk_at dksX1_isOne_1 3 rfl rfl)
theorem dX1_isOne_28 : decode cX1_isOne 28 = .ok (.getfield 81, 3) := dk_180 0 81 (dk_at dksX1_isOne_1 4 rfl rfl)
theorem dX1_isOne_31 : decode cX1_isOne 31 = .ok (.iload_n 3, 1) := dk_29 (dk_at dksX1_isOne_1 7 rfl rfl)
theorem dX1_isOne_32 : decode cX1_isOne 32 = .ok (.iaload, 1) := dk_46 (dk_at dksX1_isOne_1 8 rfl rfl)
theorem dX1_isOne_33 : decode cX1_isOne 33 = .ok (.iload_n 3, 1) := dk_29 (dk_at dksX1_isOne_1 9 rfl rfl)
theorem dX1_isOne_34 : decode cX1_isOne 34 = .ok (.if_icmp .ne 7, 3) := dk_160 0 7 (dk_at dksX1_isOne_1 10 rfl rfl)
theorem dX1_isOne_37 : decode cX1_isOne 37 = .ok (.iconst 1, 1) := dk_4 (dk_at dksX1_isOne_1 13 rfl rfl)
theorem dX1_isOne_38 : decode cX1_isOne 38 = .ok (.goto 4, 3) := dk_167 0 4 (dk_at dksX1_isOne_1 14 rfl rfl)
theorem dX1_isOne_41 : decode cX1_isOne 41 = .ok (.iconst 0, 1) := dk_3 (dk_at dksX1_isOne_1 17 rfl rfl)
theorem dX1_isOne_42 : decode cX1_isOne 42 = .ok (.iadd, 1) := dk_96 (dk_at dksX1_isOne_1 18 rfl rfl)
theorem dX1_isOne_43 : decode cX1_isOne 43 = .ok (.istore_n 2, 1) := dk_61 (dk_at dksX1_isOne_1 19 rfl rfl)
theorem dX1_isOne_44 : decode cX1_isOne 44 = .ok (.iinc 3 1, 3) := dk_132 3 1 (dk_at dksX1_isOne_1 20 rfl rfl)
theorem dX1_isOne_47 : decode cX1_isOne 47 = .ok (.goto (-38), 3) := dk_167 255 218 (dk_at dksX1_isOne_2 0 rfl rfl)
theorem dX1_isOne_50 : decode cX1_isOne 50 = .ok (.iload_n 2, 1) := dk_28 (dk_at dksX1_isOne_2 3 rfl rfl)
theorem dX1_isOne_51 : decode cX1_isOne 51 = .ok (.iconst 1, 1) := dk_4 (dk_at dksX1_isOne_2 4 rfl rfl)
theorem dX1_isOne_52 : decode cX1_isOne 52 = .ok (.if_icmp .ne 7, 3) := dk_160 0 7 (dk_at dksX1_isOne_2 5 rfl rfl)
theorem dX1_isOne_55 : decode cX1_isOne 55 = .ok (.iconst 1, 1) := dk_4 (dk_at dksX1_isOne_2 8 rfl rfl)
theorem dX1_isOne_56 : decode cX1_isOne 56 = .ok (.goto 4, 3) := dk_167 0 4 (dk_at dksX1_isOne_2 9 rfl rfl)
theorem dX1_isOne_59 : decode cX1_isOne 59 = .ok (.iconst 0, 1) := dk_3 (dk_at dksX1_isOne_2 12 rfl rfl)
theorem dX1_isOne_60 : decode cX1_isOne 60 = .ok (.ireturn, 1) := dk_172 (dk_at dksX1_isOne_2 13 rfl rfl)
abbrev cX1_told : ByteArray := prog_1_method_60_code
def yX1_told : MethodName := ⟨RX1, "told", "(II)I"⟩
def dkwX1_told_2 : List UInt8 := [180, 0, 135, 28, 79, 42, 89, 180, 0, 135, 4, 96, 181, 0, 135, 42, 180, 0, 135, 172]
abbrev dktX1_told_2 : List UInt8 := dkwX1_told_2 ++ []
def dkwX1_told_1 : List UInt8 := [16, 20, 160, 0, 5, 2, 172, 42, 180, 0, 60, 42, 180, 0, 135, 27, 79, 42, 180, 0, 63, 42]
abbrev dktX1_told_1 : List UInt8 := dkwX1_told_1 ++ dktX1_told_2
def dkwX1_told_0 : List UInt8 := [42, 27, 182, 1, 154, 153, 0, 24, 28, 133, 9, 20, 1, 102, 184, 0, 96, 153, 0, 12, 42, 180, 0, 135]
abbrev dktX1_told_0 : List UInt8 := dkwX1_told_0 ++ dktX1_told_1
theorem dksX1_told_0 : cX1_told.data.toList.drop 0 = dktX1_told_0 := by decide +kernel
theorem dksX1_told_1 : cX1_told.data.toList.drop 24 = dktX1_told_1 := dk_seg dksX1_told_0 24 rfl rfl
theorem dksX1_told_2 : cX1_told.data.toList.drop 46 = dktX1_told_2 := dk_seg dksX1_told_1 22 rfl rfl
theorem dX1_told_0 : decode cX1_told 0 = .ok (.aload_n 0, 1) := dk_42 (dk_at dksX1_told_0 0 rfl rfl)
theorem dX1_told_1 : decode cX1_told 1 = .ok (.iload_n 1, 1) := dk_27 (dk_at dksX1_told_0 1 rfl rfl)
theorem dX1_told_2 : decode cX1_told 2 = .ok (.invokevirtual 410, 3) := dk_182 1 154 (dk_at dksX1_told_0 2 rfl rfl)
theorem dX1_told_5 : decode cX1_told 5 = .ok (.ifCond .eq 24, 3) := dk_153 0 24 (dk_at dksX1_told_0 5 rfl rfl)
theorem dX1_told_8 : decode cX1_told 8 = .ok (.iload_n 2, 1) := dk_28 (dk_at dksX1_told_0 8 rfl rfl)
theorem dX1_told_9 : decode cX1_told 9 = .ok (.i2l, 1) := dk_133 (dk_at dksX1_told_0 9 rfl rfl)
theorem dX1_told_10 : decode cX1_told 10 = .ok (.lconst 0, 1) := dk_9 (dk_at dksX1_told_0 10 rfl rfl)
theorem dX1_told_11 : decode cX1_told 11 = .ok (.ldc2_w 358, 3) := dk_20 1 102 (dk_at dksX1_told_0 11 rfl rfl)
theorem dX1_told_14 : decode cX1_told 14 = .ok (.invokestatic 96, 3) := dk_184 0 96 (dk_at dksX1_told_0 14 rfl rfl)
theorem dX1_told_17 : decode cX1_told 17 = .ok (.ifCond .eq 12, 3) := dk_153 0 12 (dk_at dksX1_told_0 17 rfl rfl)
theorem dX1_told_20 : decode cX1_told 20 = .ok (.aload_n 0, 1) := dk_42 (dk_at dksX1_told_0 20 rfl rfl)
theorem dX1_told_21 : decode cX1_told 21 = .ok (.getfield 135, 3) := dk_180 0 135 (dk_at dksX1_told_0 21 rfl rfl)
theorem dX1_told_24 : decode cX1_told 24 = .ok (.bipush 20, 2) := dk_16 20 (dk_at dksX1_told_1 0 rfl rfl)
theorem dX1_told_26 : decode cX1_told 26 = .ok (.if_icmp .ne 5, 3) := dk_160 0 5 (dk_at dksX1_told_1 2 rfl rfl)
theorem dX1_told_29 : decode cX1_told 29 = .ok (.iconst (-1), 1) := dk_2 (dk_at dksX1_told_1 5 rfl rfl)
theorem dX1_told_30 : decode cX1_told 30 = .ok (.ireturn, 1) := dk_172 (dk_at dksX1_told_1 6 rfl rfl)
theorem dX1_told_31 : decode cX1_told 31 = .ok (.aload_n 0, 1) := dk_42 (dk_at dksX1_told_1 7 rfl rfl)
theorem dX1_told_32 : decode cX1_told 32 = .ok (.getfield 60, 3) := dk_180 0 60 (dk_at dksX1_told_1 8 rfl rfl)
theorem dX1_told_35 : decode cX1_told 35 = .ok (.aload_n 0, 1) := dk_42 (dk_at dksX1_told_1 11 rfl rfl)
theorem dX1_told_36 : decode cX1_told 36 = .ok (.getfield 135, 3) := dk_180 0 135 (dk_at dksX1_told_1 12 rfl rfl)
theorem dX1_told_39 : decode cX1_told 39 = .ok (.iload_n 1, 1) := dk_27 (dk_at dksX1_told_1 15 rfl rfl)
theorem dX1_told_40 : decode cX1_told 40 = .ok (.iastore, 1) := dk_79 (dk_at dksX1_told_1 16 rfl rfl)
theorem dX1_told_41 : decode cX1_told 41 = .ok (.aload_n 0, 1) := dk_42 (dk_at dksX1_told_1 17 rfl rfl)
theorem dX1_told_42 : decode cX1_told 42 = .ok (.getfield 63, 3) := dk_180 0 63 (dk_at dksX1_told_1 18 rfl rfl)
theorem dX1_told_45 : decode cX1_told 45 = .ok (.aload_n 0, 1) := dk_42 (dk_at dksX1_told_1 21 rfl rfl)
theorem dX1_told_46 : decode cX1_told 46 = .ok (.getfield 135, 3) := dk_180 0 135 (dk_at dksX1_told_2 0 rfl rfl)
theorem dX1_told_49 : decode cX1_told 49 = .ok (.iload_n 2, 1) := dk_28 (dk_at dksX1_told_2 3 rfl rfl)
theorem dX1_told_50 : decode cX1_told 50 = .ok (.iastore, 1) := dk_79 (dk_at dksX1_told_2 4 rfl rfl)
theorem dX1_told_51 : decode cX1_told 51 = .ok (.aload_n 0, 1) := dk_42 (dk_at dksX1_told_2 5 rfl rfl)
theorem dX1_told_52 : decode cX1_told 52 = .ok (.dup, 1) := dk_89 (dk_at dksX1_told_2 6 rfl rfl)
theorem dX1_told_53 : decode cX1_told 53 = .ok (.getfield 135, 3) := dk_180 0 135 (dk_at dksX1_told_2 7 rfl rfl)
theorem dX1_told_56 : decode cX1_told 56 = .ok (.iconst 1, 1) := dk_4 (dk_at dksX1_told_2 10 rfl rfl)
theorem dX1_told_57 : decode cX1_told 57 = .ok (.iadd, 1) := dk_96 (dk_at dksX1_told_2 11 rfl rfl)
theorem dX1_told_58 : decode cX1_told 58 = .ok (.putfield 135, 3) := dk_181 0 135 (dk_at dksX1_told_2 12 rfl rfl)
theorem dX1_told_61 : decode cX1_told 61 = .ok (.aload_n 0, 1) := dk_42 (dk_at dksX1_told_2 15 rfl rfl)
theorem dX1_told_62 : decode cX1_told 62 = .ok (.getfield 135, 3) := dk_180 0 135 (dk_at dksX1_told_2 16 rfl rfl)
theorem dX1_told_65 : decode cX1_told 65 = .ok (.ireturn, 1) := dk_172 (dk_at dksX1_told_2 19 rfl rfl)
abbrev cX1_judged : ByteArray := prog_1_method_62_code
def yX1_judged : MethodName := ⟨RX1, "judged", "()I"⟩
def dkwX1_judged_1 : List UInt8 := [27, 182, 1, 175, 154, 0, 5, 27, 172, 132, 1, 1, 167, 255, 222, 42, 180, 0, 135, 172]
abbrev dktX1_judged_1 : List UInt8 := dkwX1_judged_1 ++ []
def dkwX1_judged_0 : List UInt8 := [3, 60, 27, 42, 180, 0, 135, 162, 0, 32, 42, 42, 180, 0, 60, 27, 46, 182, 1, 154, 153, 0, 11, 42]
abbrev dktX1_judged_0 : List UInt8 := dkwX1_judged_0 ++ dktX1_judged_1
theorem dksX1_judged_0 : cX1_judged.data.toList.drop 0 = dktX1_judged_0 := by decide +kernel
theorem dksX1_judged_1 : cX1_judged.data.toList.drop 24 = dktX1_judged_1 := dk_seg dksX1_judged_0 24 rfl rfl
theorem dX1_judged_0 : decode cX1_judged 0 = .ok (.iconst 0, 1) := dk_3 (dk_at dksX1_judged_0 0 rfl rfl)
theorem dX1_judged_1 : decode cX1_judged 1 = .ok (.istore_n 1, 1) := dk_60 (dk_at dksX1_judged_0 1 rfl rfl)
theorem dX1_judged_2 : decode cX1_judged 2 = .ok (.iload_n 1, 1) := dk_27 (dk_at dksX1_judged_0 2 rfl rfl)
theorem dX1_judged_3 : decode cX1_judged 3 = .ok (.aload_n 0, 1) := dk_42 (dk_at dksX1_judged_0 3 rfl rfl)
theorem dX1_judged_4 : decode cX1_judged 4 = .ok (.getfield 135, 3) := dk_180 0 135 (dk_at dksX1_judged_0 4 rfl rfl)
theorem dX1_judged_7 : decode cX1_judged 7 = .ok (.if_icmp .ge 32, 3) := dk_162 0 32 (dk_at dksX1_judged_0 7 rfl rfl)
theorem dX1_judged_10 : decode cX1_judged 10 = .ok (.aload_n 0, 1) := dk_42 (dk_at dksX1_judged_0 10 rfl rfl)
theorem dX1_judged_11 : decode cX1_judged 11 = .ok (.aload_n 0, 1) := dk_42 (dk_at dksX1_judged_0 11 rfl rfl)
theorem dX1_judged_12 : decode cX1_judged 12 = .ok (.getfield 60, 3) := dk_180 0 60 (dk_at dksX1_judged_0 12 rfl rfl)
theorem dX1_judged_15 : decode cX1_judged 15 = .ok (.iload_n 1, 1) := dk_27 (dk_at dksX1_judged_0 15 rfl rfl)
theorem dX1_judged_16 : decode cX1_judged 16 = .ok (.iaload, 1) := dk_46 (dk_at dksX1_judged_0 16 rfl rfl)
theorem dX1_judged_17 : decode cX1_judged 17 = .ok (.invokevirtual 410, 3) := dk_182 1 154 (dk_at dksX1_judged_0 17 rfl rfl)
theorem dX1_judged_20 : decode cX1_judged 20 = .ok (.ifCond .eq 11, 3) := dk_153 0 11 (dk_at dksX1_judged_0 20 rfl rfl)
theorem dX1_judged_23 : decode cX1_judged 23 = .ok (.aload_n 0, 1) := dk_42 (dk_at dksX1_judged_0 23 rfl rfl)
theorem dX1_judged_24 : decode cX1_judged 24 = .ok (.iload_n 1, 1) := dk_27 (dk_at dksX1_judged_1 0 rfl rfl)
theorem dX1_judged_25 : decode cX1_judged 25 = .ok (.invokevirtual 431, 3) := dk_182 1 175 (dk_at dksX1_judged_1 1 rfl rfl)
theorem dX1_judged_28 : decode cX1_judged 28 = .ok (.ifCond .ne 5, 3) := dk_154 0 5 (dk_at dksX1_judged_1 4 rfl rfl)
theorem dX1_judged_31 : decode cX1_judged 31 = .ok (.iload_n 1, 1) := dk_27 (dk_at dksX1_judged_1 7 rfl rfl)
theorem dX1_judged_32 : decode cX1_judged 32 = .ok (.ireturn, 1) := dk_172 (dk_at dksX1_judged_1 8 rfl rfl)
theorem dX1_judged_33 : decode cX1_judged 33 = .ok (.iinc 1 1, 3) := dk_132 1 1 (dk_at dksX1_judged_1 9 rfl rfl)
theorem dX1_judged_36 : decode cX1_judged 36 = .ok (.goto (-34), 3) := dk_167 255 222 (dk_at dksX1_judged_1 12 rfl rfl)
theorem dX1_judged_39 : decode cX1_judged 39 = .ok (.aload_n 0, 1) := dk_42 (dk_at dksX1_judged_1 15 rfl rfl)
theorem dX1_judged_40 : decode cX1_judged 40 = .ok (.getfield 135, 3) := dk_180 0 135 (dk_at dksX1_judged_1 16 rfl rfl)
theorem dX1_judged_43 : decode cX1_judged 43 = .ok (.ireturn, 1) := dk_172 (dk_at dksX1_judged_1 19 rfl rfl)
abbrev cX1_isTrue : ByteArray := prog_1_method_61_code
def yX1_isTrue : MethodName := ⟨RX1, "isTrue", "(I)Z"⟩
def dkwX1_isTrue_4 : List UInt8 := [132, 3, 255, 167, 255, 195, 4, 172]
abbrev dktX1_isTrue_4 : List UInt8 := dkwX1_isTrue_4 ++ []
def dkwX1_isTrue_3 : List UInt8 := [46, 42, 180, 0, 63, 29, 46, 44, 180, 1, 96, 16, 7, 46, 96, 160, 0, 7, 4, 167, 0, 4, 3, 172]
abbrev dktX1_isTrue_3 : List UInt8 := dkwX1_isTrue_3 ++ dktX1_isTrue_4
def dkwX1_isTrue_2 : List UInt8 := [153, 0, 54, 42, 180, 0, 60, 29, 46, 44, 180, 1, 93, 16, 7, 46, 160, 0, 32, 42, 180, 0, 63, 27]
abbrev dktX1_isTrue_2 : List UInt8 := dkwX1_isTrue_2 ++ dktX1_isTrue_3
def dkwX1_isTrue_1 : List UInt8 := [46, 133, 182, 1, 113, 154, 0, 5, 3, 172, 27, 4, 100, 62, 29, 155, 0, 63, 44, 16, 7, 182, 1, 91]
abbrev dktX1_isTrue_1 : List UInt8 := dkwX1_isTrue_1 ++ dktX1_isTrue_2
def dkwX1_isTrue_0 : List UInt8 := [42, 180, 0, 49, 42, 180, 0, 60, 27, 46, 50, 77, 42, 42, 180, 0, 60, 27, 46, 42, 180, 0, 63, 27]
abbrev dktX1_isTrue_0 : List UInt8 := dkwX1_isTrue_0 ++ dktX1_isTrue_1
theorem dksX1_isTrue_0 : cX1_isTrue.data.toList.drop 0 = dktX1_isTrue_0 := by decide +kernel
theorem dksX1_isTrue_1 : cX1_isTrue.data.toList.drop 24 = dktX1_isTrue_1 := dk_seg dksX1_isTrue_0 24 rfl rfl
theorem dksX1_isTrue_2 : cX1_isTrue.data.toList.drop 48 = dktX1_isTrue_2 := dk_seg dksX1_isTrue_1 24 rfl rfl
theorem dksX1_isTrue_3 : cX1_isTrue.data.toList.drop 72 = dktX1_isTrue_3 := dk_seg dksX1_isTrue_2 24 rfl rfl
theorem dksX1_isTrue_4 : cX1_isTrue.data.toList.drop 96 = dktX1_isTrue_4 := dk_seg dksX1_isTrue_3 24 rfl rfl
theorem dX1_isTrue_0 : decode cX1_isTrue 0 = .ok (.aload_n 0, 1) := dk_42 (dk_at dksX1_isTrue_0 0 rfl rfl)
theorem dX1_isTrue_1 : decode cX1_isTrue 1 = .ok (.getfield 49, 3) := dk_180 0 49 (dk_at dksX1_isTrue_0 1 rfl rfl)
theorem dX1_isTrue_4 : decode cX1_isTrue 4 = .ok (.aload_n 0, 1) := dk_42 (dk_at dksX1_isTrue_0 4 rfl rfl)
theorem dX1_isTrue_5 : decode cX1_isTrue 5 = .ok (.getfield 60, 3) := dk_180 0 60 (dk_at dksX1_isTrue_0 5 rfl rfl)
theorem dX1_isTrue_8 : decode cX1_isTrue 8 = .ok (.iload_n 1, 1) := dk_27 (dk_at dksX1_isTrue_0 8 rfl rfl)
theorem dX1_isTrue_9 : decode cX1_isTrue 9 = .ok (.iaload, 1) := dk_46 (dk_at dksX1_isTrue_0 9 rfl rfl)
theorem dX1_isTrue_10 : decode cX1_isTrue 10 = .ok (.aaload, 1) := dk_50 (dk_at dksX1_isTrue_0 10 rfl rfl)
theorem dX1_isTrue_11 : decode cX1_isTrue 11 = .ok (.astore_n 2, 1) := dk_77 (dk_at dksX1_isTrue_0 11 rfl rfl)
theorem dX1_isTrue_12 : decode cX1_isTrue 12 = .ok (.aload_n 0, 1) := dk_42 (dk_at dksX1_isTrue_0 12 rfl rfl)
theorem dX1_isTrue_13 : decode cX1_isTrue 13 = .ok (.aload_n 0, 1) := dk_42 (dk_at dksX1_isTrue_0 13 rfl rfl)
theorem dX1_isTrue_14 : decode cX1_isTrue 14 = .ok (.getfield 60, 3) := dk_180 0 60 (dk_at dksX1_isTrue_0 14 rfl rfl)
theorem dX1_isTrue_17 : decode cX1_isTrue 17 = .ok (.iload_n 1, 1) := dk_27 (dk_at dksX1_isTrue_0 17 rfl rfl)
theorem dX1_isTrue_18 : decode cX1_isTrue 18 = .ok (.iaload, 1) := dk_46 (dk_at dksX1_isTrue_0 18 rfl rfl)
theorem dX1_isTrue_19 : decode cX1_isTrue 19 = .ok (.aload_n 0, 1) := dk_42 (dk_at dksX1_isTrue_0 19 rfl rfl)
theorem dX1_isTrue_20 : decode cX1_isTrue 20 = .ok (.getfield 63, 3) := dk_180 0 63 (dk_at dksX1_isTrue_0 20 rfl rfl)
theorem dX1_isTrue_23 : decode cX1_isTrue 23 = .ok (.iload_n 1, 1) := dk_27 (dk_at dksX1_isTrue_0 23 rfl rfl)
theorem dX1_isTrue_24 : decode cX1_isTrue 24 = .ok (.iaload, 1) := dk_46 (dk_at dksX1_isTrue_1 0 rfl rfl)
theorem dX1_isTrue_25 : decode cX1_isTrue 25 = .ok (.i2l, 1) := dk_133 (dk_at dksX1_isTrue_1 1 rfl rfl)
theorem dX1_isTrue_26 : decode cX1_isTrue 26 = .ok (.invokevirtual 369, 3) := dk_182 1 113 (dk_at dksX1_isTrue_1 2 rfl rfl)
theorem dX1_isTrue_29 : decode cX1_isTrue 29 = .ok (.ifCond .ne 5, 3) := dk_154 0 5 (dk_at dksX1_isTrue_1 5 rfl rfl)
theorem dX1_isTrue_32 : decode cX1_isTrue 32 = .ok (.iconst 0, 1) := dk_3 (dk_at dksX1_isTrue_1 8 rfl rfl)
theorem dX1_isTrue_33 : decode cX1_isTrue 33 = .ok (.ireturn, 1) := dk_172 (dk_at dksX1_isTrue_1 9 rfl rfl)
theorem dX1_isTrue_34 : decode cX1_isTrue 34 = .ok (.iload_n 1, 1) := dk_27 (dk_at dksX1_isTrue_1 10 rfl rfl)
theorem dX1_isTrue_35 : decode cX1_isTrue 35 = .ok (.iconst 1, 1) := dk_4 (dk_at dksX1_isTrue_1 11 rfl rfl)
theorem dX1_isTrue_36 : decode cX1_isTrue 36 = .ok (.isub, 1) := dk_100 (dk_at dksX1_isTrue_1 12 rfl rfl)
theorem dX1_isTrue_37 : decode cX1_isTrue 37 = .ok (.istore_n 3, 1) := dk_62 (dk_at dksX1_isTrue_1 13 rfl rfl)
theorem dX1_isTrue_38 : decode cX1_isTrue 38 = .ok (.iload_n 3, 1) := dk_29 (dk_at dksX1_isTrue_1 14 rfl rfl)
theorem dX1_isTrue_39 : decode cX1_isTrue 39 = .ok (.ifCond .lt 63, 3) := dk_155 0 63 (dk_at dksX1_isTrue_1 15 rfl rfl)
theorem dX1_isTrue_42 : decode cX1_isTrue 42 = .ok (.aload_n 2, 1) := dk_44 (dk_at dksX1_isTrue_1 18 rfl rfl)
theorem dX1_isTrue_43 : decode cX1_isTrue 43 = .ok (.bipush 7, 2) := dk_16 7 (dk_at dksX1_isTrue_1 19 rfl rfl)
theorem dX1_isTrue_45 : decode cX1_isTrue 45 = .ok (.invokevirtual 347, 3) := dk_182 1 91 (dk_at dksX1_isTrue_1 21 rfl rfl)
theorem dX1_isTrue_48 : decode cX1_isTrue 48 = .ok (.ifCond .eq 54, 3) := dk_153 0 54 (dk_at dksX1_isTrue_2 0 rfl rfl)
theorem dX1_isTrue_51 : decode cX1_isTrue 51 = .ok (.aload_n 0, 1) := dk_42 (dk_at dksX1_isTrue_2 3 rfl rfl)
theorem dX1_isTrue_52 : decode cX1_isTrue 52 = .ok (.getfield 60, 3) := dk_180 0 60 (dk_at dksX1_isTrue_2 4 rfl rfl)
theorem dX1_isTrue_55 : decode cX1_isTrue 55 = .ok (.iload_n 3, 1) := dk_29 (dk_at dksX1_isTrue_2 7 rfl rfl)
theorem dX1_isTrue_56 : decode cX1_isTrue 56 = .ok (.iaload, 1) := dk_46 (dk_at dksX1_isTrue_2 8 rfl rfl)
theorem dX1_isTrue_57 : decode cX1_isTrue 57 = .ok (.aload_n 2, 1) := dk_44 (dk_at dksX1_isTrue_2 9 rfl rfl)
theorem dX1_isTrue_58 : decode cX1_isTrue 58 = .ok (.getfield 349, 3) := dk_180 1 93 (dk_at dksX1_isTrue_2 10 rfl rfl)
theorem dX1_isTrue_61 : decode cX1_isTrue 61 = .ok (.bipush 7, 2) := dk_16 7 (dk_at dksX1_isTrue_2 13 rfl rfl)
theorem dX1_isTrue_63 : decode cX1_isTrue 63 = .ok (.iaload, 1) := dk_46 (dk_at dksX1_isTrue_2 15 rfl rfl)
theorem dX1_isTrue_64 : decode cX1_isTrue 64 = .ok (.if_icmp .ne 32, 3) := dk_160 0 32 (dk_at dksX1_isTrue_2 16 rfl rfl)
theorem dX1_isTrue_67 : decode cX1_isTrue 67 = .ok (.aload_n 0, 1) := dk_42 (dk_at dksX1_isTrue_2 19 rfl rfl)
theorem dX1_isTrue_68 : decode cX1_isTrue 68 = .ok (.getfield 63, 3) := dk_180 0 63 (dk_at dksX1_isTrue_2 20 rfl rfl)
theorem dX1_isTrue_71 : decode cX1_isTrue 71 = .ok (.iload_n 1, 1) := dk_27 (dk_at dksX1_isTrue_2 23 rfl rfl)
theorem dX1_isTrue_72 : decode cX1_isTrue 72 = .ok (.iaload, 1) := dk_46 (dk_at dksX1_isTrue_3 0 rfl rfl)
theorem dX1_isTrue_73 : decode cX1_isTrue 73 = .ok (.aload_n 0, 1) := dk_42 (dk_at dksX1_isTrue_3 1 rfl rfl)
theorem dX1_isTrue_74 : decode cX1_isTrue 74 = .ok (.getfield 63, 3) := dk_180 0 63 (dk_at dksX1_isTrue_3 2 rfl rfl)
theorem dX1_isTrue_77 : decode cX1_isTrue 77 = .ok (.iload_n 3, 1) := dk_29 (dk_at dksX1_isTrue_3 5 rfl rfl)
theorem dX1_isTrue_78 : decode cX1_isTrue 78 = .ok (.iaload, 1) := dk_46 (dk_at dksX1_isTrue_3 6 rfl rfl)
theorem dX1_isTrue_79 : decode cX1_isTrue 79 = .ok (.aload_n 2, 1) := dk_44 (dk_at dksX1_isTrue_3 7 rfl rfl)
theorem dX1_isTrue_80 : decode cX1_isTrue 80 = .ok (.getfield 352, 3) := dk_180 1 96 (dk_at dksX1_isTrue_3 8 rfl rfl)
theorem dX1_isTrue_83 : decode cX1_isTrue 83 = .ok (.bipush 7, 2) := dk_16 7 (dk_at dksX1_isTrue_3 11 rfl rfl)
theorem dX1_isTrue_85 : decode cX1_isTrue 85 = .ok (.iaload, 1) := dk_46 (dk_at dksX1_isTrue_3 13 rfl rfl)
theorem dX1_isTrue_86 : decode cX1_isTrue 86 = .ok (.iadd, 1) := dk_96 (dk_at dksX1_isTrue_3 14 rfl rfl)
theorem dX1_isTrue_87 : decode cX1_isTrue 87 = .ok (.if_icmp .ne 7, 3) := dk_160 0 7 (dk_at dksX1_isTrue_3 15 rfl rfl)
theorem dX1_isTrue_90 : decode cX1_isTrue 90 = .ok (.iconst 1, 1) := dk_4 (dk_at dksX1_isTrue_3 18 rfl rfl)
theorem dX1_isTrue_91 : decode cX1_isTrue 91 = .ok (.goto 4, 3) := dk_167 0 4 (dk_at dksX1_isTrue_3 19 rfl rfl)
theorem dX1_isTrue_94 : decode cX1_isTrue 94 = .ok (.iconst 0, 1) := dk_3 (dk_at dksX1_isTrue_3 22 rfl rfl)
theorem dX1_isTrue_95 : decode cX1_isTrue 95 = .ok (.ireturn, 1) := dk_172 (dk_at dksX1_isTrue_3 23 rfl rfl)
theorem dX1_isTrue_96 : decode cX1_isTrue 96 = .ok (.iinc 3 (-1), 3) := dk_132 3 255 (dk_at dksX1_isTrue_4 0 rfl rfl)
theorem dX1_isTrue_99 : decode cX1_isTrue 99 = .ok (.goto (-61), 3) := dk_167 255 195 (dk_at dksX1_isTrue_4 3 rfl rfl)
theorem dX1_isTrue_102 : decode cX1_isTrue 102 = .ok (.iconst 1, 1) := dk_4 (dk_at dksX1_isTrue_4 6 rfl rfl)
theorem dX1_isTrue_103 : decode cX1_isTrue 103 = .ok (.ireturn, 1) := dk_172 (dk_at dksX1_isTrue_4 7 rfl rfl)
abbrev cX1_forget : ByteArray := prog_1_method_63_code
def yX1_forget : MethodName := ⟨RX1, "forget", "()I"⟩
def dkwX1_forget_0 : List UInt8 := [42, 180, 0, 135, 60, 42, 3, 181, 0, 135, 27, 172]
abbrev dktX1_forget_0 : List UInt8 := dkwX1_forget_0 ++ []
theorem dksX1_forget_0 : cX1_forget.data.toList.drop 0 = dktX1_forget_0 := by decide +kernel
theorem dX1_forget_0 : decode cX1_forget 0 = .ok (.aload_n 0, 1) := dk_42 (dk_at dksX1_forget_0 0 rfl rfl)
theorem dX1_forget_1 : decode cX1_forget 1 = .ok (.getfield 135, 3) := dk_180 0 135 (dk_at dksX1_forget_0 1 rfl rfl)
theorem dX1_forget_4 : decode cX1_forget 4 = .ok (.istore_n 1, 1) := dk_60 (dk_at dksX1_forget_0 4 rfl rfl)
theorem dX1_forget_5 : decode cX1_forget 5 = .ok (.aload_n 0, 1) := dk_42 (dk_at dksX1_forget_0 5 rfl rfl)
theorem dX1_forget_6 : decode cX1_forget 6 = .ok (.iconst 0, 1) := dk_3 (dk_at dksX1_forget_0 6 rfl rfl)
theorem dX1_forget_7 : decode cX1_forget 7 = .ok (.putfield 135, 3) := dk_181 0 135 (dk_at dksX1_forget_0 7 rfl rfl)
theorem dX1_forget_10 : decode cX1_forget 10 = .ok (.iload_n 1, 1) := dk_27 (dk_at dksX1_forget_0 10 rfl rfl)
theorem dX1_forget_11 : decode cX1_forget 11 = .ok (.ireturn, 1) := dk_172 (dk_at dksX1_forget_0 11 rfl rfl)
abbrev cX1_keep : ByteArray := prog_1_method_64_code
def yX1_keep : MethodName := ⟨RX1, "keep", "()I"⟩
def dkwX1_keep_4 : List UInt8 := [42, 180, 0, 124, 172]
abbrev dktX1_keep_4 : List UInt8 := dkwX1_keep_4 ++ []
def dkwX1_keep_3 : List UInt8 := [167, 255, 221, 42, 42, 180, 0, 124, 181, 1, 178, 42, 42, 180, 0, 135, 181, 1, 181, 42, 4, 181, 0, 141]
abbrev dktX1_keep_3 : List UInt8 := dkwX1_keep_3 ++ dktX1_keep_4
def dkwX1_keep_2 : List UInt8 := [42, 180, 0, 60, 27, 46, 79, 42, 180, 0, 69, 27, 42, 180, 0, 63, 27, 46, 79, 132, 1, 1]
abbrev dktX1_keep_2 : List UInt8 := dkwX1_keep_2 ++ dktX1_keep_3
def dkwX1_keep_1 : List UInt8 := [182, 0, 131, 132, 1, 1, 167, 255, 230, 3, 60, 27, 42, 180, 0, 135, 162, 0, 33, 42, 180, 0, 66, 27]
abbrev dktX1_keep_1 : List UInt8 := dkwX1_keep_1 ++ dktX1_keep_2
def dkwX1_keep_0 : List UInt8 := [3, 60, 27, 42, 180, 0, 124, 162, 0, 24, 42, 180, 0, 53, 27, 50, 42, 180, 0, 49, 27, 50]
abbrev dktX1_keep_0 : List UInt8 := dkwX1_keep_0 ++ dktX1_keep_1
theorem dksX1_keep_0 : cX1_keep.data.toList.drop 0 = dktX1_keep_0 := by decide +kernel
theorem dksX1_keep_1 : cX1_keep.data.toList.drop 22 = dktX1_keep_1 := dk_seg dksX1_keep_0 22 rfl rfl
theorem dksX1_keep_2 : cX1_keep.data.toList.drop 46 = dktX1_keep_2 := dk_seg dksX1_keep_1 24 rfl rfl
theorem dksX1_keep_3 : cX1_keep.data.toList.drop 68 = dktX1_keep_3 := dk_seg dksX1_keep_2 22 rfl rfl
theorem dksX1_keep_4 : cX1_keep.data.toList.drop 92 = dktX1_keep_4 := dk_seg dksX1_keep_3 24 rfl rfl
theorem dX1_keep_0 : decode cX1_keep 0 = .ok (.iconst 0, 1) := dk_3 (dk_at dksX1_keep_0 0 rfl rfl)
theorem dX1_keep_1 : decode cX1_keep 1 = .ok (.istore_n 1, 1) := dk_60 (dk_at dksX1_keep_0 1 rfl rfl)
theorem dX1_keep_2 : decode cX1_keep 2 = .ok (.iload_n 1, 1) := dk_27 (dk_at dksX1_keep_0 2 rfl rfl)
theorem dX1_keep_3 : decode cX1_keep 3 = .ok (.aload_n 0, 1) := dk_42 (dk_at dksX1_keep_0 3 rfl rfl)
theorem dX1_keep_4 : decode cX1_keep 4 = .ok (.getfield 124, 3) := dk_180 0 124 (dk_at dksX1_keep_0 4 rfl rfl)
theorem dX1_keep_7 : decode cX1_keep 7 = .ok (.if_icmp .ge 24, 3) := dk_162 0 24 (dk_at dksX1_keep_0 7 rfl rfl)
theorem dX1_keep_10 : decode cX1_keep 10 = .ok (.aload_n 0, 1) := dk_42 (dk_at dksX1_keep_0 10 rfl rfl)
theorem dX1_keep_11 : decode cX1_keep 11 = .ok (.getfield 53, 3) := dk_180 0 53 (dk_at dksX1_keep_0 11 rfl rfl)
theorem dX1_keep_14 : decode cX1_keep 14 = .ok (.iload_n 1, 1) := dk_27 (dk_at dksX1_keep_0 14 rfl rfl)
theorem dX1_keep_15 : decode cX1_keep 15 = .ok (.aaload, 1) := dk_50 (dk_at dksX1_keep_0 15 rfl rfl)
theorem dX1_keep_16 : decode cX1_keep 16 = .ok (.aload_n 0, 1) := dk_42 (dk_at dksX1_keep_0 16 rfl rfl)
theorem dX1_keep_17 : decode cX1_keep 17 = .ok (.getfield 49, 3) := dk_180 0 49 (dk_at dksX1_keep_0 17 rfl rfl)
theorem dX1_keep_20 : decode cX1_keep 20 = .ok (.iload_n 1, 1) := dk_27 (dk_at dksX1_keep_0 20 rfl rfl)
theorem dX1_keep_21 : decode cX1_keep 21 = .ok (.aaload, 1) := dk_50 (dk_at dksX1_keep_0 21 rfl rfl)
theorem dX1_keep_22 : decode cX1_keep 22 = .ok (.invokevirtual 131, 3) := dk_182 0 131 (dk_at dksX1_keep_1 0 rfl rfl)
theorem dX1_keep_25 : decode cX1_keep 25 = .ok (.iinc 1 1, 3) := dk_132 1 1 (dk_at dksX1_keep_1 3 rfl rfl)
theorem dX1_keep_28 : decode cX1_keep 28 = .ok (.goto (-26), 3) := dk_167 255 230 (dk_at dksX1_keep_1 6 rfl rfl)
theorem dX1_keep_31 : decode cX1_keep 31 = .ok (.iconst 0, 1) := dk_3 (dk_at dksX1_keep_1 9 rfl rfl)
theorem dX1_keep_32 : decode cX1_keep 32 = .ok (.istore_n 1, 1) := dk_60 (dk_at dksX1_keep_1 10 rfl rfl)
theorem dX1_keep_33 : decode cX1_keep 33 = .ok (.iload_n 1, 1) := dk_27 (dk_at dksX1_keep_1 11 rfl rfl)
theorem dX1_keep_34 : decode cX1_keep 34 = .ok (.aload_n 0, 1) := dk_42 (dk_at dksX1_keep_1 12 rfl rfl)
theorem dX1_keep_35 : decode cX1_keep 35 = .ok (.getfield 135, 3) := dk_180 0 135 (dk_at dksX1_keep_1 13 rfl rfl)
theorem dX1_keep_38 : decode cX1_keep 38 = .ok (.if_icmp .ge 33, 3) := dk_162 0 33 (dk_at dksX1_keep_1 16 rfl rfl)
theorem dX1_keep_41 : decode cX1_keep 41 = .ok (.aload_n 0, 1) := dk_42 (dk_at dksX1_keep_1 19 rfl rfl)
theorem dX1_keep_42 : decode cX1_keep 42 = .ok (.getfield 66, 3) := dk_180 0 66 (dk_at dksX1_keep_1 20 rfl rfl)
theorem dX1_keep_45 : decode cX1_keep 45 = .ok (.iload_n 1, 1) := dk_27 (dk_at dksX1_keep_1 23 rfl rfl)
theorem dX1_keep_46 : decode cX1_keep 46 = .ok (.aload_n 0, 1) := dk_42 (dk_at dksX1_keep_2 0 rfl rfl)
theorem dX1_keep_47 : decode cX1_keep 47 = .ok (.getfield 60, 3) := dk_180 0 60 (dk_at dksX1_keep_2 1 rfl rfl)
theorem dX1_keep_50 : decode cX1_keep 50 = .ok (.iload_n 1, 1) := dk_27 (dk_at dksX1_keep_2 4 rfl rfl)
theorem dX1_keep_51 : decode cX1_keep 51 = .ok (.iaload, 1) := dk_46 (dk_at dksX1_keep_2 5 rfl rfl)
theorem dX1_keep_52 : decode cX1_keep 52 = .ok (.iastore, 1) := dk_79 (dk_at dksX1_keep_2 6 rfl rfl)
theorem dX1_keep_53 : decode cX1_keep 53 = .ok (.aload_n 0, 1) := dk_42 (dk_at dksX1_keep_2 7 rfl rfl)
theorem dX1_keep_54 : decode cX1_keep 54 = .ok (.getfield 69, 3) := dk_180 0 69 (dk_at dksX1_keep_2 8 rfl rfl)
theorem dX1_keep_57 : decode cX1_keep 57 = .ok (.iload_n 1, 1) := dk_27 (dk_at dksX1_keep_2 11 rfl rfl)
theorem dX1_keep_58 : decode cX1_keep 58 = .ok (.aload_n 0, 1) := dk_42 (dk_at dksX1_keep_2 12 rfl rfl)
theorem dX1_keep_59 : decode cX1_keep 59 = .ok (.getfield 63, 3) := dk_180 0 63 (dk_at dksX1_keep_2 13 rfl rfl)
theorem dX1_keep_62 : decode cX1_keep 62 = .ok (.iload_n 1, 1) := dk_27 (dk_at dksX1_keep_2 16 rfl rfl)
theorem dX1_keep_63 : decode cX1_keep 63 = .ok (.iaload, 1) := dk_46 (dk_at dksX1_keep_2 17 rfl rfl)
theorem dX1_keep_64 : decode cX1_keep 64 = .ok (.iastore, 1) := dk_79 (dk_at dksX1_keep_2 18 rfl rfl)
theorem dX1_keep_65 : decode cX1_keep 65 = .ok (.iinc 1 1, 3) := dk_132 1 1 (dk_at dksX1_keep_2 19 rfl rfl)
theorem dX1_keep_68 : decode cX1_keep 68 = .ok (.goto (-35), 3) := dk_167 255 221 (dk_at dksX1_keep_3 0 rfl rfl)
theorem dX1_keep_71 : decode cX1_keep 71 = .ok (.aload_n 0, 1) := dk_42 (dk_at dksX1_keep_3 3 rfl rfl)
theorem dX1_keep_72 : decode cX1_keep 72 = .ok (.aload_n 0, 1) := dk_42 (dk_at dksX1_keep_3 4 rfl rfl)
theorem dX1_keep_73 : decode cX1_keep 73 = .ok (.getfield 124, 3) := dk_180 0 124 (dk_at dksX1_keep_3 5 rfl rfl)
theorem dX1_keep_76 : decode cX1_keep 76 = .ok (.putfield 434, 3) := dk_181 1 178 (dk_at dksX1_keep_3 8 rfl rfl)
theorem dX1_keep_79 : decode cX1_keep 79 = .ok (.aload_n 0, 1) := dk_42 (dk_at dksX1_keep_3 11 rfl rfl)
theorem dX1_keep_80 : decode cX1_keep 80 = .ok (.aload_n 0, 1) := dk_42 (dk_at dksX1_keep_3 12 rfl rfl)
theorem dX1_keep_81 : decode cX1_keep 81 = .ok (.getfield 135, 3) := dk_180 0 135 (dk_at dksX1_keep_3 13 rfl rfl)
theorem dX1_keep_84 : decode cX1_keep 84 = .ok (.putfield 437, 3) := dk_181 1 181 (dk_at dksX1_keep_3 16 rfl rfl)
theorem dX1_keep_87 : decode cX1_keep 87 = .ok (.aload_n 0, 1) := dk_42 (dk_at dksX1_keep_3 19 rfl rfl)
theorem dX1_keep_88 : decode cX1_keep 88 = .ok (.iconst 1, 1) := dk_4 (dk_at dksX1_keep_3 20 rfl rfl)
theorem dX1_keep_89 : decode cX1_keep 89 = .ok (.putfield 141, 3) := dk_181 0 141 (dk_at dksX1_keep_3 21 rfl rfl)
theorem dX1_keep_92 : decode cX1_keep 92 = .ok (.aload_n 0, 1) := dk_42 (dk_at dksX1_keep_4 0 rfl rfl)
theorem dX1_keep_93 : decode cX1_keep 93 = .ok (.getfield 124, 3) := dk_180 0 124 (dk_at dksX1_keep_4 1 rfl rfl)
theorem dX1_keep_96 : decode cX1_keep 96 = .ok (.ireturn, 1) := dk_172 (dk_at dksX1_keep_4 4 rfl rfl)
abbrev cX1_back : ByteArray := prog_1_method_65_code
def yX1_back : MethodName := ⟨RX1, "back", "()I"⟩
def dkwX1_back_4 : List UInt8 := [27, 46, 79, 132, 1, 1, 167, 255, 221, 42, 182, 0, 145, 42, 180, 0, 124, 172]
abbrev dktX1_back_4 : List UInt8 := dkwX1_back_4 ++ []
def dkwX1_back_3 : List UInt8 := [162, 0, 33, 42, 180, 0, 60, 27, 42, 180, 0, 66, 27, 46, 79, 42, 180, 0, 63, 27, 42, 180, 0, 69]
abbrev dktX1_back_3 : List UInt8 := dkwX1_back_3 ++ dktX1_back_4
def dkwX1_back_2 : List UInt8 := [42, 180, 0, 53, 27, 50, 182, 0, 131, 132, 1, 1, 167, 255, 230, 3, 60, 27, 42, 180, 0, 135]
abbrev dktX1_back_2 : List UInt8 := dkwX1_back_2 ++ dktX1_back_3
def dkwX1_back_1 : List UInt8 := [181, 0, 135, 42, 3, 181, 0, 138, 3, 60, 27, 42, 180, 0, 124, 162, 0, 24, 42, 180, 0, 49, 27, 50]
abbrev dktX1_back_1 : List UInt8 := dkwX1_back_1 ++ dktX1_back_2
def dkwX1_back_0 : List UInt8 := [42, 180, 0, 141, 154, 0, 5, 2, 172, 42, 42, 180, 1, 178, 181, 0, 124, 42, 42, 180, 1, 181]
abbrev dktX1_back_0 : List UInt8 := dkwX1_back_0 ++ dktX1_back_1
theorem dksX1_back_0 : cX1_back.data.toList.drop 0 = dktX1_back_0 := by decide +kernel
theorem dksX1_back_1 : cX1_back.data.toList.drop 22 = dktX1_back_1 := dk_seg dksX1_back_0 22 rfl rfl
theorem dksX1_back_2 : cX1_back.data.toList.drop 46 = dktX1_back_2 := dk_seg dksX1_back_1 24 rfl rfl
theorem dksX1_back_3 : cX1_back.data.toList.drop 68 = dktX1_back_3 := dk_seg dksX1_back_2 22 rfl rfl
theorem dksX1_back_4 : cX1_back.data.toList.drop 92 = dktX1_back_4 := dk_seg dksX1_back_3 24 rfl rfl
theorem dX1_back_0 : decode cX1_back 0 = .ok (.aload_n 0, 1) := dk_42 (dk_at dksX1_back_0 0 rfl rfl)
theorem dX1_back_1 : decode cX1_back 1 = .ok (.getfield 141, 3) := dk_180 0 141 (dk_at dksX1_back_0 1 rfl rfl)
theorem dX1_back_4 : decode cX1_back 4 = .ok (.ifCond .ne 5, 3) := dk_154 0 5 (dk_at dksX1_back_0 4 rfl rfl)
theorem dX1_back_7 : decode cX1_back 7 = .ok (.iconst (-1), 1) := dk_2 (dk_at dksX1_back_0 7 rfl rfl)
theorem dX1_back_8 : decode cX1_back 8 = .ok (.ireturn, 1) := dk_172 (dk_at dksX1_back_0 8 rfl rfl)
theorem dX1_back_9 : decode cX1_back 9 = .ok (.aload_n 0, 1) := dk_42 (dk_at dksX1_back_0 9 rfl rfl)
theorem dX1_back_10 : decode cX1_back 10 = .ok (.aload_n 0, 1) := dk_42 (dk_at dksX1_back_0 10 rfl rfl)
theorem dX1_back_11 : decode cX1_back 11 = .ok (.getfield 434, 3) := dk_180 1 178 (dk_at dksX1_back_0 11 rfl rfl)
theorem dX1_back_14 : decode cX1_back 14 = .ok (.putfield 124, 3) := dk_181 0 124 (dk_at dksX1_back_0 14 rfl rfl)
theorem dX1_back_17 : decode cX1_back 17 = .ok (.aload_n 0, 1) := dk_42 (dk_at dksX1_back_0 17 rfl rfl)
theorem dX1_back_18 : decode cX1_back 18 = .ok (.aload_n 0, 1) := dk_42 (dk_at dksX1_back_0 18 rfl rfl)
theorem dX1_back_19 : decode cX1_back 19 = .ok (.getfield 437, 3) := dk_180 1 181 (dk_at dksX1_back_0 19 rfl rfl)
theorem dX1_back_22 : decode cX1_back 22 = .ok (.putfield 135, 3) := dk_181 0 135 (dk_at dksX1_back_1 0 rfl rfl)
theorem dX1_back_25 : decode cX1_back 25 = .ok (.aload_n 0, 1) := dk_42 (dk_at dksX1_back_1 3 rfl rfl)
theorem dX1_back_26 : decode cX1_back 26 = .ok (.iconst 0, 1) := dk_3 (dk_at dksX1_back_1 4 rfl rfl)
theorem dX1_back_27 : decode cX1_back 27 = .ok (.putfield 138, 3) := dk_181 0 138 (dk_at dksX1_back_1 5 rfl rfl)
theorem dX1_back_30 : decode cX1_back 30 = .ok (.iconst 0, 1) := dk_3 (dk_at dksX1_back_1 8 rfl rfl)
theorem dX1_back_31 : decode cX1_back 31 = .ok (.istore_n 1, 1) := dk_60 (dk_at dksX1_back_1 9 rfl rfl)
theorem dX1_back_32 : decode cX1_back 32 = .ok (.iload_n 1, 1) := dk_27 (dk_at dksX1_back_1 10 rfl rfl)
theorem dX1_back_33 : decode cX1_back 33 = .ok (.aload_n 0, 1) := dk_42 (dk_at dksX1_back_1 11 rfl rfl)
theorem dX1_back_34 : decode cX1_back 34 = .ok (.getfield 124, 3) := dk_180 0 124 (dk_at dksX1_back_1 12 rfl rfl)
theorem dX1_back_37 : decode cX1_back 37 = .ok (.if_icmp .ge 24, 3) := dk_162 0 24 (dk_at dksX1_back_1 15 rfl rfl)
theorem dX1_back_40 : decode cX1_back 40 = .ok (.aload_n 0, 1) := dk_42 (dk_at dksX1_back_1 18 rfl rfl)
theorem dX1_back_41 : decode cX1_back 41 = .ok (.getfield 49, 3) := dk_180 0 49 (dk_at dksX1_back_1 19 rfl rfl)
theorem dX1_back_44 : decode cX1_back 44 = .ok (.iload_n 1, 1) := dk_27 (dk_at dksX1_back_1 22 rfl rfl)
theorem dX1_back_45 : decode cX1_back 45 = .ok (.aaload, 1) := dk_50 (dk_at dksX1_back_1 23 rfl rfl)
theorem dX1_back_46 : decode cX1_back 46 = .ok (.aload_n 0, 1) := dk_42 (dk_at dksX1_back_2 0 rfl rfl)
theorem dX1_back_47 : decode cX1_back 47 = .ok (.getfield 53, 3) := dk_180 0 53 (dk_at dksX1_back_2 1 rfl rfl)
theorem dX1_back_50 : decode cX1_back 50 = .ok (.iload_n 1, 1) := dk_27 (dk_at dksX1_back_2 4 rfl rfl)
theorem dX1_back_51 : decode cX1_back 51 = .ok (.aaload, 1) := dk_50 (dk_at dksX1_back_2 5 rfl rfl)
theorem dX1_back_52 : decode cX1_back 52 = .ok (.invokevirtual 131, 3) := dk_182 0 131 (dk_at dksX1_back_2 6 rfl rfl)
theorem dX1_back_55 : decode cX1_back 55 = .ok (.iinc 1 1, 3) := dk_132 1 1 (dk_at dksX1_back_2 9 rfl rfl)
theorem dX1_back_58 : decode cX1_back 58 = .ok (.goto (-26), 3) := dk_167 255 230 (dk_at dksX1_back_2 12 rfl rfl)
theorem dX1_back_61 : decode cX1_back 61 = .ok (.iconst 0, 1) := dk_3 (dk_at dksX1_back_2 15 rfl rfl)
theorem dX1_back_62 : decode cX1_back 62 = .ok (.istore_n 1, 1) := dk_60 (dk_at dksX1_back_2 16 rfl rfl)
theorem dX1_back_63 : decode cX1_back 63 = .ok (.iload_n 1, 1) := dk_27 (dk_at dksX1_back_2 17 rfl rfl)
theorem dX1_back_64 : decode cX1_back 64 = .ok (.aload_n 0, 1) := dk_42 (dk_at dksX1_back_2 18 rfl rfl)
theorem dX1_back_65 : decode cX1_back 65 = .ok (.getfield 135, 3) := dk_180 0 135 (dk_at dksX1_back_2 19 rfl rfl)
theorem dX1_back_68 : decode cX1_back 68 = .ok (.if_icmp .ge 33, 3) := dk_162 0 33 (dk_at dksX1_back_3 0 rfl rfl)
theorem dX1_back_71 : decode cX1_back 71 = .ok (.aload_n 0, 1) := dk_42 (dk_at dksX1_back_3 3 rfl rfl)
theorem dX1_back_72 : decode cX1_back 72 = .ok (.getfield 60, 3) := dk_180 0 60 (dk_at dksX1_back_3 4 rfl rfl)
theorem dX1_back_75 : decode cX1_back 75 = .ok (.iload_n 1, 1) := dk_27 (dk_at dksX1_back_3 7 rfl rfl)
theorem dX1_back_76 : decode cX1_back 76 = .ok (.aload_n 0, 1) := dk_42 (dk_at dksX1_back_3 8 rfl rfl)
theorem dX1_back_77 : decode cX1_back 77 = .ok (.getfield 66, 3) := dk_180 0 66 (dk_at dksX1_back_3 9 rfl rfl)
theorem dX1_back_80 : decode cX1_back 80 = .ok (.iload_n 1, 1) := dk_27 (dk_at dksX1_back_3 12 rfl rfl)
theorem dX1_back_81 : decode cX1_back 81 = .ok (.iaload, 1) := dk_46 (dk_at dksX1_back_3 13 rfl rfl)
theorem dX1_back_82 : decode cX1_back 82 = .ok (.iastore, 1) := dk_79 (dk_at dksX1_back_3 14 rfl rfl)
theorem dX1_back_83 : decode cX1_back 83 = .ok (.aload_n 0, 1) := dk_42 (dk_at dksX1_back_3 15 rfl rfl)
theorem dX1_back_84 : decode cX1_back 84 = .ok (.getfield 63, 3) := dk_180 0 63 (dk_at dksX1_back_3 16 rfl rfl)
theorem dX1_back_87 : decode cX1_back 87 = .ok (.iload_n 1, 1) := dk_27 (dk_at dksX1_back_3 19 rfl rfl)
theorem dX1_back_88 : decode cX1_back 88 = .ok (.aload_n 0, 1) := dk_42 (dk_at dksX1_back_3 20 rfl rfl)
theorem dX1_back_89 : decode cX1_back 89 = .ok (.getfield 69, 3) := dk_180 0 69 (dk_at dksX1_back_3 21 rfl rfl)
theorem dX1_back_92 : decode cX1_back 92 = .ok (.iload_n 1, 1) := dk_27 (dk_at dksX1_back_4 0 rfl rfl)
theorem dX1_back_93 : decode cX1_back 93 = .ok (.iaload, 1) := dk_46 (dk_at dksX1_back_4 1 rfl rfl)
theorem dX1_back_94 : decode cX1_back 94 = .ok (.iastore, 1) := dk_79 (dk_at dksX1_back_4 2 rfl rfl)
theorem dX1_back_95 : decode cX1_back 95 = .ok (.iinc 1 1, 3) := dk_132 1 1 (dk_at dksX1_back_4 3 rfl rfl)
theorem dX1_back_98 : decode cX1_back 98 = .ok (.goto (-35), 3) := dk_167 255 221 (dk_at dksX1_back_4 6 rfl rfl)
theorem dX1_back_101 : decode cX1_back 101 = .ok (.aload_n 0, 1) := dk_42 (dk_at dksX1_back_4 9 rfl rfl)
theorem dX1_back_102 : decode cX1_back 102 = .ok (.invokevirtual 145, 3) := dk_182 0 145 (dk_at dksX1_back_4 10 rfl rfl)
theorem dX1_back_105 : decode cX1_back 105 = .ok (.aload_n 0, 1) := dk_42 (dk_at dksX1_back_4 13 rfl rfl)
theorem dX1_back_106 : decode cX1_back 106 = .ok (.getfield 124, 3) := dk_180 0 124 (dk_at dksX1_back_4 14 rfl rfl)
theorem dX1_back_109 : decode cX1_back 109 = .ok (.ireturn, 1) := dk_172 (dk_at dksX1_back_4 17 rfl rfl)
abbrev cX1_size : ByteArray := prog_1_method_66_code
def yX1_size : MethodName := ⟨RX1, "size", "(I)I"⟩
def dkwX1_size_5 : List UInt8 := [172, 42, 180, 0, 138, 172, 2, 172]
abbrev dktX1_size_5 : List UInt8 := dkwX1_size_5 ++ []
def dkwX1_size_4 : List UInt8 := [180, 0, 124, 172, 42, 180, 0, 39, 180, 1, 184, 172, 42, 180, 0, 39, 180, 1, 66, 172, 42, 180, 0, 135]
abbrev dktX1_size_4 : List UInt8 := dkwX1_size_4 ++ dktX1_size_5
def dkwX1_size_3 : List UInt8 := [180, 0, 39, 180, 0, 163, 182, 0, 118, 172, 42, 180, 0, 39, 180, 0, 166, 182, 0, 118, 172, 42]
abbrev dktX1_size_3 : List UInt8 := dkwX1_size_3 ++ dktX1_size_4
def dkwX1_size_2 : List UInt8 := [42, 180, 0, 39, 180, 0, 151, 182, 0, 118, 172, 42, 180, 0, 39, 180, 0, 160, 182, 0, 118, 172, 42]
abbrev dktX1_size_2 : List UInt8 := dkwX1_size_2 ++ dktX1_size_3
def dkwX1_size_1 : List UInt8 := [170, 0, 0, 0, 0, 0, 126, 0, 0, 0, 0, 0, 0, 0, 8, 0, 0, 0, 51, 0, 0, 0, 62, 0, 0, 0, 73, 0, 0, 0, 84, 0, 0, 0, 95, 0, 0, 0, 100, 0, 0, 0, 108, 0, 0, 0, 116, 0, 0, 0, 121]
abbrev dktX1_size_1 : List UInt8 := dkwX1_size_1 ++ dktX1_size_2
def dkwX1_size_0 : List UInt8 := [27]
abbrev dktX1_size_0 : List UInt8 := dkwX1_size_0 ++ dktX1_size_1
theorem dksX1_size_0 : cX1_size.data.toList.drop 0 = dktX1_size_0 := by decide +kernel
theorem dksX1_size_1 : cX1_size.data.toList.drop 1 = dktX1_size_1 := dk_seg dksX1_size_0 1 rfl rfl
theorem dksX1_size_2 : cX1_size.data.toList.drop 52 = dktX1_size_2 := dk_seg dksX1_size_1 51 rfl rfl
theorem dksX1_size_3 : cX1_size.data.toList.drop 75 = dktX1_size_3 := dk_seg dksX1_size_2 23 rfl rfl
theorem dksX1_size_4 : cX1_size.data.toList.drop 97 = dktX1_size_4 := dk_seg dksX1_size_3 22 rfl rfl
theorem dksX1_size_5 : cX1_size.data.toList.drop 121 = dktX1_size_5 := dk_seg dksX1_size_4 24 rfl rfl
theorem dX1_size_0 : decode cX1_size 0 = .ok (.iload_n 1, 1) := dk_27 (dk_at dksX1_size_0 0 rfl rfl)
theorem dX1_size_1 : decode cX1_size 1 = .ok (.tableswitch 126 0 8 #[51, 62, 73, 84, 95, 100, 108, 116, 121], 51) := by decide +kernel
theorem dX1_size_52 : decode cX1_size 52 = .ok (.aload_n 0, 1) := dk_42 (dk_at dksX1_size_2 0 rfl rfl)
theorem dX1_size_53 : decode cX1_size 53 = .ok (.getfield 39, 3) := dk_180 0 39 (dk_at dksX1_size_2 1 rfl rfl)
theorem dX1_size_56 : decode cX1_size 56 = .ok (.getfield 151, 3) := dk_180 0 151 (dk_at dksX1_size_2 4 rfl rfl)
theorem dX1_size_59 : decode cX1_size 59 = .ok (.invokevirtual 118, 3) := dk_182 0 118 (dk_at dksX1_size_2 7 rfl rfl)
theorem dX1_size_62 : decode cX1_size 62 = .ok (.ireturn, 1) := dk_172 (dk_at dksX1_size_2 10 rfl rfl)
theorem dX1_size_63 : decode cX1_size 63 = .ok (.aload_n 0, 1) := dk_42 (dk_at dksX1_size_2 11 rfl rfl)
theorem dX1_size_64 : decode cX1_size 64 = .ok (.getfield 39, 3) := dk_180 0 39 (dk_at dksX1_size_2 12 rfl rfl)
theorem dX1_size_67 : decode cX1_size 67 = .ok (.getfield 160, 3) := dk_180 0 160 (dk_at dksX1_size_2 15 rfl rfl)
theorem dX1_size_70 : decode cX1_size 70 = .ok (.invokevirtual 118, 3) := dk_182 0 118 (dk_at dksX1_size_2 18 rfl rfl)
theorem dX1_size_73 : decode cX1_size 73 = .ok (.ireturn, 1) := dk_172 (dk_at dksX1_size_2 21 rfl rfl)
theorem dX1_size_74 : decode cX1_size 74 = .ok (.aload_n 0, 1) := dk_42 (dk_at dksX1_size_2 22 rfl rfl)
theorem dX1_size_75 : decode cX1_size 75 = .ok (.getfield 39, 3) := dk_180 0 39 (dk_at dksX1_size_3 0 rfl rfl)
theorem dX1_size_78 : decode cX1_size 78 = .ok (.getfield 163, 3) := dk_180 0 163 (dk_at dksX1_size_3 3 rfl rfl)
theorem dX1_size_81 : decode cX1_size 81 = .ok (.invokevirtual 118, 3) := dk_182 0 118 (dk_at dksX1_size_3 6 rfl rfl)
theorem dX1_size_84 : decode cX1_size 84 = .ok (.ireturn, 1) := dk_172 (dk_at dksX1_size_3 9 rfl rfl)
theorem dX1_size_85 : decode cX1_size 85 = .ok (.aload_n 0, 1) := dk_42 (dk_at dksX1_size_3 10 rfl rfl)
theorem dX1_size_86 : decode cX1_size 86 = .ok (.getfield 39, 3) := dk_180 0 39 (dk_at dksX1_size_3 11 rfl rfl)
theorem dX1_size_89 : decode cX1_size 89 = .ok (.getfield 166, 3) := dk_180 0 166 (dk_at dksX1_size_3 14 rfl rfl)
theorem dX1_size_92 : decode cX1_size 92 = .ok (.invokevirtual 118, 3) := dk_182 0 118 (dk_at dksX1_size_3 17 rfl rfl)
theorem dX1_size_95 : decode cX1_size 95 = .ok (.ireturn, 1) := dk_172 (dk_at dksX1_size_3 20 rfl rfl)
theorem dX1_size_96 : decode cX1_size 96 = .ok (.aload_n 0, 1) := dk_42 (dk_at dksX1_size_3 21 rfl rfl)
theorem dX1_size_97 : decode cX1_size 97 = .ok (.getfield 124, 3) := dk_180 0 124 (dk_at dksX1_size_4 0 rfl rfl)
theorem dX1_size_100 : decode cX1_size 100 = .ok (.ireturn, 1) := dk_172 (dk_at dksX1_size_4 3 rfl rfl)
theorem dX1_size_101 : decode cX1_size 101 = .ok (.aload_n 0, 1) := dk_42 (dk_at dksX1_size_4 4 rfl rfl)
theorem dX1_size_102 : decode cX1_size 102 = .ok (.getfield 39, 3) := dk_180 0 39 (dk_at dksX1_size_4 5 rfl rfl)
theorem dX1_size_105 : decode cX1_size 105 = .ok (.getfield 440, 3) := dk_180 1 184 (dk_at dksX1_size_4 8 rfl rfl)
theorem dX1_size_108 : decode cX1_size 108 = .ok (.ireturn, 1) := dk_172 (dk_at dksX1_size_4 11 rfl rfl)
theorem dX1_size_109 : decode cX1_size 109 = .ok (.aload_n 0, 1) := dk_42 (dk_at dksX1_size_4 12 rfl rfl)
theorem dX1_size_110 : decode cX1_size 110 = .ok (.getfield 39, 3) := dk_180 0 39 (dk_at dksX1_size_4 13 rfl rfl)
theorem dX1_size_113 : decode cX1_size 113 = .ok (.getfield 322, 3) := dk_180 1 66 (dk_at dksX1_size_4 16 rfl rfl)
theorem dX1_size_116 : decode cX1_size 116 = .ok (.ireturn, 1) := dk_172 (dk_at dksX1_size_4 19 rfl rfl)
theorem dX1_size_117 : decode cX1_size 117 = .ok (.aload_n 0, 1) := dk_42 (dk_at dksX1_size_4 20 rfl rfl)
theorem dX1_size_118 : decode cX1_size 118 = .ok (.getfield 135, 3) := dk_180 0 135 (dk_at dksX1_size_4 21 rfl rfl)
theorem dX1_size_121 : decode cX1_size 121 = .ok (.ireturn, 1) := dk_172 (dk_at dksX1_size_5 0 rfl rfl)
theorem dX1_size_122 : decode cX1_size 122 = .ok (.aload_n 0, 1) := dk_42 (dk_at dksX1_size_5 1 rfl rfl)
theorem dX1_size_123 : decode cX1_size 123 = .ok (.getfield 138, 3) := dk_180 0 138 (dk_at dksX1_size_5 2 rfl rfl)
theorem dX1_size_126 : decode cX1_size 126 = .ok (.ireturn, 1) := dk_172 (dk_at dksX1_size_5 5 rfl rfl)
theorem dX1_size_127 : decode cX1_size 127 = .ok (.iconst (-1), 1) := dk_2 (dk_at dksX1_size_5 6 rfl rfl)
theorem dX1_size_128 : decode cX1_size 128 = .ok (.ireturn, 1) := dk_172 (dk_at dksX1_size_5 7 rfl rfl)
abbrev cX1_look : ByteArray := prog_1_method_15_code
def yX1_look : MethodName := ⟨RX1, "look", "(II)I"⟩
def dkwX1_look_3 : List UInt8 := [180, 0, 194, 172, 187, 0, 197, 89, 183, 0, 199, 191]
abbrev dktX1_look_3 : List UInt8 := dkwX1_look_3 ++ []
def dkwX1_look_2 : List UInt8 := [42, 27, 182, 0, 177, 180, 0, 188, 172, 42, 27, 182, 0, 177, 180, 0, 191, 172, 42, 27, 182, 0, 177]
abbrev dktX1_look_2 : List UInt8 := dkwX1_look_2 ++ dktX1_look_3
def dkwX1_look_1 : List UInt8 := [170, 0, 0, 0, 0, 0, 54, 0, 0, 0, 0, 0, 0, 0, 2, 0, 0, 0, 27, 0, 0, 0, 36, 0, 0, 0, 45]
abbrev dktX1_look_1 : List UInt8 := dkwX1_look_1 ++ dktX1_look_2
def dkwX1_look_0 : List UInt8 := [42, 27, 182, 0, 171, 154, 0, 11, 187, 0, 185, 89, 183, 0, 187, 191, 28]
abbrev dktX1_look_0 : List UInt8 := dkwX1_look_0 ++ dktX1_look_1
theorem dksX1_look_0 : cX1_look.data.toList.drop 0 = dktX1_look_0 := by decide +kernel
theorem dksX1_look_1 : cX1_look.data.toList.drop 17 = dktX1_look_1 := dk_seg dksX1_look_0 17 rfl rfl
theorem dksX1_look_2 : cX1_look.data.toList.drop 44 = dktX1_look_2 := dk_seg dksX1_look_1 27 rfl rfl
theorem dksX1_look_3 : cX1_look.data.toList.drop 67 = dktX1_look_3 := dk_seg dksX1_look_2 23 rfl rfl
theorem dX1_look_0 : decode cX1_look 0 = .ok (.aload_n 0, 1) := dk_42 (dk_at dksX1_look_0 0 rfl rfl)
theorem dX1_look_1 : decode cX1_look 1 = .ok (.iload_n 1, 1) := dk_27 (dk_at dksX1_look_0 1 rfl rfl)
theorem dX1_look_2 : decode cX1_look 2 = .ok (.invokevirtual 171, 3) := dk_182 0 171 (dk_at dksX1_look_0 2 rfl rfl)
theorem dX1_look_5 : decode cX1_look 5 = .ok (.ifCond .ne 11, 3) := dk_154 0 11 (dk_at dksX1_look_0 5 rfl rfl)
theorem dX1_look_8 : decode cX1_look 8 = .ok (.new 185, 3) := dk_187 0 185 (dk_at dksX1_look_0 8 rfl rfl)
theorem dX1_look_11 : decode cX1_look 11 = .ok (.dup, 1) := dk_89 (dk_at dksX1_look_0 11 rfl rfl)
theorem dX1_look_12 : decode cX1_look 12 = .ok (.invokespecial 187, 3) := dk_183 0 187 (dk_at dksX1_look_0 12 rfl rfl)
theorem dX1_look_15 : decode cX1_look 15 = .ok (.athrow, 1) := dk_191 (dk_at dksX1_look_0 15 rfl rfl)
theorem dX1_look_16 : decode cX1_look 16 = .ok (.iload_n 2, 1) := dk_28 (dk_at dksX1_look_0 16 rfl rfl)
theorem dX1_look_17 : decode cX1_look 17 = .ok (.tableswitch 54 0 2 #[27, 36, 45], 27) := by decide +kernel
theorem dX1_look_44 : decode cX1_look 44 = .ok (.aload_n 0, 1) := dk_42 (dk_at dksX1_look_2 0 rfl rfl)
theorem dX1_look_45 : decode cX1_look 45 = .ok (.iload_n 1, 1) := dk_27 (dk_at dksX1_look_2 1 rfl rfl)
theorem dX1_look_46 : decode cX1_look 46 = .ok (.invokevirtual 177, 3) := dk_182 0 177 (dk_at dksX1_look_2 2 rfl rfl)
theorem dX1_look_49 : decode cX1_look 49 = .ok (.getfield 188, 3) := dk_180 0 188 (dk_at dksX1_look_2 5 rfl rfl)
theorem dX1_look_52 : decode cX1_look 52 = .ok (.ireturn, 1) := dk_172 (dk_at dksX1_look_2 8 rfl rfl)
theorem dX1_look_53 : decode cX1_look 53 = .ok (.aload_n 0, 1) := dk_42 (dk_at dksX1_look_2 9 rfl rfl)
theorem dX1_look_54 : decode cX1_look 54 = .ok (.iload_n 1, 1) := dk_27 (dk_at dksX1_look_2 10 rfl rfl)
theorem dX1_look_55 : decode cX1_look 55 = .ok (.invokevirtual 177, 3) := dk_182 0 177 (dk_at dksX1_look_2 11 rfl rfl)
theorem dX1_look_58 : decode cX1_look 58 = .ok (.getfield 191, 3) := dk_180 0 191 (dk_at dksX1_look_2 14 rfl rfl)
theorem dX1_look_61 : decode cX1_look 61 = .ok (.ireturn, 1) := dk_172 (dk_at dksX1_look_2 17 rfl rfl)
theorem dX1_look_62 : decode cX1_look 62 = .ok (.aload_n 0, 1) := dk_42 (dk_at dksX1_look_2 18 rfl rfl)
theorem dX1_look_63 : decode cX1_look 63 = .ok (.iload_n 1, 1) := dk_27 (dk_at dksX1_look_2 19 rfl rfl)
theorem dX1_look_64 : decode cX1_look 64 = .ok (.invokevirtual 177, 3) := dk_182 0 177 (dk_at dksX1_look_2 20 rfl rfl)
theorem dX1_look_67 : decode cX1_look 67 = .ok (.getfield 194, 3) := dk_180 0 194 (dk_at dksX1_look_3 0 rfl rfl)
theorem dX1_look_70 : decode cX1_look 70 = .ok (.ireturn, 1) := dk_172 (dk_at dksX1_look_3 3 rfl rfl)
theorem dX1_look_71 : decode cX1_look 71 = .ok (.new 197, 3) := dk_187 0 197 (dk_at dksX1_look_3 4 rfl rfl)
theorem dX1_look_74 : decode cX1_look 74 = .ok (.dup, 1) := dk_89 (dk_at dksX1_look_3 7 rfl rfl)
theorem dX1_look_75 : decode cX1_look 75 = .ok (.invokespecial 199, 3) := dk_183 0 199 (dk_at dksX1_look_3 8 rfl rfl)
theorem dX1_look_78 : decode cX1_look 78 = .ok (.athrow, 1) := dk_191 (dk_at dksX1_look_3 11 rfl rfl)
abbrev cX2_init : ByteArray := prog_14_method_1_code
def yX2_init : MethodName := ⟨RX2, "<init>", "(LLongYears;)V"⟩
def dkwX2_init_0 : List UInt8 := [42, 43, 181, 0, 3, 42, 183, 0, 9, 177]
abbrev dktX2_init_0 : List UInt8 := dkwX2_init_0 ++ []
theorem dksX2_init_0 : cX2_init.data.toList.drop 0 = dktX2_init_0 := by decide +kernel
theorem dX2_init_0 : decode cX2_init 0 = .ok (.aload_n 0, 1) := dk_42 (dk_at dksX2_init_0 0 rfl rfl)
theorem dX2_init_1 : decode cX2_init 1 = .ok (.aload_n 1, 1) := dk_43 (dk_at dksX2_init_0 1 rfl rfl)
theorem dX2_init_2 : decode cX2_init 2 = .ok (.putfield 3, 3) := dk_181 0 3 (dk_at dksX2_init_0 2 rfl rfl)
theorem dX2_init_5 : decode cX2_init 5 = .ok (.aload_n 0, 1) := dk_42 (dk_at dksX2_init_0 5 rfl rfl)
theorem dX2_init_6 : decode cX2_init 6 = .ok (.invokespecial 9, 3) := dk_183 0 9 (dk_at dksX2_init_0 6 rfl rfl)
theorem dX2_init_9 : decode cX2_init 9 = .ok (.return_, 1) := dk_177 (dk_at dksX2_init_0 9 rfl rfl)
abbrev cX2_read : ByteArray := prog_14_method_14_code
def yX2_read : MethodName := ⟨RX2, "read", "(I)LLongYears$Realm;"⟩
def dkwX2_read_2 : List UInt8 := [167, 255, 244, 42, 180, 0, 115, 176]
abbrev dktX2_read_2 : List UInt8 := dkwX2_read_2 ++ []
def dkwX2_read_1 : List UInt8 := [89, 183, 0, 114, 181, 0, 115, 42, 182, 0, 89, 42, 180, 0, 33, 7, 159, 0, 10, 42, 182, 0, 119]
abbrev dktX2_read_1 : List UInt8 := dkwX2_read_1 ++ dktX2_read_2
def dkwX2_read_0 : List UInt8 := [42, 3, 181, 0, 15, 42, 27, 181, 0, 19, 42, 3, 181, 0, 106, 42, 3, 181, 0, 109, 42, 187, 0, 112]
abbrev dktX2_read_0 : List UInt8 := dkwX2_read_0 ++ dktX2_read_1
theorem dksX2_read_0 : cX2_read.data.toList.drop 0 = dktX2_read_0 := by decide +kernel
theorem dksX2_read_1 : cX2_read.data.toList.drop 24 = dktX2_read_1 := dk_seg dksX2_read_0 24 rfl rfl
theorem dksX2_read_2 : cX2_read.data.toList.drop 47 = dktX2_read_2 := dk_seg dksX2_read_1 23 rfl rfl
theorem dX2_read_0 : decode cX2_read 0 = .ok (.aload_n 0, 1) := dk_42 (dk_at dksX2_read_0 0 rfl rfl)
theorem dX2_read_1 : decode cX2_read 1 = .ok (.iconst 0, 1) := dk_3 (dk_at dksX2_read_0 1 rfl rfl)
theorem dX2_read_2 : decode cX2_read 2 = .ok (.putfield 15, 3) := dk_181 0 15 (dk_at dksX2_read_0 2 rfl rfl)
theorem dX2_read_5 : decode cX2_read 5 = .ok (.aload_n 0, 1) := dk_42 (dk_at dksX2_read_0 5 rfl rfl)
theorem dX2_read_6 : decode cX2_read 6 = .ok (.iload_n 1, 1) := dk_27 (dk_at dksX2_read_0 6 rfl rfl)
theorem dX2_read_7 : decode cX2_read 7 = .ok (.putfield 19, 3) := dk_181 0 19 (dk_at dksX2_read_0 7 rfl rfl)
theorem dX2_read_10 : decode cX2_read 10 = .ok (.aload_n 0, 1) := dk_42 (dk_at dksX2_read_0 10 rfl rfl)
theorem dX2_read_11 : decode cX2_read 11 = .ok (.iconst 0, 1) := dk_3 (dk_at dksX2_read_0 11 rfl rfl)
theorem dX2_read_12 : decode cX2_read 12 = .ok (.putfield 106, 3) := dk_181 0 106 (dk_at dksX2_read_0 12 rfl rfl)
theorem dX2_read_15 : decode cX2_read 15 = .ok (.aload_n 0, 1) := dk_42 (dk_at dksX2_read_0 15 rfl rfl)
theorem dX2_read_16 : decode cX2_read 16 = .ok (.iconst 0, 1) := dk_3 (dk_at dksX2_read_0 16 rfl rfl)
theorem dX2_read_17 : decode cX2_read 17 = .ok (.putfield 109, 3) := dk_181 0 109 (dk_at dksX2_read_0 17 rfl rfl)
theorem dX2_read_20 : decode cX2_read 20 = .ok (.aload_n 0, 1) := dk_42 (dk_at dksX2_read_0 20 rfl rfl)
theorem dX2_read_21 : decode cX2_read 21 = .ok (.new 112, 3) := dk_187 0 112 (dk_at dksX2_read_0 21 rfl rfl)
theorem dX2_read_24 : decode cX2_read 24 = .ok (.dup, 1) := dk_89 (dk_at dksX2_read_1 0 rfl rfl)
theorem dX2_read_25 : decode cX2_read 25 = .ok (.invokespecial 114, 3) := dk_183 0 114 (dk_at dksX2_read_1 1 rfl rfl)
theorem dX2_read_28 : decode cX2_read 28 = .ok (.putfield 115, 3) := dk_181 0 115 (dk_at dksX2_read_1 4 rfl rfl)
theorem dX2_read_31 : decode cX2_read 31 = .ok (.aload_n 0, 1) := dk_42 (dk_at dksX2_read_1 7 rfl rfl)
theorem dX2_read_32 : decode cX2_read 32 = .ok (.invokevirtual 89, 3) := dk_182 0 89 (dk_at dksX2_read_1 8 rfl rfl)
theorem dX2_read_35 : decode cX2_read 35 = .ok (.aload_n 0, 1) := dk_42 (dk_at dksX2_read_1 11 rfl rfl)
theorem dX2_read_36 : decode cX2_read 36 = .ok (.getfield 33, 3) := dk_180 0 33 (dk_at dksX2_read_1 12 rfl rfl)
theorem dX2_read_39 : decode cX2_read 39 = .ok (.iconst 4, 1) := dk_7 (dk_at dksX2_read_1 15 rfl rfl)
theorem dX2_read_40 : decode cX2_read 40 = .ok (.if_icmp .eq 10, 3) := dk_159 0 10 (dk_at dksX2_read_1 16 rfl rfl)
theorem dX2_read_43 : decode cX2_read 43 = .ok (.aload_n 0, 1) := dk_42 (dk_at dksX2_read_1 19 rfl rfl)
theorem dX2_read_44 : decode cX2_read 44 = .ok (.invokevirtual 119, 3) := dk_182 0 119 (dk_at dksX2_read_1 20 rfl rfl)
theorem dX2_read_47 : decode cX2_read 47 = .ok (.goto (-12), 3) := dk_167 255 244 (dk_at dksX2_read_2 0 rfl rfl)
theorem dX2_read_50 : decode cX2_read 50 = .ok (.aload_n 0, 1) := dk_42 (dk_at dksX2_read_2 3 rfl rfl)
theorem dX2_read_51 : decode cX2_read 51 = .ok (.getfield 115, 3) := dk_180 0 115 (dk_at dksX2_read_2 4 rfl rfl)
theorem dX2_read_54 : decode cX2_read 54 = .ok (.areturn, 1) := dk_176 (dk_at dksX2_read_2 7 rfl rfl)
abbrev cX2_next : ByteArray := prog_14_method_3_code
def yX2_next : MethodName := ⟨RX2, "next", "()V"⟩
def dkwX2_next_11 : List UInt8 := [181, 0, 15, 167, 255, 194, 42, 182, 0, 58, 177]
abbrev dktX2_next_11 : List UInt8 := dkwX2_next_11 ++ []
def dkwX2_next_10 : List UInt8 := [180, 0, 47, 104, 42, 182, 0, 26, 96, 16, 48, 100, 181, 0, 47, 42, 89, 180, 0, 15, 4, 96]
abbrev dktX2_next_10 : List UInt8 := dkwX2_next_10 ++ dktX2_next_11
def dkwX2_next_9 : List UInt8 := [153, 0, 55, 42, 42, 180, 0, 47, 18, 57, 164, 0, 10, 42, 180, 0, 47, 167, 0, 18, 16, 10, 42]
abbrev dktX2_next_9 : List UInt8 := dkwX2_next_9 ++ dktX2_next_10
def dkwX2_next_8 : List UInt8 := [181, 0, 33, 42, 3, 181, 0, 47, 42, 182, 0, 26, 133, 20, 0, 53, 20, 0, 55, 184, 0, 40]
abbrev dktX2_next_8 : List UInt8 := dkwX2_next_8 ++ dktX2_next_9
def dkwX2_next_7 : List UInt8 := [167, 0, 99, 42, 182, 0, 26, 133, 20, 0, 53, 20, 0, 55, 184, 0, 40, 153, 0, 78, 42, 5]
abbrev dktX2_next_7 : List UInt8 := dkwX2_next_7 ++ dktX2_next_8
def dkwX2_next_6 : List UInt8 := [164, 0, 7, 8, 167, 0, 4, 4, 181, 0, 33, 42, 180, 0, 33, 4, 160, 0, 106, 42, 182, 0, 50]
abbrev dktX2_next_6 : List UInt8 := dkwX2_next_6 ++ dktX2_next_7
def dkwX2_next_5 : List UInt8 := [180, 0, 47, 2, 159, 0, 7, 3, 167, 0, 22, 42, 180, 0, 15, 42, 180, 0, 30, 100, 16, 6]
abbrev dktX2_next_5 : List UInt8 := dkwX2_next_5 ++ dktX2_next_6
def dkwX2_next_4 : List UInt8 := [89, 180, 0, 15, 4, 96, 181, 0, 15, 167, 255, 229, 42, 42, 182, 0, 44, 181, 0, 47, 42, 42]
abbrev dktX2_next_4 : List UInt8 := dkwX2_next_4 ++ dktX2_next_5
def dkwX2_next_3 : List UInt8 := [184, 0, 40, 153, 0, 91, 42, 182, 0, 26, 133, 20, 0, 36, 20, 0, 38, 184, 0, 40, 153, 0, 16, 42]
abbrev dktX2_next_3 : List UInt8 := dkwX2_next_3 ++ dktX2_next_4
def dkwX2_next_2 : List UInt8 := [160, 0, 11, 42, 7, 181, 0, 33, 167, 0, 204, 42, 182, 0, 26, 133, 20, 0, 36, 20, 0, 38]
abbrev dktX2_next_2 : List UInt8 := dkwX2_next_2 ++ dktX2_next_3
def dkwX2_next_1 : List UInt8 := [96, 181, 0, 15, 167, 255, 228, 42, 42, 180, 0, 15, 181, 0, 30, 42, 180, 0, 15, 42, 180, 0, 19]
abbrev dktX2_next_1 : List UInt8 := dkwX2_next_1 ++ dktX2_next_2
def dkwX2_next_0 : List UInt8 := [42, 182, 0, 26, 16, 10, 159, 0, 12, 42, 182, 0, 26, 16, 32, 160, 0, 16, 42, 89, 180, 0, 15, 4]
abbrev dktX2_next_0 : List UInt8 := dkwX2_next_0 ++ dktX2_next_1
theorem dksX2_next_0 : cX2_next.data.toList.drop 0 = dktX2_next_0 := by decide +kernel
theorem dksX2_next_1 : cX2_next.data.toList.drop 24 = dktX2_next_1 := dk_seg dksX2_next_0 24 rfl rfl
theorem dksX2_next_2 : cX2_next.data.toList.drop 47 = dktX2_next_2 := dk_seg dksX2_next_1 23 rfl rfl
theorem dksX2_next_3 : cX2_next.data.toList.drop 69 = dktX2_next_3 := dk_seg dksX2_next_2 22 rfl rfl
theorem dksX2_next_4 : cX2_next.data.toList.drop 93 = dktX2_next_4 := dk_seg dksX2_next_3 24 rfl rfl
theorem dksX2_next_5 : cX2_next.data.toList.drop 115 = dktX2_next_5 := dk_seg dksX2_next_4 22 rfl rfl
theorem dksX2_next_6 : cX2_next.data.toList.drop 137 = dktX2_next_6 := dk_seg dksX2_next_5 22 rfl rfl
theorem dksX2_next_7 : cX2_next.data.toList.drop 160 = dktX2_next_7 := dk_seg dksX2_next_6 23 rfl rfl
theorem dksX2_next_8 : cX2_next.data.toList.drop 182 = dktX2_next_8 := dk_seg dksX2_next_7 22 rfl rfl
theorem dksX2_next_9 : cX2_next.data.toList.drop 204 = dktX2_next_9 := dk_seg dksX2_next_8 22 rfl rfl
theorem dksX2_next_10 : cX2_next.data.toList.drop 227 = dktX2_next_10 := dk_seg dksX2_next_9 23 rfl rfl
theorem dksX2_next_11 : cX2_next.data.toList.drop 249 = dktX2_next_11 := dk_seg dksX2_next_10 22 rfl rfl
theorem dX2_next_0 : decode cX2_next 0 = .ok (.aload_n 0, 1) := dk_42 (dk_at dksX2_next_0 0 rfl rfl)
theorem dX2_next_1 : decode cX2_next 1 = .ok (.invokevirtual 26, 3) := dk_182 0 26 (dk_at dksX2_next_0 1 rfl rfl)
theorem dX2_next_4 : decode cX2_next 4 = .ok (.bipush 10, 2) := dk_16 10 (dk_at dksX2_next_0 4 rfl rfl)
theorem dX2_next_6 : decode cX2_next 6 = .ok (.if_icmp .eq 12, 3) := dk_159 0 12 (dk_at dksX2_next_0 6 rfl rfl)
theorem dX2_next_9 : decode cX2_next 9 = .ok (.aload_n 0, 1) := dk_42 (dk_at dksX2_next_0 9 rfl rfl)
theorem dX2_next_10 : decode cX2_next 10 = .ok (.invokevirtual 26, 3) := dk_182 0 26 (dk_at dksX2_next_0 10 rfl rfl)
theorem dX2_next_13 : decode cX2_next 13 = .ok (.bipush 32, 2) := dk_16 32 (dk_at dksX2_next_0 13 rfl rfl)
theorem dX2_next_15 : decode cX2_next 15 = .ok (.if_icmp .ne 16, 3) := dk_160 0 16 (dk_at dksX2_next_0 15 rfl rfl)
theorem dX2_next_18 : decode cX2_next 18 = .ok (.aload_n 0, 1) := dk_42 (dk_at dksX2_next_0 18 rfl rfl)
theorem dX2_next_19 : decode cX2_next 19 = .ok (.dup, 1) := dk_89 (dk_at dksX2_next_0 19 rfl rfl)
theorem dX2_next_20 : decode cX2_next 20 = .ok (.getfield 15, 3) := dk_180 0 15 (dk_at dksX2_next_0 20 rfl rfl)
theorem dX2_next_23 : decode cX2_next 23 = .ok (.iconst 1, 1) := dk_4 (dk_at dksX2_next_0 23 rfl rfl)
theorem dX2_next_24 : decode cX2_next 24 = .ok (.iadd, 1) := dk_96 (dk_at dksX2_next_1 0 rfl rfl)
theorem dX2_next_25 : decode cX2_next 25 = .ok (.putfield 15, 3) := dk_181 0 15 (dk_at dksX2_next_1 1 rfl rfl)
theorem dX2_next_28 : decode cX2_next 28 = .ok (.goto (-28), 3) := dk_167 255 228 (dk_at dksX2_next_1 4 rfl rfl)
theorem dX2_next_31 : decode cX2_next 31 = .ok (.aload_n 0, 1) := dk_42 (dk_at dksX2_next_1 7 rfl rfl)
theorem dX2_next_32 : decode cX2_next 32 = .ok (.aload_n 0, 1) := dk_42 (dk_at dksX2_next_1 8 rfl rfl)
theorem dX2_next_33 : decode cX2_next 33 = .ok (.getfield 15, 3) := dk_180 0 15 (dk_at dksX2_next_1 9 rfl rfl)
theorem dX2_next_36 : decode cX2_next 36 = .ok (.putfield 30, 3) := dk_181 0 30 (dk_at dksX2_next_1 12 rfl rfl)
theorem dX2_next_39 : decode cX2_next 39 = .ok (.aload_n 0, 1) := dk_42 (dk_at dksX2_next_1 15 rfl rfl)
theorem dX2_next_40 : decode cX2_next 40 = .ok (.getfield 15, 3) := dk_180 0 15 (dk_at dksX2_next_1 16 rfl rfl)
theorem dX2_next_43 : decode cX2_next 43 = .ok (.aload_n 0, 1) := dk_42 (dk_at dksX2_next_1 19 rfl rfl)
theorem dX2_next_44 : decode cX2_next 44 = .ok (.getfield 19, 3) := dk_180 0 19 (dk_at dksX2_next_1 20 rfl rfl)
theorem dX2_next_47 : decode cX2_next 47 = .ok (.if_icmp .ne 11, 3) := dk_160 0 11 (dk_at dksX2_next_2 0 rfl rfl)
theorem dX2_next_50 : decode cX2_next 50 = .ok (.aload_n 0, 1) := dk_42 (dk_at dksX2_next_2 3 rfl rfl)
theorem dX2_next_51 : decode cX2_next 51 = .ok (.iconst 4, 1) := dk_7 (dk_at dksX2_next_2 4 rfl rfl)
theorem dX2_next_52 : decode cX2_next 52 = .ok (.putfield 33, 3) := dk_181 0 33 (dk_at dksX2_next_2 5 rfl rfl)
theorem dX2_next_55 : decode cX2_next 55 = .ok (.goto 204, 3) := dk_167 0 204 (dk_at dksX2_next_2 8 rfl rfl)
theorem dX2_next_58 : decode cX2_next 58 = .ok (.aload_n 0, 1) := dk_42 (dk_at dksX2_next_2 11 rfl rfl)
theorem dX2_next_59 : decode cX2_next 59 = .ok (.invokevirtual 26, 3) := dk_182 0 26 (dk_at dksX2_next_2 12 rfl rfl)
theorem dX2_next_62 : decode cX2_next 62 = .ok (.i2l, 1) := dk_133 (dk_at dksX2_next_2 15 rfl rfl)
theorem dX2_next_63 : decode cX2_next 63 = .ok (.ldc2_w 36, 3) := dk_20 0 36 (dk_at dksX2_next_2 16 rfl rfl)
theorem dX2_next_66 : decode cX2_next 66 = .ok (.ldc2_w 38, 3) := dk_20 0 38 (dk_at dksX2_next_2 19 rfl rfl)
theorem dX2_next_69 : decode cX2_next 69 = .ok (.invokestatic 40, 3) := dk_184 0 40 (dk_at dksX2_next_3 0 rfl rfl)
theorem dX2_next_72 : decode cX2_next 72 = .ok (.ifCond .eq 91, 3) := dk_153 0 91 (dk_at dksX2_next_3 3 rfl rfl)
theorem dX2_next_75 : decode cX2_next 75 = .ok (.aload_n 0, 1) := dk_42 (dk_at dksX2_next_3 6 rfl rfl)
theorem dX2_next_76 : decode cX2_next 76 = .ok (.invokevirtual 26, 3) := dk_182 0 26 (dk_at dksX2_next_3 7 rfl rfl)
theorem dX2_next_79 : decode cX2_next 79 = .ok (.i2l, 1) := dk_133 (dk_at dksX2_next_3 10 rfl rfl)
theorem dX2_next_80 : decode cX2_next 80 = .ok (.ldc2_w 36, 3) := dk_20 0 36 (dk_at dksX2_next_3 11 rfl rfl)
theorem dX2_next_83 : decode cX2_next 83 = .ok (.ldc2_w 38, 3) := dk_20 0 38 (dk_at dksX2_next_3 14 rfl rfl)
theorem dX2_next_86 : decode cX2_next 86 = .ok (.invokestatic 40, 3) := dk_184 0 40 (dk_at dksX2_next_3 17 rfl rfl)
theorem dX2_next_89 : decode cX2_next 89 = .ok (.ifCond .eq 16, 3) := dk_153 0 16 (dk_at dksX2_next_3 20 rfl rfl)
theorem dX2_next_92 : decode cX2_next 92 = .ok (.aload_n 0, 1) := dk_42 (dk_at dksX2_next_3 23 rfl rfl)
theorem dX2_next_93 : decode cX2_next 93 = .ok (.dup, 1) := dk_89 (dk_at dksX2_next_4 0 rfl rfl)
theorem dX2_next_94 : decode cX2_next 94 = .ok (.getfield 15, 3) := dk_180 0 15 (dk_at dksX2_next_4 1 rfl rfl)
theorem dX2_next_97 : decode cX2_next 97 = .ok (.iconst 1, 1) := dk_4 (dk_at dksX2_next_4 4 rfl rfl)
theorem dX2_next_98 : decode cX2_next 98 = .ok (.iadd, 1) := dk_96 (dk_at dksX2_next_4 5 rfl rfl)
theorem dX2_next_99 : decode cX2_next 99 = .ok (.putfield 15, 3) := dk_181 0 15 (dk_at dksX2_next_4 6 rfl rfl)
theorem dX2_next_102 : decode cX2_next 102 = .ok (.goto (-27), 3) := dk_167 255 229 (dk_at dksX2_next_4 9 rfl rfl)
theorem dX2_next_105 : decode cX2_next 105 = .ok (.aload_n 0, 1) := dk_42 (dk_at dksX2_next_4 12 rfl rfl)
theorem dX2_next_106 : decode cX2_next 106 = .ok (.aload_n 0, 1) := dk_42 (dk_at dksX2_next_4 13 rfl rfl)
theorem dX2_next_107 : decode cX2_next 107 = .ok (.invokevirtual 44, 3) := dk_182 0 44 (dk_at dksX2_next_4 14 rfl rfl)
theorem dX2_next_110 : decode cX2_next 110 = .ok (.putfield 47, 3) := dk_181 0 47 (dk_at dksX2_next_4 17 rfl rfl)
theorem dX2_next_113 : decode cX2_next 113 = .ok (.aload_n 0, 1) := dk_42 (dk_at dksX2_next_4 20 rfl rfl)
theorem dX2_next_114 : decode cX2_next 114 = .ok (.aload_n 0, 1) := dk_42 (dk_at dksX2_next_4 21 rfl rfl)
theorem dX2_next_115 : decode cX2_next 115 = .ok (.getfield 47, 3) := dk_180 0 47 (dk_at dksX2_next_5 0 rfl rfl)
theorem dX2_next_118 : decode cX2_next 118 = .ok (.iconst (-1), 1) := dk_2 (dk_at dksX2_next_5 3 rfl rfl)
theorem dX2_next_119 : decode cX2_next 119 = .ok (.if_icmp .eq 7, 3) := dk_159 0 7 (dk_at dksX2_next_5 4 rfl rfl)
theorem dX2_next_122 : decode cX2_next 122 = .ok (.iconst 0, 1) := dk_3 (dk_at dksX2_next_5 7 rfl rfl)
theorem dX2_next_123 : decode cX2_next 123 = .ok (.goto 22, 3) := dk_167 0 22 (dk_at dksX2_next_5 8 rfl rfl)
theorem dX2_next_126 : decode cX2_next 126 = .ok (.aload_n 0, 1) := dk_42 (dk_at dksX2_next_5 11 rfl rfl)
theorem dX2_next_127 : decode cX2_next 127 = .ok (.getfield 15, 3) := dk_180 0 15 (dk_at dksX2_next_5 12 rfl rfl)
theorem dX2_next_130 : decode cX2_next 130 = .ok (.aload_n 0, 1) := dk_42 (dk_at dksX2_next_5 15 rfl rfl)
theorem dX2_next_131 : decode cX2_next 131 = .ok (.getfield 30, 3) := dk_180 0 30 (dk_at dksX2_next_5 16 rfl rfl)
theorem dX2_next_134 : decode cX2_next 134 = .ok (.isub, 1) := dk_100 (dk_at dksX2_next_5 19 rfl rfl)
theorem dX2_next_135 : decode cX2_next 135 = .ok (.bipush 6, 2) := dk_16 6 (dk_at dksX2_next_5 20 rfl rfl)
theorem dX2_next_137 : decode cX2_next 137 = .ok (.if_icmp .le 7, 3) := dk_164 0 7 (dk_at dksX2_next_6 0 rfl rfl)
theorem dX2_next_140 : decode cX2_next 140 = .ok (.iconst 5, 1) := dk_8 (dk_at dksX2_next_6 3 rfl rfl)
theorem dX2_next_141 : decode cX2_next 141 = .ok (.goto 4, 3) := dk_167 0 4 (dk_at dksX2_next_6 4 rfl rfl)
theorem dX2_next_144 : decode cX2_next 144 = .ok (.iconst 1, 1) := dk_4 (dk_at dksX2_next_6 7 rfl rfl)
theorem dX2_next_145 : decode cX2_next 145 = .ok (.putfield 33, 3) := dk_181 0 33 (dk_at dksX2_next_6 8 rfl rfl)
theorem dX2_next_148 : decode cX2_next 148 = .ok (.aload_n 0, 1) := dk_42 (dk_at dksX2_next_6 11 rfl rfl)
theorem dX2_next_149 : decode cX2_next 149 = .ok (.getfield 33, 3) := dk_180 0 33 (dk_at dksX2_next_6 12 rfl rfl)
theorem dX2_next_152 : decode cX2_next 152 = .ok (.iconst 1, 1) := dk_4 (dk_at dksX2_next_6 15 rfl rfl)
theorem dX2_next_153 : decode cX2_next 153 = .ok (.if_icmp .ne 106, 3) := dk_160 0 106 (dk_at dksX2_next_6 16 rfl rfl)
theorem dX2_next_156 : decode cX2_next 156 = .ok (.aload_n 0, 1) := dk_42 (dk_at dksX2_next_6 19 rfl rfl)
theorem dX2_next_157 : decode cX2_next 157 = .ok (.invokevirtual 50, 3) := dk_182 0 50 (dk_at dksX2_next_6 20 rfl rfl)
theorem dX2_next_160 : decode cX2_next 160 = .ok (.goto 99, 3) := dk_167 0 99 (dk_at dksX2_next_7 0 rfl rfl)
theorem dX2_next_163 : decode cX2_next 163 = .ok (.aload_n 0, 1) := dk_42 (dk_at dksX2_next_7 3 rfl rfl)
theorem dX2_next_164 : decode cX2_next 164 = .ok (.invokevirtual 26, 3) := dk_182 0 26 (dk_at dksX2_next_7 4 rfl rfl)
theorem dX2_next_167 : decode cX2_next 167 = .ok (.i2l, 1) := dk_133 (dk_at dksX2_next_7 7 rfl rfl)
theorem dX2_next_168 : decode cX2_next 168 = .ok (.ldc2_w 53, 3) := dk_20 0 53 (dk_at dksX2_next_7 8 rfl rfl)
theorem dX2_next_171 : decode cX2_next 171 = .ok (.ldc2_w 55, 3) := dk_20 0 55 (dk_at dksX2_next_7 11 rfl rfl)
theorem dX2_next_174 : decode cX2_next 174 = .ok (.invokestatic 40, 3) := dk_184 0 40 (dk_at dksX2_next_7 14 rfl rfl)
theorem dX2_next_177 : decode cX2_next 177 = .ok (.ifCond .eq 78, 3) := dk_153 0 78 (dk_at dksX2_next_7 17 rfl rfl)
theorem dX2_next_180 : decode cX2_next 180 = .ok (.aload_n 0, 1) := dk_42 (dk_at dksX2_next_7 20 rfl rfl)
theorem dX2_next_181 : decode cX2_next 181 = .ok (.iconst 2, 1) := dk_5 (dk_at dksX2_next_7 21 rfl rfl)
theorem dX2_next_182 : decode cX2_next 182 = .ok (.putfield 33, 3) := dk_181 0 33 (dk_at dksX2_next_8 0 rfl rfl)
theorem dX2_next_185 : decode cX2_next 185 = .ok (.aload_n 0, 1) := dk_42 (dk_at dksX2_next_8 3 rfl rfl)
theorem dX2_next_186 : decode cX2_next 186 = .ok (.iconst 0, 1) := dk_3 (dk_at dksX2_next_8 4 rfl rfl)
theorem dX2_next_187 : decode cX2_next 187 = .ok (.putfield 47, 3) := dk_181 0 47 (dk_at dksX2_next_8 5 rfl rfl)
theorem dX2_next_190 : decode cX2_next 190 = .ok (.aload_n 0, 1) := dk_42 (dk_at dksX2_next_8 8 rfl rfl)
theorem dX2_next_191 : decode cX2_next 191 = .ok (.invokevirtual 26, 3) := dk_182 0 26 (dk_at dksX2_next_8 9 rfl rfl)
theorem dX2_next_194 : decode cX2_next 194 = .ok (.i2l, 1) := dk_133 (dk_at dksX2_next_8 12 rfl rfl)
theorem dX2_next_195 : decode cX2_next 195 = .ok (.ldc2_w 53, 3) := dk_20 0 53 (dk_at dksX2_next_8 13 rfl rfl)
theorem dX2_next_198 : decode cX2_next 198 = .ok (.ldc2_w 55, 3) := dk_20 0 55 (dk_at dksX2_next_8 16 rfl rfl)
theorem dX2_next_201 : decode cX2_next 201 = .ok (.invokestatic 40, 3) := dk_184 0 40 (dk_at dksX2_next_8 19 rfl rfl)
theorem dX2_next_204 : decode cX2_next 204 = .ok (.ifCond .eq 55, 3) := dk_153 0 55 (dk_at dksX2_next_9 0 rfl rfl)
theorem dX2_next_207 : decode cX2_next 207 = .ok (.aload_n 0, 1) := dk_42 (dk_at dksX2_next_9 3 rfl rfl)
theorem dX2_next_208 : decode cX2_next 208 = .ok (.aload_n 0, 1) := dk_42 (dk_at dksX2_next_9 4 rfl rfl)
theorem dX2_next_209 : decode cX2_next 209 = .ok (.getfield 47, 3) := dk_180 0 47 (dk_at dksX2_next_9 5 rfl rfl)
theorem dX2_next_212 : decode cX2_next 212 = .ok (.ldc 57, 2) := dk_18 57 (dk_at dksX2_next_9 8 rfl rfl)
theorem dX2_next_214 : decode cX2_next 214 = .ok (.if_icmp .le 10, 3) := dk_164 0 10 (dk_at dksX2_next_9 10 rfl rfl)
theorem dX2_next_217 : decode cX2_next 217 = .ok (.aload_n 0, 1) := dk_42 (dk_at dksX2_next_9 13 rfl rfl)
theorem dX2_next_218 : decode cX2_next 218 = .ok (.getfield 47, 3) := dk_180 0 47 (dk_at dksX2_next_9 14 rfl rfl)
theorem dX2_next_221 : decode cX2_next 221 = .ok (.goto 18, 3) := dk_167 0 18 (dk_at dksX2_next_9 17 rfl rfl)
theorem dX2_next_224 : decode cX2_next 224 = .ok (.bipush 10, 2) := dk_16 10 (dk_at dksX2_next_9 20 rfl rfl)
theorem dX2_next_226 : decode cX2_next 226 = .ok (.aload_n 0, 1) := dk_42 (dk_at dksX2_next_9 22 rfl rfl)
theorem dX2_next_227 : decode cX2_next 227 = .ok (.getfield 47, 3) := dk_180 0 47 (dk_at dksX2_next_10 0 rfl rfl)
theorem dX2_next_230 : decode cX2_next 230 = .ok (.imul, 1) := dk_104 (dk_at dksX2_next_10 3 rfl rfl)
theorem dX2_next_231 : decode cX2_next 231 = .ok (.aload_n 0, 1) := dk_42 (dk_at dksX2_next_10 4 rfl rfl)
theorem dX2_next_232 : decode cX2_next 232 = .ok (.invokevirtual 26, 3) := dk_182 0 26 (dk_at dksX2_next_10 5 rfl rfl)
theorem dX2_next_235 : decode cX2_next 235 = .ok (.iadd, 1) := dk_96 (dk_at dksX2_next_10 8 rfl rfl)
theorem dX2_next_236 : decode cX2_next 236 = .ok (.bipush 48, 2) := dk_16 48 (dk_at dksX2_next_10 9 rfl rfl)
theorem dX2_next_238 : decode cX2_next 238 = .ok (.isub, 1) := dk_100 (dk_at dksX2_next_10 11 rfl rfl)
theorem dX2_next_239 : decode cX2_next 239 = .ok (.putfield 47, 3) := dk_181 0 47 (dk_at dksX2_next_10 12 rfl rfl)
theorem dX2_next_242 : decode cX2_next 242 = .ok (.aload_n 0, 1) := dk_42 (dk_at dksX2_next_10 15 rfl rfl)
theorem dX2_next_243 : decode cX2_next 243 = .ok (.dup, 1) := dk_89 (dk_at dksX2_next_10 16 rfl rfl)
theorem dX2_next_244 : decode cX2_next 244 = .ok (.getfield 15, 3) := dk_180 0 15 (dk_at dksX2_next_10 17 rfl rfl)
theorem dX2_next_247 : decode cX2_next 247 = .ok (.iconst 1, 1) := dk_4 (dk_at dksX2_next_10 20 rfl rfl)
theorem dX2_next_248 : decode cX2_next 248 = .ok (.iadd, 1) := dk_96 (dk_at dksX2_next_10 21 rfl rfl)
theorem dX2_next_249 : decode cX2_next 249 = .ok (.putfield 15, 3) := dk_181 0 15 (dk_at dksX2_next_11 0 rfl rfl)
theorem dX2_next_252 : decode cX2_next 252 = .ok (.goto (-62), 3) := dk_167 255 194 (dk_at dksX2_next_11 3 rfl rfl)
theorem dX2_next_255 : decode cX2_next 255 = .ok (.aload_n 0, 1) := dk_42 (dk_at dksX2_next_11 6 rfl rfl)
theorem dX2_next_256 : decode cX2_next 256 = .ok (.invokevirtual 58, 3) := dk_182 0 58 (dk_at dksX2_next_11 7 rfl rfl)
theorem dX2_next_259 : decode cX2_next 259 = .ok (.return_, 1) := dk_177 (dk_at dksX2_next_11 10 rfl rfl)
abbrev cX2_here : ByteArray := prog_14_method_2_code
def yX2_here : MethodName := ⟨RX2, "here", "()I"⟩
def dkwX2_here_1 : List UInt8 := [17, 0, 255, 126, 167, 0, 4, 2, 172]
abbrev dktX2_here_1 : List UInt8 := dkwX2_here_1 ++ []
def dkwX2_here_0 : List UInt8 := [42, 180, 0, 15, 42, 180, 0, 19, 162, 0, 22, 42, 180, 0, 3, 180, 0, 22, 42, 180, 0, 15, 51]
abbrev dktX2_here_0 : List UInt8 := dkwX2_here_0 ++ dktX2_here_1
theorem dksX2_here_0 : cX2_here.data.toList.drop 0 = dktX2_here_0 := by decide +kernel
theorem dksX2_here_1 : cX2_here.data.toList.drop 23 = dktX2_here_1 := dk_seg dksX2_here_0 23 rfl rfl
theorem dX2_here_0 : decode cX2_here 0 = .ok (.aload_n 0, 1) := dk_42 (dk_at dksX2_here_0 0 rfl rfl)
theorem dX2_here_1 : decode cX2_here 1 = .ok (.getfield 15, 3) := dk_180 0 15 (dk_at dksX2_here_0 1 rfl rfl)
theorem dX2_here_4 : decode cX2_here 4 = .ok (.aload_n 0, 1) := dk_42 (dk_at dksX2_here_0 4 rfl rfl)
theorem dX2_here_5 : decode cX2_here 5 = .ok (.getfield 19, 3) := dk_180 0 19 (dk_at dksX2_here_0 5 rfl rfl)
theorem dX2_here_8 : decode cX2_here 8 = .ok (.if_icmp .ge 22, 3) := dk_162 0 22 (dk_at dksX2_here_0 8 rfl rfl)
theorem dX2_here_11 : decode cX2_here 11 = .ok (.aload_n 0, 1) := dk_42 (dk_at dksX2_here_0 11 rfl rfl)
theorem dX2_here_12 : decode cX2_here 12 = .ok (.getfield 3, 3) := dk_180 0 3 (dk_at dksX2_here_0 12 rfl rfl)
theorem dX2_here_15 : decode cX2_here 15 = .ok (.getfield 22, 3) := dk_180 0 22 (dk_at dksX2_here_0 15 rfl rfl)
theorem dX2_here_18 : decode cX2_here 18 = .ok (.aload_n 0, 1) := dk_42 (dk_at dksX2_here_0 18 rfl rfl)
theorem dX2_here_19 : decode cX2_here 19 = .ok (.getfield 15, 3) := dk_180 0 15 (dk_at dksX2_here_0 19 rfl rfl)
theorem dX2_here_22 : decode cX2_here 22 = .ok (.baload, 1) := dk_51 (dk_at dksX2_here_0 22 rfl rfl)
theorem dX2_here_23 : decode cX2_here 23 = .ok (.sipush 255, 3) := dk_17 0 255 (dk_at dksX2_here_1 0 rfl rfl)
theorem dX2_here_26 : decode cX2_here 26 = .ok (.iand, 1) := dk_126 (dk_at dksX2_here_1 3 rfl rfl)
theorem dX2_here_27 : decode cX2_here 27 = .ok (.goto 4, 3) := dk_167 0 4 (dk_at dksX2_here_1 4 rfl rfl)
theorem dX2_here_30 : decode cX2_here 30 = .ok (.iconst (-1), 1) := dk_2 (dk_at dksX2_here_1 7 rfl rfl)
theorem dX2_here_31 : decode cX2_here 31 = .ok (.ireturn, 1) := dk_172 (dk_at dksX2_here_1 8 rfl rfl)
abbrev cX2_word : ByteArray := prog_14_method_5_code
def yX2_word : MethodName := ⟨RX2, "word", "()I"⟩
def dkwX2_word_4 : List UInt8 := [27, 172, 132, 1, 1, 167, 255, 160, 2, 172]
abbrev dktX2_word_4 : List UInt8 := dkwX2_word_4 ++ []
def dkwX2_word_3 : List UInt8 := [96, 51, 160, 0, 9, 132, 2, 1, 167, 255, 214, 42, 180, 0, 30, 28, 96, 42, 180, 0, 15, 160, 0, 5]
abbrev dktX2_word_3 : List UInt8 := dkwX2_word_3 ++ dktX2_word_4
def dkwX2_word_2 : List UInt8 := [162, 0, 35, 178, 0, 69, 27, 50, 28, 182, 0, 76, 42, 180, 0, 3, 180, 0, 22, 42, 180, 0, 30, 28]
abbrev dktX2_word_2 : List UInt8 := dkwX2_word_2 ++ dktX2_word_3
def dkwX2_word_1 : List UInt8 := [180, 0, 30, 100, 159, 0, 6, 167, 0, 65, 3, 61, 42, 180, 0, 30, 28, 96, 42, 180, 0, 15]
abbrev dktX2_word_1 : List UInt8 := dkwX2_word_1 ++ dktX2_word_2
def dkwX2_word_0 : List UInt8 := [3, 60, 27, 178, 0, 69, 190, 162, 0, 94, 178, 0, 69, 27, 50, 182, 0, 73, 42, 180, 0, 15, 42]
abbrev dktX2_word_0 : List UInt8 := dkwX2_word_0 ++ dktX2_word_1
theorem dksX2_word_0 : cX2_word.data.toList.drop 0 = dktX2_word_0 := by decide +kernel
theorem dksX2_word_1 : cX2_word.data.toList.drop 23 = dktX2_word_1 := dk_seg dksX2_word_0 23 rfl rfl
theorem dksX2_word_2 : cX2_word.data.toList.drop 45 = dktX2_word_2 := dk_seg dksX2_word_1 22 rfl rfl
theorem dksX2_word_3 : cX2_word.data.toList.drop 69 = dktX2_word_3 := dk_seg dksX2_word_2 24 rfl rfl
theorem dksX2_word_4 : cX2_word.data.toList.drop 93 = dktX2_word_4 := dk_seg dksX2_word_3 24 rfl rfl
theorem dX2_word_0 : decode cX2_word 0 = .ok (.iconst 0, 1) := dk_3 (dk_at dksX2_word_0 0 rfl rfl)
theorem dX2_word_1 : decode cX2_word 1 = .ok (.istore_n 1, 1) := dk_60 (dk_at dksX2_word_0 1 rfl rfl)
theorem dX2_word_2 : decode cX2_word 2 = .ok (.iload_n 1, 1) := dk_27 (dk_at dksX2_word_0 2 rfl rfl)
theorem dX2_word_3 : decode cX2_word 3 = .ok (.getstatic 69, 3) := dk_178 0 69 (dk_at dksX2_word_0 3 rfl rfl)
theorem dX2_word_6 : decode cX2_word 6 = .ok (.arraylength, 1) := dk_190 (dk_at dksX2_word_0 6 rfl rfl)
theorem dX2_word_7 : decode cX2_word 7 = .ok (.if_icmp .ge 94, 3) := dk_162 0 94 (dk_at dksX2_word_0 7 rfl rfl)
theorem dX2_word_10 : decode cX2_word 10 = .ok (.getstatic 69, 3) := dk_178 0 69 (dk_at dksX2_word_0 10 rfl rfl)
theorem dX2_word_13 : decode cX2_word 13 = .ok (.iload_n 1, 1) := dk_27 (dk_at dksX2_word_0 13 rfl rfl)
theorem dX2_word_14 : decode cX2_word 14 = .ok (.aaload, 1) := dk_50 (dk_at dksX2_word_0 14 rfl rfl)
theorem dX2_word_15 : decode cX2_word 15 = .ok (.invokevirtual 73, 3) := dk_182 0 73 (dk_at dksX2_word_0 15 rfl rfl)
theorem dX2_word_18 : decode cX2_word 18 = .ok (.aload_n 0, 1) := dk_42 (dk_at dksX2_word_0 18 rfl rfl)
theorem dX2_word_19 : decode cX2_word 19 = .ok (.getfield 15, 3) := dk_180 0 15 (dk_at dksX2_word_0 19 rfl rfl)
theorem dX2_word_22 : decode cX2_word 22 = .ok (.aload_n 0, 1) := dk_42 (dk_at dksX2_word_0 22 rfl rfl)
theorem dX2_word_23 : decode cX2_word 23 = .ok (.getfield 30, 3) := dk_180 0 30 (dk_at dksX2_word_1 0 rfl rfl)
theorem dX2_word_26 : decode cX2_word 26 = .ok (.isub, 1) := dk_100 (dk_at dksX2_word_1 3 rfl rfl)
theorem dX2_word_27 : decode cX2_word 27 = .ok (.if_icmp .eq 6, 3) := dk_159 0 6 (dk_at dksX2_word_1 4 rfl rfl)
theorem dX2_word_30 : decode cX2_word 30 = .ok (.goto 65, 3) := dk_167 0 65 (dk_at dksX2_word_1 7 rfl rfl)
theorem dX2_word_33 : decode cX2_word 33 = .ok (.iconst 0, 1) := dk_3 (dk_at dksX2_word_1 10 rfl rfl)
theorem dX2_word_34 : decode cX2_word 34 = .ok (.istore_n 2, 1) := dk_61 (dk_at dksX2_word_1 11 rfl rfl)
theorem dX2_word_35 : decode cX2_word 35 = .ok (.aload_n 0, 1) := dk_42 (dk_at dksX2_word_1 12 rfl rfl)
theorem dX2_word_36 : decode cX2_word 36 = .ok (.getfield 30, 3) := dk_180 0 30 (dk_at dksX2_word_1 13 rfl rfl)
theorem dX2_word_39 : decode cX2_word 39 = .ok (.iload_n 2, 1) := dk_28 (dk_at dksX2_word_1 16 rfl rfl)
theorem dX2_word_40 : decode cX2_word 40 = .ok (.iadd, 1) := dk_96 (dk_at dksX2_word_1 17 rfl rfl)
theorem dX2_word_41 : decode cX2_word 41 = .ok (.aload_n 0, 1) := dk_42 (dk_at dksX2_word_1 18 rfl rfl)
theorem dX2_word_42 : decode cX2_word 42 = .ok (.getfield 15, 3) := dk_180 0 15 (dk_at dksX2_word_1 19 rfl rfl)
theorem dX2_word_45 : decode cX2_word 45 = .ok (.if_icmp .ge 35, 3) := dk_162 0 35 (dk_at dksX2_word_2 0 rfl rfl)
theorem dX2_word_48 : decode cX2_word 48 = .ok (.getstatic 69, 3) := dk_178 0 69 (dk_at dksX2_word_2 3 rfl rfl)
theorem dX2_word_51 : decode cX2_word 51 = .ok (.iload_n 1, 1) := dk_27 (dk_at dksX2_word_2 6 rfl rfl)
theorem dX2_word_52 : decode cX2_word 52 = .ok (.aaload, 1) := dk_50 (dk_at dksX2_word_2 7 rfl rfl)
theorem dX2_word_53 : decode cX2_word 53 = .ok (.iload_n 2, 1) := dk_28 (dk_at dksX2_word_2 8 rfl rfl)
theorem dX2_word_54 : decode cX2_word 54 = .ok (.invokevirtual 76, 3) := dk_182 0 76 (dk_at dksX2_word_2 9 rfl rfl)
theorem dX2_word_57 : decode cX2_word 57 = .ok (.aload_n 0, 1) := dk_42 (dk_at dksX2_word_2 12 rfl rfl)
theorem dX2_word_58 : decode cX2_word 58 = .ok (.getfield 3, 3) := dk_180 0 3 (dk_at dksX2_word_2 13 rfl rfl)
theorem dX2_word_61 : decode cX2_word 61 = .ok (.getfield 22, 3) := dk_180 0 22 (dk_at dksX2_word_2 16 rfl rfl)
theorem dX2_word_64 : decode cX2_word 64 = .ok (.aload_n 0, 1) := dk_42 (dk_at dksX2_word_2 19 rfl rfl)
theorem dX2_word_65 : decode cX2_word 65 = .ok (.getfield 30, 3) := dk_180 0 30 (dk_at dksX2_word_2 20 rfl rfl)
theorem dX2_word_68 : decode cX2_word 68 = .ok (.iload_n 2, 1) := dk_28 (dk_at dksX2_word_2 23 rfl rfl)
theorem dX2_word_69 : decode cX2_word 69 = .ok (.iadd, 1) := dk_96 (dk_at dksX2_word_3 0 rfl rfl)
theorem dX2_word_70 : decode cX2_word 70 = .ok (.baload, 1) := dk_51 (dk_at dksX2_word_3 1 rfl rfl)
theorem dX2_word_71 : decode cX2_word 71 = .ok (.if_icmp .ne 9, 3) := dk_160 0 9 (dk_at dksX2_word_3 2 rfl rfl)
theorem dX2_word_74 : decode cX2_word 74 = .ok (.iinc 2 1, 3) := dk_132 2 1 (dk_at dksX2_word_3 5 rfl rfl)
theorem dX2_word_77 : decode cX2_word 77 = .ok (.goto (-42), 3) := dk_167 255 214 (dk_at dksX2_word_3 8 rfl rfl)
theorem dX2_word_80 : decode cX2_word 80 = .ok (.aload_n 0, 1) := dk_42 (dk_at dksX2_word_3 11 rfl rfl)
theorem dX2_word_81 : decode cX2_word 81 = .ok (.getfield 30, 3) := dk_180 0 30 (dk_at dksX2_word_3 12 rfl rfl)
theorem dX2_word_84 : decode cX2_word 84 = .ok (.iload_n 2, 1) := dk_28 (dk_at dksX2_word_3 15 rfl rfl)
theorem dX2_word_85 : decode cX2_word 85 = .ok (.iadd, 1) := dk_96 (dk_at dksX2_word_3 16 rfl rfl)
theorem dX2_word_86 : decode cX2_word 86 = .ok (.aload_n 0, 1) := dk_42 (dk_at dksX2_word_3 17 rfl rfl)
theorem dX2_word_87 : decode cX2_word 87 = .ok (.getfield 15, 3) := dk_180 0 15 (dk_at dksX2_word_3 18 rfl rfl)
theorem dX2_word_90 : decode cX2_word 90 = .ok (.if_icmp .ne 5, 3) := dk_160 0 5 (dk_at dksX2_word_3 21 rfl rfl)
theorem dX2_word_93 : decode cX2_word 93 = .ok (.iload_n 1, 1) := dk_27 (dk_at dksX2_word_4 0 rfl rfl)
theorem dX2_word_94 : decode cX2_word 94 = .ok (.ireturn, 1) := dk_172 (dk_at dksX2_word_4 1 rfl rfl)
theorem dX2_word_95 : decode cX2_word 95 = .ok (.iinc 1 1, 3) := dk_132 1 1 (dk_at dksX2_word_4 2 rfl rfl)
theorem dX2_word_98 : decode cX2_word 98 = .ok (.goto (-96), 3) := dk_167 255 160 (dk_at dksX2_word_4 5 rfl rfl)
theorem dX2_word_101 : decode cX2_word 101 = .ok (.iconst (-1), 1) := dk_2 (dk_at dksX2_word_4 8 rfl rfl)
theorem dX2_word_102 : decode cX2_word 102 = .ok (.ireturn, 1) := dk_172 (dk_at dksX2_word_4 9 rfl rfl)
abbrev cX2_name : ByteArray := prog_14_method_6_code
def yX2_name : MethodName := ⟨RX2, "name", "()V"⟩
def dkwX2_name_2 : List UInt8 := [16, 97, 100, 4, 96, 167, 0, 4, 3, 128, 181, 0, 47, 132, 1, 1, 167, 255, 200, 177]
abbrev dktX2_name_2 : List UInt8 := dkwX2_name_2 ++ []
def dkwX2_name_1 : List UInt8 := [27, 96, 42, 180, 0, 15, 162, 0, 25, 42, 180, 0, 3, 180, 0, 22, 42, 180, 0, 30, 27, 96, 51]
abbrev dktX2_name_1 : List UInt8 := dkwX2_name_1 ++ dktX2_name_2
def dkwX2_name_0 : List UInt8 := [42, 3, 181, 0, 47, 3, 60, 27, 16, 6, 162, 0, 56, 42, 42, 180, 0, 47, 8, 120, 42, 180, 0, 30]
abbrev dktX2_name_0 : List UInt8 := dkwX2_name_0 ++ dktX2_name_1
theorem dksX2_name_0 : cX2_name.data.toList.drop 0 = dktX2_name_0 := by decide +kernel
theorem dksX2_name_1 : cX2_name.data.toList.drop 24 = dktX2_name_1 := dk_seg dksX2_name_0 24 rfl rfl
theorem dksX2_name_2 : cX2_name.data.toList.drop 47 = dktX2_name_2 := dk_seg dksX2_name_1 23 rfl rfl
theorem dX2_name_0 : decode cX2_name 0 = .ok (.aload_n 0, 1) := dk_42 (dk_at dksX2_name_0 0 rfl rfl)
theorem dX2_name_1 : decode cX2_name 1 = .ok (.iconst 0, 1) := dk_3 (dk_at dksX2_name_0 1 rfl rfl)
theorem dX2_name_2 : decode cX2_name 2 = .ok (.putfield 47, 3) := dk_181 0 47 (dk_at dksX2_name_0 2 rfl rfl)
theorem dX2_name_5 : decode cX2_name 5 = .ok (.iconst 0, 1) := dk_3 (dk_at dksX2_name_0 5 rfl rfl)
theorem dX2_name_6 : decode cX2_name 6 = .ok (.istore_n 1, 1) := dk_60 (dk_at dksX2_name_0 6 rfl rfl)
theorem dX2_name_7 : decode cX2_name 7 = .ok (.iload_n 1, 1) := dk_27 (dk_at dksX2_name_0 7 rfl rfl)
theorem dX2_name_8 : decode cX2_name 8 = .ok (.bipush 6, 2) := dk_16 6 (dk_at dksX2_name_0 8 rfl rfl)
theorem dX2_name_10 : decode cX2_name 10 = .ok (.if_icmp .ge 56, 3) := dk_162 0 56 (dk_at dksX2_name_0 10 rfl rfl)
theorem dX2_name_13 : decode cX2_name 13 = .ok (.aload_n 0, 1) := dk_42 (dk_at dksX2_name_0 13 rfl rfl)
theorem dX2_name_14 : decode cX2_name 14 = .ok (.aload_n 0, 1) := dk_42 (dk_at dksX2_name_0 14 rfl rfl)
theorem dX2_name_15 : decode cX2_name 15 = .ok (.getfield 47, 3) := dk_180 0 47 (dk_at dksX2_name_0 15 rfl rfl)
theorem dX2_name_18 : decode cX2_name 18 = .ok (.iconst 5, 1) := dk_8 (dk_at dksX2_name_0 18 rfl rfl)
theorem dX2_name_19 : decode cX2_name 19 = .ok (.ishl, 1) := dk_120 (dk_at dksX2_name_0 19 rfl rfl)
theorem dX2_name_20 : decode cX2_name 20 = .ok (.aload_n 0, 1) := dk_42 (dk_at dksX2_name_0 20 rfl rfl)
theorem dX2_name_21 : decode cX2_name 21 = .ok (.getfield 30, 3) := dk_180 0 30 (dk_at dksX2_name_0 21 rfl rfl)
theorem dX2_name_24 : decode cX2_name 24 = .ok (.iload_n 1, 1) := dk_27 (dk_at dksX2_name_1 0 rfl rfl)
theorem dX2_name_25 : decode cX2_name 25 = .ok (.iadd, 1) := dk_96 (dk_at dksX2_name_1 1 rfl rfl)
theorem dX2_name_26 : decode cX2_name 26 = .ok (.aload_n 0, 1) := dk_42 (dk_at dksX2_name_1 2 rfl rfl)
theorem dX2_name_27 : decode cX2_name 27 = .ok (.getfield 15, 3) := dk_180 0 15 (dk_at dksX2_name_1 3 rfl rfl)
theorem dX2_name_30 : decode cX2_name 30 = .ok (.if_icmp .ge 25, 3) := dk_162 0 25 (dk_at dksX2_name_1 6 rfl rfl)
theorem dX2_name_33 : decode cX2_name 33 = .ok (.aload_n 0, 1) := dk_42 (dk_at dksX2_name_1 9 rfl rfl)
theorem dX2_name_34 : decode cX2_name 34 = .ok (.getfield 3, 3) := dk_180 0 3 (dk_at dksX2_name_1 10 rfl rfl)
theorem dX2_name_37 : decode cX2_name 37 = .ok (.getfield 22, 3) := dk_180 0 22 (dk_at dksX2_name_1 13 rfl rfl)
theorem dX2_name_40 : decode cX2_name 40 = .ok (.aload_n 0, 1) := dk_42 (dk_at dksX2_name_1 16 rfl rfl)
theorem dX2_name_41 : decode cX2_name 41 = .ok (.getfield 30, 3) := dk_180 0 30 (dk_at dksX2_name_1 17 rfl rfl)
theorem dX2_name_44 : decode cX2_name 44 = .ok (.iload_n 1, 1) := dk_27 (dk_at dksX2_name_1 20 rfl rfl)
theorem dX2_name_45 : decode cX2_name 45 = .ok (.iadd, 1) := dk_96 (dk_at dksX2_name_1 21 rfl rfl)
theorem dX2_name_46 : decode cX2_name 46 = .ok (.baload, 1) := dk_51 (dk_at dksX2_name_1 22 rfl rfl)
theorem dX2_name_47 : decode cX2_name 47 = .ok (.bipush 97, 2) := dk_16 97 (dk_at dksX2_name_2 0 rfl rfl)
theorem dX2_name_49 : decode cX2_name 49 = .ok (.isub, 1) := dk_100 (dk_at dksX2_name_2 2 rfl rfl)
theorem dX2_name_50 : decode cX2_name 50 = .ok (.iconst 1, 1) := dk_4 (dk_at dksX2_name_2 3 rfl rfl)
theorem dX2_name_51 : decode cX2_name 51 = .ok (.iadd, 1) := dk_96 (dk_at dksX2_name_2 4 rfl rfl)
theorem dX2_name_52 : decode cX2_name 52 = .ok (.goto 4, 3) := dk_167 0 4 (dk_at dksX2_name_2 5 rfl rfl)
theorem dX2_name_55 : decode cX2_name 55 = .ok (.iconst 0, 1) := dk_3 (dk_at dksX2_name_2 8 rfl rfl)
theorem dX2_name_56 : decode cX2_name 56 = .ok (.ior, 1) := dk_128 (dk_at dksX2_name_2 9 rfl rfl)
theorem dX2_name_57 : decode cX2_name 57 = .ok (.putfield 47, 3) := dk_181 0 47 (dk_at dksX2_name_2 10 rfl rfl)
theorem dX2_name_60 : decode cX2_name 60 = .ok (.iinc 1 1, 3) := dk_132 1 1 (dk_at dksX2_name_2 13 rfl rfl)
theorem dX2_name_63 : decode cX2_name 63 = .ok (.goto (-56), 3) := dk_167 255 200 (dk_at dksX2_name_2 16 rfl rfl)
theorem dX2_name_66 : decode cX2_name 66 = .ok (.return_, 1) := dk_177 (dk_at dksX2_name_2 19 rfl rfl)
abbrev cX2_sign : ByteArray := prog_14_method_4_code
def yX2_sign : MethodName := ⟨RX2, "sign", "()V"⟩
def dkwX2_sign_5 : List UInt8 := [17, 1, 0, 161, 0, 13, 42, 89, 180, 0, 15, 4, 96, 181, 0, 15, 177]
abbrev dktX2_sign_5 : List UInt8 := dkwX2_sign_5 ++ []
def dkwX2_sign_4 : List UInt8 := [160, 0, 19, 42, 182, 0, 26, 16, 61, 160, 0, 10, 42, 17, 1, 1, 181, 0, 47, 42, 180, 0, 47]
abbrev dktX2_sign_4 : List UInt8 := dkwX2_sign_4 ++ dktX2_sign_5
def dkwX2_sign_3 : List UInt8 := [42, 182, 0, 26, 16, 62, 160, 0, 13, 42, 17, 1, 2, 181, 0, 47, 167, 0, 25, 27, 16, 62]
abbrev dktX2_sign_3 : List UInt8 := dkwX2_sign_3 ++ dktX2_sign_4
def dkwX2_sign_2 : List UInt8 := [182, 0, 26, 16, 61, 160, 0, 13, 42, 17, 1, 0, 181, 0, 47, 167, 0, 50, 27, 16, 60, 160, 0, 22]
abbrev dktX2_sign_2 : List UInt8 := dkwX2_sign_2 ++ dktX2_sign_3
def dkwX2_sign_1 : List UInt8 := [155, 0, 7, 6, 167, 0, 4, 8, 181, 0, 33, 42, 27, 181, 0, 47, 27, 16, 60, 160, 0, 22, 42]
abbrev dktX2_sign_1 : List UInt8 := dkwX2_sign_1 ++ dktX2_sign_2
def dkwX2_sign_0 : List UInt8 := [42, 182, 0, 26, 60, 42, 89, 180, 0, 15, 4, 96, 181, 0, 15, 42, 18, 61, 27, 182, 0, 63]
abbrev dktX2_sign_0 : List UInt8 := dkwX2_sign_0 ++ dktX2_sign_1
theorem dksX2_sign_0 : cX2_sign.data.toList.drop 0 = dktX2_sign_0 := by decide +kernel
theorem dksX2_sign_1 : cX2_sign.data.toList.drop 22 = dktX2_sign_1 := dk_seg dksX2_sign_0 22 rfl rfl
theorem dksX2_sign_2 : cX2_sign.data.toList.drop 45 = dktX2_sign_2 := dk_seg dksX2_sign_1 23 rfl rfl
theorem dksX2_sign_3 : cX2_sign.data.toList.drop 69 = dktX2_sign_3 := dk_seg dksX2_sign_2 24 rfl rfl
theorem dksX2_sign_4 : cX2_sign.data.toList.drop 91 = dktX2_sign_4 := dk_seg dksX2_sign_3 22 rfl rfl
theorem dksX2_sign_5 : cX2_sign.data.toList.drop 114 = dktX2_sign_5 := dk_seg dksX2_sign_4 23 rfl rfl
theorem dX2_sign_0 : decode cX2_sign 0 = .ok (.aload_n 0, 1) := dk_42 (dk_at dksX2_sign_0 0 rfl rfl)
theorem dX2_sign_1 : decode cX2_sign 1 = .ok (.invokevirtual 26, 3) := dk_182 0 26 (dk_at dksX2_sign_0 1 rfl rfl)
theorem dX2_sign_4 : decode cX2_sign 4 = .ok (.istore_n 1, 1) := dk_60 (dk_at dksX2_sign_0 4 rfl rfl)
theorem dX2_sign_5 : decode cX2_sign 5 = .ok (.aload_n 0, 1) := dk_42 (dk_at dksX2_sign_0 5 rfl rfl)
theorem dX2_sign_6 : decode cX2_sign 6 = .ok (.dup, 1) := dk_89 (dk_at dksX2_sign_0 6 rfl rfl)
theorem dX2_sign_7 : decode cX2_sign 7 = .ok (.getfield 15, 3) := dk_180 0 15 (dk_at dksX2_sign_0 7 rfl rfl)
theorem dX2_sign_10 : decode cX2_sign 10 = .ok (.iconst 1, 1) := dk_4 (dk_at dksX2_sign_0 10 rfl rfl)
theorem dX2_sign_11 : decode cX2_sign 11 = .ok (.iadd, 1) := dk_96 (dk_at dksX2_sign_0 11 rfl rfl)
theorem dX2_sign_12 : decode cX2_sign 12 = .ok (.putfield 15, 3) := dk_181 0 15 (dk_at dksX2_sign_0 12 rfl rfl)
theorem dX2_sign_15 : decode cX2_sign 15 = .ok (.aload_n 0, 1) := dk_42 (dk_at dksX2_sign_0 15 rfl rfl)
theorem dX2_sign_16 : decode cX2_sign 16 = .ok (.ldc 61, 2) := dk_18 61 (dk_at dksX2_sign_0 16 rfl rfl)
theorem dX2_sign_18 : decode cX2_sign 18 = .ok (.iload_n 1, 1) := dk_27 (dk_at dksX2_sign_0 18 rfl rfl)
theorem dX2_sign_19 : decode cX2_sign 19 = .ok (.invokevirtual 63, 3) := dk_182 0 63 (dk_at dksX2_sign_0 19 rfl rfl)
theorem dX2_sign_22 : decode cX2_sign 22 = .ok (.ifCond .lt 7, 3) := dk_155 0 7 (dk_at dksX2_sign_1 0 rfl rfl)
theorem dX2_sign_25 : decode cX2_sign 25 = .ok (.iconst 3, 1) := dk_6 (dk_at dksX2_sign_1 3 rfl rfl)
theorem dX2_sign_26 : decode cX2_sign 26 = .ok (.goto 4, 3) := dk_167 0 4 (dk_at dksX2_sign_1 4 rfl rfl)
theorem dX2_sign_29 : decode cX2_sign 29 = .ok (.iconst 5, 1) := dk_8 (dk_at dksX2_sign_1 7 rfl rfl)
theorem dX2_sign_30 : decode cX2_sign 30 = .ok (.putfield 33, 3) := dk_181 0 33 (dk_at dksX2_sign_1 8 rfl rfl)
theorem dX2_sign_33 : decode cX2_sign 33 = .ok (.aload_n 0, 1) := dk_42 (dk_at dksX2_sign_1 11 rfl rfl)
theorem dX2_sign_34 : decode cX2_sign 34 = .ok (.iload_n 1, 1) := dk_27 (dk_at dksX2_sign_1 12 rfl rfl)
theorem dX2_sign_35 : decode cX2_sign 35 = .ok (.putfield 47, 3) := dk_181 0 47 (dk_at dksX2_sign_1 13 rfl rfl)
theorem dX2_sign_38 : decode cX2_sign 38 = .ok (.iload_n 1, 1) := dk_27 (dk_at dksX2_sign_1 16 rfl rfl)
theorem dX2_sign_39 : decode cX2_sign 39 = .ok (.bipush 60, 2) := dk_16 60 (dk_at dksX2_sign_1 17 rfl rfl)
theorem dX2_sign_41 : decode cX2_sign 41 = .ok (.if_icmp .ne 22, 3) := dk_160 0 22 (dk_at dksX2_sign_1 19 rfl rfl)
theorem dX2_sign_44 : decode cX2_sign 44 = .ok (.aload_n 0, 1) := dk_42 (dk_at dksX2_sign_1 22 rfl rfl)
theorem dX2_sign_45 : decode cX2_sign 45 = .ok (.invokevirtual 26, 3) := dk_182 0 26 (dk_at dksX2_sign_2 0 rfl rfl)
theorem dX2_sign_48 : decode cX2_sign 48 = .ok (.bipush 61, 2) := dk_16 61 (dk_at dksX2_sign_2 3 rfl rfl)
theorem dX2_sign_50 : decode cX2_sign 50 = .ok (.if_icmp .ne 13, 3) := dk_160 0 13 (dk_at dksX2_sign_2 5 rfl rfl)
theorem dX2_sign_53 : decode cX2_sign 53 = .ok (.aload_n 0, 1) := dk_42 (dk_at dksX2_sign_2 8 rfl rfl)
theorem dX2_sign_54 : decode cX2_sign 54 = .ok (.sipush 256, 3) := dk_17 1 0 (dk_at dksX2_sign_2 9 rfl rfl)
theorem dX2_sign_57 : decode cX2_sign 57 = .ok (.putfield 47, 3) := dk_181 0 47 (dk_at dksX2_sign_2 12 rfl rfl)
theorem dX2_sign_60 : decode cX2_sign 60 = .ok (.goto 50, 3) := dk_167 0 50 (dk_at dksX2_sign_2 15 rfl rfl)
theorem dX2_sign_63 : decode cX2_sign 63 = .ok (.iload_n 1, 1) := dk_27 (dk_at dksX2_sign_2 18 rfl rfl)
theorem dX2_sign_64 : decode cX2_sign 64 = .ok (.bipush 60, 2) := dk_16 60 (dk_at dksX2_sign_2 19 rfl rfl)
theorem dX2_sign_66 : decode cX2_sign 66 = .ok (.if_icmp .ne 22, 3) := dk_160 0 22 (dk_at dksX2_sign_2 21 rfl rfl)
theorem dX2_sign_69 : decode cX2_sign 69 = .ok (.aload_n 0, 1) := dk_42 (dk_at dksX2_sign_3 0 rfl rfl)
theorem dX2_sign_70 : decode cX2_sign 70 = .ok (.invokevirtual 26, 3) := dk_182 0 26 (dk_at dksX2_sign_3 1 rfl rfl)
theorem dX2_sign_73 : decode cX2_sign 73 = .ok (.bipush 62, 2) := dk_16 62 (dk_at dksX2_sign_3 4 rfl rfl)
theorem dX2_sign_75 : decode cX2_sign 75 = .ok (.if_icmp .ne 13, 3) := dk_160 0 13 (dk_at dksX2_sign_3 6 rfl rfl)
theorem dX2_sign_78 : decode cX2_sign 78 = .ok (.aload_n 0, 1) := dk_42 (dk_at dksX2_sign_3 9 rfl rfl)
theorem dX2_sign_79 : decode cX2_sign 79 = .ok (.sipush 258, 3) := dk_17 1 2 (dk_at dksX2_sign_3 10 rfl rfl)
theorem dX2_sign_82 : decode cX2_sign 82 = .ok (.putfield 47, 3) := dk_181 0 47 (dk_at dksX2_sign_3 13 rfl rfl)
theorem dX2_sign_85 : decode cX2_sign 85 = .ok (.goto 25, 3) := dk_167 0 25 (dk_at dksX2_sign_3 16 rfl rfl)
theorem dX2_sign_88 : decode cX2_sign 88 = .ok (.iload_n 1, 1) := dk_27 (dk_at dksX2_sign_3 19 rfl rfl)
theorem dX2_sign_89 : decode cX2_sign 89 = .ok (.bipush 62, 2) := dk_16 62 (dk_at dksX2_sign_3 20 rfl rfl)
theorem dX2_sign_91 : decode cX2_sign 91 = .ok (.if_icmp .ne 19, 3) := dk_160 0 19 (dk_at dksX2_sign_4 0 rfl rfl)
theorem dX2_sign_94 : decode cX2_sign 94 = .ok (.aload_n 0, 1) := dk_42 (dk_at dksX2_sign_4 3 rfl rfl)
theorem dX2_sign_95 : decode cX2_sign 95 = .ok (.invokevirtual 26, 3) := dk_182 0 26 (dk_at dksX2_sign_4 4 rfl rfl)
theorem dX2_sign_98 : decode cX2_sign 98 = .ok (.bipush 61, 2) := dk_16 61 (dk_at dksX2_sign_4 7 rfl rfl)
theorem dX2_sign_100 : decode cX2_sign 100 = .ok (.if_icmp .ne 10, 3) := dk_160 0 10 (dk_at dksX2_sign_4 9 rfl rfl)
theorem dX2_sign_103 : decode cX2_sign 103 = .ok (.aload_n 0, 1) := dk_42 (dk_at dksX2_sign_4 12 rfl rfl)
theorem dX2_sign_104 : decode cX2_sign 104 = .ok (.sipush 257, 3) := dk_17 1 1 (dk_at dksX2_sign_4 13 rfl rfl)
theorem dX2_sign_107 : decode cX2_sign 107 = .ok (.putfield 47, 3) := dk_181 0 47 (dk_at dksX2_sign_4 16 rfl rfl)
theorem dX2_sign_110 : decode cX2_sign 110 = .ok (.aload_n 0, 1) := dk_42 (dk_at dksX2_sign_4 19 rfl rfl)
theorem dX2_sign_111 : decode cX2_sign 111 = .ok (.getfield 47, 3) := dk_180 0 47 (dk_at dksX2_sign_4 20 rfl rfl)
theorem dX2_sign_114 : decode cX2_sign 114 = .ok (.sipush 256, 3) := dk_17 1 0 (dk_at dksX2_sign_5 0 rfl rfl)
theorem dX2_sign_117 : decode cX2_sign 117 = .ok (.if_icmp .lt 13, 3) := dk_161 0 13 (dk_at dksX2_sign_5 3 rfl rfl)
theorem dX2_sign_120 : decode cX2_sign 120 = .ok (.aload_n 0, 1) := dk_42 (dk_at dksX2_sign_5 6 rfl rfl)
theorem dX2_sign_121 : decode cX2_sign 121 = .ok (.dup, 1) := dk_89 (dk_at dksX2_sign_5 7 rfl rfl)
theorem dX2_sign_122 : decode cX2_sign 122 = .ok (.getfield 15, 3) := dk_180 0 15 (dk_at dksX2_sign_5 8 rfl rfl)
theorem dX2_sign_125 : decode cX2_sign 125 = .ok (.iconst 1, 1) := dk_4 (dk_at dksX2_sign_5 11 rfl rfl)
theorem dX2_sign_126 : decode cX2_sign 126 = .ok (.iadd, 1) := dk_96 (dk_at dksX2_sign_5 12 rfl rfl)
theorem dX2_sign_127 : decode cX2_sign 127 = .ok (.putfield 15, 3) := dk_181 0 15 (dk_at dksX2_sign_5 13 rfl rfl)
theorem dX2_sign_130 : decode cX2_sign 130 = .ok (.return_, 1) := dk_177 (dk_at dksX2_sign_5 16 rfl rfl)
abbrev cX2_line : ByteArray := prog_14_method_15_code
def yX2_line : MethodName := ⟨RX2, "line", "()V"⟩
def dkwX2_line_19 : List UInt8 := [182, 0, 89, 42, 180, 0, 115, 89, 180, 0, 202, 4, 96, 181, 0, 202, 177]
abbrev dktX2_line_19 : List UInt8 := dkwX2_line_19 ++ []
def dkwX2_line_18 : List UInt8 := [100, 182, 0, 96, 181, 0, 199, 42, 16, 59, 182, 0, 92, 154, 0, 9, 42, 4, 182, 0, 85, 191, 42]
abbrev dktX2_line_18 : List UInt8 := dkwX2_line_18 ++ dktX2_line_19
def dkwX2_line_17 : List UInt8 := [184, 0, 162, 182, 0, 96, 181, 0, 196, 42, 180, 0, 115, 42, 3, 42, 180, 0, 115, 180, 0, 193, 136, 4]
abbrev dktX2_line_17 : List UInt8 := dkwX2_line_17 ++ dktX2_line_18
def dkwX2_line_16 : List UInt8 := [181, 0, 193, 42, 180, 0, 115, 42, 4, 16, 99, 42, 180, 0, 115, 180, 0, 193, 136, 16, 8, 108]
abbrev dktX2_line_16 : List UInt8 := dkwX2_line_16 ++ dktX2_line_17
def dkwX2_line_15 : List UInt8 := [100, 182, 0, 96, 181, 0, 190, 167, 0, 69, 42, 180, 0, 115, 42, 4, 17, 39, 15, 182, 0, 96, 133]
abbrev dktX2_line_15 : List UInt8 := dkwX2_line_15 ++ dktX2_line_16
def dkwX2_line_14 : List UInt8 := [42, 5, 16, 30, 182, 0, 96, 181, 0, 187, 42, 180, 0, 115, 42, 3, 42, 180, 0, 115, 180, 0, 187, 4]
abbrev dktX2_line_14 : List UInt8 := dkwX2_line_14 ++ dktX2_line_15
def dkwX2_line_13 : List UInt8 := [180, 0, 143, 182, 0, 172, 42, 182, 0, 176, 183, 0, 180, 182, 0, 183, 87, 167, 0, 107, 42, 180, 0, 115]
abbrev dktX2_line_13 : List UInt8 := dkwX2_line_13 ++ dktX2_line_14
def dkwX2_line_12 : List UInt8 := [181, 0, 167, 167, 0, 143, 42, 180, 0, 115, 180, 0, 143, 187, 0, 170, 89, 42, 42, 180, 0, 115]
abbrev dktX2_line_12 : List UInt8 := dkwX2_line_12 ++ dktX2_line_13
def dkwX2_line_11 : List UInt8 := [180, 0, 115, 42, 4, 16, 99, 42, 180, 0, 115, 180, 0, 158, 136, 16, 8, 108, 184, 0, 162, 182, 0, 96]
abbrev dktX2_line_11 : List UInt8 := dkwX2_line_11 ++ dktX2_line_12
def dkwX2_line_10 : List UInt8 := [182, 0, 155, 167, 0, 190, 42, 180, 0, 115, 42, 4, 17, 39, 15, 182, 0, 96, 133, 181, 0, 158, 42]
abbrev dktX2_line_10 : List UInt8 := dkwX2_line_10 ++ dktX2_line_11
def dkwX2_line_9 : List UInt8 := [42, 182, 0, 146, 167, 0, 211, 42, 182, 0, 149, 167, 0, 204, 42, 182, 0, 152, 167, 0, 197, 42]
abbrev dktX2_line_9 : List UInt8 := dkwX2_line_9 ++ dktX2_line_10
def dkwX2_line_8 : List UInt8 := [170, 0, 0, 0, 190, 0, 0, 0, 0, 0, 0, 0, 6, 0, 0, 0, 41, 0, 0, 0, 48, 0, 0, 0, 55, 0, 0, 0, 62, 0, 0, 0, 69, 0, 0, 0, 116, 0, 0, 0, 152]
abbrev dktX2_line_8 : List UInt8 := dkwX2_line_8 ++ dktX2_line_9
def dkwX2_line_7 : List UInt8 := [180, 0, 109, 4, 27, 120, 128, 181, 0, 109, 42, 182, 0, 89, 27]
abbrev dktX2_line_7 : List UInt8 := dkwX2_line_7 ++ dktX2_line_8
def dkwX2_line_6 : List UInt8 := [160, 0, 21, 42, 180, 0, 109, 27, 122, 4, 126, 4, 160, 0, 9, 42, 6, 182, 0, 85, 191, 42, 89]
abbrev dktX2_line_6 : List UInt8 := dkwX2_line_6 ++ dktX2_line_7
def dkwX2_line_5 : List UInt8 := [160, 0, 9, 42, 5, 182, 0, 85, 191, 27, 7, 159, 0, 15, 27, 16, 6, 159, 0, 9, 27, 16, 7]
abbrev dktX2_line_5 : List UInt8 := dkwX2_line_5 ++ dktX2_line_6
def dkwX2_line_4 : List UInt8 := [182, 0, 130, 16, 6, 159, 0, 22, 27, 8, 160, 0, 23, 42, 180, 0, 115, 180, 0, 143, 182, 0, 130, 7]
abbrev dktX2_line_4 : List UInt8 := dkwX2_line_4 ++ dktX2_line_5
def dkwX2_line_3 : List UInt8 := [180, 0, 137, 182, 0, 130, 7, 159, 0, 42, 27, 6, 160, 0, 18, 42, 180, 0, 115, 180, 0, 140]
abbrev dktX2_line_3 : List UInt8 := dkwX2_line_3 ++ dktX2_line_4
def dkwX2_line_2 : List UInt8 := [180, 0, 115, 180, 0, 134, 182, 0, 130, 16, 6, 159, 0, 61, 27, 5, 160, 0, 17, 42, 180, 0, 115]
abbrev dktX2_line_2 : List UInt8 := dkwX2_line_2 ++ dktX2_line_3
def dkwX2_line_1 : List UInt8 := [154, 0, 17, 42, 180, 0, 115, 180, 0, 126, 182, 0, 130, 7, 159, 0, 81, 27, 4, 160, 0, 18, 42]
abbrev dktX2_line_1 : List UInt8 := dkwX2_line_1 ++ dktX2_line_2
def dkwX2_line_0 : List UInt8 := [42, 3, 16, 7, 182, 0, 122, 154, 0, 9, 42, 4, 182, 0, 85, 191, 42, 180, 0, 47, 60, 27]
abbrev dktX2_line_0 : List UInt8 := dkwX2_line_0 ++ dktX2_line_1
theorem dksX2_line_0 : cX2_line.data.toList.drop 0 = dktX2_line_0 := by decide +kernel
theorem dksX2_line_1 : cX2_line.data.toList.drop 22 = dktX2_line_1 := dk_seg dksX2_line_0 22 rfl rfl
theorem dksX2_line_2 : cX2_line.data.toList.drop 45 = dktX2_line_2 := dk_seg dksX2_line_1 23 rfl rfl
theorem dksX2_line_3 : cX2_line.data.toList.drop 68 = dktX2_line_3 := dk_seg dksX2_line_2 23 rfl rfl
theorem dksX2_line_4 : cX2_line.data.toList.drop 90 = dktX2_line_4 := dk_seg dksX2_line_3 22 rfl rfl
theorem dksX2_line_5 : cX2_line.data.toList.drop 114 = dktX2_line_5 := dk_seg dksX2_line_4 24 rfl rfl
theorem dksX2_line_6 : cX2_line.data.toList.drop 137 = dktX2_line_6 := dk_seg dksX2_line_5 23 rfl rfl
theorem dksX2_line_7 : cX2_line.data.toList.drop 160 = dktX2_line_7 := dk_seg dksX2_line_6 23 rfl rfl
theorem dksX2_line_8 : cX2_line.data.toList.drop 175 = dktX2_line_8 := dk_seg dksX2_line_7 15 rfl rfl
theorem dksX2_line_9 : cX2_line.data.toList.drop 216 = dktX2_line_9 := dk_seg dksX2_line_8 41 rfl rfl
theorem dksX2_line_10 : cX2_line.data.toList.drop 238 = dktX2_line_10 := dk_seg dksX2_line_9 22 rfl rfl
theorem dksX2_line_11 : cX2_line.data.toList.drop 261 = dktX2_line_11 := dk_seg dksX2_line_10 23 rfl rfl
theorem dksX2_line_12 : cX2_line.data.toList.drop 285 = dktX2_line_12 := dk_seg dksX2_line_11 24 rfl rfl
theorem dksX2_line_13 : cX2_line.data.toList.drop 307 = dktX2_line_13 := dk_seg dksX2_line_12 22 rfl rfl
theorem dksX2_line_14 : cX2_line.data.toList.drop 331 = dktX2_line_14 := dk_seg dksX2_line_13 24 rfl rfl
theorem dksX2_line_15 : cX2_line.data.toList.drop 355 = dktX2_line_15 := dk_seg dksX2_line_14 24 rfl rfl
theorem dksX2_line_16 : cX2_line.data.toList.drop 378 = dktX2_line_16 := dk_seg dksX2_line_15 23 rfl rfl
theorem dksX2_line_17 : cX2_line.data.toList.drop 400 = dktX2_line_17 := dk_seg dksX2_line_16 22 rfl rfl
theorem dksX2_line_18 : cX2_line.data.toList.drop 424 = dktX2_line_18 := dk_seg dksX2_line_17 24 rfl rfl
theorem dksX2_line_19 : cX2_line.data.toList.drop 447 = dktX2_line_19 := dk_seg dksX2_line_18 23 rfl rfl
theorem dX2_line_0 : decode cX2_line 0 = .ok (.aload_n 0, 1) := dk_42 (dk_at dksX2_line_0 0 rfl rfl)
theorem dX2_line_1 : decode cX2_line 1 = .ok (.iconst 0, 1) := dk_3 (dk_at dksX2_line_0 1 rfl rfl)
theorem dX2_line_2 : decode cX2_line 2 = .ok (.bipush 7, 2) := dk_16 7 (dk_at dksX2_line_0 2 rfl rfl)
theorem dX2_line_4 : decode cX2_line 4 = .ok (.invokevirtual 122, 3) := dk_182 0 122 (dk_at dksX2_line_0 4 rfl rfl)
theorem dX2_line_7 : decode cX2_line 7 = .ok (.ifCond .ne 9, 3) := dk_154 0 9 (dk_at dksX2_line_0 7 rfl rfl)
theorem dX2_line_10 : decode cX2_line 10 = .ok (.aload_n 0, 1) := dk_42 (dk_at dksX2_line_0 10 rfl rfl)
theorem dX2_line_11 : decode cX2_line 11 = .ok (.iconst 1, 1) := dk_4 (dk_at dksX2_line_0 11 rfl rfl)
theorem dX2_line_12 : decode cX2_line 12 = .ok (.invokevirtual 85, 3) := dk_182 0 85 (dk_at dksX2_line_0 12 rfl rfl)
theorem dX2_line_15 : decode cX2_line 15 = .ok (.athrow, 1) := dk_191 (dk_at dksX2_line_0 15 rfl rfl)
theorem dX2_line_16 : decode cX2_line 16 = .ok (.aload_n 0, 1) := dk_42 (dk_at dksX2_line_0 16 rfl rfl)
theorem dX2_line_17 : decode cX2_line 17 = .ok (.getfield 47, 3) := dk_180 0 47 (dk_at dksX2_line_0 17 rfl rfl)
theorem dX2_line_20 : decode cX2_line 20 = .ok (.istore_n 1, 1) := dk_60 (dk_at dksX2_line_0 20 rfl rfl)
theorem dX2_line_21 : decode cX2_line 21 = .ok (.iload_n 1, 1) := dk_27 (dk_at dksX2_line_0 21 rfl rfl)
theorem dX2_line_22 : decode cX2_line 22 = .ok (.ifCond .ne 17, 3) := dk_154 0 17 (dk_at dksX2_line_1 0 rfl rfl)
theorem dX2_line_25 : decode cX2_line 25 = .ok (.aload_n 0, 1) := dk_42 (dk_at dksX2_line_1 3 rfl rfl)
theorem dX2_line_26 : decode cX2_line 26 = .ok (.getfield 115, 3) := dk_180 0 115 (dk_at dksX2_line_1 4 rfl rfl)
theorem dX2_line_29 : decode cX2_line 29 = .ok (.getfield 126, 3) := dk_180 0 126 (dk_at dksX2_line_1 7 rfl rfl)
theorem dX2_line_32 : decode cX2_line 32 = .ok (.invokevirtual 130, 3) := dk_182 0 130 (dk_at dksX2_line_1 10 rfl rfl)
theorem dX2_line_35 : decode cX2_line 35 = .ok (.iconst 4, 1) := dk_7 (dk_at dksX2_line_1 13 rfl rfl)
theorem dX2_line_36 : decode cX2_line 36 = .ok (.if_icmp .eq 81, 3) := dk_159 0 81 (dk_at dksX2_line_1 14 rfl rfl)
theorem dX2_line_39 : decode cX2_line 39 = .ok (.iload_n 1, 1) := dk_27 (dk_at dksX2_line_1 17 rfl rfl)
theorem dX2_line_40 : decode cX2_line 40 = .ok (.iconst 1, 1) := dk_4 (dk_at dksX2_line_1 18 rfl rfl)
theorem dX2_line_41 : decode cX2_line 41 = .ok (.if_icmp .ne 18, 3) := dk_160 0 18 (dk_at dksX2_line_1 19 rfl rfl)
theorem dX2_line_44 : decode cX2_line 44 = .ok (.aload_n 0, 1) := dk_42 (dk_at dksX2_line_1 22 rfl rfl)
theorem dX2_line_45 : decode cX2_line 45 = .ok (.getfield 115, 3) := dk_180 0 115 (dk_at dksX2_line_2 0 rfl rfl)
theorem dX2_line_48 : decode cX2_line 48 = .ok (.getfield 134, 3) := dk_180 0 134 (dk_at dksX2_line_2 3 rfl rfl)
theorem dX2_line_51 : decode cX2_line 51 = .ok (.invokevirtual 130, 3) := dk_182 0 130 (dk_at dksX2_line_2 6 rfl rfl)
theorem dX2_line_54 : decode cX2_line 54 = .ok (.bipush 6, 2) := dk_16 6 (dk_at dksX2_line_2 9 rfl rfl)
theorem dX2_line_56 : decode cX2_line 56 = .ok (.if_icmp .eq 61, 3) := dk_159 0 61 (dk_at dksX2_line_2 11 rfl rfl)
theorem dX2_line_59 : decode cX2_line 59 = .ok (.iload_n 1, 1) := dk_27 (dk_at dksX2_line_2 14 rfl rfl)
theorem dX2_line_60 : decode cX2_line 60 = .ok (.iconst 2, 1) := dk_5 (dk_at dksX2_line_2 15 rfl rfl)
theorem dX2_line_61 : decode cX2_line 61 = .ok (.if_icmp .ne 17, 3) := dk_160 0 17 (dk_at dksX2_line_2 16 rfl rfl)
theorem dX2_line_64 : decode cX2_line 64 = .ok (.aload_n 0, 1) := dk_42 (dk_at dksX2_line_2 19 rfl rfl)
theorem dX2_line_65 : decode cX2_line 65 = .ok (.getfield 115, 3) := dk_180 0 115 (dk_at dksX2_line_2 20 rfl rfl)
theorem dX2_line_68 : decode cX2_line 68 = .ok (.getfield 137, 3) := dk_180 0 137 (dk_at dksX2_line_3 0 rfl rfl)
theorem dX2_line_71 : decode cX2_line 71 = .ok (.invokevirtual 130, 3) := dk_182 0 130 (dk_at dksX2_line_3 3 rfl rfl)
theorem dX2_line_74 : decode cX2_line 74 = .ok (.iconst 4, 1) := dk_7 (dk_at dksX2_line_3 6 rfl rfl)
theorem dX2_line_75 : decode cX2_line 75 = .ok (.if_icmp .eq 42, 3) := dk_159 0 42 (dk_at dksX2_line_3 7 rfl rfl)
theorem dX2_line_78 : decode cX2_line 78 = .ok (.iload_n 1, 1) := dk_27 (dk_at dksX2_line_3 10 rfl rfl)
theorem dX2_line_79 : decode cX2_line 79 = .ok (.iconst 3, 1) := dk_6 (dk_at dksX2_line_3 11 rfl rfl)
theorem dX2_line_80 : decode cX2_line 80 = .ok (.if_icmp .ne 18, 3) := dk_160 0 18 (dk_at dksX2_line_3 12 rfl rfl)
theorem dX2_line_83 : decode cX2_line 83 = .ok (.aload_n 0, 1) := dk_42 (dk_at dksX2_line_3 15 rfl rfl)
theorem dX2_line_84 : decode cX2_line 84 = .ok (.getfield 115, 3) := dk_180 0 115 (dk_at dksX2_line_3 16 rfl rfl)
theorem dX2_line_87 : decode cX2_line 87 = .ok (.getfield 140, 3) := dk_180 0 140 (dk_at dksX2_line_3 19 rfl rfl)
theorem dX2_line_90 : decode cX2_line 90 = .ok (.invokevirtual 130, 3) := dk_182 0 130 (dk_at dksX2_line_4 0 rfl rfl)
theorem dX2_line_93 : decode cX2_line 93 = .ok (.bipush 6, 2) := dk_16 6 (dk_at dksX2_line_4 3 rfl rfl)
theorem dX2_line_95 : decode cX2_line 95 = .ok (.if_icmp .eq 22, 3) := dk_159 0 22 (dk_at dksX2_line_4 5 rfl rfl)
theorem dX2_line_98 : decode cX2_line 98 = .ok (.iload_n 1, 1) := dk_27 (dk_at dksX2_line_4 8 rfl rfl)
theorem dX2_line_99 : decode cX2_line 99 = .ok (.iconst 5, 1) := dk_8 (dk_at dksX2_line_4 9 rfl rfl)
theorem dX2_line_100 : decode cX2_line 100 = .ok (.if_icmp .ne 23, 3) := dk_160 0 23 (dk_at dksX2_line_4 10 rfl rfl)
theorem dX2_line_103 : decode cX2_line 103 = .ok (.aload_n 0, 1) := dk_42 (dk_at dksX2_line_4 13 rfl rfl)
theorem dX2_line_104 : decode cX2_line 104 = .ok (.getfield 115, 3) := dk_180 0 115 (dk_at dksX2_line_4 14 rfl rfl)
theorem dX2_line_107 : decode cX2_line 107 = .ok (.getfield 143, 3) := dk_180 0 143 (dk_at dksX2_line_4 17 rfl rfl)
theorem dX2_line_110 : decode cX2_line 110 = .ok (.invokevirtual 130, 3) := dk_182 0 130 (dk_at dksX2_line_4 20 rfl rfl)
theorem dX2_line_113 : decode cX2_line 113 = .ok (.iconst 4, 1) := dk_7 (dk_at dksX2_line_4 23 rfl rfl)
theorem dX2_line_114 : decode cX2_line 114 = .ok (.if_icmp .ne 9, 3) := dk_160 0 9 (dk_at dksX2_line_5 0 rfl rfl)
theorem dX2_line_117 : decode cX2_line 117 = .ok (.aload_n 0, 1) := dk_42 (dk_at dksX2_line_5 3 rfl rfl)
theorem dX2_line_118 : decode cX2_line 118 = .ok (.iconst 2, 1) := dk_5 (dk_at dksX2_line_5 4 rfl rfl)
theorem dX2_line_119 : decode cX2_line 119 = .ok (.invokevirtual 85, 3) := dk_182 0 85 (dk_at dksX2_line_5 5 rfl rfl)
theorem dX2_line_122 : decode cX2_line 122 = .ok (.athrow, 1) := dk_191 (dk_at dksX2_line_5 8 rfl rfl)
theorem dX2_line_123 : decode cX2_line 123 = .ok (.iload_n 1, 1) := dk_27 (dk_at dksX2_line_5 9 rfl rfl)
theorem dX2_line_124 : decode cX2_line 124 = .ok (.iconst 4, 1) := dk_7 (dk_at dksX2_line_5 10 rfl rfl)
theorem dX2_line_125 : decode cX2_line 125 = .ok (.if_icmp .eq 15, 3) := dk_159 0 15 (dk_at dksX2_line_5 11 rfl rfl)
theorem dX2_line_128 : decode cX2_line 128 = .ok (.iload_n 1, 1) := dk_27 (dk_at dksX2_line_5 14 rfl rfl)
theorem dX2_line_129 : decode cX2_line 129 = .ok (.bipush 6, 2) := dk_16 6 (dk_at dksX2_line_5 15 rfl rfl)
theorem dX2_line_131 : decode cX2_line 131 = .ok (.if_icmp .eq 9, 3) := dk_159 0 9 (dk_at dksX2_line_5 17 rfl rfl)
theorem dX2_line_134 : decode cX2_line 134 = .ok (.iload_n 1, 1) := dk_27 (dk_at dksX2_line_5 20 rfl rfl)
theorem dX2_line_135 : decode cX2_line 135 = .ok (.bipush 7, 2) := dk_16 7 (dk_at dksX2_line_5 21 rfl rfl)
theorem dX2_line_137 : decode cX2_line 137 = .ok (.if_icmp .ne 21, 3) := dk_160 0 21 (dk_at dksX2_line_6 0 rfl rfl)
theorem dX2_line_140 : decode cX2_line 140 = .ok (.aload_n 0, 1) := dk_42 (dk_at dksX2_line_6 3 rfl rfl)
theorem dX2_line_141 : decode cX2_line 141 = .ok (.getfield 109, 3) := dk_180 0 109 (dk_at dksX2_line_6 4 rfl rfl)
theorem dX2_line_144 : decode cX2_line 144 = .ok (.iload_n 1, 1) := dk_27 (dk_at dksX2_line_6 7 rfl rfl)
theorem dX2_line_145 : decode cX2_line 145 = .ok (.ishr, 1) := dk_122 (dk_at dksX2_line_6 8 rfl rfl)
theorem dX2_line_146 : decode cX2_line 146 = .ok (.iconst 1, 1) := dk_4 (dk_at dksX2_line_6 9 rfl rfl)
theorem dX2_line_147 : decode cX2_line 147 = .ok (.iand, 1) := dk_126 (dk_at dksX2_line_6 10 rfl rfl)
theorem dX2_line_148 : decode cX2_line 148 = .ok (.iconst 1, 1) := dk_4 (dk_at dksX2_line_6 11 rfl rfl)
theorem dX2_line_149 : decode cX2_line 149 = .ok (.if_icmp .ne 9, 3) := dk_160 0 9 (dk_at dksX2_line_6 12 rfl rfl)
theorem dX2_line_152 : decode cX2_line 152 = .ok (.aload_n 0, 1) := dk_42 (dk_at dksX2_line_6 15 rfl rfl)
theorem dX2_line_153 : decode cX2_line 153 = .ok (.iconst 3, 1) := dk_6 (dk_at dksX2_line_6 16 rfl rfl)
theorem dX2_line_154 : decode cX2_line 154 = .ok (.invokevirtual 85, 3) := dk_182 0 85 (dk_at dksX2_line_6 17 rfl rfl)
theorem dX2_line_157 : decode cX2_line 157 = .ok (.athrow, 1) := dk_191 (dk_at dksX2_line_6 20 rfl rfl)
theorem dX2_line_158 : decode cX2_line 158 = .ok (.aload_n 0, 1) := dk_42 (dk_at dksX2_line_6 21 rfl rfl)
theorem dX2_line_159 : decode cX2_line 159 = .ok (.dup, 1) := dk_89 (dk_at dksX2_line_6 22 rfl rfl)
theorem dX2_line_160 : decode cX2_line 160 = .ok (.getfield 109, 3) := dk_180 0 109 (dk_at dksX2_line_7 0 rfl rfl)
theorem dX2_line_163 : decode cX2_line 163 = .ok (.iconst 1, 1) := dk_4 (dk_at dksX2_line_7 3 rfl rfl)
theorem dX2_line_164 : decode cX2_line 164 = .ok (.iload_n 1, 1) := dk_27 (dk_at dksX2_line_7 4 rfl rfl)
theorem dX2_line_165 : decode cX2_line 165 = .ok (.ishl, 1) := dk_120 (dk_at dksX2_line_7 5 rfl rfl)
theorem dX2_line_166 : decode cX2_line 166 = .ok (.ior, 1) := dk_128 (dk_at dksX2_line_7 6 rfl rfl)
theorem dX2_line_167 : decode cX2_line 167 = .ok (.putfield 109, 3) := dk_181 0 109 (dk_at dksX2_line_7 7 rfl rfl)
theorem dX2_line_170 : decode cX2_line 170 = .ok (.aload_n 0, 1) := dk_42 (dk_at dksX2_line_7 10 rfl rfl)
theorem dX2_line_171 : decode cX2_line 171 = .ok (.invokevirtual 89, 3) := dk_182 0 89 (dk_at dksX2_line_7 11 rfl rfl)
theorem dX2_line_174 : decode cX2_line 174 = .ok (.iload_n 1, 1) := dk_27 (dk_at dksX2_line_7 14 rfl rfl)
theorem dX2_line_175 : decode cX2_line 175 = .ok (.tableswitch 190 0 6 #[41, 48, 55, 62, 69, 116, 152], 41) := by decide +kernel
theorem dX2_line_216 : decode cX2_line 216 = .ok (.aload_n 0, 1) := dk_42 (dk_at dksX2_line_9 0 rfl rfl)
theorem dX2_line_217 : decode cX2_line 217 = .ok (.invokevirtual 146, 3) := dk_182 0 146 (dk_at dksX2_line_9 1 rfl rfl)
theorem dX2_line_220 : decode cX2_line 220 = .ok (.goto 211, 3) := dk_167 0 211 (dk_at dksX2_line_9 4 rfl rfl)
theorem dX2_line_223 : decode cX2_line 223 = .ok (.aload_n 0, 1) := dk_42 (dk_at dksX2_line_9 7 rfl rfl)
theorem dX2_line_224 : decode cX2_line 224 = .ok (.invokevirtual 149, 3) := dk_182 0 149 (dk_at dksX2_line_9 8 rfl rfl)
theorem dX2_line_227 : decode cX2_line 227 = .ok (.goto 204, 3) := dk_167 0 204 (dk_at dksX2_line_9 11 rfl rfl)
theorem dX2_line_230 : decode cX2_line 230 = .ok (.aload_n 0, 1) := dk_42 (dk_at dksX2_line_9 14 rfl rfl)
theorem dX2_line_231 : decode cX2_line 231 = .ok (.invokevirtual 152, 3) := dk_182 0 152 (dk_at dksX2_line_9 15 rfl rfl)
theorem dX2_line_234 : decode cX2_line 234 = .ok (.goto 197, 3) := dk_167 0 197 (dk_at dksX2_line_9 18 rfl rfl)
theorem dX2_line_237 : decode cX2_line 237 = .ok (.aload_n 0, 1) := dk_42 (dk_at dksX2_line_9 21 rfl rfl)
theorem dX2_line_238 : decode cX2_line 238 = .ok (.invokevirtual 155, 3) := dk_182 0 155 (dk_at dksX2_line_10 0 rfl rfl)
theorem dX2_line_241 : decode cX2_line 241 = .ok (.goto 190, 3) := dk_167 0 190 (dk_at dksX2_line_10 3 rfl rfl)
theorem dX2_line_244 : decode cX2_line 244 = .ok (.aload_n 0, 1) := dk_42 (dk_at dksX2_line_10 6 rfl rfl)
theorem dX2_line_245 : decode cX2_line 245 = .ok (.getfield 115, 3) := dk_180 0 115 (dk_at dksX2_line_10 7 rfl rfl)
theorem dX2_line_248 : decode cX2_line 248 = .ok (.aload_n 0, 1) := dk_42 (dk_at dksX2_line_10 10 rfl rfl)
theorem dX2_line_249 : decode cX2_line 249 = .ok (.iconst 1, 1) := dk_4 (dk_at dksX2_line_10 11 rfl rfl)
theorem dX2_line_250 : decode cX2_line 250 = .ok (.sipush 9999, 3) := dk_17 39 15 (dk_at dksX2_line_10 12 rfl rfl)
theorem dX2_line_253 : decode cX2_line 253 = .ok (.invokevirtual 96, 3) := dk_182 0 96 (dk_at dksX2_line_10 15 rfl rfl)
theorem dX2_line_256 : decode cX2_line 256 = .ok (.i2l, 1) := dk_133 (dk_at dksX2_line_10 18 rfl rfl)
theorem dX2_line_257 : decode cX2_line 257 = .ok (.putfield 158, 3) := dk_181 0 158 (dk_at dksX2_line_10 19 rfl rfl)
theorem dX2_line_260 : decode cX2_line 260 = .ok (.aload_n 0, 1) := dk_42 (dk_at dksX2_line_10 22 rfl rfl)
theorem dX2_line_261 : decode cX2_line 261 = .ok (.getfield 115, 3) := dk_180 0 115 (dk_at dksX2_line_11 0 rfl rfl)
theorem dX2_line_264 : decode cX2_line 264 = .ok (.aload_n 0, 1) := dk_42 (dk_at dksX2_line_11 3 rfl rfl)
theorem dX2_line_265 : decode cX2_line 265 = .ok (.iconst 1, 1) := dk_4 (dk_at dksX2_line_11 4 rfl rfl)
theorem dX2_line_266 : decode cX2_line 266 = .ok (.bipush 99, 2) := dk_16 99 (dk_at dksX2_line_11 5 rfl rfl)
theorem dX2_line_268 : decode cX2_line 268 = .ok (.aload_n 0, 1) := dk_42 (dk_at dksX2_line_11 7 rfl rfl)
theorem dX2_line_269 : decode cX2_line 269 = .ok (.getfield 115, 3) := dk_180 0 115 (dk_at dksX2_line_11 8 rfl rfl)
theorem dX2_line_272 : decode cX2_line 272 = .ok (.getfield 158, 3) := dk_180 0 158 (dk_at dksX2_line_11 11 rfl rfl)
theorem dX2_line_275 : decode cX2_line 275 = .ok (.l2i, 1) := dk_136 (dk_at dksX2_line_11 14 rfl rfl)
theorem dX2_line_276 : decode cX2_line 276 = .ok (.bipush 8, 2) := dk_16 8 (dk_at dksX2_line_11 15 rfl rfl)
theorem dX2_line_278 : decode cX2_line 278 = .ok (.idiv, 1) := dk_108 (dk_at dksX2_line_11 17 rfl rfl)
theorem dX2_line_279 : decode cX2_line 279 = .ok (.invokestatic 162, 3) := dk_184 0 162 (dk_at dksX2_line_11 18 rfl rfl)
theorem dX2_line_282 : decode cX2_line 282 = .ok (.invokevirtual 96, 3) := dk_182 0 96 (dk_at dksX2_line_11 21 rfl rfl)
theorem dX2_line_285 : decode cX2_line 285 = .ok (.putfield 167, 3) := dk_181 0 167 (dk_at dksX2_line_12 0 rfl rfl)
theorem dX2_line_288 : decode cX2_line 288 = .ok (.goto 143, 3) := dk_167 0 143 (dk_at dksX2_line_12 3 rfl rfl)
theorem dX2_line_291 : decode cX2_line 291 = .ok (.aload_n 0, 1) := dk_42 (dk_at dksX2_line_12 6 rfl rfl)
theorem dX2_line_292 : decode cX2_line 292 = .ok (.getfield 115, 3) := dk_180 0 115 (dk_at dksX2_line_12 7 rfl rfl)
theorem dX2_line_295 : decode cX2_line 295 = .ok (.getfield 143, 3) := dk_180 0 143 (dk_at dksX2_line_12 10 rfl rfl)
theorem dX2_line_298 : decode cX2_line 298 = .ok (.new 170, 3) := dk_187 0 170 (dk_at dksX2_line_12 13 rfl rfl)
theorem dX2_line_301 : decode cX2_line 301 = .ok (.dup, 1) := dk_89 (dk_at dksX2_line_12 16 rfl rfl)
theorem dX2_line_302 : decode cX2_line 302 = .ok (.aload_n 0, 1) := dk_42 (dk_at dksX2_line_12 17 rfl rfl)
theorem dX2_line_303 : decode cX2_line 303 = .ok (.aload_n 0, 1) := dk_42 (dk_at dksX2_line_12 18 rfl rfl)
theorem dX2_line_304 : decode cX2_line 304 = .ok (.getfield 115, 3) := dk_180 0 115 (dk_at dksX2_line_12 19 rfl rfl)
theorem dX2_line_307 : decode cX2_line 307 = .ok (.getfield 143, 3) := dk_180 0 143 (dk_at dksX2_line_13 0 rfl rfl)
theorem dX2_line_310 : decode cX2_line 310 = .ok (.invokevirtual 172, 3) := dk_182 0 172 (dk_at dksX2_line_13 3 rfl rfl)
theorem dX2_line_313 : decode cX2_line 313 = .ok (.aload_n 0, 1) := dk_42 (dk_at dksX2_line_13 6 rfl rfl)
theorem dX2_line_314 : decode cX2_line 314 = .ok (.invokevirtual 176, 3) := dk_182 0 176 (dk_at dksX2_line_13 7 rfl rfl)
theorem dX2_line_317 : decode cX2_line 317 = .ok (.invokespecial 180, 3) := dk_183 0 180 (dk_at dksX2_line_13 10 rfl rfl)
theorem dX2_line_320 : decode cX2_line 320 = .ok (.invokevirtual 183, 3) := dk_182 0 183 (dk_at dksX2_line_13 13 rfl rfl)
theorem dX2_line_323 : decode cX2_line 323 = .ok (.pop, 1) := dk_87 (dk_at dksX2_line_13 16 rfl rfl)
theorem dX2_line_324 : decode cX2_line 324 = .ok (.goto 107, 3) := dk_167 0 107 (dk_at dksX2_line_13 17 rfl rfl)
theorem dX2_line_327 : decode cX2_line 327 = .ok (.aload_n 0, 1) := dk_42 (dk_at dksX2_line_13 20 rfl rfl)
theorem dX2_line_328 : decode cX2_line 328 = .ok (.getfield 115, 3) := dk_180 0 115 (dk_at dksX2_line_13 21 rfl rfl)
theorem dX2_line_331 : decode cX2_line 331 = .ok (.aload_n 0, 1) := dk_42 (dk_at dksX2_line_14 0 rfl rfl)
theorem dX2_line_332 : decode cX2_line 332 = .ok (.iconst 2, 1) := dk_5 (dk_at dksX2_line_14 1 rfl rfl)
theorem dX2_line_333 : decode cX2_line 333 = .ok (.bipush 30, 2) := dk_16 30 (dk_at dksX2_line_14 2 rfl rfl)
theorem dX2_line_335 : decode cX2_line 335 = .ok (.invokevirtual 96, 3) := dk_182 0 96 (dk_at dksX2_line_14 4 rfl rfl)
theorem dX2_line_338 : decode cX2_line 338 = .ok (.putfield 187, 3) := dk_181 0 187 (dk_at dksX2_line_14 7 rfl rfl)
theorem dX2_line_341 : decode cX2_line 341 = .ok (.aload_n 0, 1) := dk_42 (dk_at dksX2_line_14 10 rfl rfl)
theorem dX2_line_342 : decode cX2_line 342 = .ok (.getfield 115, 3) := dk_180 0 115 (dk_at dksX2_line_14 11 rfl rfl)
theorem dX2_line_345 : decode cX2_line 345 = .ok (.aload_n 0, 1) := dk_42 (dk_at dksX2_line_14 14 rfl rfl)
theorem dX2_line_346 : decode cX2_line 346 = .ok (.iconst 0, 1) := dk_3 (dk_at dksX2_line_14 15 rfl rfl)
theorem dX2_line_347 : decode cX2_line 347 = .ok (.aload_n 0, 1) := dk_42 (dk_at dksX2_line_14 16 rfl rfl)
theorem dX2_line_348 : decode cX2_line 348 = .ok (.getfield 115, 3) := dk_180 0 115 (dk_at dksX2_line_14 17 rfl rfl)
theorem dX2_line_351 : decode cX2_line 351 = .ok (.getfield 187, 3) := dk_180 0 187 (dk_at dksX2_line_14 20 rfl rfl)
theorem dX2_line_354 : decode cX2_line 354 = .ok (.iconst 1, 1) := dk_4 (dk_at dksX2_line_14 23 rfl rfl)
theorem dX2_line_355 : decode cX2_line 355 = .ok (.isub, 1) := dk_100 (dk_at dksX2_line_15 0 rfl rfl)
theorem dX2_line_356 : decode cX2_line 356 = .ok (.invokevirtual 96, 3) := dk_182 0 96 (dk_at dksX2_line_15 1 rfl rfl)
theorem dX2_line_359 : decode cX2_line 359 = .ok (.putfield 190, 3) := dk_181 0 190 (dk_at dksX2_line_15 4 rfl rfl)
theorem dX2_line_362 : decode cX2_line 362 = .ok (.goto 69, 3) := dk_167 0 69 (dk_at dksX2_line_15 7 rfl rfl)
theorem dX2_line_365 : decode cX2_line 365 = .ok (.aload_n 0, 1) := dk_42 (dk_at dksX2_line_15 10 rfl rfl)
theorem dX2_line_366 : decode cX2_line 366 = .ok (.getfield 115, 3) := dk_180 0 115 (dk_at dksX2_line_15 11 rfl rfl)
theorem dX2_line_369 : decode cX2_line 369 = .ok (.aload_n 0, 1) := dk_42 (dk_at dksX2_line_15 14 rfl rfl)
theorem dX2_line_370 : decode cX2_line 370 = .ok (.iconst 1, 1) := dk_4 (dk_at dksX2_line_15 15 rfl rfl)
theorem dX2_line_371 : decode cX2_line 371 = .ok (.sipush 9999, 3) := dk_17 39 15 (dk_at dksX2_line_15 16 rfl rfl)
theorem dX2_line_374 : decode cX2_line 374 = .ok (.invokevirtual 96, 3) := dk_182 0 96 (dk_at dksX2_line_15 19 rfl rfl)
theorem dX2_line_377 : decode cX2_line 377 = .ok (.i2l, 1) := dk_133 (dk_at dksX2_line_15 22 rfl rfl)
theorem dX2_line_378 : decode cX2_line 378 = .ok (.putfield 193, 3) := dk_181 0 193 (dk_at dksX2_line_16 0 rfl rfl)
theorem dX2_line_381 : decode cX2_line 381 = .ok (.aload_n 0, 1) := dk_42 (dk_at dksX2_line_16 3 rfl rfl)
theorem dX2_line_382 : decode cX2_line 382 = .ok (.getfield 115, 3) := dk_180 0 115 (dk_at dksX2_line_16 4 rfl rfl)
theorem dX2_line_385 : decode cX2_line 385 = .ok (.aload_n 0, 1) := dk_42 (dk_at dksX2_line_16 7 rfl rfl)
theorem dX2_line_386 : decode cX2_line 386 = .ok (.iconst 1, 1) := dk_4 (dk_at dksX2_line_16 8 rfl rfl)
theorem dX2_line_387 : decode cX2_line 387 = .ok (.bipush 99, 2) := dk_16 99 (dk_at dksX2_line_16 9 rfl rfl)
theorem dX2_line_389 : decode cX2_line 389 = .ok (.aload_n 0, 1) := dk_42 (dk_at dksX2_line_16 11 rfl rfl)
theorem dX2_line_390 : decode cX2_line 390 = .ok (.getfield 115, 3) := dk_180 0 115 (dk_at dksX2_line_16 12 rfl rfl)
theorem dX2_line_393 : decode cX2_line 393 = .ok (.getfield 193, 3) := dk_180 0 193 (dk_at dksX2_line_16 15 rfl rfl)
theorem dX2_line_396 : decode cX2_line 396 = .ok (.l2i, 1) := dk_136 (dk_at dksX2_line_16 18 rfl rfl)
theorem dX2_line_397 : decode cX2_line 397 = .ok (.bipush 8, 2) := dk_16 8 (dk_at dksX2_line_16 19 rfl rfl)
theorem dX2_line_399 : decode cX2_line 399 = .ok (.idiv, 1) := dk_108 (dk_at dksX2_line_16 21 rfl rfl)
theorem dX2_line_400 : decode cX2_line 400 = .ok (.invokestatic 162, 3) := dk_184 0 162 (dk_at dksX2_line_17 0 rfl rfl)
theorem dX2_line_403 : decode cX2_line 403 = .ok (.invokevirtual 96, 3) := dk_182 0 96 (dk_at dksX2_line_17 3 rfl rfl)
theorem dX2_line_406 : decode cX2_line 406 = .ok (.putfield 196, 3) := dk_181 0 196 (dk_at dksX2_line_17 6 rfl rfl)
theorem dX2_line_409 : decode cX2_line 409 = .ok (.aload_n 0, 1) := dk_42 (dk_at dksX2_line_17 9 rfl rfl)
theorem dX2_line_410 : decode cX2_line 410 = .ok (.getfield 115, 3) := dk_180 0 115 (dk_at dksX2_line_17 10 rfl rfl)
theorem dX2_line_413 : decode cX2_line 413 = .ok (.aload_n 0, 1) := dk_42 (dk_at dksX2_line_17 13 rfl rfl)
theorem dX2_line_414 : decode cX2_line 414 = .ok (.iconst 0, 1) := dk_3 (dk_at dksX2_line_17 14 rfl rfl)
theorem dX2_line_415 : decode cX2_line 415 = .ok (.aload_n 0, 1) := dk_42 (dk_at dksX2_line_17 15 rfl rfl)
theorem dX2_line_416 : decode cX2_line 416 = .ok (.getfield 115, 3) := dk_180 0 115 (dk_at dksX2_line_17 16 rfl rfl)
theorem dX2_line_419 : decode cX2_line 419 = .ok (.getfield 193, 3) := dk_180 0 193 (dk_at dksX2_line_17 19 rfl rfl)
theorem dX2_line_422 : decode cX2_line 422 = .ok (.l2i, 1) := dk_136 (dk_at dksX2_line_17 22 rfl rfl)
theorem dX2_line_423 : decode cX2_line 423 = .ok (.iconst 1, 1) := dk_4 (dk_at dksX2_line_17 23 rfl rfl)
theorem dX2_line_424 : decode cX2_line 424 = .ok (.isub, 1) := dk_100 (dk_at dksX2_line_18 0 rfl rfl)
theorem dX2_line_425 : decode cX2_line 425 = .ok (.invokevirtual 96, 3) := dk_182 0 96 (dk_at dksX2_line_18 1 rfl rfl)
theorem dX2_line_428 : decode cX2_line 428 = .ok (.putfield 199, 3) := dk_181 0 199 (dk_at dksX2_line_18 4 rfl rfl)
theorem dX2_line_431 : decode cX2_line 431 = .ok (.aload_n 0, 1) := dk_42 (dk_at dksX2_line_18 7 rfl rfl)
theorem dX2_line_432 : decode cX2_line 432 = .ok (.bipush 59, 2) := dk_16 59 (dk_at dksX2_line_18 8 rfl rfl)
theorem dX2_line_434 : decode cX2_line 434 = .ok (.invokevirtual 92, 3) := dk_182 0 92 (dk_at dksX2_line_18 10 rfl rfl)
theorem dX2_line_437 : decode cX2_line 437 = .ok (.ifCond .ne 9, 3) := dk_154 0 9 (dk_at dksX2_line_18 13 rfl rfl)
theorem dX2_line_440 : decode cX2_line 440 = .ok (.aload_n 0, 1) := dk_42 (dk_at dksX2_line_18 16 rfl rfl)
theorem dX2_line_441 : decode cX2_line 441 = .ok (.iconst 1, 1) := dk_4 (dk_at dksX2_line_18 17 rfl rfl)
theorem dX2_line_442 : decode cX2_line 442 = .ok (.invokevirtual 85, 3) := dk_182 0 85 (dk_at dksX2_line_18 18 rfl rfl)
theorem dX2_line_445 : decode cX2_line 445 = .ok (.athrow, 1) := dk_191 (dk_at dksX2_line_18 21 rfl rfl)
theorem dX2_line_446 : decode cX2_line 446 = .ok (.aload_n 0, 1) := dk_42 (dk_at dksX2_line_18 22 rfl rfl)
theorem dX2_line_447 : decode cX2_line 447 = .ok (.invokevirtual 89, 3) := dk_182 0 89 (dk_at dksX2_line_19 0 rfl rfl)
theorem dX2_line_450 : decode cX2_line 450 = .ok (.aload_n 0, 1) := dk_42 (dk_at dksX2_line_19 3 rfl rfl)
theorem dX2_line_451 : decode cX2_line 451 = .ok (.getfield 115, 3) := dk_180 0 115 (dk_at dksX2_line_19 4 rfl rfl)
theorem dX2_line_454 : decode cX2_line 454 = .ok (.dup, 1) := dk_89 (dk_at dksX2_line_19 7 rfl rfl)
theorem dX2_line_455 : decode cX2_line 455 = .ok (.getfield 202, 3) := dk_180 0 202 (dk_at dksX2_line_19 8 rfl rfl)
theorem dX2_line_458 : decode cX2_line 458 = .ok (.iconst 1, 1) := dk_4 (dk_at dksX2_line_19 11 rfl rfl)
theorem dX2_line_459 : decode cX2_line 459 = .ok (.iadd, 1) := dk_96 (dk_at dksX2_line_19 12 rfl rfl)
theorem dX2_line_460 : decode cX2_line 460 = .ok (.putfield 202, 3) := dk_181 0 202 (dk_at dksX2_line_19 13 rfl rfl)
theorem dX2_line_463 : decode cX2_line 463 = .ok (.return_, 1) := dk_177 (dk_at dksX2_line_19 16 rfl rfl)
abbrev cX2_isWord : ByteArray := prog_14_method_8_code
def yX2_isWord : MethodName := ⟨RX2, "isWord", "(II)Z"⟩
def dkwX2_isWord_1 : List UInt8 := [167, 0, 4, 3, 172]
abbrev dktX2_isWord_1 : List UInt8 := dkwX2_isWord_1 ++ []
def dkwX2_isWord_0 : List UInt8 := [42, 180, 0, 33, 154, 0, 22, 42, 180, 0, 47, 133, 27, 133, 28, 133, 184, 0, 40, 153, 0, 7, 4]
abbrev dktX2_isWord_0 : List UInt8 := dkwX2_isWord_0 ++ dktX2_isWord_1
theorem dksX2_isWord_0 : cX2_isWord.data.toList.drop 0 = dktX2_isWord_0 := by decide +kernel
theorem dksX2_isWord_1 : cX2_isWord.data.toList.drop 23 = dktX2_isWord_1 := dk_seg dksX2_isWord_0 23 rfl rfl
theorem dX2_isWord_0 : decode cX2_isWord 0 = .ok (.aload_n 0, 1) := dk_42 (dk_at dksX2_isWord_0 0 rfl rfl)
theorem dX2_isWord_1 : decode cX2_isWord 1 = .ok (.getfield 33, 3) := dk_180 0 33 (dk_at dksX2_isWord_0 1 rfl rfl)
theorem dX2_isWord_4 : decode cX2_isWord 4 = .ok (.ifCond .ne 22, 3) := dk_154 0 22 (dk_at dksX2_isWord_0 4 rfl rfl)
theorem dX2_isWord_7 : decode cX2_isWord 7 = .ok (.aload_n 0, 1) := dk_42 (dk_at dksX2_isWord_0 7 rfl rfl)
theorem dX2_isWord_8 : decode cX2_isWord 8 = .ok (.getfield 47, 3) := dk_180 0 47 (dk_at dksX2_isWord_0 8 rfl rfl)
theorem dX2_isWord_11 : decode cX2_isWord 11 = .ok (.i2l, 1) := dk_133 (dk_at dksX2_isWord_0 11 rfl rfl)
theorem dX2_isWord_12 : decode cX2_isWord 12 = .ok (.iload_n 1, 1) := dk_27 (dk_at dksX2_isWord_0 12 rfl rfl)
theorem dX2_isWord_13 : decode cX2_isWord 13 = .ok (.i2l, 1) := dk_133 (dk_at dksX2_isWord_0 13 rfl rfl)
theorem dX2_isWord_14 : decode cX2_isWord 14 = .ok (.iload_n 2, 1) := dk_28 (dk_at dksX2_isWord_0 14 rfl rfl)
theorem dX2_isWord_15 : decode cX2_isWord 15 = .ok (.i2l, 1) := dk_133 (dk_at dksX2_isWord_0 15 rfl rfl)
theorem dX2_isWord_16 : decode cX2_isWord 16 = .ok (.invokestatic 40, 3) := dk_184 0 40 (dk_at dksX2_isWord_0 16 rfl rfl)
theorem dX2_isWord_19 : decode cX2_isWord 19 = .ok (.ifCond .eq 7, 3) := dk_153 0 7 (dk_at dksX2_isWord_0 19 rfl rfl)
theorem dX2_isWord_22 : decode cX2_isWord 22 = .ok (.iconst 1, 1) := dk_4 (dk_at dksX2_isWord_0 22 rfl rfl)
theorem dX2_isWord_23 : decode cX2_isWord 23 = .ok (.goto 4, 3) := dk_167 0 4 (dk_at dksX2_isWord_1 0 rfl rfl)
theorem dX2_isWord_26 : decode cX2_isWord 26 = .ok (.iconst 0, 1) := dk_3 (dk_at dksX2_isWord_1 3 rfl rfl)
theorem dX2_isWord_27 : decode cX2_isWord 27 = .ok (.ireturn, 1) := dk_172 (dk_at dksX2_isWord_1 4 rfl rfl)
abbrev cX2_wrong : ByteArray := prog_14_method_7_code
def yX2_wrong : MethodName := ⟨RX2, "wrong", "(I)LLongYears$Fault;"⟩
def dkwX2_wrong_0 : List UInt8 := [187, 0, 80, 89, 27, 42, 180, 0, 30, 183, 0, 82, 176]
abbrev dktX2_wrong_0 : List UInt8 := dkwX2_wrong_0 ++ []
theorem dksX2_wrong_0 : cX2_wrong.data.toList.drop 0 = dktX2_wrong_0 := by decide +kernel
theorem dX2_wrong_0 : decode cX2_wrong 0 = .ok (.new 80, 3) := dk_187 0 80 (dk_at dksX2_wrong_0 0 rfl rfl)
theorem dX2_wrong_3 : decode cX2_wrong 3 = .ok (.dup, 1) := dk_89 (dk_at dksX2_wrong_0 3 rfl rfl)
theorem dX2_wrong_4 : decode cX2_wrong 4 = .ok (.iload_n 1, 1) := dk_27 (dk_at dksX2_wrong_0 4 rfl rfl)
theorem dX2_wrong_5 : decode cX2_wrong 5 = .ok (.aload_n 0, 1) := dk_42 (dk_at dksX2_wrong_0 5 rfl rfl)
theorem dX2_wrong_6 : decode cX2_wrong 6 = .ok (.getfield 30, 3) := dk_180 0 30 (dk_at dksX2_wrong_0 6 rfl rfl)
theorem dX2_wrong_9 : decode cX2_wrong 9 = .ok (.invokespecial 82, 3) := dk_183 0 82 (dk_at dksX2_wrong_0 9 rfl rfl)
theorem dX2_wrong_12 : decode cX2_wrong 12 = .ok (.areturn, 1) := dk_176 (dk_at dksX2_wrong_0 12 rfl rfl)
abbrev cX2_land : ByteArray := prog_14_method_16_code
def yX2_land : MethodName := ⟨RX2, "land", "()V"⟩
def dkwX2_land_2 : List UInt8 := [43, 42, 3, 18, 57, 182, 0, 96, 181, 0, 213, 42, 180, 0, 115, 180, 0, 126, 43, 182, 0, 183, 87, 177]
abbrev dktX2_land_2 : List UInt8 := dkwX2_land_2 ++ []
def dkwX2_land_1 : List UInt8 := [16, 99, 182, 0, 207, 183, 0, 210, 76, 42, 16, 8, 16, 8, 182, 0, 122, 153, 0, 18, 42, 182, 0, 89]
abbrev dktX2_land_1 : List UInt8 := dkwX2_land_1 ++ dktX2_land_2
def dkwX2_land_0 : List UInt8 := [187, 0, 205, 89, 42, 42, 180, 0, 115, 180, 0, 126, 182, 0, 172, 42, 4, 17, 39, 15, 182, 0, 96, 42]
abbrev dktX2_land_0 : List UInt8 := dkwX2_land_0 ++ dktX2_land_1
theorem dksX2_land_0 : cX2_land.data.toList.drop 0 = dktX2_land_0 := by decide +kernel
theorem dksX2_land_1 : cX2_land.data.toList.drop 24 = dktX2_land_1 := dk_seg dksX2_land_0 24 rfl rfl
theorem dksX2_land_2 : cX2_land.data.toList.drop 48 = dktX2_land_2 := dk_seg dksX2_land_1 24 rfl rfl
theorem dX2_land_0 : decode cX2_land 0 = .ok (.new 205, 3) := dk_187 0 205 (dk_at dksX2_land_0 0 rfl rfl)
theorem dX2_land_3 : decode cX2_land 3 = .ok (.dup, 1) := dk_89 (dk_at dksX2_land_0 3 rfl rfl)
theorem dX2_land_4 : decode cX2_land 4 = .ok (.aload_n 0, 1) := dk_42 (dk_at dksX2_land_0 4 rfl rfl)
theorem dX2_land_5 : decode cX2_land 5 = .ok (.aload_n 0, 1) := dk_42 (dk_at dksX2_land_0 5 rfl rfl)
theorem dX2_land_6 : decode cX2_land 6 = .ok (.getfield 115, 3) := dk_180 0 115 (dk_at dksX2_land_0 6 rfl rfl)
theorem dX2_land_9 : decode cX2_land 9 = .ok (.getfield 126, 3) := dk_180 0 126 (dk_at dksX2_land_0 9 rfl rfl)
theorem dX2_land_12 : decode cX2_land 12 = .ok (.invokevirtual 172, 3) := dk_182 0 172 (dk_at dksX2_land_0 12 rfl rfl)
theorem dX2_land_15 : decode cX2_land 15 = .ok (.aload_n 0, 1) := dk_42 (dk_at dksX2_land_0 15 rfl rfl)
theorem dX2_land_16 : decode cX2_land 16 = .ok (.iconst 1, 1) := dk_4 (dk_at dksX2_land_0 16 rfl rfl)
theorem dX2_land_17 : decode cX2_land 17 = .ok (.sipush 9999, 3) := dk_17 39 15 (dk_at dksX2_land_0 17 rfl rfl)
theorem dX2_land_20 : decode cX2_land 20 = .ok (.invokevirtual 96, 3) := dk_182 0 96 (dk_at dksX2_land_0 20 rfl rfl)
theorem dX2_land_23 : decode cX2_land 23 = .ok (.aload_n 0, 1) := dk_42 (dk_at dksX2_land_0 23 rfl rfl)
theorem dX2_land_24 : decode cX2_land 24 = .ok (.bipush 99, 2) := dk_16 99 (dk_at dksX2_land_1 0 rfl rfl)
theorem dX2_land_26 : decode cX2_land 26 = .ok (.invokevirtual 207, 3) := dk_182 0 207 (dk_at dksX2_land_1 2 rfl rfl)
theorem dX2_land_29 : decode cX2_land 29 = .ok (.invokespecial 210, 3) := dk_183 0 210 (dk_at dksX2_land_1 5 rfl rfl)
theorem dX2_land_32 : decode cX2_land 32 = .ok (.astore_n 1, 1) := dk_76 (dk_at dksX2_land_1 8 rfl rfl)
theorem dX2_land_33 : decode cX2_land 33 = .ok (.aload_n 0, 1) := dk_42 (dk_at dksX2_land_1 9 rfl rfl)
theorem dX2_land_34 : decode cX2_land 34 = .ok (.bipush 8, 2) := dk_16 8 (dk_at dksX2_land_1 10 rfl rfl)
theorem dX2_land_36 : decode cX2_land 36 = .ok (.bipush 8, 2) := dk_16 8 (dk_at dksX2_land_1 12 rfl rfl)
theorem dX2_land_38 : decode cX2_land 38 = .ok (.invokevirtual 122, 3) := dk_182 0 122 (dk_at dksX2_land_1 14 rfl rfl)
theorem dX2_land_41 : decode cX2_land 41 = .ok (.ifCond .eq 18, 3) := dk_153 0 18 (dk_at dksX2_land_1 17 rfl rfl)
theorem dX2_land_44 : decode cX2_land 44 = .ok (.aload_n 0, 1) := dk_42 (dk_at dksX2_land_1 20 rfl rfl)
theorem dX2_land_45 : decode cX2_land 45 = .ok (.invokevirtual 89, 3) := dk_182 0 89 (dk_at dksX2_land_1 21 rfl rfl)
theorem dX2_land_48 : decode cX2_land 48 = .ok (.aload_n 1, 1) := dk_43 (dk_at dksX2_land_2 0 rfl rfl)
theorem dX2_land_49 : decode cX2_land 49 = .ok (.aload_n 0, 1) := dk_42 (dk_at dksX2_land_2 1 rfl rfl)
theorem dX2_land_50 : decode cX2_land 50 = .ok (.iconst 0, 1) := dk_3 (dk_at dksX2_land_2 2 rfl rfl)
theorem dX2_land_51 : decode cX2_land 51 = .ok (.ldc 57, 2) := dk_18 57 (dk_at dksX2_land_2 3 rfl rfl)
theorem dX2_land_53 : decode cX2_land 53 = .ok (.invokevirtual 96, 3) := dk_182 0 96 (dk_at dksX2_land_2 5 rfl rfl)
theorem dX2_land_56 : decode cX2_land 56 = .ok (.putfield 213, 3) := dk_181 0 213 (dk_at dksX2_land_2 8 rfl rfl)
theorem dX2_land_59 : decode cX2_land 59 = .ok (.aload_n 0, 1) := dk_42 (dk_at dksX2_land_2 11 rfl rfl)
theorem dX2_land_60 : decode cX2_land 60 = .ok (.getfield 115, 3) := dk_180 0 115 (dk_at dksX2_land_2 12 rfl rfl)
theorem dX2_land_63 : decode cX2_land 63 = .ok (.getfield 126, 3) := dk_180 0 126 (dk_at dksX2_land_2 15 rfl rfl)
theorem dX2_land_66 : decode cX2_land 66 = .ok (.aload_n 1, 1) := dk_43 (dk_at dksX2_land_2 18 rfl rfl)
theorem dX2_land_67 : decode cX2_land 67 = .ok (.invokevirtual 183, 3) := dk_182 0 183 (dk_at dksX2_land_2 19 rfl rfl)
theorem dX2_land_70 : decode cX2_land 70 = .ok (.pop, 1) := dk_87 (dk_at dksX2_land_2 22 rfl rfl)
theorem dX2_land_71 : decode cX2_land 71 = .ok (.return_, 1) := dk_177 (dk_at dksX2_land_2 23 rfl rfl)
abbrev cX2_fresh : ByteArray := prog_14_method_12_code
def yX2_fresh : MethodName := ⟨RX2, "fresh", "(Ljava/util/ArrayList;)I"⟩
def dkwX2_fresh_1 : List UInt8 := [159, 0, 9, 42, 6, 182, 0, 85, 191, 42, 180, 0, 47, 61, 42, 182, 0, 89, 28, 172]
abbrev dktX2_fresh_1 : List UInt8 := dkwX2_fresh_1 ++ []
def dkwX2_fresh_0 : List UInt8 := [42, 180, 0, 33, 4, 159, 0, 9, 42, 4, 182, 0, 85, 191, 43, 42, 180, 0, 47, 184, 0, 100, 2]
abbrev dktX2_fresh_0 : List UInt8 := dkwX2_fresh_0 ++ dktX2_fresh_1
theorem dksX2_fresh_0 : cX2_fresh.data.toList.drop 0 = dktX2_fresh_0 := by decide +kernel
theorem dksX2_fresh_1 : cX2_fresh.data.toList.drop 23 = dktX2_fresh_1 := dk_seg dksX2_fresh_0 23 rfl rfl
theorem dX2_fresh_0 : decode cX2_fresh 0 = .ok (.aload_n 0, 1) := dk_42 (dk_at dksX2_fresh_0 0 rfl rfl)
theorem dX2_fresh_1 : decode cX2_fresh 1 = .ok (.getfield 33, 3) := dk_180 0 33 (dk_at dksX2_fresh_0 1 rfl rfl)
theorem dX2_fresh_4 : decode cX2_fresh 4 = .ok (.iconst 1, 1) := dk_4 (dk_at dksX2_fresh_0 4 rfl rfl)
theorem dX2_fresh_5 : decode cX2_fresh 5 = .ok (.if_icmp .eq 9, 3) := dk_159 0 9 (dk_at dksX2_fresh_0 5 rfl rfl)
theorem dX2_fresh_8 : decode cX2_fresh 8 = .ok (.aload_n 0, 1) := dk_42 (dk_at dksX2_fresh_0 8 rfl rfl)
theorem dX2_fresh_9 : decode cX2_fresh 9 = .ok (.iconst 1, 1) := dk_4 (dk_at dksX2_fresh_0 9 rfl rfl)
theorem dX2_fresh_10 : decode cX2_fresh 10 = .ok (.invokevirtual 85, 3) := dk_182 0 85 (dk_at dksX2_fresh_0 10 rfl rfl)
theorem dX2_fresh_13 : decode cX2_fresh 13 = .ok (.athrow, 1) := dk_191 (dk_at dksX2_fresh_0 13 rfl rfl)
theorem dX2_fresh_14 : decode cX2_fresh 14 = .ok (.aload_n 1, 1) := dk_43 (dk_at dksX2_fresh_0 14 rfl rfl)
theorem dX2_fresh_15 : decode cX2_fresh 15 = .ok (.aload_n 0, 1) := dk_42 (dk_at dksX2_fresh_0 15 rfl rfl)
theorem dX2_fresh_16 : decode cX2_fresh 16 = .ok (.getfield 47, 3) := dk_180 0 47 (dk_at dksX2_fresh_0 16 rfl rfl)
theorem dX2_fresh_19 : decode cX2_fresh 19 = .ok (.invokestatic 100, 3) := dk_184 0 100 (dk_at dksX2_fresh_0 19 rfl rfl)
theorem dX2_fresh_22 : decode cX2_fresh 22 = .ok (.iconst (-1), 1) := dk_2 (dk_at dksX2_fresh_0 22 rfl rfl)
theorem dX2_fresh_23 : decode cX2_fresh 23 = .ok (.if_icmp .eq 9, 3) := dk_159 0 9 (dk_at dksX2_fresh_1 0 rfl rfl)
theorem dX2_fresh_26 : decode cX2_fresh 26 = .ok (.aload_n 0, 1) := dk_42 (dk_at dksX2_fresh_1 3 rfl rfl)
theorem dX2_fresh_27 : decode cX2_fresh 27 = .ok (.iconst 3, 1) := dk_6 (dk_at dksX2_fresh_1 4 rfl rfl)
theorem dX2_fresh_28 : decode cX2_fresh 28 = .ok (.invokevirtual 85, 3) := dk_182 0 85 (dk_at dksX2_fresh_1 5 rfl rfl)
theorem dX2_fresh_31 : decode cX2_fresh 31 = .ok (.athrow, 1) := dk_191 (dk_at dksX2_fresh_1 8 rfl rfl)
theorem dX2_fresh_32 : decode cX2_fresh 32 = .ok (.aload_n 0, 1) := dk_42 (dk_at dksX2_fresh_1 9 rfl rfl)
theorem dX2_fresh_33 : decode cX2_fresh 33 = .ok (.getfield 47, 3) := dk_180 0 47 (dk_at dksX2_fresh_1 10 rfl rfl)
theorem dX2_fresh_36 : decode cX2_fresh 36 = .ok (.istore_n 2, 1) := dk_61 (dk_at dksX2_fresh_1 13 rfl rfl)
theorem dX2_fresh_37 : decode cX2_fresh 37 = .ok (.aload_n 0, 1) := dk_42 (dk_at dksX2_fresh_1 14 rfl rfl)
theorem dX2_fresh_38 : decode cX2_fresh 38 = .ok (.invokevirtual 89, 3) := dk_182 0 89 (dk_at dksX2_fresh_1 15 rfl rfl)
theorem dX2_fresh_41 : decode cX2_fresh 41 = .ok (.iload_n 2, 1) := dk_28 (dk_at dksX2_fresh_1 18 rfl rfl)
theorem dX2_fresh_42 : decode cX2_fresh 42 = .ok (.ireturn, 1) := dk_172 (dk_at dksX2_fresh_1 19 rfl rfl)
abbrev cX2_number : ByteArray := prog_14_method_10_code
def yX2_number : MethodName := ⟨RX2, "number", "(II)I"⟩
def dkwX2_number_1 : List UInt8 := [184, 0, 40, 154, 0, 9, 42, 5, 182, 0, 85, 191, 42, 180, 0, 47, 62, 42, 182, 0, 89, 29, 172]
abbrev dktX2_number_1 : List UInt8 := dkwX2_number_1 ++ []
def dkwX2_number_0 : List UInt8 := [42, 180, 0, 33, 5, 159, 0, 9, 42, 4, 182, 0, 85, 191, 42, 180, 0, 47, 133, 27, 133, 28, 133]
abbrev dktX2_number_0 : List UInt8 := dkwX2_number_0 ++ dktX2_number_1
theorem dksX2_number_0 : cX2_number.data.toList.drop 0 = dktX2_number_0 := by decide +kernel
theorem dksX2_number_1 : cX2_number.data.toList.drop 23 = dktX2_number_1 := dk_seg dksX2_number_0 23 rfl rfl
theorem dX2_number_0 : decode cX2_number 0 = .ok (.aload_n 0, 1) := dk_42 (dk_at dksX2_number_0 0 rfl rfl)
theorem dX2_number_1 : decode cX2_number 1 = .ok (.getfield 33, 3) := dk_180 0 33 (dk_at dksX2_number_0 1 rfl rfl)
theorem dX2_number_4 : decode cX2_number 4 = .ok (.iconst 2, 1) := dk_5 (dk_at dksX2_number_0 4 rfl rfl)
theorem dX2_number_5 : decode cX2_number 5 = .ok (.if_icmp .eq 9, 3) := dk_159 0 9 (dk_at dksX2_number_0 5 rfl rfl)
theorem dX2_number_8 : decode cX2_number 8 = .ok (.aload_n 0, 1) := dk_42 (dk_at dksX2_number_0 8 rfl rfl)
theorem dX2_number_9 : decode cX2_number 9 = .ok (.iconst 1, 1) := dk_4 (dk_at dksX2_number_0 9 rfl rfl)
theorem dX2_number_10 : decode cX2_number 10 = .ok (.invokevirtual 85, 3) := dk_182 0 85 (dk_at dksX2_number_0 10 rfl rfl)
theorem dX2_number_13 : decode cX2_number 13 = .ok (.athrow, 1) := dk_191 (dk_at dksX2_number_0 13 rfl rfl)
theorem dX2_number_14 : decode cX2_number 14 = .ok (.aload_n 0, 1) := dk_42 (dk_at dksX2_number_0 14 rfl rfl)
theorem dX2_number_15 : decode cX2_number 15 = .ok (.getfield 47, 3) := dk_180 0 47 (dk_at dksX2_number_0 15 rfl rfl)
theorem dX2_number_18 : decode cX2_number 18 = .ok (.i2l, 1) := dk_133 (dk_at dksX2_number_0 18 rfl rfl)
theorem dX2_number_19 : decode cX2_number 19 = .ok (.iload_n 1, 1) := dk_27 (dk_at dksX2_number_0 19 rfl rfl)
theorem dX2_number_20 : decode cX2_number 20 = .ok (.i2l, 1) := dk_133 (dk_at dksX2_number_0 20 rfl rfl)
theorem dX2_number_21 : decode cX2_number 21 = .ok (.iload_n 2, 1) := dk_28 (dk_at dksX2_number_0 21 rfl rfl)
theorem dX2_number_22 : decode cX2_number 22 = .ok (.i2l, 1) := dk_133 (dk_at dksX2_number_0 22 rfl rfl)
theorem dX2_number_23 : decode cX2_number 23 = .ok (.invokestatic 40, 3) := dk_184 0 40 (dk_at dksX2_number_1 0 rfl rfl)
theorem dX2_number_26 : decode cX2_number 26 = .ok (.ifCond .ne 9, 3) := dk_154 0 9 (dk_at dksX2_number_1 3 rfl rfl)
theorem dX2_number_29 : decode cX2_number 29 = .ok (.aload_n 0, 1) := dk_42 (dk_at dksX2_number_1 6 rfl rfl)
theorem dX2_number_30 : decode cX2_number 30 = .ok (.iconst 2, 1) := dk_5 (dk_at dksX2_number_1 7 rfl rfl)
theorem dX2_number_31 : decode cX2_number 31 = .ok (.invokevirtual 85, 3) := dk_182 0 85 (dk_at dksX2_number_1 8 rfl rfl)
theorem dX2_number_34 : decode cX2_number 34 = .ok (.athrow, 1) := dk_191 (dk_at dksX2_number_1 11 rfl rfl)
theorem dX2_number_35 : decode cX2_number 35 = .ok (.aload_n 0, 1) := dk_42 (dk_at dksX2_number_1 12 rfl rfl)
theorem dX2_number_36 : decode cX2_number 36 = .ok (.getfield 47, 3) := dk_180 0 47 (dk_at dksX2_number_1 13 rfl rfl)
theorem dX2_number_39 : decode cX2_number 39 = .ok (.istore_n 3, 1) := dk_62 (dk_at dksX2_number_1 16 rfl rfl)
theorem dX2_number_40 : decode cX2_number 40 = .ok (.aload_n 0, 1) := dk_42 (dk_at dksX2_number_1 17 rfl rfl)
theorem dX2_number_41 : decode cX2_number 41 = .ok (.invokevirtual 89, 3) := dk_182 0 89 (dk_at dksX2_number_1 18 rfl rfl)
theorem dX2_number_44 : decode cX2_number 44 = .ok (.iload_n 3, 1) := dk_29 (dk_at dksX2_number_1 21 rfl rfl)
theorem dX2_number_45 : decode cX2_number 45 = .ok (.ireturn, 1) := dk_172 (dk_at dksX2_number_1 22 rfl rfl)
abbrev cX2_signed : ByteArray := prog_14_method_11_code
def yX2_signed : MethodName := ⟨RX2, "signed", "(I)I"⟩
def dkwX2_signed_1 : List UInt8 := [153, 0, 8, 29, 116, 167, 0, 4, 29, 172]
abbrev dktX2_signed_1 : List UInt8 := dkwX2_signed_1 ++ []
def dkwX2_signed_0 : List UInt8 := [42, 16, 45, 182, 0, 92, 61, 28, 153, 0, 7, 42, 182, 0, 89, 42, 3, 27, 182, 0, 96, 62, 28]
abbrev dktX2_signed_0 : List UInt8 := dkwX2_signed_0 ++ dktX2_signed_1
theorem dksX2_signed_0 : cX2_signed.data.toList.drop 0 = dktX2_signed_0 := by decide +kernel
theorem dksX2_signed_1 : cX2_signed.data.toList.drop 23 = dktX2_signed_1 := dk_seg dksX2_signed_0 23 rfl rfl
theorem dX2_signed_0 : decode cX2_signed 0 = .ok (.aload_n 0, 1) := dk_42 (dk_at dksX2_signed_0 0 rfl rfl)
theorem dX2_signed_1 : decode cX2_signed 1 = .ok (.bipush 45, 2) := dk_16 45 (dk_at dksX2_signed_0 1 rfl rfl)
theorem dX2_signed_3 : decode cX2_signed 3 = .ok (.invokevirtual 92, 3) := dk_182 0 92 (dk_at dksX2_signed_0 3 rfl rfl)
theorem dX2_signed_6 : decode cX2_signed 6 = .ok (.istore_n 2, 1) := dk_61 (dk_at dksX2_signed_0 6 rfl rfl)
theorem dX2_signed_7 : decode cX2_signed 7 = .ok (.iload_n 2, 1) := dk_28 (dk_at dksX2_signed_0 7 rfl rfl)
theorem dX2_signed_8 : decode cX2_signed 8 = .ok (.ifCond .eq 7, 3) := dk_153 0 7 (dk_at dksX2_signed_0 8 rfl rfl)
theorem dX2_signed_11 : decode cX2_signed 11 = .ok (.aload_n 0, 1) := dk_42 (dk_at dksX2_signed_0 11 rfl rfl)
theorem dX2_signed_12 : decode cX2_signed 12 = .ok (.invokevirtual 89, 3) := dk_182 0 89 (dk_at dksX2_signed_0 12 rfl rfl)
theorem dX2_signed_15 : decode cX2_signed 15 = .ok (.aload_n 0, 1) := dk_42 (dk_at dksX2_signed_0 15 rfl rfl)
theorem dX2_signed_16 : decode cX2_signed 16 = .ok (.iconst 0, 1) := dk_3 (dk_at dksX2_signed_0 16 rfl rfl)
theorem dX2_signed_17 : decode cX2_signed 17 = .ok (.iload_n 1, 1) := dk_27 (dk_at dksX2_signed_0 17 rfl rfl)
theorem dX2_signed_18 : decode cX2_signed 18 = .ok (.invokevirtual 96, 3) := dk_182 0 96 (dk_at dksX2_signed_0 18 rfl rfl)
theorem dX2_signed_21 : decode cX2_signed 21 = .ok (.istore_n 3, 1) := dk_62 (dk_at dksX2_signed_0 21 rfl rfl)
theorem dX2_signed_22 : decode cX2_signed 22 = .ok (.iload_n 2, 1) := dk_28 (dk_at dksX2_signed_0 22 rfl rfl)
theorem dX2_signed_23 : decode cX2_signed 23 = .ok (.ifCond .eq 8, 3) := dk_153 0 8 (dk_at dksX2_signed_1 0 rfl rfl)
theorem dX2_signed_26 : decode cX2_signed 26 = .ok (.iload_n 3, 1) := dk_29 (dk_at dksX2_signed_1 3 rfl rfl)
theorem dX2_signed_27 : decode cX2_signed 27 = .ok (.ineg, 1) := dk_116 (dk_at dksX2_signed_1 4 rfl rfl)
theorem dX2_signed_28 : decode cX2_signed 28 = .ok (.goto 4, 3) := dk_167 0 4 (dk_at dksX2_signed_1 5 rfl rfl)
theorem dX2_signed_31 : decode cX2_signed 31 = .ok (.iload_n 3, 1) := dk_29 (dk_at dksX2_signed_1 8 rfl rfl)
theorem dX2_signed_32 : decode cX2_signed 32 = .ok (.ireturn, 1) := dk_172 (dk_at dksX2_signed_1 9 rfl rfl)
abbrev cX2_isSign : ByteArray := prog_14_method_9_code
def yX2_isSign : MethodName := ⟨RX2, "isSign", "(I)Z"⟩
def dkwX2_isSign_0 : List UInt8 := [42, 180, 0, 33, 6, 160, 0, 15, 42, 180, 0, 47, 27, 160, 0, 7, 4, 167, 0, 4, 3, 172]
abbrev dktX2_isSign_0 : List UInt8 := dkwX2_isSign_0 ++ []
theorem dksX2_isSign_0 : cX2_isSign.data.toList.drop 0 = dktX2_isSign_0 := by decide +kernel
theorem dX2_isSign_0 : decode cX2_isSign 0 = .ok (.aload_n 0, 1) := dk_42 (dk_at dksX2_isSign_0 0 rfl rfl)
theorem dX2_isSign_1 : decode cX2_isSign 1 = .ok (.getfield 33, 3) := dk_180 0 33 (dk_at dksX2_isSign_0 1 rfl rfl)
theorem dX2_isSign_4 : decode cX2_isSign 4 = .ok (.iconst 3, 1) := dk_6 (dk_at dksX2_isSign_0 4 rfl rfl)
theorem dX2_isSign_5 : decode cX2_isSign 5 = .ok (.if_icmp .ne 15, 3) := dk_160 0 15 (dk_at dksX2_isSign_0 5 rfl rfl)
theorem dX2_isSign_8 : decode cX2_isSign 8 = .ok (.aload_n 0, 1) := dk_42 (dk_at dksX2_isSign_0 8 rfl rfl)
theorem dX2_isSign_9 : decode cX2_isSign 9 = .ok (.getfield 47, 3) := dk_180 0 47 (dk_at dksX2_isSign_0 9 rfl rfl)
theorem dX2_isSign_12 : decode cX2_isSign 12 = .ok (.iload_n 1, 1) := dk_27 (dk_at dksX2_isSign_0 12 rfl rfl)
theorem dX2_isSign_13 : decode cX2_isSign 13 = .ok (.if_icmp .ne 7, 3) := dk_160 0 7 (dk_at dksX2_isSign_0 13 rfl rfl)
theorem dX2_isSign_16 : decode cX2_isSign 16 = .ok (.iconst 1, 1) := dk_4 (dk_at dksX2_isSign_0 16 rfl rfl)
theorem dX2_isSign_17 : decode cX2_isSign 17 = .ok (.goto 4, 3) := dk_167 0 4 (dk_at dksX2_isSign_0 17 rfl rfl)
theorem dX2_isSign_20 : decode cX2_isSign 20 = .ok (.iconst 0, 1) := dk_3 (dk_at dksX2_isSign_0 20 rfl rfl)
theorem dX2_isSign_21 : decode cX2_isSign 21 = .ok (.ireturn, 1) := dk_172 (dk_at dksX2_isSign_0 21 rfl rfl)
abbrev cX2_person : ByteArray := prog_14_method_18_code
def yX2_person : MethodName := ⟨RX2, "person", "()V"⟩
def dkwX2_person_2 : List UInt8 := [180, 0, 242, 182, 0, 236, 181, 0, 245, 42, 180, 0, 115, 180, 0, 134, 44, 182, 0, 183, 87, 177]
abbrev dktX2_person_2 : List UInt8 := dkwX2_person_2 ++ []
def dkwX2_person_1 : List UInt8 := [183, 0, 239, 77, 42, 16, 9, 16, 9, 182, 0, 122, 153, 0, 19, 42, 182, 0, 89, 44, 42, 44]
abbrev dktX2_person_1 : List UInt8 := dkwX2_person_1 ++ dktX2_person_2
def dkwX2_person_0 : List UInt8 := [42, 42, 180, 0, 115, 180, 0, 134, 182, 0, 172, 60, 187, 0, 234, 89, 27, 42, 9, 182, 0, 236]
abbrev dktX2_person_0 : List UInt8 := dkwX2_person_0 ++ dktX2_person_1
theorem dksX2_person_0 : cX2_person.data.toList.drop 0 = dktX2_person_0 := by decide +kernel
theorem dksX2_person_1 : cX2_person.data.toList.drop 22 = dktX2_person_1 := dk_seg dksX2_person_0 22 rfl rfl
theorem dksX2_person_2 : cX2_person.data.toList.drop 44 = dktX2_person_2 := dk_seg dksX2_person_1 22 rfl rfl
theorem dX2_person_0 : decode cX2_person 0 = .ok (.aload_n 0, 1) := dk_42 (dk_at dksX2_person_0 0 rfl rfl)
theorem dX2_person_1 : decode cX2_person 1 = .ok (.aload_n 0, 1) := dk_42 (dk_at dksX2_person_0 1 rfl rfl)
theorem dX2_person_2 : decode cX2_person 2 = .ok (.getfield 115, 3) := dk_180 0 115 (dk_at dksX2_person_0 2 rfl rfl)
theorem dX2_person_5 : decode cX2_person 5 = .ok (.getfield 134, 3) := dk_180 0 134 (dk_at dksX2_person_0 5 rfl rfl)
theorem dX2_person_8 : decode cX2_person 8 = .ok (.invokevirtual 172, 3) := dk_182 0 172 (dk_at dksX2_person_0 8 rfl rfl)
theorem dX2_person_11 : decode cX2_person 11 = .ok (.istore_n 1, 1) := dk_60 (dk_at dksX2_person_0 11 rfl rfl)
theorem dX2_person_12 : decode cX2_person 12 = .ok (.new 234, 3) := dk_187 0 234 (dk_at dksX2_person_0 12 rfl rfl)
theorem dX2_person_15 : decode cX2_person 15 = .ok (.dup, 1) := dk_89 (dk_at dksX2_person_0 15 rfl rfl)
theorem dX2_person_16 : decode cX2_person 16 = .ok (.iload_n 1, 1) := dk_27 (dk_at dksX2_person_0 16 rfl rfl)
theorem dX2_person_17 : decode cX2_person 17 = .ok (.aload_n 0, 1) := dk_42 (dk_at dksX2_person_0 17 rfl rfl)
theorem dX2_person_18 : decode cX2_person 18 = .ok (.lconst 0, 1) := dk_9 (dk_at dksX2_person_0 18 rfl rfl)
theorem dX2_person_19 : decode cX2_person 19 = .ok (.invokevirtual 236, 3) := dk_182 0 236 (dk_at dksX2_person_0 19 rfl rfl)
theorem dX2_person_22 : decode cX2_person 22 = .ok (.invokespecial 239, 3) := dk_183 0 239 (dk_at dksX2_person_1 0 rfl rfl)
theorem dX2_person_25 : decode cX2_person 25 = .ok (.astore_n 2, 1) := dk_77 (dk_at dksX2_person_1 3 rfl rfl)
theorem dX2_person_26 : decode cX2_person 26 = .ok (.aload_n 0, 1) := dk_42 (dk_at dksX2_person_1 4 rfl rfl)
theorem dX2_person_27 : decode cX2_person 27 = .ok (.bipush 9, 2) := dk_16 9 (dk_at dksX2_person_1 5 rfl rfl)
theorem dX2_person_29 : decode cX2_person 29 = .ok (.bipush 9, 2) := dk_16 9 (dk_at dksX2_person_1 7 rfl rfl)
theorem dX2_person_31 : decode cX2_person 31 = .ok (.invokevirtual 122, 3) := dk_182 0 122 (dk_at dksX2_person_1 9 rfl rfl)
theorem dX2_person_34 : decode cX2_person 34 = .ok (.ifCond .eq 19, 3) := dk_153 0 19 (dk_at dksX2_person_1 12 rfl rfl)
theorem dX2_person_37 : decode cX2_person 37 = .ok (.aload_n 0, 1) := dk_42 (dk_at dksX2_person_1 15 rfl rfl)
theorem dX2_person_38 : decode cX2_person 38 = .ok (.invokevirtual 89, 3) := dk_182 0 89 (dk_at dksX2_person_1 16 rfl rfl)
theorem dX2_person_41 : decode cX2_person 41 = .ok (.aload_n 2, 1) := dk_44 (dk_at dksX2_person_1 19 rfl rfl)
theorem dX2_person_42 : decode cX2_person 42 = .ok (.aload_n 0, 1) := dk_42 (dk_at dksX2_person_1 20 rfl rfl)
theorem dX2_person_43 : decode cX2_person 43 = .ok (.aload_n 2, 1) := dk_44 (dk_at dksX2_person_1 21 rfl rfl)
theorem dX2_person_44 : decode cX2_person 44 = .ok (.getfield 242, 3) := dk_180 0 242 (dk_at dksX2_person_2 0 rfl rfl)
theorem dX2_person_47 : decode cX2_person 47 = .ok (.invokevirtual 236, 3) := dk_182 0 236 (dk_at dksX2_person_2 3 rfl rfl)
theorem dX2_person_50 : decode cX2_person 50 = .ok (.putfield 245, 3) := dk_181 0 245 (dk_at dksX2_person_2 6 rfl rfl)
theorem dX2_person_53 : decode cX2_person 53 = .ok (.aload_n 0, 1) := dk_42 (dk_at dksX2_person_2 9 rfl rfl)
theorem dX2_person_54 : decode cX2_person 54 = .ok (.getfield 115, 3) := dk_180 0 115 (dk_at dksX2_person_2 10 rfl rfl)
theorem dX2_person_57 : decode cX2_person 57 = .ok (.getfield 134, 3) := dk_180 0 134 (dk_at dksX2_person_2 13 rfl rfl)
theorem dX2_person_60 : decode cX2_person 60 = .ok (.aload_n 2, 1) := dk_44 (dk_at dksX2_person_2 16 rfl rfl)
theorem dX2_person_61 : decode cX2_person 61 = .ok (.invokevirtual 183, 3) := dk_182 0 183 (dk_at dksX2_person_2 17 rfl rfl)
theorem dX2_person_64 : decode cX2_person 64 = .ok (.pop, 1) := dk_87 (dk_at dksX2_person_2 20 rfl rfl)
theorem dX2_person_65 : decode cX2_person 65 = .ok (.return_, 1) := dk_177 (dk_at dksX2_person_2 21 rfl rfl)
abbrev cX2_date : ByteArray := prog_14_method_17_code
def yX2_date : MethodName := ⟨RX2, "date", "(J)J"⟩
def dkwX2_date_6 : List UInt8 := [97, 10, 101, 55, 5, 42, 182, 0, 89, 22, 5, 173]
abbrev dktX2_date_6 : List UInt8 := dkwX2_date_6 ++ []
def dkwX2_date_5 : List UInt8 := [101, 31, 148, 156, 0, 9, 42, 8, 182, 0, 85, 191, 25, 4, 29, 133, 182, 0, 231, 42, 180, 0, 47, 133]
abbrev dktX2_date_5 : List UInt8 := dkwX2_date_5 ++ dktX2_date_6
def dkwX2_date_4 : List UInt8 := [133, 182, 0, 228, 184, 0, 40, 153, 0, 23, 25, 4, 29, 133, 182, 0, 231, 42, 180, 0, 47, 133, 97, 10]
abbrev dktX2_date_4 : List UInt8 := dkwX2_date_4 ++ dktX2_date_5
def dkwX2_date_3 : List UInt8 := [25, 4, 198, 0, 52, 25, 4, 29, 133, 182, 0, 224, 153, 0, 42, 42, 180, 0, 47, 133, 10, 25, 4, 29]
abbrev dktX2_date_3 : List UInt8 := dkwX2_date_3 ++ dktX2_date_4
def dkwX2_date_2 : List UInt8 := [153, 0, 7, 1, 167, 0, 17, 42, 180, 0, 115, 180, 0, 126, 3, 182, 0, 220, 192, 0, 205, 58, 4]
abbrev dktX2_date_2 : List UInt8 := dkwX2_date_2 ++ dktX2_date_3
def dkwX2_date_1 : List UInt8 := [180, 0, 47, 18, 57, 164, 0, 9, 42, 5, 182, 0, 85, 191, 42, 180, 0, 115, 180, 0, 126, 182, 0, 216]
abbrev dktX2_date_1 : List UInt8 := dkwX2_date_1 ++ dktX2_date_2
def dkwX2_date_0 : List UInt8 := [42, 3, 18, 57, 182, 0, 96, 62, 42, 180, 0, 33, 5, 159, 0, 9, 42, 4, 182, 0, 85, 191, 42]
abbrev dktX2_date_0 : List UInt8 := dkwX2_date_0 ++ dktX2_date_1
theorem dksX2_date_0 : cX2_date.data.toList.drop 0 = dktX2_date_0 := by decide +kernel
theorem dksX2_date_1 : cX2_date.data.toList.drop 23 = dktX2_date_1 := dk_seg dksX2_date_0 23 rfl rfl
theorem dksX2_date_2 : cX2_date.data.toList.drop 47 = dktX2_date_2 := dk_seg dksX2_date_1 24 rfl rfl
theorem dksX2_date_3 : cX2_date.data.toList.drop 70 = dktX2_date_3 := dk_seg dksX2_date_2 23 rfl rfl
theorem dksX2_date_4 : cX2_date.data.toList.drop 94 = dktX2_date_4 := dk_seg dksX2_date_3 24 rfl rfl
theorem dksX2_date_5 : cX2_date.data.toList.drop 118 = dktX2_date_5 := dk_seg dksX2_date_4 24 rfl rfl
theorem dksX2_date_6 : cX2_date.data.toList.drop 142 = dktX2_date_6 := dk_seg dksX2_date_5 24 rfl rfl
theorem dX2_date_0 : decode cX2_date 0 = .ok (.aload_n 0, 1) := dk_42 (dk_at dksX2_date_0 0 rfl rfl)
theorem dX2_date_1 : decode cX2_date 1 = .ok (.iconst 0, 1) := dk_3 (dk_at dksX2_date_0 1 rfl rfl)
theorem dX2_date_2 : decode cX2_date 2 = .ok (.ldc 57, 2) := dk_18 57 (dk_at dksX2_date_0 2 rfl rfl)
theorem dX2_date_4 : decode cX2_date 4 = .ok (.invokevirtual 96, 3) := dk_182 0 96 (dk_at dksX2_date_0 4 rfl rfl)
theorem dX2_date_7 : decode cX2_date 7 = .ok (.istore_n 3, 1) := dk_62 (dk_at dksX2_date_0 7 rfl rfl)
theorem dX2_date_8 : decode cX2_date 8 = .ok (.aload_n 0, 1) := dk_42 (dk_at dksX2_date_0 8 rfl rfl)
theorem dX2_date_9 : decode cX2_date 9 = .ok (.getfield 33, 3) := dk_180 0 33 (dk_at dksX2_date_0 9 rfl rfl)
theorem dX2_date_12 : decode cX2_date 12 = .ok (.iconst 2, 1) := dk_5 (dk_at dksX2_date_0 12 rfl rfl)
theorem dX2_date_13 : decode cX2_date 13 = .ok (.if_icmp .eq 9, 3) := dk_159 0 9 (dk_at dksX2_date_0 13 rfl rfl)
theorem dX2_date_16 : decode cX2_date 16 = .ok (.aload_n 0, 1) := dk_42 (dk_at dksX2_date_0 16 rfl rfl)
theorem dX2_date_17 : decode cX2_date 17 = .ok (.iconst 1, 1) := dk_4 (dk_at dksX2_date_0 17 rfl rfl)
theorem dX2_date_18 : decode cX2_date 18 = .ok (.invokevirtual 85, 3) := dk_182 0 85 (dk_at dksX2_date_0 18 rfl rfl)
theorem dX2_date_21 : decode cX2_date 21 = .ok (.athrow, 1) := dk_191 (dk_at dksX2_date_0 21 rfl rfl)
theorem dX2_date_22 : decode cX2_date 22 = .ok (.aload_n 0, 1) := dk_42 (dk_at dksX2_date_0 22 rfl rfl)
theorem dX2_date_23 : decode cX2_date 23 = .ok (.getfield 47, 3) := dk_180 0 47 (dk_at dksX2_date_1 0 rfl rfl)
theorem dX2_date_26 : decode cX2_date 26 = .ok (.ldc 57, 2) := dk_18 57 (dk_at dksX2_date_1 3 rfl rfl)
theorem dX2_date_28 : decode cX2_date 28 = .ok (.if_icmp .le 9, 3) := dk_164 0 9 (dk_at dksX2_date_1 5 rfl rfl)
theorem dX2_date_31 : decode cX2_date 31 = .ok (.aload_n 0, 1) := dk_42 (dk_at dksX2_date_1 8 rfl rfl)
theorem dX2_date_32 : decode cX2_date 32 = .ok (.iconst 2, 1) := dk_5 (dk_at dksX2_date_1 9 rfl rfl)
theorem dX2_date_33 : decode cX2_date 33 = .ok (.invokevirtual 85, 3) := dk_182 0 85 (dk_at dksX2_date_1 10 rfl rfl)
theorem dX2_date_36 : decode cX2_date 36 = .ok (.athrow, 1) := dk_191 (dk_at dksX2_date_1 13 rfl rfl)
theorem dX2_date_37 : decode cX2_date 37 = .ok (.aload_n 0, 1) := dk_42 (dk_at dksX2_date_1 14 rfl rfl)
theorem dX2_date_38 : decode cX2_date 38 = .ok (.getfield 115, 3) := dk_180 0 115 (dk_at dksX2_date_1 15 rfl rfl)
theorem dX2_date_41 : decode cX2_date 41 = .ok (.getfield 126, 3) := dk_180 0 126 (dk_at dksX2_date_1 18 rfl rfl)
theorem dX2_date_44 : decode cX2_date 44 = .ok (.invokevirtual 216, 3) := dk_182 0 216 (dk_at dksX2_date_1 21 rfl rfl)
theorem dX2_date_47 : decode cX2_date 47 = .ok (.ifCond .eq 7, 3) := dk_153 0 7 (dk_at dksX2_date_2 0 rfl rfl)
theorem dX2_date_50 : decode cX2_date 50 = .ok (.aconst_null, 1) := dk_1 (dk_at dksX2_date_2 3 rfl rfl)
theorem dX2_date_51 : decode cX2_date 51 = .ok (.goto 17, 3) := dk_167 0 17 (dk_at dksX2_date_2 4 rfl rfl)
theorem dX2_date_54 : decode cX2_date 54 = .ok (.aload_n 0, 1) := dk_42 (dk_at dksX2_date_2 7 rfl rfl)
theorem dX2_date_55 : decode cX2_date 55 = .ok (.getfield 115, 3) := dk_180 0 115 (dk_at dksX2_date_2 8 rfl rfl)
theorem dX2_date_58 : decode cX2_date 58 = .ok (.getfield 126, 3) := dk_180 0 126 (dk_at dksX2_date_2 11 rfl rfl)
theorem dX2_date_61 : decode cX2_date 61 = .ok (.iconst 0, 1) := dk_3 (dk_at dksX2_date_2 14 rfl rfl)
theorem dX2_date_62 : decode cX2_date 62 = .ok (.invokevirtual 220, 3) := dk_182 0 220 (dk_at dksX2_date_2 15 rfl rfl)
theorem dX2_date_65 : decode cX2_date 65 = .ok (.checkcast 205, 3) := dk_192 0 205 (dk_at dksX2_date_2 18 rfl rfl)
theorem dX2_date_68 : decode cX2_date 68 = .ok (.astore 4, 2) := dk_58 4 (dk_at dksX2_date_2 21 rfl rfl)
theorem dX2_date_70 : decode cX2_date 70 = .ok (.aload 4, 2) := dk_25 4 (dk_at dksX2_date_3 0 rfl rfl)
theorem dX2_date_72 : decode cX2_date 72 = .ok (.ifnull 52, 3) := dk_198 0 52 (dk_at dksX2_date_3 2 rfl rfl)
theorem dX2_date_75 : decode cX2_date 75 = .ok (.aload 4, 2) := dk_25 4 (dk_at dksX2_date_3 5 rfl rfl)
theorem dX2_date_77 : decode cX2_date 77 = .ok (.iload_n 3, 1) := dk_29 (dk_at dksX2_date_3 7 rfl rfl)
theorem dX2_date_78 : decode cX2_date 78 = .ok (.i2l, 1) := dk_133 (dk_at dksX2_date_3 8 rfl rfl)
theorem dX2_date_79 : decode cX2_date 79 = .ok (.invokevirtual 224, 3) := dk_182 0 224 (dk_at dksX2_date_3 9 rfl rfl)
theorem dX2_date_82 : decode cX2_date 82 = .ok (.ifCond .eq 42, 3) := dk_153 0 42 (dk_at dksX2_date_3 12 rfl rfl)
theorem dX2_date_85 : decode cX2_date 85 = .ok (.aload_n 0, 1) := dk_42 (dk_at dksX2_date_3 15 rfl rfl)
theorem dX2_date_86 : decode cX2_date 86 = .ok (.getfield 47, 3) := dk_180 0 47 (dk_at dksX2_date_3 16 rfl rfl)
theorem dX2_date_89 : decode cX2_date 89 = .ok (.i2l, 1) := dk_133 (dk_at dksX2_date_3 19 rfl rfl)
theorem dX2_date_90 : decode cX2_date 90 = .ok (.lconst 1, 1) := dk_10 (dk_at dksX2_date_3 20 rfl rfl)
theorem dX2_date_91 : decode cX2_date 91 = .ok (.aload 4, 2) := dk_25 4 (dk_at dksX2_date_3 21 rfl rfl)
theorem dX2_date_93 : decode cX2_date 93 = .ok (.iload_n 3, 1) := dk_29 (dk_at dksX2_date_3 23 rfl rfl)
theorem dX2_date_94 : decode cX2_date 94 = .ok (.i2l, 1) := dk_133 (dk_at dksX2_date_4 0 rfl rfl)
theorem dX2_date_95 : decode cX2_date 95 = .ok (.invokevirtual 228, 3) := dk_182 0 228 (dk_at dksX2_date_4 1 rfl rfl)
theorem dX2_date_98 : decode cX2_date 98 = .ok (.invokestatic 40, 3) := dk_184 0 40 (dk_at dksX2_date_4 4 rfl rfl)
theorem dX2_date_101 : decode cX2_date 101 = .ok (.ifCond .eq 23, 3) := dk_153 0 23 (dk_at dksX2_date_4 7 rfl rfl)
theorem dX2_date_104 : decode cX2_date 104 = .ok (.aload 4, 2) := dk_25 4 (dk_at dksX2_date_4 10 rfl rfl)
theorem dX2_date_106 : decode cX2_date 106 = .ok (.iload_n 3, 1) := dk_29 (dk_at dksX2_date_4 12 rfl rfl)
theorem dX2_date_107 : decode cX2_date 107 = .ok (.i2l, 1) := dk_133 (dk_at dksX2_date_4 13 rfl rfl)
theorem dX2_date_108 : decode cX2_date 108 = .ok (.invokevirtual 231, 3) := dk_182 0 231 (dk_at dksX2_date_4 14 rfl rfl)
theorem dX2_date_111 : decode cX2_date 111 = .ok (.aload_n 0, 1) := dk_42 (dk_at dksX2_date_4 17 rfl rfl)
theorem dX2_date_112 : decode cX2_date 112 = .ok (.getfield 47, 3) := dk_180 0 47 (dk_at dksX2_date_4 18 rfl rfl)
theorem dX2_date_115 : decode cX2_date 115 = .ok (.i2l, 1) := dk_133 (dk_at dksX2_date_4 21 rfl rfl)
theorem dX2_date_116 : decode cX2_date 116 = .ok (.ladd, 1) := dk_97 (dk_at dksX2_date_4 22 rfl rfl)
theorem dX2_date_117 : decode cX2_date 117 = .ok (.lconst 1, 1) := dk_10 (dk_at dksX2_date_4 23 rfl rfl)
theorem dX2_date_118 : decode cX2_date 118 = .ok (.lsub, 1) := dk_101 (dk_at dksX2_date_5 0 rfl rfl)
theorem dX2_date_119 : decode cX2_date 119 = .ok (.lload_n 1, 1) := dk_31 (dk_at dksX2_date_5 1 rfl rfl)
theorem dX2_date_120 : decode cX2_date 120 = .ok (.lcmp, 1) := dk_148 (dk_at dksX2_date_5 2 rfl rfl)
theorem dX2_date_121 : decode cX2_date 121 = .ok (.ifCond .ge 9, 3) := dk_156 0 9 (dk_at dksX2_date_5 3 rfl rfl)
theorem dX2_date_124 : decode cX2_date 124 = .ok (.aload_n 0, 1) := dk_42 (dk_at dksX2_date_5 6 rfl rfl)
theorem dX2_date_125 : decode cX2_date 125 = .ok (.iconst 5, 1) := dk_8 (dk_at dksX2_date_5 7 rfl rfl)
theorem dX2_date_126 : decode cX2_date 126 = .ok (.invokevirtual 85, 3) := dk_182 0 85 (dk_at dksX2_date_5 8 rfl rfl)
theorem dX2_date_129 : decode cX2_date 129 = .ok (.athrow, 1) := dk_191 (dk_at dksX2_date_5 11 rfl rfl)
theorem dX2_date_130 : decode cX2_date 130 = .ok (.aload 4, 2) := dk_25 4 (dk_at dksX2_date_5 12 rfl rfl)
theorem dX2_date_132 : decode cX2_date 132 = .ok (.iload_n 3, 1) := dk_29 (dk_at dksX2_date_5 14 rfl rfl)
theorem dX2_date_133 : decode cX2_date 133 = .ok (.i2l, 1) := dk_133 (dk_at dksX2_date_5 15 rfl rfl)
theorem dX2_date_134 : decode cX2_date 134 = .ok (.invokevirtual 231, 3) := dk_182 0 231 (dk_at dksX2_date_5 16 rfl rfl)
theorem dX2_date_137 : decode cX2_date 137 = .ok (.aload_n 0, 1) := dk_42 (dk_at dksX2_date_5 19 rfl rfl)
theorem dX2_date_138 : decode cX2_date 138 = .ok (.getfield 47, 3) := dk_180 0 47 (dk_at dksX2_date_5 20 rfl rfl)
theorem dX2_date_141 : decode cX2_date 141 = .ok (.i2l, 1) := dk_133 (dk_at dksX2_date_5 23 rfl rfl)
theorem dX2_date_142 : decode cX2_date 142 = .ok (.ladd, 1) := dk_97 (dk_at dksX2_date_6 0 rfl rfl)
theorem dX2_date_143 : decode cX2_date 143 = .ok (.lconst 1, 1) := dk_10 (dk_at dksX2_date_6 1 rfl rfl)
theorem dX2_date_144 : decode cX2_date 144 = .ok (.lsub, 1) := dk_101 (dk_at dksX2_date_6 2 rfl rfl)
theorem dX2_date_145 : decode cX2_date 145 = .ok (.lstore 5, 2) := dk_55 5 (dk_at dksX2_date_6 3 rfl rfl)
theorem dX2_date_147 : decode cX2_date 147 = .ok (.aload_n 0, 1) := dk_42 (dk_at dksX2_date_6 5 rfl rfl)
theorem dX2_date_148 : decode cX2_date 148 = .ok (.invokevirtual 89, 3) := dk_182 0 89 (dk_at dksX2_date_6 6 rfl rfl)
theorem dX2_date_151 : decode cX2_date 151 = .ok (.lload 5, 2) := dk_22 5 (dk_at dksX2_date_6 9 rfl rfl)
theorem dX2_date_153 : decode cX2_date 153 = .ok (.lreturn, 1) := dk_173 (dk_at dksX2_date_6 11 rfl rfl)
abbrev cX2_deed : ByteArray := prog_14_method_19_code
def yX2_deed : MethodName := ⟨RX2, "deed", "()V"⟩
def dkwX2_deed_7 : List UInt8 := [25, 5, 182, 0, 183, 87, 177]
abbrev dktX2_deed_7 : List UInt8 := dkwX2_deed_7 ++ []
def dkwX2_deed_6 : List UInt8 := [182, 0, 89, 25, 5, 42, 3, 17, 3, 231, 182, 0, 96, 181, 1, 6, 42, 180, 0, 115, 180, 0, 137]
abbrev dktX2_deed_6 : List UInt8 := dkwX2_deed_6 ++ dktX2_deed_7
def dkwX2_deed_5 : List UInt8 := [183, 1, 5, 58, 5, 42, 16, 13, 16, 13, 182, 0, 122, 154, 0, 9, 42, 4, 182, 0, 85, 191, 42]
abbrev dktX2_deed_5 : List UInt8 := dkwX2_deed_5 ++ dktX2_deed_6
def dkwX2_deed_4 : List UInt8 := [183, 0, 255, 167, 0, 23, 187, 1, 0, 89, 27, 32, 42, 42, 180, 0, 115, 180, 0, 143, 182, 1, 2]
abbrev dktX2_deed_4 : List UInt8 := dkwX2_deed_4 ++ dktX2_deed_5
def dkwX2_deed_3 : List UInt8 := [167, 0, 49, 21, 4, 16, 11, 160, 0, 22, 187, 0, 253, 89, 27, 32, 42, 3, 18, 57, 182, 0, 96]
abbrev dktX2_deed_3 : List UInt8 := dkwX2_deed_3 ++ dktX2_deed_4
def dkwX2_deed_2 : List UInt8 := [16, 10, 160, 0, 23, 187, 0, 248, 89, 27, 32, 42, 3, 17, 3, 231, 182, 0, 96, 183, 0, 250]
abbrev dktX2_deed_2 : List UInt8 := dkwX2_deed_2 ++ dktX2_deed_3
def dkwX2_deed_1 : List UInt8 := [182, 0, 122, 154, 0, 9, 42, 4, 182, 0, 85, 191, 42, 180, 0, 47, 54, 4, 42, 182, 0, 89, 21, 4]
abbrev dktX2_deed_1 : List UInt8 := dkwX2_deed_1 ++ dktX2_deed_2
def dkwX2_deed_0 : List UInt8 := [42, 42, 180, 0, 115, 180, 0, 137, 182, 0, 172, 60, 42, 9, 182, 0, 236, 65, 42, 16, 10, 16, 12]
abbrev dktX2_deed_0 : List UInt8 := dkwX2_deed_0 ++ dktX2_deed_1
theorem dksX2_deed_0 : cX2_deed.data.toList.drop 0 = dktX2_deed_0 := by decide +kernel
theorem dksX2_deed_1 : cX2_deed.data.toList.drop 23 = dktX2_deed_1 := dk_seg dksX2_deed_0 23 rfl rfl
theorem dksX2_deed_2 : cX2_deed.data.toList.drop 47 = dktX2_deed_2 := dk_seg dksX2_deed_1 24 rfl rfl
theorem dksX2_deed_3 : cX2_deed.data.toList.drop 69 = dktX2_deed_3 := dk_seg dksX2_deed_2 22 rfl rfl
theorem dksX2_deed_4 : cX2_deed.data.toList.drop 92 = dktX2_deed_4 := dk_seg dksX2_deed_3 23 rfl rfl
theorem dksX2_deed_5 : cX2_deed.data.toList.drop 115 = dktX2_deed_5 := dk_seg dksX2_deed_4 23 rfl rfl
theorem dksX2_deed_6 : cX2_deed.data.toList.drop 138 = dktX2_deed_6 := dk_seg dksX2_deed_5 23 rfl rfl
theorem dksX2_deed_7 : cX2_deed.data.toList.drop 161 = dktX2_deed_7 := dk_seg dksX2_deed_6 23 rfl rfl
theorem dX2_deed_0 : decode cX2_deed 0 = .ok (.aload_n 0, 1) := dk_42 (dk_at dksX2_deed_0 0 rfl rfl)
theorem dX2_deed_1 : decode cX2_deed 1 = .ok (.aload_n 0, 1) := dk_42 (dk_at dksX2_deed_0 1 rfl rfl)
theorem dX2_deed_2 : decode cX2_deed 2 = .ok (.getfield 115, 3) := dk_180 0 115 (dk_at dksX2_deed_0 2 rfl rfl)
theorem dX2_deed_5 : decode cX2_deed 5 = .ok (.getfield 137, 3) := dk_180 0 137 (dk_at dksX2_deed_0 5 rfl rfl)
theorem dX2_deed_8 : decode cX2_deed 8 = .ok (.invokevirtual 172, 3) := dk_182 0 172 (dk_at dksX2_deed_0 8 rfl rfl)
theorem dX2_deed_11 : decode cX2_deed 11 = .ok (.istore_n 1, 1) := dk_60 (dk_at dksX2_deed_0 11 rfl rfl)
theorem dX2_deed_12 : decode cX2_deed 12 = .ok (.aload_n 0, 1) := dk_42 (dk_at dksX2_deed_0 12 rfl rfl)
theorem dX2_deed_13 : decode cX2_deed 13 = .ok (.lconst 0, 1) := dk_9 (dk_at dksX2_deed_0 13 rfl rfl)
theorem dX2_deed_14 : decode cX2_deed 14 = .ok (.invokevirtual 236, 3) := dk_182 0 236 (dk_at dksX2_deed_0 14 rfl rfl)
theorem dX2_deed_17 : decode cX2_deed 17 = .ok (.lstore_n 2, 1) := dk_65 (dk_at dksX2_deed_0 17 rfl rfl)
theorem dX2_deed_18 : decode cX2_deed 18 = .ok (.aload_n 0, 1) := dk_42 (dk_at dksX2_deed_0 18 rfl rfl)
theorem dX2_deed_19 : decode cX2_deed 19 = .ok (.bipush 10, 2) := dk_16 10 (dk_at dksX2_deed_0 19 rfl rfl)
theorem dX2_deed_21 : decode cX2_deed 21 = .ok (.bipush 12, 2) := dk_16 12 (dk_at dksX2_deed_0 21 rfl rfl)
theorem dX2_deed_23 : decode cX2_deed 23 = .ok (.invokevirtual 122, 3) := dk_182 0 122 (dk_at dksX2_deed_1 0 rfl rfl)
theorem dX2_deed_26 : decode cX2_deed 26 = .ok (.ifCond .ne 9, 3) := dk_154 0 9 (dk_at dksX2_deed_1 3 rfl rfl)
theorem dX2_deed_29 : decode cX2_deed 29 = .ok (.aload_n 0, 1) := dk_42 (dk_at dksX2_deed_1 6 rfl rfl)
theorem dX2_deed_30 : decode cX2_deed 30 = .ok (.iconst 1, 1) := dk_4 (dk_at dksX2_deed_1 7 rfl rfl)
theorem dX2_deed_31 : decode cX2_deed 31 = .ok (.invokevirtual 85, 3) := dk_182 0 85 (dk_at dksX2_deed_1 8 rfl rfl)
theorem dX2_deed_34 : decode cX2_deed 34 = .ok (.athrow, 1) := dk_191 (dk_at dksX2_deed_1 11 rfl rfl)
theorem dX2_deed_35 : decode cX2_deed 35 = .ok (.aload_n 0, 1) := dk_42 (dk_at dksX2_deed_1 12 rfl rfl)
theorem dX2_deed_36 : decode cX2_deed 36 = .ok (.getfield 47, 3) := dk_180 0 47 (dk_at dksX2_deed_1 13 rfl rfl)
theorem dX2_deed_39 : decode cX2_deed 39 = .ok (.istore 4, 2) := dk_54 4 (dk_at dksX2_deed_1 16 rfl rfl)
theorem dX2_deed_41 : decode cX2_deed 41 = .ok (.aload_n 0, 1) := dk_42 (dk_at dksX2_deed_1 18 rfl rfl)
theorem dX2_deed_42 : decode cX2_deed 42 = .ok (.invokevirtual 89, 3) := dk_182 0 89 (dk_at dksX2_deed_1 19 rfl rfl)
theorem dX2_deed_45 : decode cX2_deed 45 = .ok (.iload 4, 2) := dk_21 4 (dk_at dksX2_deed_1 22 rfl rfl)
theorem dX2_deed_47 : decode cX2_deed 47 = .ok (.bipush 10, 2) := dk_16 10 (dk_at dksX2_deed_2 0 rfl rfl)
theorem dX2_deed_49 : decode cX2_deed 49 = .ok (.if_icmp .ne 23, 3) := dk_160 0 23 (dk_at dksX2_deed_2 2 rfl rfl)
theorem dX2_deed_52 : decode cX2_deed 52 = .ok (.new 248, 3) := dk_187 0 248 (dk_at dksX2_deed_2 5 rfl rfl)
theorem dX2_deed_55 : decode cX2_deed 55 = .ok (.dup, 1) := dk_89 (dk_at dksX2_deed_2 8 rfl rfl)
theorem dX2_deed_56 : decode cX2_deed 56 = .ok (.iload_n 1, 1) := dk_27 (dk_at dksX2_deed_2 9 rfl rfl)
theorem dX2_deed_57 : decode cX2_deed 57 = .ok (.lload_n 2, 1) := dk_32 (dk_at dksX2_deed_2 10 rfl rfl)
theorem dX2_deed_58 : decode cX2_deed 58 = .ok (.aload_n 0, 1) := dk_42 (dk_at dksX2_deed_2 11 rfl rfl)
theorem dX2_deed_59 : decode cX2_deed 59 = .ok (.iconst 0, 1) := dk_3 (dk_at dksX2_deed_2 12 rfl rfl)
theorem dX2_deed_60 : decode cX2_deed 60 = .ok (.sipush 999, 3) := dk_17 3 231 (dk_at dksX2_deed_2 13 rfl rfl)
theorem dX2_deed_63 : decode cX2_deed 63 = .ok (.invokevirtual 96, 3) := dk_182 0 96 (dk_at dksX2_deed_2 16 rfl rfl)
theorem dX2_deed_66 : decode cX2_deed 66 = .ok (.invokespecial 250, 3) := dk_183 0 250 (dk_at dksX2_deed_2 19 rfl rfl)
theorem dX2_deed_69 : decode cX2_deed 69 = .ok (.goto 49, 3) := dk_167 0 49 (dk_at dksX2_deed_3 0 rfl rfl)
theorem dX2_deed_72 : decode cX2_deed 72 = .ok (.iload 4, 2) := dk_21 4 (dk_at dksX2_deed_3 3 rfl rfl)
theorem dX2_deed_74 : decode cX2_deed 74 = .ok (.bipush 11, 2) := dk_16 11 (dk_at dksX2_deed_3 5 rfl rfl)
theorem dX2_deed_76 : decode cX2_deed 76 = .ok (.if_icmp .ne 22, 3) := dk_160 0 22 (dk_at dksX2_deed_3 7 rfl rfl)
theorem dX2_deed_79 : decode cX2_deed 79 = .ok (.new 253, 3) := dk_187 0 253 (dk_at dksX2_deed_3 10 rfl rfl)
theorem dX2_deed_82 : decode cX2_deed 82 = .ok (.dup, 1) := dk_89 (dk_at dksX2_deed_3 13 rfl rfl)
theorem dX2_deed_83 : decode cX2_deed 83 = .ok (.iload_n 1, 1) := dk_27 (dk_at dksX2_deed_3 14 rfl rfl)
theorem dX2_deed_84 : decode cX2_deed 84 = .ok (.lload_n 2, 1) := dk_32 (dk_at dksX2_deed_3 15 rfl rfl)
theorem dX2_deed_85 : decode cX2_deed 85 = .ok (.aload_n 0, 1) := dk_42 (dk_at dksX2_deed_3 16 rfl rfl)
theorem dX2_deed_86 : decode cX2_deed 86 = .ok (.iconst 0, 1) := dk_3 (dk_at dksX2_deed_3 17 rfl rfl)
theorem dX2_deed_87 : decode cX2_deed 87 = .ok (.ldc 57, 2) := dk_18 57 (dk_at dksX2_deed_3 18 rfl rfl)
theorem dX2_deed_89 : decode cX2_deed 89 = .ok (.invokevirtual 96, 3) := dk_182 0 96 (dk_at dksX2_deed_3 20 rfl rfl)
theorem dX2_deed_92 : decode cX2_deed 92 = .ok (.invokespecial 255, 3) := dk_183 0 255 (dk_at dksX2_deed_4 0 rfl rfl)
theorem dX2_deed_95 : decode cX2_deed 95 = .ok (.goto 23, 3) := dk_167 0 23 (dk_at dksX2_deed_4 3 rfl rfl)
theorem dX2_deed_98 : decode cX2_deed 98 = .ok (.new 256, 3) := dk_187 1 0 (dk_at dksX2_deed_4 6 rfl rfl)
theorem dX2_deed_101 : decode cX2_deed 101 = .ok (.dup, 1) := dk_89 (dk_at dksX2_deed_4 9 rfl rfl)
theorem dX2_deed_102 : decode cX2_deed 102 = .ok (.iload_n 1, 1) := dk_27 (dk_at dksX2_deed_4 10 rfl rfl)
theorem dX2_deed_103 : decode cX2_deed 103 = .ok (.lload_n 2, 1) := dk_32 (dk_at dksX2_deed_4 11 rfl rfl)
theorem dX2_deed_104 : decode cX2_deed 104 = .ok (.aload_n 0, 1) := dk_42 (dk_at dksX2_deed_4 12 rfl rfl)
theorem dX2_deed_105 : decode cX2_deed 105 = .ok (.aload_n 0, 1) := dk_42 (dk_at dksX2_deed_4 13 rfl rfl)
theorem dX2_deed_106 : decode cX2_deed 106 = .ok (.getfield 115, 3) := dk_180 0 115 (dk_at dksX2_deed_4 14 rfl rfl)
theorem dX2_deed_109 : decode cX2_deed 109 = .ok (.getfield 143, 3) := dk_180 0 143 (dk_at dksX2_deed_4 17 rfl rfl)
theorem dX2_deed_112 : decode cX2_deed 112 = .ok (.invokevirtual 258, 3) := dk_182 1 2 (dk_at dksX2_deed_4 20 rfl rfl)
theorem dX2_deed_115 : decode cX2_deed 115 = .ok (.invokespecial 261, 3) := dk_183 1 5 (dk_at dksX2_deed_5 0 rfl rfl)
theorem dX2_deed_118 : decode cX2_deed 118 = .ok (.astore 5, 2) := dk_58 5 (dk_at dksX2_deed_5 3 rfl rfl)
theorem dX2_deed_120 : decode cX2_deed 120 = .ok (.aload_n 0, 1) := dk_42 (dk_at dksX2_deed_5 5 rfl rfl)
theorem dX2_deed_121 : decode cX2_deed 121 = .ok (.bipush 13, 2) := dk_16 13 (dk_at dksX2_deed_5 6 rfl rfl)
theorem dX2_deed_123 : decode cX2_deed 123 = .ok (.bipush 13, 2) := dk_16 13 (dk_at dksX2_deed_5 8 rfl rfl)
theorem dX2_deed_125 : decode cX2_deed 125 = .ok (.invokevirtual 122, 3) := dk_182 0 122 (dk_at dksX2_deed_5 10 rfl rfl)
theorem dX2_deed_128 : decode cX2_deed 128 = .ok (.ifCond .ne 9, 3) := dk_154 0 9 (dk_at dksX2_deed_5 13 rfl rfl)
theorem dX2_deed_131 : decode cX2_deed 131 = .ok (.aload_n 0, 1) := dk_42 (dk_at dksX2_deed_5 16 rfl rfl)
theorem dX2_deed_132 : decode cX2_deed 132 = .ok (.iconst 1, 1) := dk_4 (dk_at dksX2_deed_5 17 rfl rfl)
theorem dX2_deed_133 : decode cX2_deed 133 = .ok (.invokevirtual 85, 3) := dk_182 0 85 (dk_at dksX2_deed_5 18 rfl rfl)
theorem dX2_deed_136 : decode cX2_deed 136 = .ok (.athrow, 1) := dk_191 (dk_at dksX2_deed_5 21 rfl rfl)
theorem dX2_deed_137 : decode cX2_deed 137 = .ok (.aload_n 0, 1) := dk_42 (dk_at dksX2_deed_5 22 rfl rfl)
theorem dX2_deed_138 : decode cX2_deed 138 = .ok (.invokevirtual 89, 3) := dk_182 0 89 (dk_at dksX2_deed_6 0 rfl rfl)
theorem dX2_deed_141 : decode cX2_deed 141 = .ok (.aload 5, 2) := dk_25 5 (dk_at dksX2_deed_6 3 rfl rfl)
theorem dX2_deed_143 : decode cX2_deed 143 = .ok (.aload_n 0, 1) := dk_42 (dk_at dksX2_deed_6 5 rfl rfl)
theorem dX2_deed_144 : decode cX2_deed 144 = .ok (.iconst 0, 1) := dk_3 (dk_at dksX2_deed_6 6 rfl rfl)
theorem dX2_deed_145 : decode cX2_deed 145 = .ok (.sipush 999, 3) := dk_17 3 231 (dk_at dksX2_deed_6 7 rfl rfl)
theorem dX2_deed_148 : decode cX2_deed 148 = .ok (.invokevirtual 96, 3) := dk_182 0 96 (dk_at dksX2_deed_6 10 rfl rfl)
theorem dX2_deed_151 : decode cX2_deed 151 = .ok (.putfield 262, 3) := dk_181 1 6 (dk_at dksX2_deed_6 13 rfl rfl)
theorem dX2_deed_154 : decode cX2_deed 154 = .ok (.aload_n 0, 1) := dk_42 (dk_at dksX2_deed_6 16 rfl rfl)
theorem dX2_deed_155 : decode cX2_deed 155 = .ok (.getfield 115, 3) := dk_180 0 115 (dk_at dksX2_deed_6 17 rfl rfl)
theorem dX2_deed_158 : decode cX2_deed 158 = .ok (.getfield 137, 3) := dk_180 0 137 (dk_at dksX2_deed_6 20 rfl rfl)
theorem dX2_deed_161 : decode cX2_deed 161 = .ok (.aload 5, 2) := dk_25 5 (dk_at dksX2_deed_7 0 rfl rfl)
theorem dX2_deed_163 : decode cX2_deed 163 = .ok (.invokevirtual 183, 3) := dk_182 0 183 (dk_at dksX2_deed_7 2 rfl rfl)
theorem dX2_deed_166 : decode cX2_deed 166 = .ok (.pop, 1) := dk_87 (dk_at dksX2_deed_7 5 rfl rfl)
theorem dX2_deed_167 : decode cX2_deed 167 = .ok (.return_, 1) := dk_177 (dk_at dksX2_deed_7 6 rfl rfl)
abbrev cX2_ahead : ByteArray := prog_14_method_13_code
def yX2_ahead : MethodName := ⟨RX2, "ahead", "(Ljava/util/ArrayList;)I"⟩
def dkwX2_ahead_1 : List UInt8 := [2, 160, 0, 9, 42, 7, 182, 0, 85, 191, 42, 182, 0, 89, 28, 172]
abbrev dktX2_ahead_1 : List UInt8 := dkwX2_ahead_1 ++ []
def dkwX2_ahead_0 : List UInt8 := [42, 180, 0, 33, 4, 159, 0, 9, 42, 4, 182, 0, 85, 191, 43, 42, 180, 0, 47, 184, 0, 100, 61, 28]
abbrev dktX2_ahead_0 : List UInt8 := dkwX2_ahead_0 ++ dktX2_ahead_1
theorem dksX2_ahead_0 : cX2_ahead.data.toList.drop 0 = dktX2_ahead_0 := by decide +kernel
theorem dksX2_ahead_1 : cX2_ahead.data.toList.drop 24 = dktX2_ahead_1 := dk_seg dksX2_ahead_0 24 rfl rfl
theorem dX2_ahead_0 : decode cX2_ahead 0 = .ok (.aload_n 0, 1) := dk_42 (dk_at dksX2_ahead_0 0 rfl rfl)
theorem dX2_ahead_1 : decode cX2_ahead 1 = .ok (.getfield 33, 3) := dk_180 0 33 (dk_at dksX2_ahead_0 1 rfl rfl)
theorem dX2_ahead_4 : decode cX2_ahead 4 = .ok (.iconst 1, 1) := dk_4 (dk_at dksX2_ahead_0 4 rfl rfl)
theorem dX2_ahead_5 : decode cX2_ahead 5 = .ok (.if_icmp .eq 9, 3) := dk_159 0 9 (dk_at dksX2_ahead_0 5 rfl rfl)
theorem dX2_ahead_8 : decode cX2_ahead 8 = .ok (.aload_n 0, 1) := dk_42 (dk_at dksX2_ahead_0 8 rfl rfl)
theorem dX2_ahead_9 : decode cX2_ahead 9 = .ok (.iconst 1, 1) := dk_4 (dk_at dksX2_ahead_0 9 rfl rfl)
theorem dX2_ahead_10 : decode cX2_ahead 10 = .ok (.invokevirtual 85, 3) := dk_182 0 85 (dk_at dksX2_ahead_0 10 rfl rfl)
theorem dX2_ahead_13 : decode cX2_ahead 13 = .ok (.athrow, 1) := dk_191 (dk_at dksX2_ahead_0 13 rfl rfl)
theorem dX2_ahead_14 : decode cX2_ahead 14 = .ok (.aload_n 1, 1) := dk_43 (dk_at dksX2_ahead_0 14 rfl rfl)
theorem dX2_ahead_15 : decode cX2_ahead 15 = .ok (.aload_n 0, 1) := dk_42 (dk_at dksX2_ahead_0 15 rfl rfl)
theorem dX2_ahead_16 : decode cX2_ahead 16 = .ok (.getfield 47, 3) := dk_180 0 47 (dk_at dksX2_ahead_0 16 rfl rfl)
theorem dX2_ahead_19 : decode cX2_ahead 19 = .ok (.invokestatic 100, 3) := dk_184 0 100 (dk_at dksX2_ahead_0 19 rfl rfl)
theorem dX2_ahead_22 : decode cX2_ahead 22 = .ok (.istore_n 2, 1) := dk_61 (dk_at dksX2_ahead_0 22 rfl rfl)
theorem dX2_ahead_23 : decode cX2_ahead 23 = .ok (.iload_n 2, 1) := dk_28 (dk_at dksX2_ahead_0 23 rfl rfl)
theorem dX2_ahead_24 : decode cX2_ahead 24 = .ok (.iconst (-1), 1) := dk_2 (dk_at dksX2_ahead_1 0 rfl rfl)
theorem dX2_ahead_25 : decode cX2_ahead 25 = .ok (.if_icmp .ne 9, 3) := dk_160 0 9 (dk_at dksX2_ahead_1 1 rfl rfl)
theorem dX2_ahead_28 : decode cX2_ahead 28 = .ok (.aload_n 0, 1) := dk_42 (dk_at dksX2_ahead_1 4 rfl rfl)
theorem dX2_ahead_29 : decode cX2_ahead 29 = .ok (.iconst 4, 1) := dk_7 (dk_at dksX2_ahead_1 5 rfl rfl)
theorem dX2_ahead_30 : decode cX2_ahead 30 = .ok (.invokevirtual 85, 3) := dk_182 0 85 (dk_at dksX2_ahead_1 6 rfl rfl)
theorem dX2_ahead_33 : decode cX2_ahead 33 = .ok (.athrow, 1) := dk_191 (dk_at dksX2_ahead_1 9 rfl rfl)
theorem dX2_ahead_34 : decode cX2_ahead 34 = .ok (.aload_n 0, 1) := dk_42 (dk_at dksX2_ahead_1 10 rfl rfl)
theorem dX2_ahead_35 : decode cX2_ahead 35 = .ok (.invokevirtual 89, 3) := dk_182 0 89 (dk_at dksX2_ahead_1 11 rfl rfl)
theorem dX2_ahead_38 : decode cX2_ahead 38 = .ok (.iload_n 2, 1) := dk_28 (dk_at dksX2_ahead_1 14 rfl rfl)
theorem dX2_ahead_39 : decode cX2_ahead 39 = .ok (.ireturn, 1) := dk_172 (dk_at dksX2_ahead_1 15 rfl rfl)
abbrev cX2_note : ByteArray := prog_14_method_21_code
def yX2_note : MethodName := ⟨RX2, "note", "()V"⟩
def dkwX2_note_10 : List UInt8 := [42, 180, 0, 115, 180, 0, 140, 43, 182, 0, 183, 87, 177]
abbrev dktX2_note_10 : List UInt8 := dkwX2_note_10 ++ []
def dkwX2_note_9 : List UInt8 := [54, 4, 43, 28, 21, 4, 42, 17, 39, 15, 182, 0, 207, 182, 1, 19, 42, 182, 1, 14, 61, 167, 255, 27]
abbrev dktX2_note_9 : List UInt8 := dkwX2_note_9 ++ dktX2_note_10
def dkwX2_note_8 : List UInt8 := [180, 0, 143, 182, 1, 2, 3, 182, 1, 19, 167, 0, 30, 42, 42, 180, 0, 115, 180, 0, 140, 182, 1, 2]
abbrev dktX2_note_8 : List UInt8 := dkwX2_note_8 ++ dktX2_note_9
def dkwX2_note_7 : List UInt8 := [42, 180, 0, 115, 180, 0, 134, 182, 1, 2, 3, 182, 1, 19, 167, 0, 50, 43, 28, 42, 42, 180, 0, 115]
abbrev dktX2_note_7 : List UInt8 := dkwX2_note_7 ++ dktX2_note_8
def dkwX2_note_6 : List UInt8 := [182, 1, 19, 167, 0, 85, 43, 28, 42, 3, 6, 182, 0, 96, 3, 182, 1, 19, 167, 0, 70, 43, 28, 42]
abbrev dktX2_note_6 : List UInt8 := dkwX2_note_6 ++ dktX2_note_7
def dkwX2_note_5 : List UInt8 := [18, 57, 182, 0, 96, 3, 182, 1, 19, 167, 0, 101, 43, 28, 42, 3, 16, 7, 182, 0, 96, 3]
abbrev dktX2_note_5 : List UInt8 := dkwX2_note_5 ++ dktX2_note_6
def dkwX2_note_4 : List UInt8 := [167, 0, 133, 43, 28, 42, 4, 18, 57, 182, 0, 96, 3, 182, 1, 19, 167, 0, 117, 43, 28, 42, 3]
abbrev dktX2_note_4 : List UInt8 := dkwX2_note_4 ++ dktX2_note_5
def dkwX2_note_3 : List UInt8 := [42, 4, 17, 39, 15, 182, 0, 96, 62, 43, 28, 29, 42, 29, 17, 39, 15, 182, 0, 96, 182, 1, 19]
abbrev dktX2_note_3 : List UInt8 := dkwX2_note_3 ++ dktX2_note_4
def dkwX2_note_2 : List UInt8 := [170, 0, 0, 0, 0, 0, 0, 173, 0, 0, 0, 0, 0, 0, 0, 6, 0, 0, 0, 44, 0, 0, 0, 70, 0, 0, 0, 86, 0, 0, 0, 102, 0, 0, 0, 118, 0, 0, 0, 133, 0, 0, 0, 153]
abbrev dktX2_note_2 : List UInt8 := dkwX2_note_2 ++ dktX2_note_3
def dkwX2_note_1 : List UInt8 := [28, 2, 159, 0, 230, 43, 28, 182, 1, 17, 153, 0, 9, 42, 6, 182, 0, 85, 191, 42, 182, 0, 89, 28]
abbrev dktX2_note_1 : List UInt8 := dkwX2_note_1 ++ dktX2_note_2
def dkwX2_note_0 : List UInt8 := [187, 1, 9, 89, 42, 42, 180, 0, 115, 180, 0, 140, 182, 0, 172, 183, 1, 11, 76, 42, 182, 1, 14, 61]
abbrev dktX2_note_0 : List UInt8 := dkwX2_note_0 ++ dktX2_note_1
theorem dksX2_note_0 : cX2_note.data.toList.drop 0 = dktX2_note_0 := by decide +kernel
theorem dksX2_note_1 : cX2_note.data.toList.drop 24 = dktX2_note_1 := dk_seg dksX2_note_0 24 rfl rfl
theorem dksX2_note_2 : cX2_note.data.toList.drop 48 = dktX2_note_2 := dk_seg dksX2_note_1 24 rfl rfl
theorem dksX2_note_3 : cX2_note.data.toList.drop 92 = dktX2_note_3 := dk_seg dksX2_note_2 44 rfl rfl
theorem dksX2_note_4 : cX2_note.data.toList.drop 115 = dktX2_note_4 := dk_seg dksX2_note_3 23 rfl rfl
theorem dksX2_note_5 : cX2_note.data.toList.drop 138 = dktX2_note_5 := dk_seg dksX2_note_4 23 rfl rfl
theorem dksX2_note_6 : cX2_note.data.toList.drop 160 = dktX2_note_6 := dk_seg dksX2_note_5 22 rfl rfl
theorem dksX2_note_7 : cX2_note.data.toList.drop 184 = dktX2_note_7 := dk_seg dksX2_note_6 24 rfl rfl
theorem dksX2_note_8 : cX2_note.data.toList.drop 208 = dktX2_note_8 := dk_seg dksX2_note_7 24 rfl rfl
theorem dksX2_note_9 : cX2_note.data.toList.drop 232 = dktX2_note_9 := dk_seg dksX2_note_8 24 rfl rfl
theorem dksX2_note_10 : cX2_note.data.toList.drop 256 = dktX2_note_10 := dk_seg dksX2_note_9 24 rfl rfl
theorem dX2_note_0 : decode cX2_note 0 = .ok (.new 265, 3) := dk_187 1 9 (dk_at dksX2_note_0 0 rfl rfl)
theorem dX2_note_3 : decode cX2_note 3 = .ok (.dup, 1) := dk_89 (dk_at dksX2_note_0 3 rfl rfl)
theorem dX2_note_4 : decode cX2_note 4 = .ok (.aload_n 0, 1) := dk_42 (dk_at dksX2_note_0 4 rfl rfl)
theorem dX2_note_5 : decode cX2_note 5 = .ok (.aload_n 0, 1) := dk_42 (dk_at dksX2_note_0 5 rfl rfl)
theorem dX2_note_6 : decode cX2_note 6 = .ok (.getfield 115, 3) := dk_180 0 115 (dk_at dksX2_note_0 6 rfl rfl)
theorem dX2_note_9 : decode cX2_note 9 = .ok (.getfield 140, 3) := dk_180 0 140 (dk_at dksX2_note_0 9 rfl rfl)
theorem dX2_note_12 : decode cX2_note 12 = .ok (.invokevirtual 172, 3) := dk_182 0 172 (dk_at dksX2_note_0 12 rfl rfl)
theorem dX2_note_15 : decode cX2_note 15 = .ok (.invokespecial 267, 3) := dk_183 1 11 (dk_at dksX2_note_0 15 rfl rfl)
theorem dX2_note_18 : decode cX2_note 18 = .ok (.astore_n 1, 1) := dk_76 (dk_at dksX2_note_0 18 rfl rfl)
theorem dX2_note_19 : decode cX2_note 19 = .ok (.aload_n 0, 1) := dk_42 (dk_at dksX2_note_0 19 rfl rfl)
theorem dX2_note_20 : decode cX2_note 20 = .ok (.invokevirtual 270, 3) := dk_182 1 14 (dk_at dksX2_note_0 20 rfl rfl)
theorem dX2_note_23 : decode cX2_note 23 = .ok (.istore_n 2, 1) := dk_61 (dk_at dksX2_note_0 23 rfl rfl)
theorem dX2_note_24 : decode cX2_note 24 = .ok (.iload_n 2, 1) := dk_28 (dk_at dksX2_note_1 0 rfl rfl)
theorem dX2_note_25 : decode cX2_note 25 = .ok (.iconst (-1), 1) := dk_2 (dk_at dksX2_note_1 1 rfl rfl)
theorem dX2_note_26 : decode cX2_note 26 = .ok (.if_icmp .eq 230, 3) := dk_159 0 230 (dk_at dksX2_note_1 2 rfl rfl)
theorem dX2_note_29 : decode cX2_note 29 = .ok (.aload_n 1, 1) := dk_43 (dk_at dksX2_note_1 5 rfl rfl)
theorem dX2_note_30 : decode cX2_note 30 = .ok (.iload_n 2, 1) := dk_28 (dk_at dksX2_note_1 6 rfl rfl)
theorem dX2_note_31 : decode cX2_note 31 = .ok (.invokevirtual 273, 3) := dk_182 1 17 (dk_at dksX2_note_1 7 rfl rfl)
theorem dX2_note_34 : decode cX2_note 34 = .ok (.ifCond .eq 9, 3) := dk_153 0 9 (dk_at dksX2_note_1 10 rfl rfl)
theorem dX2_note_37 : decode cX2_note 37 = .ok (.aload_n 0, 1) := dk_42 (dk_at dksX2_note_1 13 rfl rfl)
theorem dX2_note_38 : decode cX2_note 38 = .ok (.iconst 3, 1) := dk_6 (dk_at dksX2_note_1 14 rfl rfl)
theorem dX2_note_39 : decode cX2_note 39 = .ok (.invokevirtual 85, 3) := dk_182 0 85 (dk_at dksX2_note_1 15 rfl rfl)
theorem dX2_note_42 : decode cX2_note 42 = .ok (.athrow, 1) := dk_191 (dk_at dksX2_note_1 18 rfl rfl)
theorem dX2_note_43 : decode cX2_note 43 = .ok (.aload_n 0, 1) := dk_42 (dk_at dksX2_note_1 19 rfl rfl)
theorem dX2_note_44 : decode cX2_note 44 = .ok (.invokevirtual 89, 3) := dk_182 0 89 (dk_at dksX2_note_1 20 rfl rfl)
theorem dX2_note_47 : decode cX2_note 47 = .ok (.iload_n 2, 1) := dk_28 (dk_at dksX2_note_1 23 rfl rfl)
theorem dX2_note_48 : decode cX2_note 48 = .ok (.tableswitch 173 0 6 #[44, 70, 86, 102, 118, 133, 153], 44) := by decide +kernel
theorem dX2_note_92 : decode cX2_note 92 = .ok (.aload_n 0, 1) := dk_42 (dk_at dksX2_note_3 0 rfl rfl)
theorem dX2_note_93 : decode cX2_note 93 = .ok (.iconst 1, 1) := dk_4 (dk_at dksX2_note_3 1 rfl rfl)
theorem dX2_note_94 : decode cX2_note 94 = .ok (.sipush 9999, 3) := dk_17 39 15 (dk_at dksX2_note_3 2 rfl rfl)
theorem dX2_note_97 : decode cX2_note 97 = .ok (.invokevirtual 96, 3) := dk_182 0 96 (dk_at dksX2_note_3 5 rfl rfl)
theorem dX2_note_100 : decode cX2_note 100 = .ok (.istore_n 3, 1) := dk_62 (dk_at dksX2_note_3 8 rfl rfl)
theorem dX2_note_101 : decode cX2_note 101 = .ok (.aload_n 1, 1) := dk_43 (dk_at dksX2_note_3 9 rfl rfl)
theorem dX2_note_102 : decode cX2_note 102 = .ok (.iload_n 2, 1) := dk_28 (dk_at dksX2_note_3 10 rfl rfl)
theorem dX2_note_103 : decode cX2_note 103 = .ok (.iload_n 3, 1) := dk_29 (dk_at dksX2_note_3 11 rfl rfl)
theorem dX2_note_104 : decode cX2_note 104 = .ok (.aload_n 0, 1) := dk_42 (dk_at dksX2_note_3 12 rfl rfl)
theorem dX2_note_105 : decode cX2_note 105 = .ok (.iload_n 3, 1) := dk_29 (dk_at dksX2_note_3 13 rfl rfl)
theorem dX2_note_106 : decode cX2_note 106 = .ok (.sipush 9999, 3) := dk_17 39 15 (dk_at dksX2_note_3 14 rfl rfl)
theorem dX2_note_109 : decode cX2_note 109 = .ok (.invokevirtual 96, 3) := dk_182 0 96 (dk_at dksX2_note_3 17 rfl rfl)
theorem dX2_note_112 : decode cX2_note 112 = .ok (.invokevirtual 275, 3) := dk_182 1 19 (dk_at dksX2_note_3 20 rfl rfl)
theorem dX2_note_115 : decode cX2_note 115 = .ok (.goto 133, 3) := dk_167 0 133 (dk_at dksX2_note_4 0 rfl rfl)
theorem dX2_note_118 : decode cX2_note 118 = .ok (.aload_n 1, 1) := dk_43 (dk_at dksX2_note_4 3 rfl rfl)
theorem dX2_note_119 : decode cX2_note 119 = .ok (.iload_n 2, 1) := dk_28 (dk_at dksX2_note_4 4 rfl rfl)
theorem dX2_note_120 : decode cX2_note 120 = .ok (.aload_n 0, 1) := dk_42 (dk_at dksX2_note_4 5 rfl rfl)
theorem dX2_note_121 : decode cX2_note 121 = .ok (.iconst 1, 1) := dk_4 (dk_at dksX2_note_4 6 rfl rfl)
theorem dX2_note_122 : decode cX2_note 122 = .ok (.ldc 57, 2) := dk_18 57 (dk_at dksX2_note_4 7 rfl rfl)
theorem dX2_note_124 : decode cX2_note 124 = .ok (.invokevirtual 96, 3) := dk_182 0 96 (dk_at dksX2_note_4 9 rfl rfl)
theorem dX2_note_127 : decode cX2_note 127 = .ok (.iconst 0, 1) := dk_3 (dk_at dksX2_note_4 12 rfl rfl)
theorem dX2_note_128 : decode cX2_note 128 = .ok (.invokevirtual 275, 3) := dk_182 1 19 (dk_at dksX2_note_4 13 rfl rfl)
theorem dX2_note_131 : decode cX2_note 131 = .ok (.goto 117, 3) := dk_167 0 117 (dk_at dksX2_note_4 16 rfl rfl)
theorem dX2_note_134 : decode cX2_note 134 = .ok (.aload_n 1, 1) := dk_43 (dk_at dksX2_note_4 19 rfl rfl)
theorem dX2_note_135 : decode cX2_note 135 = .ok (.iload_n 2, 1) := dk_28 (dk_at dksX2_note_4 20 rfl rfl)
theorem dX2_note_136 : decode cX2_note 136 = .ok (.aload_n 0, 1) := dk_42 (dk_at dksX2_note_4 21 rfl rfl)
theorem dX2_note_137 : decode cX2_note 137 = .ok (.iconst 0, 1) := dk_3 (dk_at dksX2_note_4 22 rfl rfl)
theorem dX2_note_138 : decode cX2_note 138 = .ok (.ldc 57, 2) := dk_18 57 (dk_at dksX2_note_5 0 rfl rfl)
theorem dX2_note_140 : decode cX2_note 140 = .ok (.invokevirtual 96, 3) := dk_182 0 96 (dk_at dksX2_note_5 2 rfl rfl)
theorem dX2_note_143 : decode cX2_note 143 = .ok (.iconst 0, 1) := dk_3 (dk_at dksX2_note_5 5 rfl rfl)
theorem dX2_note_144 : decode cX2_note 144 = .ok (.invokevirtual 275, 3) := dk_182 1 19 (dk_at dksX2_note_5 6 rfl rfl)
theorem dX2_note_147 : decode cX2_note 147 = .ok (.goto 101, 3) := dk_167 0 101 (dk_at dksX2_note_5 9 rfl rfl)
theorem dX2_note_150 : decode cX2_note 150 = .ok (.aload_n 1, 1) := dk_43 (dk_at dksX2_note_5 12 rfl rfl)
theorem dX2_note_151 : decode cX2_note 151 = .ok (.iload_n 2, 1) := dk_28 (dk_at dksX2_note_5 13 rfl rfl)
theorem dX2_note_152 : decode cX2_note 152 = .ok (.aload_n 0, 1) := dk_42 (dk_at dksX2_note_5 14 rfl rfl)
theorem dX2_note_153 : decode cX2_note 153 = .ok (.iconst 0, 1) := dk_3 (dk_at dksX2_note_5 15 rfl rfl)
theorem dX2_note_154 : decode cX2_note 154 = .ok (.bipush 7, 2) := dk_16 7 (dk_at dksX2_note_5 16 rfl rfl)
theorem dX2_note_156 : decode cX2_note 156 = .ok (.invokevirtual 96, 3) := dk_182 0 96 (dk_at dksX2_note_5 18 rfl rfl)
theorem dX2_note_159 : decode cX2_note 159 = .ok (.iconst 0, 1) := dk_3 (dk_at dksX2_note_5 21 rfl rfl)
theorem dX2_note_160 : decode cX2_note 160 = .ok (.invokevirtual 275, 3) := dk_182 1 19 (dk_at dksX2_note_6 0 rfl rfl)
theorem dX2_note_163 : decode cX2_note 163 = .ok (.goto 85, 3) := dk_167 0 85 (dk_at dksX2_note_6 3 rfl rfl)
theorem dX2_note_166 : decode cX2_note 166 = .ok (.aload_n 1, 1) := dk_43 (dk_at dksX2_note_6 6 rfl rfl)
theorem dX2_note_167 : decode cX2_note 167 = .ok (.iload_n 2, 1) := dk_28 (dk_at dksX2_note_6 7 rfl rfl)
theorem dX2_note_168 : decode cX2_note 168 = .ok (.aload_n 0, 1) := dk_42 (dk_at dksX2_note_6 8 rfl rfl)
theorem dX2_note_169 : decode cX2_note 169 = .ok (.iconst 0, 1) := dk_3 (dk_at dksX2_note_6 9 rfl rfl)
theorem dX2_note_170 : decode cX2_note 170 = .ok (.iconst 3, 1) := dk_6 (dk_at dksX2_note_6 10 rfl rfl)
theorem dX2_note_171 : decode cX2_note 171 = .ok (.invokevirtual 96, 3) := dk_182 0 96 (dk_at dksX2_note_6 11 rfl rfl)
theorem dX2_note_174 : decode cX2_note 174 = .ok (.iconst 0, 1) := dk_3 (dk_at dksX2_note_6 14 rfl rfl)
theorem dX2_note_175 : decode cX2_note 175 = .ok (.invokevirtual 275, 3) := dk_182 1 19 (dk_at dksX2_note_6 15 rfl rfl)
theorem dX2_note_178 : decode cX2_note 178 = .ok (.goto 70, 3) := dk_167 0 70 (dk_at dksX2_note_6 18 rfl rfl)
theorem dX2_note_181 : decode cX2_note 181 = .ok (.aload_n 1, 1) := dk_43 (dk_at dksX2_note_6 21 rfl rfl)
theorem dX2_note_182 : decode cX2_note 182 = .ok (.iload_n 2, 1) := dk_28 (dk_at dksX2_note_6 22 rfl rfl)
theorem dX2_note_183 : decode cX2_note 183 = .ok (.aload_n 0, 1) := dk_42 (dk_at dksX2_note_6 23 rfl rfl)
theorem dX2_note_184 : decode cX2_note 184 = .ok (.aload_n 0, 1) := dk_42 (dk_at dksX2_note_7 0 rfl rfl)
theorem dX2_note_185 : decode cX2_note 185 = .ok (.getfield 115, 3) := dk_180 0 115 (dk_at dksX2_note_7 1 rfl rfl)
theorem dX2_note_188 : decode cX2_note 188 = .ok (.getfield 134, 3) := dk_180 0 134 (dk_at dksX2_note_7 4 rfl rfl)
theorem dX2_note_191 : decode cX2_note 191 = .ok (.invokevirtual 258, 3) := dk_182 1 2 (dk_at dksX2_note_7 7 rfl rfl)
theorem dX2_note_194 : decode cX2_note 194 = .ok (.iconst 0, 1) := dk_3 (dk_at dksX2_note_7 10 rfl rfl)
theorem dX2_note_195 : decode cX2_note 195 = .ok (.invokevirtual 275, 3) := dk_182 1 19 (dk_at dksX2_note_7 11 rfl rfl)
theorem dX2_note_198 : decode cX2_note 198 = .ok (.goto 50, 3) := dk_167 0 50 (dk_at dksX2_note_7 14 rfl rfl)
theorem dX2_note_201 : decode cX2_note 201 = .ok (.aload_n 1, 1) := dk_43 (dk_at dksX2_note_7 17 rfl rfl)
theorem dX2_note_202 : decode cX2_note 202 = .ok (.iload_n 2, 1) := dk_28 (dk_at dksX2_note_7 18 rfl rfl)
theorem dX2_note_203 : decode cX2_note 203 = .ok (.aload_n 0, 1) := dk_42 (dk_at dksX2_note_7 19 rfl rfl)
theorem dX2_note_204 : decode cX2_note 204 = .ok (.aload_n 0, 1) := dk_42 (dk_at dksX2_note_7 20 rfl rfl)
theorem dX2_note_205 : decode cX2_note 205 = .ok (.getfield 115, 3) := dk_180 0 115 (dk_at dksX2_note_7 21 rfl rfl)
theorem dX2_note_208 : decode cX2_note 208 = .ok (.getfield 143, 3) := dk_180 0 143 (dk_at dksX2_note_8 0 rfl rfl)
theorem dX2_note_211 : decode cX2_note 211 = .ok (.invokevirtual 258, 3) := dk_182 1 2 (dk_at dksX2_note_8 3 rfl rfl)
theorem dX2_note_214 : decode cX2_note 214 = .ok (.iconst 0, 1) := dk_3 (dk_at dksX2_note_8 6 rfl rfl)
theorem dX2_note_215 : decode cX2_note 215 = .ok (.invokevirtual 275, 3) := dk_182 1 19 (dk_at dksX2_note_8 7 rfl rfl)
theorem dX2_note_218 : decode cX2_note 218 = .ok (.goto 30, 3) := dk_167 0 30 (dk_at dksX2_note_8 10 rfl rfl)
theorem dX2_note_221 : decode cX2_note 221 = .ok (.aload_n 0, 1) := dk_42 (dk_at dksX2_note_8 13 rfl rfl)
theorem dX2_note_222 : decode cX2_note 222 = .ok (.aload_n 0, 1) := dk_42 (dk_at dksX2_note_8 14 rfl rfl)
theorem dX2_note_223 : decode cX2_note 223 = .ok (.getfield 115, 3) := dk_180 0 115 (dk_at dksX2_note_8 15 rfl rfl)
theorem dX2_note_226 : decode cX2_note 226 = .ok (.getfield 140, 3) := dk_180 0 140 (dk_at dksX2_note_8 18 rfl rfl)
theorem dX2_note_229 : decode cX2_note 229 = .ok (.invokevirtual 258, 3) := dk_182 1 2 (dk_at dksX2_note_8 21 rfl rfl)
theorem dX2_note_232 : decode cX2_note 232 = .ok (.istore 4, 2) := dk_54 4 (dk_at dksX2_note_9 0 rfl rfl)
theorem dX2_note_234 : decode cX2_note 234 = .ok (.aload_n 1, 1) := dk_43 (dk_at dksX2_note_9 2 rfl rfl)
theorem dX2_note_235 : decode cX2_note 235 = .ok (.iload_n 2, 1) := dk_28 (dk_at dksX2_note_9 3 rfl rfl)
theorem dX2_note_236 : decode cX2_note 236 = .ok (.iload 4, 2) := dk_21 4 (dk_at dksX2_note_9 4 rfl rfl)
theorem dX2_note_238 : decode cX2_note 238 = .ok (.aload_n 0, 1) := dk_42 (dk_at dksX2_note_9 6 rfl rfl)
theorem dX2_note_239 : decode cX2_note 239 = .ok (.sipush 9999, 3) := dk_17 39 15 (dk_at dksX2_note_9 7 rfl rfl)
theorem dX2_note_242 : decode cX2_note 242 = .ok (.invokevirtual 207, 3) := dk_182 0 207 (dk_at dksX2_note_9 10 rfl rfl)
theorem dX2_note_245 : decode cX2_note 245 = .ok (.invokevirtual 275, 3) := dk_182 1 19 (dk_at dksX2_note_9 13 rfl rfl)
theorem dX2_note_248 : decode cX2_note 248 = .ok (.aload_n 0, 1) := dk_42 (dk_at dksX2_note_9 16 rfl rfl)
theorem dX2_note_249 : decode cX2_note 249 = .ok (.invokevirtual 270, 3) := dk_182 1 14 (dk_at dksX2_note_9 17 rfl rfl)
theorem dX2_note_252 : decode cX2_note 252 = .ok (.istore_n 2, 1) := dk_61 (dk_at dksX2_note_9 20 rfl rfl)
theorem dX2_note_253 : decode cX2_note 253 = .ok (.goto (-229), 3) := dk_167 255 27 (dk_at dksX2_note_9 21 rfl rfl)
theorem dX2_note_256 : decode cX2_note 256 = .ok (.aload_n 0, 1) := dk_42 (dk_at dksX2_note_10 0 rfl rfl)
theorem dX2_note_257 : decode cX2_note 257 = .ok (.getfield 115, 3) := dk_180 0 115 (dk_at dksX2_note_10 1 rfl rfl)
theorem dX2_note_260 : decode cX2_note 260 = .ok (.getfield 140, 3) := dk_180 0 140 (dk_at dksX2_note_10 4 rfl rfl)
theorem dX2_note_263 : decode cX2_note 263 = .ok (.aload_n 1, 1) := dk_43 (dk_at dksX2_note_10 7 rfl rfl)
theorem dX2_note_264 : decode cX2_note 264 = .ok (.invokevirtual 183, 3) := dk_182 0 183 (dk_at dksX2_note_10 8 rfl rfl)
theorem dX2_note_267 : decode cX2_note 267 = .ok (.pop, 1) := dk_87 (dk_at dksX2_note_10 11 rfl rfl)
theorem dX2_note_268 : decode cX2_note 268 = .ok (.return_, 1) := dk_177 (dk_at dksX2_note_10 12 rfl rfl)
abbrev cX2_sayingAtHand : ByteArray := prog_14_method_20_code
def yX2_sayingAtHand : MethodName := ⟨RX2, "sayingAtHand", "()I"⟩
def dkwX2_sayingAtHand_2 : List UInt8 := [3, 172, 4, 172, 5, 172, 6, 172, 7, 172, 8, 172, 16, 6, 172, 16, 7, 172, 2, 172]
abbrev dktX2_sayingAtHand_2 : List UInt8 := dkwX2_sayingAtHand_2 ++ []
def dkwX2_sayingAtHand_1 : List UInt8 := [170, 0, 0, 0, 0, 0, 101, 0, 0, 0, 5, 0, 0, 0, 21, 0, 0, 0, 95, 0, 0, 0, 87, 0, 0, 0, 89, 0, 0, 0, 101, 0, 0, 0, 101, 0, 0, 0, 101, 0, 0, 0, 101, 0, 0, 0, 101, 0, 0, 0, 101, 0, 0, 0, 93, 0, 0, 0, 98, 0, 0, 0, 101, 0, 0, 0, 101, 0, 0, 0, 101, 0, 0, 0, 85, 0, 0, 0, 83, 0, 0, 0, 91]
abbrev dktX2_sayingAtHand_1 : List UInt8 := dkwX2_sayingAtHand_1 ++ dktX2_sayingAtHand_2
def dkwX2_sayingAtHand_0 : List UInt8 := [42, 180, 0, 33, 153, 0, 5, 2, 172, 42, 180, 0, 47]
abbrev dktX2_sayingAtHand_0 : List UInt8 := dkwX2_sayingAtHand_0 ++ dktX2_sayingAtHand_1
theorem dksX2_sayingAtHand_0 : cX2_sayingAtHand.data.toList.drop 0 = dktX2_sayingAtHand_0 := by decide +kernel
theorem dksX2_sayingAtHand_1 : cX2_sayingAtHand.data.toList.drop 13 = dktX2_sayingAtHand_1 := dk_seg dksX2_sayingAtHand_0 13 rfl rfl
theorem dksX2_sayingAtHand_2 : cX2_sayingAtHand.data.toList.drop 96 = dktX2_sayingAtHand_2 := dk_seg dksX2_sayingAtHand_1 83 rfl rfl
theorem dX2_sayingAtHand_0 : decode cX2_sayingAtHand 0 = .ok (.aload_n 0, 1) := dk_42 (dk_at dksX2_sayingAtHand_0 0 rfl rfl)
theorem dX2_sayingAtHand_1 : decode cX2_sayingAtHand 1 = .ok (.getfield 33, 3) := dk_180 0 33 (dk_at dksX2_sayingAtHand_0 1 rfl rfl)
theorem dX2_sayingAtHand_4 : decode cX2_sayingAtHand 4 = .ok (.ifCond .eq 5, 3) := dk_153 0 5 (dk_at dksX2_sayingAtHand_0 4 rfl rfl)
theorem dX2_sayingAtHand_7 : decode cX2_sayingAtHand 7 = .ok (.iconst (-1), 1) := dk_2 (dk_at dksX2_sayingAtHand_0 7 rfl rfl)
theorem dX2_sayingAtHand_8 : decode cX2_sayingAtHand 8 = .ok (.ireturn, 1) := dk_172 (dk_at dksX2_sayingAtHand_0 8 rfl rfl)
theorem dX2_sayingAtHand_9 : decode cX2_sayingAtHand 9 = .ok (.aload_n 0, 1) := dk_42 (dk_at dksX2_sayingAtHand_0 9 rfl rfl)
theorem dX2_sayingAtHand_10 : decode cX2_sayingAtHand 10 = .ok (.getfield 47, 3) := dk_180 0 47 (dk_at dksX2_sayingAtHand_0 10 rfl rfl)
theorem dX2_sayingAtHand_13 : decode cX2_sayingAtHand 13 = .ok (.tableswitch 101 5 21 #[95, 87, 89, 101, 101, 101, 101, 101, 101, 93, 98, 101, 101, 101, 85, 83, 91], 83) := by decide +kernel
theorem dX2_sayingAtHand_96 : decode cX2_sayingAtHand 96 = .ok (.iconst 0, 1) := dk_3 (dk_at dksX2_sayingAtHand_2 0 rfl rfl)
theorem dX2_sayingAtHand_97 : decode cX2_sayingAtHand 97 = .ok (.ireturn, 1) := dk_172 (dk_at dksX2_sayingAtHand_2 1 rfl rfl)
theorem dX2_sayingAtHand_98 : decode cX2_sayingAtHand 98 = .ok (.iconst 1, 1) := dk_4 (dk_at dksX2_sayingAtHand_2 2 rfl rfl)
theorem dX2_sayingAtHand_99 : decode cX2_sayingAtHand 99 = .ok (.ireturn, 1) := dk_172 (dk_at dksX2_sayingAtHand_2 3 rfl rfl)
theorem dX2_sayingAtHand_100 : decode cX2_sayingAtHand 100 = .ok (.iconst 2, 1) := dk_5 (dk_at dksX2_sayingAtHand_2 4 rfl rfl)
theorem dX2_sayingAtHand_101 : decode cX2_sayingAtHand 101 = .ok (.ireturn, 1) := dk_172 (dk_at dksX2_sayingAtHand_2 5 rfl rfl)
theorem dX2_sayingAtHand_102 : decode cX2_sayingAtHand 102 = .ok (.iconst 3, 1) := dk_6 (dk_at dksX2_sayingAtHand_2 6 rfl rfl)
theorem dX2_sayingAtHand_103 : decode cX2_sayingAtHand 103 = .ok (.ireturn, 1) := dk_172 (dk_at dksX2_sayingAtHand_2 7 rfl rfl)
theorem dX2_sayingAtHand_104 : decode cX2_sayingAtHand 104 = .ok (.iconst 4, 1) := dk_7 (dk_at dksX2_sayingAtHand_2 8 rfl rfl)
theorem dX2_sayingAtHand_105 : decode cX2_sayingAtHand 105 = .ok (.ireturn, 1) := dk_172 (dk_at dksX2_sayingAtHand_2 9 rfl rfl)
theorem dX2_sayingAtHand_106 : decode cX2_sayingAtHand 106 = .ok (.iconst 5, 1) := dk_8 (dk_at dksX2_sayingAtHand_2 10 rfl rfl)
theorem dX2_sayingAtHand_107 : decode cX2_sayingAtHand 107 = .ok (.ireturn, 1) := dk_172 (dk_at dksX2_sayingAtHand_2 11 rfl rfl)
theorem dX2_sayingAtHand_108 : decode cX2_sayingAtHand 108 = .ok (.bipush 6, 2) := dk_16 6 (dk_at dksX2_sayingAtHand_2 12 rfl rfl)
theorem dX2_sayingAtHand_110 : decode cX2_sayingAtHand 110 = .ok (.ireturn, 1) := dk_172 (dk_at dksX2_sayingAtHand_2 14 rfl rfl)
theorem dX2_sayingAtHand_111 : decode cX2_sayingAtHand 111 = .ok (.bipush 7, 2) := dk_16 7 (dk_at dksX2_sayingAtHand_2 15 rfl rfl)
theorem dX2_sayingAtHand_113 : decode cX2_sayingAtHand 113 = .ok (.ireturn, 1) := dk_172 (dk_at dksX2_sayingAtHand_2 17 rfl rfl)
theorem dX2_sayingAtHand_114 : decode cX2_sayingAtHand 114 = .ok (.iconst (-1), 1) := dk_2 (dk_at dksX2_sayingAtHand_2 18 rfl rfl)
theorem dX2_sayingAtHand_115 : decode cX2_sayingAtHand 115 = .ok (.ireturn, 1) := dk_172 (dk_at dksX2_sayingAtHand_2 19 rfl rfl)
abbrev cX2_or : ByteArray := prog_14_method_23_code
def yX2_or : MethodName := ⟨RX2, "or", "()LLongYears$Part;"⟩
def dkwX2_or_1 : List UInt8 := [89, 28, 43, 42, 182, 1, 25, 183, 1, 33, 76, 167, 255, 226, 43, 176]
abbrev dktX2_or_1 : List UInt8 := dkwX2_or_1 ++ []
def dkwX2_or_0 : List UInt8 := [42, 182, 1, 25, 76, 42, 16, 16, 16, 16, 182, 0, 122, 153, 0, 25, 42, 182, 1, 28, 61, 187, 1, 31]
abbrev dktX2_or_0 : List UInt8 := dkwX2_or_0 ++ dktX2_or_1
theorem dksX2_or_0 : cX2_or.data.toList.drop 0 = dktX2_or_0 := by decide +kernel
theorem dksX2_or_1 : cX2_or.data.toList.drop 24 = dktX2_or_1 := dk_seg dksX2_or_0 24 rfl rfl
theorem dX2_or_0 : decode cX2_or 0 = .ok (.aload_n 0, 1) := dk_42 (dk_at dksX2_or_0 0 rfl rfl)
theorem dX2_or_1 : decode cX2_or 1 = .ok (.invokevirtual 281, 3) := dk_182 1 25 (dk_at dksX2_or_0 1 rfl rfl)
theorem dX2_or_4 : decode cX2_or 4 = .ok (.astore_n 1, 1) := dk_76 (dk_at dksX2_or_0 4 rfl rfl)
theorem dX2_or_5 : decode cX2_or 5 = .ok (.aload_n 0, 1) := dk_42 (dk_at dksX2_or_0 5 rfl rfl)
theorem dX2_or_6 : decode cX2_or 6 = .ok (.bipush 16, 2) := dk_16 16 (dk_at dksX2_or_0 6 rfl rfl)
theorem dX2_or_8 : decode cX2_or 8 = .ok (.bipush 16, 2) := dk_16 16 (dk_at dksX2_or_0 8 rfl rfl)
theorem dX2_or_10 : decode cX2_or 10 = .ok (.invokevirtual 122, 3) := dk_182 0 122 (dk_at dksX2_or_0 10 rfl rfl)
theorem dX2_or_13 : decode cX2_or 13 = .ok (.ifCond .eq 25, 3) := dk_153 0 25 (dk_at dksX2_or_0 13 rfl rfl)
theorem dX2_or_16 : decode cX2_or 16 = .ok (.aload_n 0, 1) := dk_42 (dk_at dksX2_or_0 16 rfl rfl)
theorem dX2_or_17 : decode cX2_or 17 = .ok (.invokevirtual 284, 3) := dk_182 1 28 (dk_at dksX2_or_0 17 rfl rfl)
theorem dX2_or_20 : decode cX2_or 20 = .ok (.istore_n 2, 1) := dk_61 (dk_at dksX2_or_0 20 rfl rfl)
theorem dX2_or_21 : decode cX2_or 21 = .ok (.new 287, 3) := dk_187 1 31 (dk_at dksX2_or_0 21 rfl rfl)
theorem dX2_or_24 : decode cX2_or 24 = .ok (.dup, 1) := dk_89 (dk_at dksX2_or_1 0 rfl rfl)
theorem dX2_or_25 : decode cX2_or 25 = .ok (.iload_n 2, 1) := dk_28 (dk_at dksX2_or_1 1 rfl rfl)
theorem dX2_or_26 : decode cX2_or 26 = .ok (.aload_n 1, 1) := dk_43 (dk_at dksX2_or_1 2 rfl rfl)
theorem dX2_or_27 : decode cX2_or 27 = .ok (.aload_n 0, 1) := dk_42 (dk_at dksX2_or_1 3 rfl rfl)
theorem dX2_or_28 : decode cX2_or 28 = .ok (.invokevirtual 281, 3) := dk_182 1 25 (dk_at dksX2_or_1 4 rfl rfl)
theorem dX2_or_31 : decode cX2_or 31 = .ok (.invokespecial 289, 3) := dk_183 1 33 (dk_at dksX2_or_1 7 rfl rfl)
theorem dX2_or_34 : decode cX2_or 34 = .ok (.astore_n 1, 1) := dk_76 (dk_at dksX2_or_1 10 rfl rfl)
theorem dX2_or_35 : decode cX2_or 35 = .ok (.goto (-30), 3) := dk_167 255 226 (dk_at dksX2_or_1 11 rfl rfl)
theorem dX2_or_38 : decode cX2_or 38 = .ok (.aload_n 1, 1) := dk_43 (dk_at dksX2_or_1 14 rfl rfl)
theorem dX2_or_39 : decode cX2_or 39 = .ok (.areturn, 1) := dk_176 (dk_at dksX2_or_1 15 rfl rfl)
abbrev cX2_and : ByteArray := prog_14_method_24_code
def yX2_and : MethodName := ⟨RX2, "and", "()LLongYears$Part;"⟩
def dkwX2_and_1 : List UInt8 := [89, 28, 43, 42, 182, 1, 36, 183, 1, 33, 76, 167, 255, 226, 43, 176]
abbrev dktX2_and_1 : List UInt8 := dkwX2_and_1 ++ []
def dkwX2_and_0 : List UInt8 := [42, 182, 1, 36, 76, 42, 16, 17, 16, 17, 182, 0, 122, 153, 0, 25, 42, 182, 1, 28, 61, 187, 1, 31]
abbrev dktX2_and_0 : List UInt8 := dkwX2_and_0 ++ dktX2_and_1
theorem dksX2_and_0 : cX2_and.data.toList.drop 0 = dktX2_and_0 := by decide +kernel
theorem dksX2_and_1 : cX2_and.data.toList.drop 24 = dktX2_and_1 := dk_seg dksX2_and_0 24 rfl rfl
theorem dX2_and_0 : decode cX2_and 0 = .ok (.aload_n 0, 1) := dk_42 (dk_at dksX2_and_0 0 rfl rfl)
theorem dX2_and_1 : decode cX2_and 1 = .ok (.invokevirtual 292, 3) := dk_182 1 36 (dk_at dksX2_and_0 1 rfl rfl)
theorem dX2_and_4 : decode cX2_and 4 = .ok (.astore_n 1, 1) := dk_76 (dk_at dksX2_and_0 4 rfl rfl)
theorem dX2_and_5 : decode cX2_and 5 = .ok (.aload_n 0, 1) := dk_42 (dk_at dksX2_and_0 5 rfl rfl)
theorem dX2_and_6 : decode cX2_and 6 = .ok (.bipush 17, 2) := dk_16 17 (dk_at dksX2_and_0 6 rfl rfl)
theorem dX2_and_8 : decode cX2_and 8 = .ok (.bipush 17, 2) := dk_16 17 (dk_at dksX2_and_0 8 rfl rfl)
theorem dX2_and_10 : decode cX2_and 10 = .ok (.invokevirtual 122, 3) := dk_182 0 122 (dk_at dksX2_and_0 10 rfl rfl)
theorem dX2_and_13 : decode cX2_and 13 = .ok (.ifCond .eq 25, 3) := dk_153 0 25 (dk_at dksX2_and_0 13 rfl rfl)
theorem dX2_and_16 : decode cX2_and 16 = .ok (.aload_n 0, 1) := dk_42 (dk_at dksX2_and_0 16 rfl rfl)
theorem dX2_and_17 : decode cX2_and 17 = .ok (.invokevirtual 284, 3) := dk_182 1 28 (dk_at dksX2_and_0 17 rfl rfl)
theorem dX2_and_20 : decode cX2_and 20 = .ok (.istore_n 2, 1) := dk_61 (dk_at dksX2_and_0 20 rfl rfl)
theorem dX2_and_21 : decode cX2_and 21 = .ok (.new 287, 3) := dk_187 1 31 (dk_at dksX2_and_0 21 rfl rfl)
theorem dX2_and_24 : decode cX2_and 24 = .ok (.dup, 1) := dk_89 (dk_at dksX2_and_1 0 rfl rfl)
theorem dX2_and_25 : decode cX2_and 25 = .ok (.iload_n 2, 1) := dk_28 (dk_at dksX2_and_1 1 rfl rfl)
theorem dX2_and_26 : decode cX2_and 26 = .ok (.aload_n 1, 1) := dk_43 (dk_at dksX2_and_1 2 rfl rfl)
theorem dX2_and_27 : decode cX2_and 27 = .ok (.aload_n 0, 1) := dk_42 (dk_at dksX2_and_1 3 rfl rfl)
theorem dX2_and_28 : decode cX2_and 28 = .ok (.invokevirtual 292, 3) := dk_182 1 36 (dk_at dksX2_and_1 4 rfl rfl)
theorem dX2_and_31 : decode cX2_and 31 = .ok (.invokespecial 289, 3) := dk_183 1 33 (dk_at dksX2_and_1 7 rfl rfl)
theorem dX2_and_34 : decode cX2_and 34 = .ok (.astore_n 1, 1) := dk_76 (dk_at dksX2_and_1 10 rfl rfl)
theorem dX2_and_35 : decode cX2_and 35 = .ok (.goto (-30), 3) := dk_167 255 226 (dk_at dksX2_and_1 11 rfl rfl)
theorem dX2_and_38 : decode cX2_and 38 = .ok (.aload_n 1, 1) := dk_43 (dk_at dksX2_and_1 14 rfl rfl)
theorem dX2_and_39 : decode cX2_and 39 = .ok (.areturn, 1) := dk_176 (dk_at dksX2_and_1 15 rfl rfl)
abbrev cX2_not : ByteArray := prog_14_method_25_code
def yX2_not : MethodName := ⟨RX2, "not", "()LLongYears$Part;"⟩
def dkwX2_not_1 : List UInt8 := [89, 42, 182, 1, 36, 183, 1, 44, 176]
abbrev dktX2_not_1 : List UInt8 := dkwX2_not_1 ++ []
def dkwX2_not_0 : List UInt8 := [42, 16, 18, 16, 18, 182, 0, 122, 154, 0, 8, 42, 182, 1, 39, 176, 42, 182, 1, 28, 87, 187, 1, 42]
abbrev dktX2_not_0 : List UInt8 := dkwX2_not_0 ++ dktX2_not_1
theorem dksX2_not_0 : cX2_not.data.toList.drop 0 = dktX2_not_0 := by decide +kernel
theorem dksX2_not_1 : cX2_not.data.toList.drop 24 = dktX2_not_1 := dk_seg dksX2_not_0 24 rfl rfl
theorem dX2_not_0 : decode cX2_not 0 = .ok (.aload_n 0, 1) := dk_42 (dk_at dksX2_not_0 0 rfl rfl)
theorem dX2_not_1 : decode cX2_not 1 = .ok (.bipush 18, 2) := dk_16 18 (dk_at dksX2_not_0 1 rfl rfl)
theorem dX2_not_3 : decode cX2_not 3 = .ok (.bipush 18, 2) := dk_16 18 (dk_at dksX2_not_0 3 rfl rfl)
theorem dX2_not_5 : decode cX2_not 5 = .ok (.invokevirtual 122, 3) := dk_182 0 122 (dk_at dksX2_not_0 5 rfl rfl)
theorem dX2_not_8 : decode cX2_not 8 = .ok (.ifCond .ne 8, 3) := dk_154 0 8 (dk_at dksX2_not_0 8 rfl rfl)
theorem dX2_not_11 : decode cX2_not 11 = .ok (.aload_n 0, 1) := dk_42 (dk_at dksX2_not_0 11 rfl rfl)
theorem dX2_not_12 : decode cX2_not 12 = .ok (.invokevirtual 295, 3) := dk_182 1 39 (dk_at dksX2_not_0 12 rfl rfl)
theorem dX2_not_15 : decode cX2_not 15 = .ok (.areturn, 1) := dk_176 (dk_at dksX2_not_0 15 rfl rfl)
theorem dX2_not_16 : decode cX2_not 16 = .ok (.aload_n 0, 1) := dk_42 (dk_at dksX2_not_0 16 rfl rfl)
theorem dX2_not_17 : decode cX2_not 17 = .ok (.invokevirtual 284, 3) := dk_182 1 28 (dk_at dksX2_not_0 17 rfl rfl)
theorem dX2_not_20 : decode cX2_not 20 = .ok (.pop, 1) := dk_87 (dk_at dksX2_not_0 20 rfl rfl)
theorem dX2_not_21 : decode cX2_not 21 = .ok (.new 298, 3) := dk_187 1 42 (dk_at dksX2_not_0 21 rfl rfl)
theorem dX2_not_24 : decode cX2_not 24 = .ok (.dup, 1) := dk_89 (dk_at dksX2_not_1 0 rfl rfl)
theorem dX2_not_25 : decode cX2_not 25 = .ok (.aload_n 0, 1) := dk_42 (dk_at dksX2_not_1 1 rfl rfl)
theorem dX2_not_26 : decode cX2_not 26 = .ok (.invokevirtual 292, 3) := dk_182 1 36 (dk_at dksX2_not_1 2 rfl rfl)
theorem dX2_not_29 : decode cX2_not 29 = .ok (.invokespecial 300, 3) := dk_183 1 44 (dk_at dksX2_not_1 5 rfl rfl)
theorem dX2_not_32 : decode cX2_not 32 = .ok (.areturn, 1) := dk_176 (dk_at dksX2_not_1 8 rfl rfl)
abbrev cX2_compare : ByteArray := prog_14_method_26_code
def yX2_compare : MethodName := ⟨RX2, "compare", "()LLongYears$Part;"⟩
def dkwX2_compare_2 : List UInt8 := [162, 0, 5, 43, 176, 42, 182, 1, 28, 61, 187, 1, 31, 89, 28, 43, 42, 182, 1, 47, 183, 1, 33, 176]
abbrev dktX2_compare_2 : List UInt8 := dkwX2_compare_2 ++ []
def dkwX2_compare_1 : List UInt8 := [16, 61, 182, 0, 92, 154, 0, 23, 42, 180, 0, 33, 6, 160, 0, 13, 42, 180, 0, 47, 17, 1, 0]
abbrev dktX2_compare_1 : List UInt8 := dkwX2_compare_1 ++ dktX2_compare_2
def dkwX2_compare_0 : List UInt8 := [42, 182, 1, 47, 76, 42, 16, 60, 182, 0, 92, 154, 0, 41, 42, 16, 62, 182, 0, 92, 154, 0, 32, 42]
abbrev dktX2_compare_0 : List UInt8 := dkwX2_compare_0 ++ dktX2_compare_1
theorem dksX2_compare_0 : cX2_compare.data.toList.drop 0 = dktX2_compare_0 := by decide +kernel
theorem dksX2_compare_1 : cX2_compare.data.toList.drop 24 = dktX2_compare_1 := dk_seg dksX2_compare_0 24 rfl rfl
theorem dksX2_compare_2 : cX2_compare.data.toList.drop 47 = dktX2_compare_2 := dk_seg dksX2_compare_1 23 rfl rfl
theorem dX2_compare_0 : decode cX2_compare 0 = .ok (.aload_n 0, 1) := dk_42 (dk_at dksX2_compare_0 0 rfl rfl)
theorem dX2_compare_1 : decode cX2_compare 1 = .ok (.invokevirtual 303, 3) := dk_182 1 47 (dk_at dksX2_compare_0 1 rfl rfl)
theorem dX2_compare_4 : decode cX2_compare 4 = .ok (.astore_n 1, 1) := dk_76 (dk_at dksX2_compare_0 4 rfl rfl)
theorem dX2_compare_5 : decode cX2_compare 5 = .ok (.aload_n 0, 1) := dk_42 (dk_at dksX2_compare_0 5 rfl rfl)
theorem dX2_compare_6 : decode cX2_compare 6 = .ok (.bipush 60, 2) := dk_16 60 (dk_at dksX2_compare_0 6 rfl rfl)
theorem dX2_compare_8 : decode cX2_compare 8 = .ok (.invokevirtual 92, 3) := dk_182 0 92 (dk_at dksX2_compare_0 8 rfl rfl)
theorem dX2_compare_11 : decode cX2_compare 11 = .ok (.ifCond .ne 41, 3) := dk_154 0 41 (dk_at dksX2_compare_0 11 rfl rfl)
theorem dX2_compare_14 : decode cX2_compare 14 = .ok (.aload_n 0, 1) := dk_42 (dk_at dksX2_compare_0 14 rfl rfl)
theorem dX2_compare_15 : decode cX2_compare 15 = .ok (.bipush 62, 2) := dk_16 62 (dk_at dksX2_compare_0 15 rfl rfl)
theorem dX2_compare_17 : decode cX2_compare 17 = .ok (.invokevirtual 92, 3) := dk_182 0 92 (dk_at dksX2_compare_0 17 rfl rfl)
theorem dX2_compare_20 : decode cX2_compare 20 = .ok (.ifCond .ne 32, 3) := dk_154 0 32 (dk_at dksX2_compare_0 20 rfl rfl)
theorem dX2_compare_23 : decode cX2_compare 23 = .ok (.aload_n 0, 1) := dk_42 (dk_at dksX2_compare_0 23 rfl rfl)
theorem dX2_compare_24 : decode cX2_compare 24 = .ok (.bipush 61, 2) := dk_16 61 (dk_at dksX2_compare_1 0 rfl rfl)
theorem dX2_compare_26 : decode cX2_compare 26 = .ok (.invokevirtual 92, 3) := dk_182 0 92 (dk_at dksX2_compare_1 2 rfl rfl)
theorem dX2_compare_29 : decode cX2_compare 29 = .ok (.ifCond .ne 23, 3) := dk_154 0 23 (dk_at dksX2_compare_1 5 rfl rfl)
theorem dX2_compare_32 : decode cX2_compare 32 = .ok (.aload_n 0, 1) := dk_42 (dk_at dksX2_compare_1 8 rfl rfl)
theorem dX2_compare_33 : decode cX2_compare 33 = .ok (.getfield 33, 3) := dk_180 0 33 (dk_at dksX2_compare_1 9 rfl rfl)
theorem dX2_compare_36 : decode cX2_compare 36 = .ok (.iconst 3, 1) := dk_6 (dk_at dksX2_compare_1 12 rfl rfl)
theorem dX2_compare_37 : decode cX2_compare 37 = .ok (.if_icmp .ne 13, 3) := dk_160 0 13 (dk_at dksX2_compare_1 13 rfl rfl)
theorem dX2_compare_40 : decode cX2_compare 40 = .ok (.aload_n 0, 1) := dk_42 (dk_at dksX2_compare_1 16 rfl rfl)
theorem dX2_compare_41 : decode cX2_compare 41 = .ok (.getfield 47, 3) := dk_180 0 47 (dk_at dksX2_compare_1 17 rfl rfl)
theorem dX2_compare_44 : decode cX2_compare 44 = .ok (.sipush 256, 3) := dk_17 1 0 (dk_at dksX2_compare_1 20 rfl rfl)
theorem dX2_compare_47 : decode cX2_compare 47 = .ok (.if_icmp .ge 5, 3) := dk_162 0 5 (dk_at dksX2_compare_2 0 rfl rfl)
theorem dX2_compare_50 : decode cX2_compare 50 = .ok (.aload_n 1, 1) := dk_43 (dk_at dksX2_compare_2 3 rfl rfl)
theorem dX2_compare_51 : decode cX2_compare 51 = .ok (.areturn, 1) := dk_176 (dk_at dksX2_compare_2 4 rfl rfl)
theorem dX2_compare_52 : decode cX2_compare 52 = .ok (.aload_n 0, 1) := dk_42 (dk_at dksX2_compare_2 5 rfl rfl)
theorem dX2_compare_53 : decode cX2_compare 53 = .ok (.invokevirtual 284, 3) := dk_182 1 28 (dk_at dksX2_compare_2 6 rfl rfl)
theorem dX2_compare_56 : decode cX2_compare 56 = .ok (.istore_n 2, 1) := dk_61 (dk_at dksX2_compare_2 9 rfl rfl)
theorem dX2_compare_57 : decode cX2_compare 57 = .ok (.new 287, 3) := dk_187 1 31 (dk_at dksX2_compare_2 10 rfl rfl)
theorem dX2_compare_60 : decode cX2_compare 60 = .ok (.dup, 1) := dk_89 (dk_at dksX2_compare_2 13 rfl rfl)
theorem dX2_compare_61 : decode cX2_compare 61 = .ok (.iload_n 2, 1) := dk_28 (dk_at dksX2_compare_2 14 rfl rfl)
theorem dX2_compare_62 : decode cX2_compare 62 = .ok (.aload_n 1, 1) := dk_43 (dk_at dksX2_compare_2 15 rfl rfl)
theorem dX2_compare_63 : decode cX2_compare 63 = .ok (.aload_n 0, 1) := dk_42 (dk_at dksX2_compare_2 16 rfl rfl)
theorem dX2_compare_64 : decode cX2_compare 64 = .ok (.invokevirtual 303, 3) := dk_182 1 47 (dk_at dksX2_compare_2 17 rfl rfl)
theorem dX2_compare_67 : decode cX2_compare 67 = .ok (.invokespecial 289, 3) := dk_183 1 33 (dk_at dksX2_compare_2 20 rfl rfl)
theorem dX2_compare_70 : decode cX2_compare 70 = .ok (.areturn, 1) := dk_176 (dk_at dksX2_compare_2 23 rfl rfl)
abbrev cX2_sum : ByteArray := prog_14_method_27_code
def yX2_sum : MethodName := ⟨RX2, "sum", "()LLongYears$Part;"⟩
def dkwX2_sum_1 : List UInt8 := [182, 1, 28, 61, 187, 1, 31, 89, 28, 43, 42, 182, 1, 50, 183, 1, 33, 76, 167, 255, 219, 43, 176]
abbrev dktX2_sum_1 : List UInt8 := dkwX2_sum_1 ++ []
def dkwX2_sum_0 : List UInt8 := [42, 182, 1, 50, 76, 42, 16, 43, 182, 0, 92, 154, 0, 12, 42, 16, 45, 182, 0, 92, 153, 0, 25, 42]
abbrev dktX2_sum_0 : List UInt8 := dkwX2_sum_0 ++ dktX2_sum_1
theorem dksX2_sum_0 : cX2_sum.data.toList.drop 0 = dktX2_sum_0 := by decide +kernel
theorem dksX2_sum_1 : cX2_sum.data.toList.drop 24 = dktX2_sum_1 := dk_seg dksX2_sum_0 24 rfl rfl
theorem dX2_sum_0 : decode cX2_sum 0 = .ok (.aload_n 0, 1) := dk_42 (dk_at dksX2_sum_0 0 rfl rfl)
theorem dX2_sum_1 : decode cX2_sum 1 = .ok (.invokevirtual 306, 3) := dk_182 1 50 (dk_at dksX2_sum_0 1 rfl rfl)
theorem dX2_sum_4 : decode cX2_sum 4 = .ok (.astore_n 1, 1) := dk_76 (dk_at dksX2_sum_0 4 rfl rfl)
theorem dX2_sum_5 : decode cX2_sum 5 = .ok (.aload_n 0, 1) := dk_42 (dk_at dksX2_sum_0 5 rfl rfl)
theorem dX2_sum_6 : decode cX2_sum 6 = .ok (.bipush 43, 2) := dk_16 43 (dk_at dksX2_sum_0 6 rfl rfl)
theorem dX2_sum_8 : decode cX2_sum 8 = .ok (.invokevirtual 92, 3) := dk_182 0 92 (dk_at dksX2_sum_0 8 rfl rfl)
theorem dX2_sum_11 : decode cX2_sum 11 = .ok (.ifCond .ne 12, 3) := dk_154 0 12 (dk_at dksX2_sum_0 11 rfl rfl)
theorem dX2_sum_14 : decode cX2_sum 14 = .ok (.aload_n 0, 1) := dk_42 (dk_at dksX2_sum_0 14 rfl rfl)
theorem dX2_sum_15 : decode cX2_sum 15 = .ok (.bipush 45, 2) := dk_16 45 (dk_at dksX2_sum_0 15 rfl rfl)
theorem dX2_sum_17 : decode cX2_sum 17 = .ok (.invokevirtual 92, 3) := dk_182 0 92 (dk_at dksX2_sum_0 17 rfl rfl)
theorem dX2_sum_20 : decode cX2_sum 20 = .ok (.ifCond .eq 25, 3) := dk_153 0 25 (dk_at dksX2_sum_0 20 rfl rfl)
theorem dX2_sum_23 : decode cX2_sum 23 = .ok (.aload_n 0, 1) := dk_42 (dk_at dksX2_sum_0 23 rfl rfl)
theorem dX2_sum_24 : decode cX2_sum 24 = .ok (.invokevirtual 284, 3) := dk_182 1 28 (dk_at dksX2_sum_1 0 rfl rfl)
theorem dX2_sum_27 : decode cX2_sum 27 = .ok (.istore_n 2, 1) := dk_61 (dk_at dksX2_sum_1 3 rfl rfl)
theorem dX2_sum_28 : decode cX2_sum 28 = .ok (.new 287, 3) := dk_187 1 31 (dk_at dksX2_sum_1 4 rfl rfl)
theorem dX2_sum_31 : decode cX2_sum 31 = .ok (.dup, 1) := dk_89 (dk_at dksX2_sum_1 7 rfl rfl)
theorem dX2_sum_32 : decode cX2_sum 32 = .ok (.iload_n 2, 1) := dk_28 (dk_at dksX2_sum_1 8 rfl rfl)
theorem dX2_sum_33 : decode cX2_sum 33 = .ok (.aload_n 1, 1) := dk_43 (dk_at dksX2_sum_1 9 rfl rfl)
theorem dX2_sum_34 : decode cX2_sum 34 = .ok (.aload_n 0, 1) := dk_42 (dk_at dksX2_sum_1 10 rfl rfl)
theorem dX2_sum_35 : decode cX2_sum 35 = .ok (.invokevirtual 306, 3) := dk_182 1 50 (dk_at dksX2_sum_1 11 rfl rfl)
theorem dX2_sum_38 : decode cX2_sum 38 = .ok (.invokespecial 289, 3) := dk_183 1 33 (dk_at dksX2_sum_1 14 rfl rfl)
theorem dX2_sum_41 : decode cX2_sum 41 = .ok (.astore_n 1, 1) := dk_76 (dk_at dksX2_sum_1 17 rfl rfl)
theorem dX2_sum_42 : decode cX2_sum 42 = .ok (.goto (-37), 3) := dk_167 255 219 (dk_at dksX2_sum_1 18 rfl rfl)
theorem dX2_sum_45 : decode cX2_sum 45 = .ok (.aload_n 1, 1) := dk_43 (dk_at dksX2_sum_1 21 rfl rfl)
theorem dX2_sum_46 : decode cX2_sum 46 = .ok (.areturn, 1) := dk_176 (dk_at dksX2_sum_1 22 rfl rfl)
abbrev cX2_product : ByteArray := prog_14_method_28_code
def yX2_product : MethodName := ⟨RX2, "product", "()LLongYears$Part;"⟩
def dkwX2_product_2 : List UInt8 := [183, 1, 33, 76, 167, 255, 210, 43, 176]
abbrev dktX2_product_2 : List UInt8 := dkwX2_product_2 ++ []
def dkwX2_product_1 : List UInt8 := [16, 37, 182, 0, 92, 153, 0, 25, 42, 182, 1, 28, 61, 187, 1, 31, 89, 28, 43, 42, 182, 1, 53]
abbrev dktX2_product_1 : List UInt8 := dkwX2_product_1 ++ dktX2_product_2
def dkwX2_product_0 : List UInt8 := [42, 182, 1, 53, 76, 42, 16, 42, 182, 0, 92, 154, 0, 21, 42, 16, 47, 182, 0, 92, 154, 0, 12, 42]
abbrev dktX2_product_0 : List UInt8 := dkwX2_product_0 ++ dktX2_product_1
theorem dksX2_product_0 : cX2_product.data.toList.drop 0 = dktX2_product_0 := by decide +kernel
theorem dksX2_product_1 : cX2_product.data.toList.drop 24 = dktX2_product_1 := dk_seg dksX2_product_0 24 rfl rfl
theorem dksX2_product_2 : cX2_product.data.toList.drop 47 = dktX2_product_2 := dk_seg dksX2_product_1 23 rfl rfl
theorem dX2_product_0 : decode cX2_product 0 = .ok (.aload_n 0, 1) := dk_42 (dk_at dksX2_product_0 0 rfl rfl)
theorem dX2_product_1 : decode cX2_product 1 = .ok (.invokevirtual 309, 3) := dk_182 1 53 (dk_at dksX2_product_0 1 rfl rfl)
theorem dX2_product_4 : decode cX2_product 4 = .ok (.astore_n 1, 1) := dk_76 (dk_at dksX2_product_0 4 rfl rfl)
theorem dX2_product_5 : decode cX2_product 5 = .ok (.aload_n 0, 1) := dk_42 (dk_at dksX2_product_0 5 rfl rfl)
theorem dX2_product_6 : decode cX2_product 6 = .ok (.bipush 42, 2) := dk_16 42 (dk_at dksX2_product_0 6 rfl rfl)
theorem dX2_product_8 : decode cX2_product 8 = .ok (.invokevirtual 92, 3) := dk_182 0 92 (dk_at dksX2_product_0 8 rfl rfl)
theorem dX2_product_11 : decode cX2_product 11 = .ok (.ifCond .ne 21, 3) := dk_154 0 21 (dk_at dksX2_product_0 11 rfl rfl)
theorem dX2_product_14 : decode cX2_product 14 = .ok (.aload_n 0, 1) := dk_42 (dk_at dksX2_product_0 14 rfl rfl)
theorem dX2_product_15 : decode cX2_product 15 = .ok (.bipush 47, 2) := dk_16 47 (dk_at dksX2_product_0 15 rfl rfl)
theorem dX2_product_17 : decode cX2_product 17 = .ok (.invokevirtual 92, 3) := dk_182 0 92 (dk_at dksX2_product_0 17 rfl rfl)
theorem dX2_product_20 : decode cX2_product 20 = .ok (.ifCond .ne 12, 3) := dk_154 0 12 (dk_at dksX2_product_0 20 rfl rfl)
theorem dX2_product_23 : decode cX2_product 23 = .ok (.aload_n 0, 1) := dk_42 (dk_at dksX2_product_0 23 rfl rfl)
theorem dX2_product_24 : decode cX2_product 24 = .ok (.bipush 37, 2) := dk_16 37 (dk_at dksX2_product_1 0 rfl rfl)
theorem dX2_product_26 : decode cX2_product 26 = .ok (.invokevirtual 92, 3) := dk_182 0 92 (dk_at dksX2_product_1 2 rfl rfl)
theorem dX2_product_29 : decode cX2_product 29 = .ok (.ifCond .eq 25, 3) := dk_153 0 25 (dk_at dksX2_product_1 5 rfl rfl)
theorem dX2_product_32 : decode cX2_product 32 = .ok (.aload_n 0, 1) := dk_42 (dk_at dksX2_product_1 8 rfl rfl)
theorem dX2_product_33 : decode cX2_product 33 = .ok (.invokevirtual 284, 3) := dk_182 1 28 (dk_at dksX2_product_1 9 rfl rfl)
theorem dX2_product_36 : decode cX2_product 36 = .ok (.istore_n 2, 1) := dk_61 (dk_at dksX2_product_1 12 rfl rfl)
theorem dX2_product_37 : decode cX2_product 37 = .ok (.new 287, 3) := dk_187 1 31 (dk_at dksX2_product_1 13 rfl rfl)
theorem dX2_product_40 : decode cX2_product 40 = .ok (.dup, 1) := dk_89 (dk_at dksX2_product_1 16 rfl rfl)
theorem dX2_product_41 : decode cX2_product 41 = .ok (.iload_n 2, 1) := dk_28 (dk_at dksX2_product_1 17 rfl rfl)
theorem dX2_product_42 : decode cX2_product 42 = .ok (.aload_n 1, 1) := dk_43 (dk_at dksX2_product_1 18 rfl rfl)
theorem dX2_product_43 : decode cX2_product 43 = .ok (.aload_n 0, 1) := dk_42 (dk_at dksX2_product_1 19 rfl rfl)
theorem dX2_product_44 : decode cX2_product 44 = .ok (.invokevirtual 309, 3) := dk_182 1 53 (dk_at dksX2_product_1 20 rfl rfl)
theorem dX2_product_47 : decode cX2_product 47 = .ok (.invokespecial 289, 3) := dk_183 1 33 (dk_at dksX2_product_2 0 rfl rfl)
theorem dX2_product_50 : decode cX2_product 50 = .ok (.astore_n 1, 1) := dk_76 (dk_at dksX2_product_2 3 rfl rfl)
theorem dX2_product_51 : decode cX2_product 51 = .ok (.goto (-46), 3) := dk_167 255 210 (dk_at dksX2_product_2 4 rfl rfl)
theorem dX2_product_54 : decode cX2_product 54 = .ok (.aload_n 1, 1) := dk_43 (dk_at dksX2_product_2 7 rfl rfl)
theorem dX2_product_55 : decode cX2_product 55 = .ok (.areturn, 1) := dk_176 (dk_at dksX2_product_2 8 rfl rfl)
abbrev cX2_one : ByteArray := prog_14_method_29_code
def yX2_one : MethodName := ⟨RX2, "one", "()LLongYears$Part;"⟩
def dkwX2_one_5 : List UInt8 := [160, 0, 9, 42, 4, 182, 0, 85, 191, 42, 182, 1, 28, 87, 187, 1, 62, 89, 27, 183, 1, 64, 176]
abbrev dktX2_one_5 : List UInt8 := dkwX2_one_5 ++ []
def dkwX2_one_4 : List UInt8 := [5, 182, 0, 85, 191, 187, 1, 56, 89, 42, 182, 1, 28, 183, 1, 58, 176, 42, 182, 1, 59, 60, 27, 2]
abbrev dktX2_one_4 : List UInt8 := dkwX2_one_4 ++ dktX2_one_5
def dkwX2_one_3 : List UInt8 := [182, 0, 89, 43, 176, 42, 180, 0, 33, 5, 160, 0, 31, 42, 180, 0, 47, 17, 39, 15, 164, 0, 9, 42]
abbrev dktX2_one_3 : List UInt8 := dkwX2_one_3 ++ dktX2_one_4
def dkwX2_one_2 : List UInt8 := [182, 0, 92, 154, 0, 9, 42, 4, 182, 0, 85, 191, 42, 89, 180, 0, 106, 4, 100, 181, 0, 106, 42]
abbrev dktX2_one_2 : List UInt8 := dkwX2_one_2 ++ dktX2_one_3
def dkwX2_one_1 : List UInt8 := [42, 89, 180, 0, 106, 4, 96, 181, 0, 106, 42, 182, 0, 89, 42, 182, 0, 176, 76, 42, 16, 41]
abbrev dktX2_one_1 : List UInt8 := dkwX2_one_1 ++ dktX2_one_2
def dkwX2_one_0 : List UInt8 := [42, 16, 40, 182, 0, 92, 153, 0, 68, 42, 180, 0, 106, 16, 8, 160, 0, 9, 42, 5, 182, 0, 85, 191]
abbrev dktX2_one_0 : List UInt8 := dkwX2_one_0 ++ dktX2_one_1
theorem dksX2_one_0 : cX2_one.data.toList.drop 0 = dktX2_one_0 := by decide +kernel
theorem dksX2_one_1 : cX2_one.data.toList.drop 24 = dktX2_one_1 := dk_seg dksX2_one_0 24 rfl rfl
theorem dksX2_one_2 : cX2_one.data.toList.drop 46 = dktX2_one_2 := dk_seg dksX2_one_1 22 rfl rfl
theorem dksX2_one_3 : cX2_one.data.toList.drop 69 = dktX2_one_3 := dk_seg dksX2_one_2 23 rfl rfl
theorem dksX2_one_4 : cX2_one.data.toList.drop 93 = dktX2_one_4 := dk_seg dksX2_one_3 24 rfl rfl
theorem dksX2_one_5 : cX2_one.data.toList.drop 117 = dktX2_one_5 := dk_seg dksX2_one_4 24 rfl rfl
theorem dX2_one_0 : decode cX2_one 0 = .ok (.aload_n 0, 1) := dk_42 (dk_at dksX2_one_0 0 rfl rfl)
theorem dX2_one_1 : decode cX2_one 1 = .ok (.bipush 40, 2) := dk_16 40 (dk_at dksX2_one_0 1 rfl rfl)
theorem dX2_one_3 : decode cX2_one 3 = .ok (.invokevirtual 92, 3) := dk_182 0 92 (dk_at dksX2_one_0 3 rfl rfl)
theorem dX2_one_6 : decode cX2_one 6 = .ok (.ifCond .eq 68, 3) := dk_153 0 68 (dk_at dksX2_one_0 6 rfl rfl)
theorem dX2_one_9 : decode cX2_one 9 = .ok (.aload_n 0, 1) := dk_42 (dk_at dksX2_one_0 9 rfl rfl)
theorem dX2_one_10 : decode cX2_one 10 = .ok (.getfield 106, 3) := dk_180 0 106 (dk_at dksX2_one_0 10 rfl rfl)
theorem dX2_one_13 : decode cX2_one 13 = .ok (.bipush 8, 2) := dk_16 8 (dk_at dksX2_one_0 13 rfl rfl)
theorem dX2_one_15 : decode cX2_one 15 = .ok (.if_icmp .ne 9, 3) := dk_160 0 9 (dk_at dksX2_one_0 15 rfl rfl)
theorem dX2_one_18 : decode cX2_one 18 = .ok (.aload_n 0, 1) := dk_42 (dk_at dksX2_one_0 18 rfl rfl)
theorem dX2_one_19 : decode cX2_one 19 = .ok (.iconst 2, 1) := dk_5 (dk_at dksX2_one_0 19 rfl rfl)
theorem dX2_one_20 : decode cX2_one 20 = .ok (.invokevirtual 85, 3) := dk_182 0 85 (dk_at dksX2_one_0 20 rfl rfl)
theorem dX2_one_23 : decode cX2_one 23 = .ok (.athrow, 1) := dk_191 (dk_at dksX2_one_0 23 rfl rfl)
theorem dX2_one_24 : decode cX2_one 24 = .ok (.aload_n 0, 1) := dk_42 (dk_at dksX2_one_1 0 rfl rfl)
theorem dX2_one_25 : decode cX2_one 25 = .ok (.dup, 1) := dk_89 (dk_at dksX2_one_1 1 rfl rfl)
theorem dX2_one_26 : decode cX2_one 26 = .ok (.getfield 106, 3) := dk_180 0 106 (dk_at dksX2_one_1 2 rfl rfl)
theorem dX2_one_29 : decode cX2_one 29 = .ok (.iconst 1, 1) := dk_4 (dk_at dksX2_one_1 5 rfl rfl)
theorem dX2_one_30 : decode cX2_one 30 = .ok (.iadd, 1) := dk_96 (dk_at dksX2_one_1 6 rfl rfl)
theorem dX2_one_31 : decode cX2_one 31 = .ok (.putfield 106, 3) := dk_181 0 106 (dk_at dksX2_one_1 7 rfl rfl)
theorem dX2_one_34 : decode cX2_one 34 = .ok (.aload_n 0, 1) := dk_42 (dk_at dksX2_one_1 10 rfl rfl)
theorem dX2_one_35 : decode cX2_one 35 = .ok (.invokevirtual 89, 3) := dk_182 0 89 (dk_at dksX2_one_1 11 rfl rfl)
theorem dX2_one_38 : decode cX2_one 38 = .ok (.aload_n 0, 1) := dk_42 (dk_at dksX2_one_1 14 rfl rfl)
theorem dX2_one_39 : decode cX2_one 39 = .ok (.invokevirtual 176, 3) := dk_182 0 176 (dk_at dksX2_one_1 15 rfl rfl)
theorem dX2_one_42 : decode cX2_one 42 = .ok (.astore_n 1, 1) := dk_76 (dk_at dksX2_one_1 18 rfl rfl)
theorem dX2_one_43 : decode cX2_one 43 = .ok (.aload_n 0, 1) := dk_42 (dk_at dksX2_one_1 19 rfl rfl)
theorem dX2_one_44 : decode cX2_one 44 = .ok (.bipush 41, 2) := dk_16 41 (dk_at dksX2_one_1 20 rfl rfl)
theorem dX2_one_46 : decode cX2_one 46 = .ok (.invokevirtual 92, 3) := dk_182 0 92 (dk_at dksX2_one_2 0 rfl rfl)
theorem dX2_one_49 : decode cX2_one 49 = .ok (.ifCond .ne 9, 3) := dk_154 0 9 (dk_at dksX2_one_2 3 rfl rfl)
theorem dX2_one_52 : decode cX2_one 52 = .ok (.aload_n 0, 1) := dk_42 (dk_at dksX2_one_2 6 rfl rfl)
theorem dX2_one_53 : decode cX2_one 53 = .ok (.iconst 1, 1) := dk_4 (dk_at dksX2_one_2 7 rfl rfl)
theorem dX2_one_54 : decode cX2_one 54 = .ok (.invokevirtual 85, 3) := dk_182 0 85 (dk_at dksX2_one_2 8 rfl rfl)
theorem dX2_one_57 : decode cX2_one 57 = .ok (.athrow, 1) := dk_191 (dk_at dksX2_one_2 11 rfl rfl)
theorem dX2_one_58 : decode cX2_one 58 = .ok (.aload_n 0, 1) := dk_42 (dk_at dksX2_one_2 12 rfl rfl)
theorem dX2_one_59 : decode cX2_one 59 = .ok (.dup, 1) := dk_89 (dk_at dksX2_one_2 13 rfl rfl)
theorem dX2_one_60 : decode cX2_one 60 = .ok (.getfield 106, 3) := dk_180 0 106 (dk_at dksX2_one_2 14 rfl rfl)
theorem dX2_one_63 : decode cX2_one 63 = .ok (.iconst 1, 1) := dk_4 (dk_at dksX2_one_2 17 rfl rfl)
theorem dX2_one_64 : decode cX2_one 64 = .ok (.isub, 1) := dk_100 (dk_at dksX2_one_2 18 rfl rfl)
theorem dX2_one_65 : decode cX2_one 65 = .ok (.putfield 106, 3) := dk_181 0 106 (dk_at dksX2_one_2 19 rfl rfl)
theorem dX2_one_68 : decode cX2_one 68 = .ok (.aload_n 0, 1) := dk_42 (dk_at dksX2_one_2 22 rfl rfl)
theorem dX2_one_69 : decode cX2_one 69 = .ok (.invokevirtual 89, 3) := dk_182 0 89 (dk_at dksX2_one_3 0 rfl rfl)
theorem dX2_one_72 : decode cX2_one 72 = .ok (.aload_n 1, 1) := dk_43 (dk_at dksX2_one_3 3 rfl rfl)
theorem dX2_one_73 : decode cX2_one 73 = .ok (.areturn, 1) := dk_176 (dk_at dksX2_one_3 4 rfl rfl)
theorem dX2_one_74 : decode cX2_one 74 = .ok (.aload_n 0, 1) := dk_42 (dk_at dksX2_one_3 5 rfl rfl)
theorem dX2_one_75 : decode cX2_one 75 = .ok (.getfield 33, 3) := dk_180 0 33 (dk_at dksX2_one_3 6 rfl rfl)
theorem dX2_one_78 : decode cX2_one 78 = .ok (.iconst 2, 1) := dk_5 (dk_at dksX2_one_3 9 rfl rfl)
theorem dX2_one_79 : decode cX2_one 79 = .ok (.if_icmp .ne 31, 3) := dk_160 0 31 (dk_at dksX2_one_3 10 rfl rfl)
theorem dX2_one_82 : decode cX2_one 82 = .ok (.aload_n 0, 1) := dk_42 (dk_at dksX2_one_3 13 rfl rfl)
theorem dX2_one_83 : decode cX2_one 83 = .ok (.getfield 47, 3) := dk_180 0 47 (dk_at dksX2_one_3 14 rfl rfl)
theorem dX2_one_86 : decode cX2_one 86 = .ok (.sipush 9999, 3) := dk_17 39 15 (dk_at dksX2_one_3 17 rfl rfl)
theorem dX2_one_89 : decode cX2_one 89 = .ok (.if_icmp .le 9, 3) := dk_164 0 9 (dk_at dksX2_one_3 20 rfl rfl)
theorem dX2_one_92 : decode cX2_one 92 = .ok (.aload_n 0, 1) := dk_42 (dk_at dksX2_one_3 23 rfl rfl)
theorem dX2_one_93 : decode cX2_one 93 = .ok (.iconst 2, 1) := dk_5 (dk_at dksX2_one_4 0 rfl rfl)
theorem dX2_one_94 : decode cX2_one 94 = .ok (.invokevirtual 85, 3) := dk_182 0 85 (dk_at dksX2_one_4 1 rfl rfl)
theorem dX2_one_97 : decode cX2_one 97 = .ok (.athrow, 1) := dk_191 (dk_at dksX2_one_4 4 rfl rfl)
theorem dX2_one_98 : decode cX2_one 98 = .ok (.new 312, 3) := dk_187 1 56 (dk_at dksX2_one_4 5 rfl rfl)
theorem dX2_one_101 : decode cX2_one 101 = .ok (.dup, 1) := dk_89 (dk_at dksX2_one_4 8 rfl rfl)
theorem dX2_one_102 : decode cX2_one 102 = .ok (.aload_n 0, 1) := dk_42 (dk_at dksX2_one_4 9 rfl rfl)
theorem dX2_one_103 : decode cX2_one 103 = .ok (.invokevirtual 284, 3) := dk_182 1 28 (dk_at dksX2_one_4 10 rfl rfl)
theorem dX2_one_106 : decode cX2_one 106 = .ok (.invokespecial 314, 3) := dk_183 1 58 (dk_at dksX2_one_4 13 rfl rfl)
theorem dX2_one_109 : decode cX2_one 109 = .ok (.areturn, 1) := dk_176 (dk_at dksX2_one_4 16 rfl rfl)
theorem dX2_one_110 : decode cX2_one 110 = .ok (.aload_n 0, 1) := dk_42 (dk_at dksX2_one_4 17 rfl rfl)
theorem dX2_one_111 : decode cX2_one 111 = .ok (.invokevirtual 315, 3) := dk_182 1 59 (dk_at dksX2_one_4 18 rfl rfl)
theorem dX2_one_114 : decode cX2_one 114 = .ok (.istore_n 1, 1) := dk_60 (dk_at dksX2_one_4 21 rfl rfl)
theorem dX2_one_115 : decode cX2_one 115 = .ok (.iload_n 1, 1) := dk_27 (dk_at dksX2_one_4 22 rfl rfl)
theorem dX2_one_116 : decode cX2_one 116 = .ok (.iconst (-1), 1) := dk_2 (dk_at dksX2_one_4 23 rfl rfl)
theorem dX2_one_117 : decode cX2_one 117 = .ok (.if_icmp .ne 9, 3) := dk_160 0 9 (dk_at dksX2_one_5 0 rfl rfl)
theorem dX2_one_120 : decode cX2_one 120 = .ok (.aload_n 0, 1) := dk_42 (dk_at dksX2_one_5 3 rfl rfl)
theorem dX2_one_121 : decode cX2_one 121 = .ok (.iconst 1, 1) := dk_4 (dk_at dksX2_one_5 4 rfl rfl)
theorem dX2_one_122 : decode cX2_one 122 = .ok (.invokevirtual 85, 3) := dk_182 0 85 (dk_at dksX2_one_5 5 rfl rfl)
theorem dX2_one_125 : decode cX2_one 125 = .ok (.athrow, 1) := dk_191 (dk_at dksX2_one_5 8 rfl rfl)
theorem dX2_one_126 : decode cX2_one 126 = .ok (.aload_n 0, 1) := dk_42 (dk_at dksX2_one_5 9 rfl rfl)
theorem dX2_one_127 : decode cX2_one 127 = .ok (.invokevirtual 284, 3) := dk_182 1 28 (dk_at dksX2_one_5 10 rfl rfl)
theorem dX2_one_130 : decode cX2_one 130 = .ok (.pop, 1) := dk_87 (dk_at dksX2_one_5 13 rfl rfl)
theorem dX2_one_131 : decode cX2_one 131 = .ok (.new 318, 3) := dk_187 1 62 (dk_at dksX2_one_5 14 rfl rfl)
theorem dX2_one_134 : decode cX2_one 134 = .ok (.dup, 1) := dk_89 (dk_at dksX2_one_5 17 rfl rfl)
theorem dX2_one_135 : decode cX2_one 135 = .ok (.iload_n 1, 1) := dk_27 (dk_at dksX2_one_5 18 rfl rfl)
theorem dX2_one_136 : decode cX2_one 136 = .ok (.invokespecial 320, 3) := dk_183 1 64 (dk_at dksX2_one_5 19 rfl rfl)
theorem dX2_one_139 : decode cX2_one 139 = .ok (.areturn, 1) := dk_176 (dk_at dksX2_one_5 22 rfl rfl)
abbrev cX2_knot : ByteArray := prog_14_method_22_code
def yX2_knot : MethodName := ⟨RX2, "knot", "()I"⟩
def dkwX2_knot_1 : List UInt8 := [180, 1, 22, 4, 96, 181, 1, 22, 42, 180, 0, 47, 60, 42, 182, 0, 89, 27, 172]
abbrev dktX2_knot_1 : List UInt8 := dkwX2_knot_1 ++ []
def dkwX2_knot_0 : List UInt8 := [42, 180, 0, 115, 180, 1, 22, 16, 64, 160, 0, 9, 42, 5, 182, 0, 85, 191, 42, 180, 0, 115, 89]
abbrev dktX2_knot_0 : List UInt8 := dkwX2_knot_0 ++ dktX2_knot_1
theorem dksX2_knot_0 : cX2_knot.data.toList.drop 0 = dktX2_knot_0 := by decide +kernel
theorem dksX2_knot_1 : cX2_knot.data.toList.drop 23 = dktX2_knot_1 := dk_seg dksX2_knot_0 23 rfl rfl
theorem dX2_knot_0 : decode cX2_knot 0 = .ok (.aload_n 0, 1) := dk_42 (dk_at dksX2_knot_0 0 rfl rfl)
theorem dX2_knot_1 : decode cX2_knot 1 = .ok (.getfield 115, 3) := dk_180 0 115 (dk_at dksX2_knot_0 1 rfl rfl)
theorem dX2_knot_4 : decode cX2_knot 4 = .ok (.getfield 278, 3) := dk_180 1 22 (dk_at dksX2_knot_0 4 rfl rfl)
theorem dX2_knot_7 : decode cX2_knot 7 = .ok (.bipush 64, 2) := dk_16 64 (dk_at dksX2_knot_0 7 rfl rfl)
theorem dX2_knot_9 : decode cX2_knot 9 = .ok (.if_icmp .ne 9, 3) := dk_160 0 9 (dk_at dksX2_knot_0 9 rfl rfl)
theorem dX2_knot_12 : decode cX2_knot 12 = .ok (.aload_n 0, 1) := dk_42 (dk_at dksX2_knot_0 12 rfl rfl)
theorem dX2_knot_13 : decode cX2_knot 13 = .ok (.iconst 2, 1) := dk_5 (dk_at dksX2_knot_0 13 rfl rfl)
theorem dX2_knot_14 : decode cX2_knot 14 = .ok (.invokevirtual 85, 3) := dk_182 0 85 (dk_at dksX2_knot_0 14 rfl rfl)
theorem dX2_knot_17 : decode cX2_knot 17 = .ok (.athrow, 1) := dk_191 (dk_at dksX2_knot_0 17 rfl rfl)
theorem dX2_knot_18 : decode cX2_knot 18 = .ok (.aload_n 0, 1) := dk_42 (dk_at dksX2_knot_0 18 rfl rfl)
theorem dX2_knot_19 : decode cX2_knot 19 = .ok (.getfield 115, 3) := dk_180 0 115 (dk_at dksX2_knot_0 19 rfl rfl)
theorem dX2_knot_22 : decode cX2_knot 22 = .ok (.dup, 1) := dk_89 (dk_at dksX2_knot_0 22 rfl rfl)
theorem dX2_knot_23 : decode cX2_knot 23 = .ok (.getfield 278, 3) := dk_180 1 22 (dk_at dksX2_knot_1 0 rfl rfl)
theorem dX2_knot_26 : decode cX2_knot 26 = .ok (.iconst 1, 1) := dk_4 (dk_at dksX2_knot_1 3 rfl rfl)
theorem dX2_knot_27 : decode cX2_knot 27 = .ok (.iadd, 1) := dk_96 (dk_at dksX2_knot_1 4 rfl rfl)
theorem dX2_knot_28 : decode cX2_knot 28 = .ok (.putfield 278, 3) := dk_181 1 22 (dk_at dksX2_knot_1 5 rfl rfl)
theorem dX2_knot_31 : decode cX2_knot 31 = .ok (.aload_n 0, 1) := dk_42 (dk_at dksX2_knot_1 8 rfl rfl)
theorem dX2_knot_32 : decode cX2_knot 32 = .ok (.getfield 47, 3) := dk_180 0 47 (dk_at dksX2_knot_1 9 rfl rfl)
theorem dX2_knot_35 : decode cX2_knot 35 = .ok (.istore_n 1, 1) := dk_60 (dk_at dksX2_knot_1 12 rfl rfl)
theorem dX2_knot_36 : decode cX2_knot 36 = .ok (.aload_n 0, 1) := dk_42 (dk_at dksX2_knot_1 13 rfl rfl)
theorem dX2_knot_37 : decode cX2_knot 37 = .ok (.invokevirtual 89, 3) := dk_182 0 89 (dk_at dksX2_knot_1 14 rfl rfl)
theorem dX2_knot_40 : decode cX2_knot 40 = .ok (.iload_n 1, 1) := dk_27 (dk_at dksX2_knot_1 17 rfl rfl)
theorem dX2_knot_41 : decode cX2_knot 41 = .ok (.ireturn, 1) := dk_172 (dk_at dksX2_knot_1 18 rfl rfl)
abbrev cX2_nameAtHand : ByteArray := prog_14_method_30_code
def yX2_nameAtHand : MethodName := ⟨RX2, "nameAtHand", "()I"⟩
def dkwX2_nameAtHand_3 : List UInt8 := [160, 0, 7, 7, 167, 0, 17, 42, 180, 0, 47, 16, 22, 160, 0, 7, 8, 167, 0, 4, 2, 172]
abbrev dktX2_nameAtHand_3 : List UInt8 := dkwX2_nameAtHand_3 ++ []
def dkwX2_nameAtHand_2 : List UInt8 := [167, 0, 43, 42, 180, 0, 47, 16, 20, 160, 0, 7, 6, 167, 0, 30, 42, 180, 0, 47, 16, 21]
abbrev dktX2_nameAtHand_2 : List UInt8 := dkwX2_nameAtHand_2 ++ dktX2_nameAtHand_3
def dkwX2_nameAtHand_1 : List UInt8 := [180, 0, 47, 16, 7, 160, 0, 7, 4, 167, 0, 56, 42, 180, 0, 47, 16, 19, 160, 0, 7, 5]
abbrev dktX2_nameAtHand_1 : List UInt8 := dkwX2_nameAtHand_1 ++ dktX2_nameAtHand_2
def dkwX2_nameAtHand_0 : List UInt8 := [42, 180, 0, 33, 153, 0, 5, 2, 172, 42, 180, 0, 47, 16, 6, 160, 0, 7, 3, 167, 0, 69, 42]
abbrev dktX2_nameAtHand_0 : List UInt8 := dkwX2_nameAtHand_0 ++ dktX2_nameAtHand_1
theorem dksX2_nameAtHand_0 : cX2_nameAtHand.data.toList.drop 0 = dktX2_nameAtHand_0 := by decide +kernel
theorem dksX2_nameAtHand_1 : cX2_nameAtHand.data.toList.drop 23 = dktX2_nameAtHand_1 := dk_seg dksX2_nameAtHand_0 23 rfl rfl
theorem dksX2_nameAtHand_2 : cX2_nameAtHand.data.toList.drop 45 = dktX2_nameAtHand_2 := dk_seg dksX2_nameAtHand_1 22 rfl rfl
theorem dksX2_nameAtHand_3 : cX2_nameAtHand.data.toList.drop 67 = dktX2_nameAtHand_3 := dk_seg dksX2_nameAtHand_2 22 rfl rfl
theorem dX2_nameAtHand_0 : decode cX2_nameAtHand 0 = .ok (.aload_n 0, 1) := dk_42 (dk_at dksX2_nameAtHand_0 0 rfl rfl)
theorem dX2_nameAtHand_1 : decode cX2_nameAtHand 1 = .ok (.getfield 33, 3) := dk_180 0 33 (dk_at dksX2_nameAtHand_0 1 rfl rfl)
theorem dX2_nameAtHand_4 : decode cX2_nameAtHand 4 = .ok (.ifCond .eq 5, 3) := dk_153 0 5 (dk_at dksX2_nameAtHand_0 4 rfl rfl)
theorem dX2_nameAtHand_7 : decode cX2_nameAtHand 7 = .ok (.iconst (-1), 1) := dk_2 (dk_at dksX2_nameAtHand_0 7 rfl rfl)
theorem dX2_nameAtHand_8 : decode cX2_nameAtHand 8 = .ok (.ireturn, 1) := dk_172 (dk_at dksX2_nameAtHand_0 8 rfl rfl)
theorem dX2_nameAtHand_9 : decode cX2_nameAtHand 9 = .ok (.aload_n 0, 1) := dk_42 (dk_at dksX2_nameAtHand_0 9 rfl rfl)
theorem dX2_nameAtHand_10 : decode cX2_nameAtHand 10 = .ok (.getfield 47, 3) := dk_180 0 47 (dk_at dksX2_nameAtHand_0 10 rfl rfl)
theorem dX2_nameAtHand_13 : decode cX2_nameAtHand 13 = .ok (.bipush 6, 2) := dk_16 6 (dk_at dksX2_nameAtHand_0 13 rfl rfl)
theorem dX2_nameAtHand_15 : decode cX2_nameAtHand 15 = .ok (.if_icmp .ne 7, 3) := dk_160 0 7 (dk_at dksX2_nameAtHand_0 15 rfl rfl)
theorem dX2_nameAtHand_18 : decode cX2_nameAtHand 18 = .ok (.iconst 0, 1) := dk_3 (dk_at dksX2_nameAtHand_0 18 rfl rfl)
theorem dX2_nameAtHand_19 : decode cX2_nameAtHand 19 = .ok (.goto 69, 3) := dk_167 0 69 (dk_at dksX2_nameAtHand_0 19 rfl rfl)
theorem dX2_nameAtHand_22 : decode cX2_nameAtHand 22 = .ok (.aload_n 0, 1) := dk_42 (dk_at dksX2_nameAtHand_0 22 rfl rfl)
theorem dX2_nameAtHand_23 : decode cX2_nameAtHand 23 = .ok (.getfield 47, 3) := dk_180 0 47 (dk_at dksX2_nameAtHand_1 0 rfl rfl)
theorem dX2_nameAtHand_26 : decode cX2_nameAtHand 26 = .ok (.bipush 7, 2) := dk_16 7 (dk_at dksX2_nameAtHand_1 3 rfl rfl)
theorem dX2_nameAtHand_28 : decode cX2_nameAtHand 28 = .ok (.if_icmp .ne 7, 3) := dk_160 0 7 (dk_at dksX2_nameAtHand_1 5 rfl rfl)
theorem dX2_nameAtHand_31 : decode cX2_nameAtHand 31 = .ok (.iconst 1, 1) := dk_4 (dk_at dksX2_nameAtHand_1 8 rfl rfl)
theorem dX2_nameAtHand_32 : decode cX2_nameAtHand 32 = .ok (.goto 56, 3) := dk_167 0 56 (dk_at dksX2_nameAtHand_1 9 rfl rfl)
theorem dX2_nameAtHand_35 : decode cX2_nameAtHand 35 = .ok (.aload_n 0, 1) := dk_42 (dk_at dksX2_nameAtHand_1 12 rfl rfl)
theorem dX2_nameAtHand_36 : decode cX2_nameAtHand 36 = .ok (.getfield 47, 3) := dk_180 0 47 (dk_at dksX2_nameAtHand_1 13 rfl rfl)
theorem dX2_nameAtHand_39 : decode cX2_nameAtHand 39 = .ok (.bipush 19, 2) := dk_16 19 (dk_at dksX2_nameAtHand_1 16 rfl rfl)
theorem dX2_nameAtHand_41 : decode cX2_nameAtHand 41 = .ok (.if_icmp .ne 7, 3) := dk_160 0 7 (dk_at dksX2_nameAtHand_1 18 rfl rfl)
theorem dX2_nameAtHand_44 : decode cX2_nameAtHand 44 = .ok (.iconst 2, 1) := dk_5 (dk_at dksX2_nameAtHand_1 21 rfl rfl)
theorem dX2_nameAtHand_45 : decode cX2_nameAtHand 45 = .ok (.goto 43, 3) := dk_167 0 43 (dk_at dksX2_nameAtHand_2 0 rfl rfl)
theorem dX2_nameAtHand_48 : decode cX2_nameAtHand 48 = .ok (.aload_n 0, 1) := dk_42 (dk_at dksX2_nameAtHand_2 3 rfl rfl)
theorem dX2_nameAtHand_49 : decode cX2_nameAtHand 49 = .ok (.getfield 47, 3) := dk_180 0 47 (dk_at dksX2_nameAtHand_2 4 rfl rfl)
theorem dX2_nameAtHand_52 : decode cX2_nameAtHand 52 = .ok (.bipush 20, 2) := dk_16 20 (dk_at dksX2_nameAtHand_2 7 rfl rfl)
theorem dX2_nameAtHand_54 : decode cX2_nameAtHand 54 = .ok (.if_icmp .ne 7, 3) := dk_160 0 7 (dk_at dksX2_nameAtHand_2 9 rfl rfl)
theorem dX2_nameAtHand_57 : decode cX2_nameAtHand 57 = .ok (.iconst 3, 1) := dk_6 (dk_at dksX2_nameAtHand_2 12 rfl rfl)
theorem dX2_nameAtHand_58 : decode cX2_nameAtHand 58 = .ok (.goto 30, 3) := dk_167 0 30 (dk_at dksX2_nameAtHand_2 13 rfl rfl)
theorem dX2_nameAtHand_61 : decode cX2_nameAtHand 61 = .ok (.aload_n 0, 1) := dk_42 (dk_at dksX2_nameAtHand_2 16 rfl rfl)
theorem dX2_nameAtHand_62 : decode cX2_nameAtHand 62 = .ok (.getfield 47, 3) := dk_180 0 47 (dk_at dksX2_nameAtHand_2 17 rfl rfl)
theorem dX2_nameAtHand_65 : decode cX2_nameAtHand 65 = .ok (.bipush 21, 2) := dk_16 21 (dk_at dksX2_nameAtHand_2 20 rfl rfl)
theorem dX2_nameAtHand_67 : decode cX2_nameAtHand 67 = .ok (.if_icmp .ne 7, 3) := dk_160 0 7 (dk_at dksX2_nameAtHand_3 0 rfl rfl)
theorem dX2_nameAtHand_70 : decode cX2_nameAtHand 70 = .ok (.iconst 4, 1) := dk_7 (dk_at dksX2_nameAtHand_3 3 rfl rfl)
theorem dX2_nameAtHand_71 : decode cX2_nameAtHand 71 = .ok (.goto 17, 3) := dk_167 0 17 (dk_at dksX2_nameAtHand_3 4 rfl rfl)
theorem dX2_nameAtHand_74 : decode cX2_nameAtHand 74 = .ok (.aload_n 0, 1) := dk_42 (dk_at dksX2_nameAtHand_3 7 rfl rfl)
theorem dX2_nameAtHand_75 : decode cX2_nameAtHand 75 = .ok (.getfield 47, 3) := dk_180 0 47 (dk_at dksX2_nameAtHand_3 8 rfl rfl)
theorem dX2_nameAtHand_78 : decode cX2_nameAtHand 78 = .ok (.bipush 22, 2) := dk_16 22 (dk_at dksX2_nameAtHand_3 11 rfl rfl)
theorem dX2_nameAtHand_80 : decode cX2_nameAtHand 80 = .ok (.if_icmp .ne 7, 3) := dk_160 0 7 (dk_at dksX2_nameAtHand_3 13 rfl rfl)
theorem dX2_nameAtHand_83 : decode cX2_nameAtHand 83 = .ok (.iconst 5, 1) := dk_8 (dk_at dksX2_nameAtHand_3 16 rfl rfl)
theorem dX2_nameAtHand_84 : decode cX2_nameAtHand 84 = .ok (.goto 4, 3) := dk_167 0 4 (dk_at dksX2_nameAtHand_3 17 rfl rfl)
theorem dX2_nameAtHand_87 : decode cX2_nameAtHand 87 = .ok (.iconst (-1), 1) := dk_2 (dk_at dksX2_nameAtHand_3 20 rfl rfl)
theorem dX2_nameAtHand_88 : decode cX2_nameAtHand 88 = .ok (.ireturn, 1) := dk_172 (dk_at dksX2_nameAtHand_3 21 rfl rfl)
abbrev cX3_init : ByteArray := prog_15_method_1_code
def yX3_init : MethodName := ⟨RX3, "<init>", "()V"⟩
def dkwX3_init_4 : List UInt8 := [181, 0, 50, 177]
abbrev dktX3_init_4 : List UInt8 := dkwX3_init_4 ++ []
def dkwX3_init_3 : List UInt8 := [181, 0, 32, 42, 5, 181, 0, 36, 42, 7, 181, 0, 39, 42, 20, 0, 42, 181, 0, 44, 42, 20, 0, 48]
abbrev dktX3_init_3 : List UInt8 := dkwX3_init_3 ++ dktX3_init_4
def dkwX3_init_2 : List UInt8 := [7, 183, 0, 11, 181, 0, 26, 42, 187, 0, 9, 89, 16, 6, 183, 0, 11, 181, 0, 29, 42, 16, 7]
abbrev dktX3_init_2 : List UInt8 := dkwX3_init_2 ++ dktX3_init_3
def dkwX3_init_1 : List UInt8 := [183, 0, 11, 181, 0, 20, 42, 187, 0, 9, 89, 16, 6, 183, 0, 11, 181, 0, 23, 42, 187, 0, 9, 89]
abbrev dktX3_init_1 : List UInt8 := dkwX3_init_1 ++ dktX3_init_2
def dkwX3_init_0 : List UInt8 := [42, 183, 0, 3, 42, 187, 0, 9, 89, 7, 183, 0, 11, 181, 0, 14, 42, 187, 0, 9, 89, 7]
abbrev dktX3_init_0 : List UInt8 := dkwX3_init_0 ++ dktX3_init_1
theorem dksX3_init_0 : cX3_init.data.toList.drop 0 = dktX3_init_0 := by decide +kernel
theorem dksX3_init_1 : cX3_init.data.toList.drop 22 = dktX3_init_1 := dk_seg dksX3_init_0 22 rfl rfl
theorem dksX3_init_2 : cX3_init.data.toList.drop 46 = dktX3_init_2 := dk_seg dksX3_init_1 24 rfl rfl
theorem dksX3_init_3 : cX3_init.data.toList.drop 69 = dktX3_init_3 := dk_seg dksX3_init_2 23 rfl rfl
theorem dksX3_init_4 : cX3_init.data.toList.drop 93 = dktX3_init_4 := dk_seg dksX3_init_3 24 rfl rfl
theorem dX3_init_0 : decode cX3_init 0 = .ok (.aload_n 0, 1) := dk_42 (dk_at dksX3_init_0 0 rfl rfl)
theorem dX3_init_1 : decode cX3_init 1 = .ok (.invokespecial 3, 3) := dk_183 0 3 (dk_at dksX3_init_0 1 rfl rfl)
theorem dX3_init_4 : decode cX3_init 4 = .ok (.aload_n 0, 1) := dk_42 (dk_at dksX3_init_0 4 rfl rfl)
theorem dX3_init_5 : decode cX3_init 5 = .ok (.new 9, 3) := dk_187 0 9 (dk_at dksX3_init_0 5 rfl rfl)
theorem dX3_init_8 : decode cX3_init 8 = .ok (.dup, 1) := dk_89 (dk_at dksX3_init_0 8 rfl rfl)
theorem dX3_init_9 : decode cX3_init 9 = .ok (.iconst 4, 1) := dk_7 (dk_at dksX3_init_0 9 rfl rfl)
theorem dX3_init_10 : decode cX3_init 10 = .ok (.invokespecial 11, 3) := dk_183 0 11 (dk_at dksX3_init_0 10 rfl rfl)
theorem dX3_init_13 : decode cX3_init 13 = .ok (.putfield 14, 3) := dk_181 0 14 (dk_at dksX3_init_0 13 rfl rfl)
theorem dX3_init_16 : decode cX3_init 16 = .ok (.aload_n 0, 1) := dk_42 (dk_at dksX3_init_0 16 rfl rfl)
theorem dX3_init_17 : decode cX3_init 17 = .ok (.new 9, 3) := dk_187 0 9 (dk_at dksX3_init_0 17 rfl rfl)
theorem dX3_init_20 : decode cX3_init 20 = .ok (.dup, 1) := dk_89 (dk_at dksX3_init_0 20 rfl rfl)
theorem dX3_init_21 : decode cX3_init 21 = .ok (.iconst 4, 1) := dk_7 (dk_at dksX3_init_0 21 rfl rfl)
theorem dX3_init_22 : decode cX3_init 22 = .ok (.invokespecial 11, 3) := dk_183 0 11 (dk_at dksX3_init_1 0 rfl rfl)
theorem dX3_init_25 : decode cX3_init 25 = .ok (.putfield 20, 3) := dk_181 0 20 (dk_at dksX3_init_1 3 rfl rfl)
theorem dX3_init_28 : decode cX3_init 28 = .ok (.aload_n 0, 1) := dk_42 (dk_at dksX3_init_1 6 rfl rfl)
theorem dX3_init_29 : decode cX3_init 29 = .ok (.new 9, 3) := dk_187 0 9 (dk_at dksX3_init_1 7 rfl rfl)
theorem dX3_init_32 : decode cX3_init 32 = .ok (.dup, 1) := dk_89 (dk_at dksX3_init_1 10 rfl rfl)
theorem dX3_init_33 : decode cX3_init 33 = .ok (.bipush 6, 2) := dk_16 6 (dk_at dksX3_init_1 11 rfl rfl)
theorem dX3_init_35 : decode cX3_init 35 = .ok (.invokespecial 11, 3) := dk_183 0 11 (dk_at dksX3_init_1 13 rfl rfl)
theorem dX3_init_38 : decode cX3_init 38 = .ok (.putfield 23, 3) := dk_181 0 23 (dk_at dksX3_init_1 16 rfl rfl)
theorem dX3_init_41 : decode cX3_init 41 = .ok (.aload_n 0, 1) := dk_42 (dk_at dksX3_init_1 19 rfl rfl)
theorem dX3_init_42 : decode cX3_init 42 = .ok (.new 9, 3) := dk_187 0 9 (dk_at dksX3_init_1 20 rfl rfl)
theorem dX3_init_45 : decode cX3_init 45 = .ok (.dup, 1) := dk_89 (dk_at dksX3_init_1 23 rfl rfl)
theorem dX3_init_46 : decode cX3_init 46 = .ok (.iconst 4, 1) := dk_7 (dk_at dksX3_init_2 0 rfl rfl)
theorem dX3_init_47 : decode cX3_init 47 = .ok (.invokespecial 11, 3) := dk_183 0 11 (dk_at dksX3_init_2 1 rfl rfl)
theorem dX3_init_50 : decode cX3_init 50 = .ok (.putfield 26, 3) := dk_181 0 26 (dk_at dksX3_init_2 4 rfl rfl)
theorem dX3_init_53 : decode cX3_init 53 = .ok (.aload_n 0, 1) := dk_42 (dk_at dksX3_init_2 7 rfl rfl)
theorem dX3_init_54 : decode cX3_init 54 = .ok (.new 9, 3) := dk_187 0 9 (dk_at dksX3_init_2 8 rfl rfl)
theorem dX3_init_57 : decode cX3_init 57 = .ok (.dup, 1) := dk_89 (dk_at dksX3_init_2 11 rfl rfl)
theorem dX3_init_58 : decode cX3_init 58 = .ok (.bipush 6, 2) := dk_16 6 (dk_at dksX3_init_2 12 rfl rfl)
theorem dX3_init_60 : decode cX3_init 60 = .ok (.invokespecial 11, 3) := dk_183 0 11 (dk_at dksX3_init_2 14 rfl rfl)
theorem dX3_init_63 : decode cX3_init 63 = .ok (.putfield 29, 3) := dk_181 0 29 (dk_at dksX3_init_2 17 rfl rfl)
theorem dX3_init_66 : decode cX3_init 66 = .ok (.aload_n 0, 1) := dk_42 (dk_at dksX3_init_2 20 rfl rfl)
theorem dX3_init_67 : decode cX3_init 67 = .ok (.bipush 7, 2) := dk_16 7 (dk_at dksX3_init_2 21 rfl rfl)
theorem dX3_init_69 : decode cX3_init 69 = .ok (.putfield 32, 3) := dk_181 0 32 (dk_at dksX3_init_3 0 rfl rfl)
theorem dX3_init_72 : decode cX3_init 72 = .ok (.aload_n 0, 1) := dk_42 (dk_at dksX3_init_3 3 rfl rfl)
theorem dX3_init_73 : decode cX3_init 73 = .ok (.iconst 2, 1) := dk_5 (dk_at dksX3_init_3 4 rfl rfl)
theorem dX3_init_74 : decode cX3_init 74 = .ok (.putfield 36, 3) := dk_181 0 36 (dk_at dksX3_init_3 5 rfl rfl)
theorem dX3_init_77 : decode cX3_init 77 = .ok (.aload_n 0, 1) := dk_42 (dk_at dksX3_init_3 8 rfl rfl)
theorem dX3_init_78 : decode cX3_init 78 = .ok (.iconst 4, 1) := dk_7 (dk_at dksX3_init_3 9 rfl rfl)
theorem dX3_init_79 : decode cX3_init 79 = .ok (.putfield 39, 3) := dk_181 0 39 (dk_at dksX3_init_3 10 rfl rfl)
theorem dX3_init_82 : decode cX3_init 82 = .ok (.aload_n 0, 1) := dk_42 (dk_at dksX3_init_3 13 rfl rfl)
theorem dX3_init_83 : decode cX3_init 83 = .ok (.ldc2_w 42, 3) := dk_20 0 42 (dk_at dksX3_init_3 14 rfl rfl)
theorem dX3_init_86 : decode cX3_init 86 = .ok (.putfield 44, 3) := dk_181 0 44 (dk_at dksX3_init_3 17 rfl rfl)
theorem dX3_init_89 : decode cX3_init 89 = .ok (.aload_n 0, 1) := dk_42 (dk_at dksX3_init_3 20 rfl rfl)
theorem dX3_init_90 : decode cX3_init 90 = .ok (.ldc2_w 48, 3) := dk_20 0 48 (dk_at dksX3_init_3 21 rfl rfl)
theorem dX3_init_93 : decode cX3_init 93 = .ok (.putfield 50, 3) := dk_181 0 50 (dk_at dksX3_init_4 0 rfl rfl)
theorem dX3_init_96 : decode cX3_init 96 = .ok (.return_, 1) := dk_177 (dk_at dksX3_init_4 3 rfl rfl)
abbrev cX3_week : ByteArray := prog_15_method_2_code
def yX3_week : MethodName := ⟨RX3, "week", "(J)I"⟩
def dkwX3_week_0 : List UInt8 := [31, 42, 180, 0, 53, 133, 97, 42, 180, 0, 32, 133, 113, 136, 172]
abbrev dktX3_week_0 : List UInt8 := dkwX3_week_0 ++ []
theorem dksX3_week_0 : cX3_week.data.toList.drop 0 = dktX3_week_0 := by decide +kernel
theorem dX3_week_0 : decode cX3_week 0 = .ok (.lload_n 1, 1) := dk_31 (dk_at dksX3_week_0 0 rfl rfl)
theorem dX3_week_1 : decode cX3_week 1 = .ok (.aload_n 0, 1) := dk_42 (dk_at dksX3_week_0 1 rfl rfl)
theorem dX3_week_2 : decode cX3_week 2 = .ok (.getfield 53, 3) := dk_180 0 53 (dk_at dksX3_week_0 2 rfl rfl)
theorem dX3_week_5 : decode cX3_week 5 = .ok (.i2l, 1) := dk_133 (dk_at dksX3_week_0 5 rfl rfl)
theorem dX3_week_6 : decode cX3_week 6 = .ok (.ladd, 1) := dk_97 (dk_at dksX3_week_0 6 rfl rfl)
theorem dX3_week_7 : decode cX3_week 7 = .ok (.aload_n 0, 1) := dk_42 (dk_at dksX3_week_0 7 rfl rfl)
theorem dX3_week_8 : decode cX3_week 8 = .ok (.getfield 32, 3) := dk_180 0 32 (dk_at dksX3_week_0 8 rfl rfl)
theorem dX3_week_11 : decode cX3_week 11 = .ok (.i2l, 1) := dk_133 (dk_at dksX3_week_0 11 rfl rfl)
theorem dX3_week_12 : decode cX3_week 12 = .ok (.lrem, 1) := dk_113 (dk_at dksX3_week_0 12 rfl rfl)
theorem dX3_week_13 : decode cX3_week 13 = .ok (.l2i, 1) := dk_136 (dk_at dksX3_week_0 13 rfl rfl)
theorem dX3_week_14 : decode cX3_week 14 = .ok (.ireturn, 1) := dk_172 (dk_at dksX3_week_0 14 rfl rfl)
abbrev cX3_moon : ByteArray := prog_15_method_3_code
def yX3_moon : MethodName := ⟨RX3, "moon", "(J)I"⟩
def dkwX3_moon_1 : List UInt8 := [180, 0, 44, 109, 136, 172]
abbrev dktX3_moon_1 : List UInt8 := dkwX3_moon_1 ++ []
def dkwX3_moon_0 : List UInt8 := [31, 42, 180, 0, 36, 133, 105, 42, 180, 0, 56, 133, 97, 42, 180, 0, 44, 113, 20, 0, 59, 105, 42]
abbrev dktX3_moon_0 : List UInt8 := dkwX3_moon_0 ++ dktX3_moon_1
theorem dksX3_moon_0 : cX3_moon.data.toList.drop 0 = dktX3_moon_0 := by decide +kernel
theorem dksX3_moon_1 : cX3_moon.data.toList.drop 23 = dktX3_moon_1 := dk_seg dksX3_moon_0 23 rfl rfl
theorem dX3_moon_0 : decode cX3_moon 0 = .ok (.lload_n 1, 1) := dk_31 (dk_at dksX3_moon_0 0 rfl rfl)
theorem dX3_moon_1 : decode cX3_moon 1 = .ok (.aload_n 0, 1) := dk_42 (dk_at dksX3_moon_0 1 rfl rfl)
theorem dX3_moon_2 : decode cX3_moon 2 = .ok (.getfield 36, 3) := dk_180 0 36 (dk_at dksX3_moon_0 2 rfl rfl)
theorem dX3_moon_5 : decode cX3_moon 5 = .ok (.i2l, 1) := dk_133 (dk_at dksX3_moon_0 5 rfl rfl)
theorem dX3_moon_6 : decode cX3_moon 6 = .ok (.lmul, 1) := dk_105 (dk_at dksX3_moon_0 6 rfl rfl)
theorem dX3_moon_7 : decode cX3_moon 7 = .ok (.aload_n 0, 1) := dk_42 (dk_at dksX3_moon_0 7 rfl rfl)
theorem dX3_moon_8 : decode cX3_moon 8 = .ok (.getfield 56, 3) := dk_180 0 56 (dk_at dksX3_moon_0 8 rfl rfl)
theorem dX3_moon_11 : decode cX3_moon 11 = .ok (.i2l, 1) := dk_133 (dk_at dksX3_moon_0 11 rfl rfl)
theorem dX3_moon_12 : decode cX3_moon 12 = .ok (.ladd, 1) := dk_97 (dk_at dksX3_moon_0 12 rfl rfl)
theorem dX3_moon_13 : decode cX3_moon 13 = .ok (.aload_n 0, 1) := dk_42 (dk_at dksX3_moon_0 13 rfl rfl)
theorem dX3_moon_14 : decode cX3_moon 14 = .ok (.getfield 44, 3) := dk_180 0 44 (dk_at dksX3_moon_0 14 rfl rfl)
theorem dX3_moon_17 : decode cX3_moon 17 = .ok (.lrem, 1) := dk_113 (dk_at dksX3_moon_0 17 rfl rfl)
theorem dX3_moon_18 : decode cX3_moon 18 = .ok (.ldc2_w 59, 3) := dk_20 0 59 (dk_at dksX3_moon_0 18 rfl rfl)
theorem dX3_moon_21 : decode cX3_moon 21 = .ok (.lmul, 1) := dk_105 (dk_at dksX3_moon_0 21 rfl rfl)
theorem dX3_moon_22 : decode cX3_moon 22 = .ok (.aload_n 0, 1) := dk_42 (dk_at dksX3_moon_0 22 rfl rfl)
theorem dX3_moon_23 : decode cX3_moon 23 = .ok (.getfield 44, 3) := dk_180 0 44 (dk_at dksX3_moon_1 0 rfl rfl)
theorem dX3_moon_26 : decode cX3_moon 26 = .ok (.ldiv, 1) := dk_109 (dk_at dksX3_moon_1 3 rfl rfl)
theorem dX3_moon_27 : decode cX3_moon 27 = .ok (.l2i, 1) := dk_136 (dk_at dksX3_moon_1 4 rfl rfl)
theorem dX3_moon_28 : decode cX3_moon 28 = .ok (.ireturn, 1) := dk_172 (dk_at dksX3_moon_1 5 rfl rfl)
abbrev cX3_season : ByteArray := prog_15_method_4_code
def yX3_season : MethodName := ⟨RX3, "season", "(J)I"⟩
def dkwX3_season_0 : List UInt8 := [31, 42, 180, 0, 39, 133, 105, 42, 180, 0, 50, 113, 20, 0, 61, 105, 42, 180, 0, 50, 109, 136, 172]
abbrev dktX3_season_0 : List UInt8 := dkwX3_season_0 ++ []
theorem dksX3_season_0 : cX3_season.data.toList.drop 0 = dktX3_season_0 := by decide +kernel
theorem dX3_season_0 : decode cX3_season 0 = .ok (.lload_n 1, 1) := dk_31 (dk_at dksX3_season_0 0 rfl rfl)
theorem dX3_season_1 : decode cX3_season 1 = .ok (.aload_n 0, 1) := dk_42 (dk_at dksX3_season_0 1 rfl rfl)
theorem dX3_season_2 : decode cX3_season 2 = .ok (.getfield 39, 3) := dk_180 0 39 (dk_at dksX3_season_0 2 rfl rfl)
theorem dX3_season_5 : decode cX3_season 5 = .ok (.i2l, 1) := dk_133 (dk_at dksX3_season_0 5 rfl rfl)
theorem dX3_season_6 : decode cX3_season 6 = .ok (.lmul, 1) := dk_105 (dk_at dksX3_season_0 6 rfl rfl)
theorem dX3_season_7 : decode cX3_season 7 = .ok (.aload_n 0, 1) := dk_42 (dk_at dksX3_season_0 7 rfl rfl)
theorem dX3_season_8 : decode cX3_season 8 = .ok (.getfield 50, 3) := dk_180 0 50 (dk_at dksX3_season_0 8 rfl rfl)
theorem dX3_season_11 : decode cX3_season 11 = .ok (.lrem, 1) := dk_113 (dk_at dksX3_season_0 11 rfl rfl)
theorem dX3_season_12 : decode cX3_season 12 = .ok (.ldc2_w 61, 3) := dk_20 0 61 (dk_at dksX3_season_0 12 rfl rfl)
theorem dX3_season_15 : decode cX3_season 15 = .ok (.lmul, 1) := dk_105 (dk_at dksX3_season_0 15 rfl rfl)
theorem dX3_season_16 : decode cX3_season 16 = .ok (.aload_n 0, 1) := dk_42 (dk_at dksX3_season_0 16 rfl rfl)
theorem dX3_season_17 : decode cX3_season 17 = .ok (.getfield 50, 3) := dk_180 0 50 (dk_at dksX3_season_0 17 rfl rfl)
theorem dX3_season_20 : decode cX3_season 20 = .ok (.ldiv, 1) := dk_109 (dk_at dksX3_season_0 20 rfl rfl)
theorem dX3_season_21 : decode cX3_season 21 = .ok (.l2i, 1) := dk_136 (dk_at dksX3_season_0 21 rfl rfl)
theorem dX3_season_22 : decode cX3_season 22 = .ok (.ireturn, 1) := dk_172 (dk_at dksX3_season_0 22 rfl rfl)
abbrev cX3_year : ByteArray := prog_15_method_6_code
def yX3_year : MethodName := ⟨RX3, "year", "(J)J"⟩
def dkwX3_year_1 : List UInt8 := [192, 0, 79, 31, 182, 0, 81, 173]
abbrev dktX3_year_1 : List UInt8 := dkwX3_year_1 ++ []
def dkwX3_year_0 : List UInt8 := [42, 180, 0, 14, 182, 0, 69, 153, 0, 9, 20, 0, 73, 167, 0, 18, 42, 180, 0, 14, 3, 182, 0, 75]
abbrev dktX3_year_0 : List UInt8 := dkwX3_year_0 ++ dktX3_year_1
theorem dksX3_year_0 : cX3_year.data.toList.drop 0 = dktX3_year_0 := by decide +kernel
theorem dksX3_year_1 : cX3_year.data.toList.drop 24 = dktX3_year_1 := dk_seg dksX3_year_0 24 rfl rfl
theorem dX3_year_0 : decode cX3_year 0 = .ok (.aload_n 0, 1) := dk_42 (dk_at dksX3_year_0 0 rfl rfl)
theorem dX3_year_1 : decode cX3_year 1 = .ok (.getfield 14, 3) := dk_180 0 14 (dk_at dksX3_year_0 1 rfl rfl)
theorem dX3_year_4 : decode cX3_year 4 = .ok (.invokevirtual 69, 3) := dk_182 0 69 (dk_at dksX3_year_0 4 rfl rfl)
theorem dX3_year_7 : decode cX3_year 7 = .ok (.ifCond .eq 9, 3) := dk_153 0 9 (dk_at dksX3_year_0 7 rfl rfl)
theorem dX3_year_10 : decode cX3_year 10 = .ok (.ldc2_w 73, 3) := dk_20 0 73 (dk_at dksX3_year_0 10 rfl rfl)
theorem dX3_year_13 : decode cX3_year 13 = .ok (.goto 18, 3) := dk_167 0 18 (dk_at dksX3_year_0 13 rfl rfl)
theorem dX3_year_16 : decode cX3_year 16 = .ok (.aload_n 0, 1) := dk_42 (dk_at dksX3_year_0 16 rfl rfl)
theorem dX3_year_17 : decode cX3_year 17 = .ok (.getfield 14, 3) := dk_180 0 14 (dk_at dksX3_year_0 17 rfl rfl)
theorem dX3_year_20 : decode cX3_year 20 = .ok (.iconst 0, 1) := dk_3 (dk_at dksX3_year_0 20 rfl rfl)
theorem dX3_year_21 : decode cX3_year 21 = .ok (.invokevirtual 75, 3) := dk_182 0 75 (dk_at dksX3_year_0 21 rfl rfl)
theorem dX3_year_24 : decode cX3_year 24 = .ok (.checkcast 79, 3) := dk_192 0 79 (dk_at dksX3_year_1 0 rfl rfl)
theorem dX3_year_27 : decode cX3_year 27 = .ok (.lload_n 1, 1) := dk_31 (dk_at dksX3_year_1 3 rfl rfl)
theorem dX3_year_28 : decode cX3_year 28 = .ok (.invokevirtual 81, 3) := dk_182 0 81 (dk_at dksX3_year_1 4 rfl rfl)
theorem dX3_year_31 : decode cX3_year 31 = .ok (.lreturn, 1) := dk_173 (dk_at dksX3_year_1 7 rfl rfl)
abbrev cX3_springs : ByteArray := prog_15_method_5_code
def yX3_springs : MethodName := ⟨RX3, "springs", "(J)J"⟩
def dkwX3_springs_0 : List UInt8 := [31, 10, 101, 42, 180, 0, 39, 133, 105, 42, 180, 0, 50, 184, 0, 63, 10, 97, 173]
abbrev dktX3_springs_0 : List UInt8 := dkwX3_springs_0 ++ []
theorem dksX3_springs_0 : cX3_springs.data.toList.drop 0 = dktX3_springs_0 := by decide +kernel
theorem dX3_springs_0 : decode cX3_springs 0 = .ok (.lload_n 1, 1) := dk_31 (dk_at dksX3_springs_0 0 rfl rfl)
theorem dX3_springs_1 : decode cX3_springs 1 = .ok (.lconst 1, 1) := dk_10 (dk_at dksX3_springs_0 1 rfl rfl)
theorem dX3_springs_2 : decode cX3_springs 2 = .ok (.lsub, 1) := dk_101 (dk_at dksX3_springs_0 2 rfl rfl)
theorem dX3_springs_3 : decode cX3_springs 3 = .ok (.aload_n 0, 1) := dk_42 (dk_at dksX3_springs_0 3 rfl rfl)
theorem dX3_springs_4 : decode cX3_springs 4 = .ok (.getfield 39, 3) := dk_180 0 39 (dk_at dksX3_springs_0 4 rfl rfl)
theorem dX3_springs_7 : decode cX3_springs 7 = .ok (.i2l, 1) := dk_133 (dk_at dksX3_springs_0 7 rfl rfl)
theorem dX3_springs_8 : decode cX3_springs 8 = .ok (.lmul, 1) := dk_105 (dk_at dksX3_springs_0 8 rfl rfl)
theorem dX3_springs_9 : decode cX3_springs 9 = .ok (.aload_n 0, 1) := dk_42 (dk_at dksX3_springs_0 9 rfl rfl)
theorem dX3_springs_10 : decode cX3_springs 10 = .ok (.getfield 50, 3) := dk_180 0 50 (dk_at dksX3_springs_0 10 rfl rfl)
theorem dX3_springs_13 : decode cX3_springs 13 = .ok (.invokestatic 63, 3) := dk_184 0 63 (dk_at dksX3_springs_0 13 rfl rfl)
theorem dX3_springs_16 : decode cX3_springs 16 = .ok (.lconst 1, 1) := dk_10 (dk_at dksX3_springs_0 16 rfl rfl)
theorem dX3_springs_17 : decode cX3_springs 17 = .ok (.ladd, 1) := dk_97 (dk_at dksX3_springs_0 17 rfl rfl)
theorem dX3_springs_18 : decode cX3_springs 18 = .ok (.lreturn, 1) := dk_173 (dk_at dksX3_springs_0 18 rfl rfl)
abbrev cX4_init : ByteArray := prog_8_method_1_code
def yX4_init : MethodName := ⟨RX4, "<init>", "(I)V"⟩
def dkwX4_init_0 : List UInt8 := [42, 183, 0, 3, 42, 27, 181, 0, 9, 177]
abbrev dktX4_init_0 : List UInt8 := dkwX4_init_0 ++ []
theorem dksX4_init_0 : cX4_init.data.toList.drop 0 = dktX4_init_0 := by decide +kernel
theorem dX4_init_0 : decode cX4_init 0 = .ok (.aload_n 0, 1) := dk_42 (dk_at dksX4_init_0 0 rfl rfl)
theorem dX4_init_1 : decode cX4_init 1 = .ok (.invokespecial 3, 3) := dk_183 0 3 (dk_at dksX4_init_0 1 rfl rfl)
theorem dX4_init_4 : decode cX4_init 4 = .ok (.aload_n 0, 1) := dk_42 (dk_at dksX4_init_0 4 rfl rfl)
theorem dX4_init_5 : decode cX4_init 5 = .ok (.iload_n 1, 1) := dk_27 (dk_at dksX4_init_0 5 rfl rfl)
theorem dX4_init_6 : decode cX4_init 6 = .ok (.putfield 9, 3) := dk_181 0 9 (dk_at dksX4_init_0 6 rfl rfl)
theorem dX4_init_9 : decode cX4_init 9 = .ok (.return_, 1) := dk_177 (dk_at dksX4_init_0 9 rfl rfl)
abbrev cX4_find : ByteArray := prog_8_method_2_code
def yX4_find : MethodName := ⟨RX4, "find", "(Ljava/util/ArrayList;I)I"⟩
def dkwX4_find_1 : List UInt8 := [160, 0, 5, 28, 172, 132, 2, 1, 167, 255, 228, 2, 172]
abbrev dktX4_find_1 : List UInt8 := dkwX4_find_1 ++ []
def dkwX4_find_0 : List UInt8 := [3, 61, 28, 42, 182, 0, 15, 162, 0, 26, 42, 28, 182, 0, 21, 192, 0, 10, 180, 0, 9, 27]
abbrev dktX4_find_0 : List UInt8 := dkwX4_find_0 ++ dktX4_find_1
theorem dksX4_find_0 : cX4_find.data.toList.drop 0 = dktX4_find_0 := by decide +kernel
theorem dksX4_find_1 : cX4_find.data.toList.drop 22 = dktX4_find_1 := dk_seg dksX4_find_0 22 rfl rfl
theorem dX4_find_0 : decode cX4_find 0 = .ok (.iconst 0, 1) := dk_3 (dk_at dksX4_find_0 0 rfl rfl)
theorem dX4_find_1 : decode cX4_find 1 = .ok (.istore_n 2, 1) := dk_61 (dk_at dksX4_find_0 1 rfl rfl)
theorem dX4_find_2 : decode cX4_find 2 = .ok (.iload_n 2, 1) := dk_28 (dk_at dksX4_find_0 2 rfl rfl)
theorem dX4_find_3 : decode cX4_find 3 = .ok (.aload_n 0, 1) := dk_42 (dk_at dksX4_find_0 3 rfl rfl)
theorem dX4_find_4 : decode cX4_find 4 = .ok (.invokevirtual 15, 3) := dk_182 0 15 (dk_at dksX4_find_0 4 rfl rfl)
theorem dX4_find_7 : decode cX4_find 7 = .ok (.if_icmp .ge 26, 3) := dk_162 0 26 (dk_at dksX4_find_0 7 rfl rfl)
theorem dX4_find_10 : decode cX4_find 10 = .ok (.aload_n 0, 1) := dk_42 (dk_at dksX4_find_0 10 rfl rfl)
theorem dX4_find_11 : decode cX4_find 11 = .ok (.iload_n 2, 1) := dk_28 (dk_at dksX4_find_0 11 rfl rfl)
theorem dX4_find_12 : decode cX4_find 12 = .ok (.invokevirtual 21, 3) := dk_182 0 21 (dk_at dksX4_find_0 12 rfl rfl)
theorem dX4_find_15 : decode cX4_find 15 = .ok (.checkcast 10, 3) := dk_192 0 10 (dk_at dksX4_find_0 15 rfl rfl)
theorem dX4_find_18 : decode cX4_find 18 = .ok (.getfield 9, 3) := dk_180 0 9 (dk_at dksX4_find_0 18 rfl rfl)
theorem dX4_find_21 : decode cX4_find 21 = .ok (.iload_n 1, 1) := dk_27 (dk_at dksX4_find_0 21 rfl rfl)
theorem dX4_find_22 : decode cX4_find 22 = .ok (.if_icmp .ne 5, 3) := dk_160 0 5 (dk_at dksX4_find_1 0 rfl rfl)
theorem dX4_find_25 : decode cX4_find 25 = .ok (.iload_n 2, 1) := dk_28 (dk_at dksX4_find_1 3 rfl rfl)
theorem dX4_find_26 : decode cX4_find 26 = .ok (.ireturn, 1) := dk_172 (dk_at dksX4_find_1 4 rfl rfl)
theorem dX4_find_27 : decode cX4_find 27 = .ok (.iinc 2 1, 3) := dk_132 2 1 (dk_at dksX4_find_1 5 rfl rfl)
theorem dX4_find_30 : decode cX4_find 30 = .ok (.goto (-28), 3) := dk_167 255 228 (dk_at dksX4_find_1 8 rfl rfl)
theorem dX4_find_33 : decode cX4_find 33 = .ok (.iconst (-1), 1) := dk_2 (dk_at dksX4_find_1 11 rfl rfl)
theorem dX4_find_34 : decode cX4_find 34 = .ok (.ireturn, 1) := dk_172 (dk_at dksX4_find_1 12 rfl rfl)
abbrev cX5_init : ByteArray := prog_10_method_1_code
def yX5_init : MethodName := ⟨RX5, "<init>", "(I)V"⟩
def dkwX5_init_0 : List UInt8 := [42, 27, 183, 0, 3, 42, 16, 8, 188, 10, 181, 0, 9, 42, 16, 8, 188, 10, 181, 0, 15, 177]
abbrev dktX5_init_0 : List UInt8 := dkwX5_init_0 ++ []
theorem dksX5_init_0 : cX5_init.data.toList.drop 0 = dktX5_init_0 := by decide +kernel
theorem dX5_init_0 : decode cX5_init 0 = .ok (.aload_n 0, 1) := dk_42 (dk_at dksX5_init_0 0 rfl rfl)
theorem dX5_init_1 : decode cX5_init 1 = .ok (.iload_n 1, 1) := dk_27 (dk_at dksX5_init_0 1 rfl rfl)
theorem dX5_init_2 : decode cX5_init 2 = .ok (.invokespecial 3, 3) := dk_183 0 3 (dk_at dksX5_init_0 2 rfl rfl)
theorem dX5_init_5 : decode cX5_init 5 = .ok (.aload_n 0, 1) := dk_42 (dk_at dksX5_init_0 5 rfl rfl)
theorem dX5_init_6 : decode cX5_init 6 = .ok (.bipush 8, 2) := dk_16 8 (dk_at dksX5_init_0 6 rfl rfl)
theorem dX5_init_8 : decode cX5_init 8 = .ok (.newarray .int, 2) := dk_188_10 (dk_at dksX5_init_0 8 rfl rfl)
theorem dX5_init_10 : decode cX5_init 10 = .ok (.putfield 9, 3) := dk_181 0 9 (dk_at dksX5_init_0 10 rfl rfl)
theorem dX5_init_13 : decode cX5_init 13 = .ok (.aload_n 0, 1) := dk_42 (dk_at dksX5_init_0 13 rfl rfl)
theorem dX5_init_14 : decode cX5_init 14 = .ok (.bipush 8, 2) := dk_16 8 (dk_at dksX5_init_0 14 rfl rfl)
theorem dX5_init_16 : decode cX5_init 16 = .ok (.newarray .int, 2) := dk_188_10 (dk_at dksX5_init_0 16 rfl rfl)
theorem dX5_init_18 : decode cX5_init 18 = .ok (.putfield 15, 3) := dk_181 0 15 (dk_at dksX5_init_0 18 rfl rfl)
theorem dX5_init_21 : decode cX5_init 21 = .ok (.return_, 1) := dk_177 (dk_at dksX5_init_0 21 rfl rfl)
abbrev cX5_has : ByteArray := prog_10_method_3_code
def yX5_has : MethodName := ⟨RX5, "has", "(I)Z"⟩
def dkwX5_has_0 : List UInt8 := [42, 180, 0, 18, 27, 122, 4, 126, 4, 160, 0, 7, 4, 167, 0, 4, 3, 172]
abbrev dktX5_has_0 : List UInt8 := dkwX5_has_0 ++ []
theorem dksX5_has_0 : cX5_has.data.toList.drop 0 = dktX5_has_0 := by decide +kernel
theorem dX5_has_0 : decode cX5_has 0 = .ok (.aload_n 0, 1) := dk_42 (dk_at dksX5_has_0 0 rfl rfl)
theorem dX5_has_1 : decode cX5_has 1 = .ok (.getfield 18, 3) := dk_180 0 18 (dk_at dksX5_has_0 1 rfl rfl)
theorem dX5_has_4 : decode cX5_has 4 = .ok (.iload_n 1, 1) := dk_27 (dk_at dksX5_has_0 4 rfl rfl)
theorem dX5_has_5 : decode cX5_has 5 = .ok (.ishr, 1) := dk_122 (dk_at dksX5_has_0 5 rfl rfl)
theorem dX5_has_6 : decode cX5_has 6 = .ok (.iconst 1, 1) := dk_4 (dk_at dksX5_has_0 6 rfl rfl)
theorem dX5_has_7 : decode cX5_has 7 = .ok (.iand, 1) := dk_126 (dk_at dksX5_has_0 7 rfl rfl)
theorem dX5_has_8 : decode cX5_has 8 = .ok (.iconst 1, 1) := dk_4 (dk_at dksX5_has_0 8 rfl rfl)
theorem dX5_has_9 : decode cX5_has 9 = .ok (.if_icmp .ne 7, 3) := dk_160 0 7 (dk_at dksX5_has_0 9 rfl rfl)
theorem dX5_has_12 : decode cX5_has 12 = .ok (.iconst 1, 1) := dk_4 (dk_at dksX5_has_0 12 rfl rfl)
theorem dX5_has_13 : decode cX5_has 13 = .ok (.goto 4, 3) := dk_167 0 4 (dk_at dksX5_has_0 13 rfl rfl)
theorem dX5_has_16 : decode cX5_has 16 = .ok (.iconst 0, 1) := dk_3 (dk_at dksX5_has_0 16 rfl rfl)
theorem dX5_has_17 : decode cX5_has 17 = .ok (.ireturn, 1) := dk_172 (dk_at dksX5_has_0 17 rfl rfl)
abbrev cX5_say : ByteArray := prog_10_method_4_code
def yX5_say : MethodName := ⟨RX5, "say", "(III)V"⟩
def dkwX5_say_1 : List UInt8 := [29, 79, 177]
abbrev dktX5_say_1 : List UInt8 := dkwX5_say_1 ++ []
def dkwX5_say_0 : List UInt8 := [42, 89, 180, 0, 18, 4, 27, 120, 128, 181, 0, 18, 42, 180, 0, 9, 27, 28, 79, 42, 180, 0, 15, 27]
abbrev dktX5_say_0 : List UInt8 := dkwX5_say_0 ++ dktX5_say_1
theorem dksX5_say_0 : cX5_say.data.toList.drop 0 = dktX5_say_0 := by decide +kernel
theorem dksX5_say_1 : cX5_say.data.toList.drop 24 = dktX5_say_1 := dk_seg dksX5_say_0 24 rfl rfl
theorem dX5_say_0 : decode cX5_say 0 = .ok (.aload_n 0, 1) := dk_42 (dk_at dksX5_say_0 0 rfl rfl)
theorem dX5_say_1 : decode cX5_say 1 = .ok (.dup, 1) := dk_89 (dk_at dksX5_say_0 1 rfl rfl)
theorem dX5_say_2 : decode cX5_say 2 = .ok (.getfield 18, 3) := dk_180 0 18 (dk_at dksX5_say_0 2 rfl rfl)
theorem dX5_say_5 : decode cX5_say 5 = .ok (.iconst 1, 1) := dk_4 (dk_at dksX5_say_0 5 rfl rfl)
theorem dX5_say_6 : decode cX5_say 6 = .ok (.iload_n 1, 1) := dk_27 (dk_at dksX5_say_0 6 rfl rfl)
theorem dX5_say_7 : decode cX5_say 7 = .ok (.ishl, 1) := dk_120 (dk_at dksX5_say_0 7 rfl rfl)
theorem dX5_say_8 : decode cX5_say 8 = .ok (.ior, 1) := dk_128 (dk_at dksX5_say_0 8 rfl rfl)
theorem dX5_say_9 : decode cX5_say 9 = .ok (.putfield 18, 3) := dk_181 0 18 (dk_at dksX5_say_0 9 rfl rfl)
theorem dX5_say_12 : decode cX5_say 12 = .ok (.aload_n 0, 1) := dk_42 (dk_at dksX5_say_0 12 rfl rfl)
theorem dX5_say_13 : decode cX5_say 13 = .ok (.getfield 9, 3) := dk_180 0 9 (dk_at dksX5_say_0 13 rfl rfl)
theorem dX5_say_16 : decode cX5_say 16 = .ok (.iload_n 1, 1) := dk_27 (dk_at dksX5_say_0 16 rfl rfl)
theorem dX5_say_17 : decode cX5_say 17 = .ok (.iload_n 2, 1) := dk_28 (dk_at dksX5_say_0 17 rfl rfl)
theorem dX5_say_18 : decode cX5_say 18 = .ok (.iastore, 1) := dk_79 (dk_at dksX5_say_0 18 rfl rfl)
theorem dX5_say_19 : decode cX5_say 19 = .ok (.aload_n 0, 1) := dk_42 (dk_at dksX5_say_0 19 rfl rfl)
theorem dX5_say_20 : decode cX5_say 20 = .ok (.getfield 15, 3) := dk_180 0 15 (dk_at dksX5_say_0 20 rfl rfl)
theorem dX5_say_23 : decode cX5_say 23 = .ok (.iload_n 1, 1) := dk_27 (dk_at dksX5_say_0 23 rfl rfl)
theorem dX5_say_24 : decode cX5_say 24 = .ok (.iload_n 3, 1) := dk_29 (dk_at dksX5_say_1 0 rfl rfl)
theorem dX5_say_25 : decode cX5_say 25 = .ok (.iastore, 1) := dk_79 (dk_at dksX5_say_1 1 rfl rfl)
theorem dX5_say_26 : decode cX5_say 26 = .ok (.return_, 1) := dk_177 (dk_at dksX5_say_1 2 rfl rfl)
abbrev cX5_become : ByteArray := prog_10_method_2_code
def yX5_become : MethodName := ⟨RX5, "become", "(LLongYears$Note;)V"⟩
def dkwX5_become_2 : List UInt8 := [177]
abbrev dktX5_become_2 : List UInt8 := dkwX5_become_2 ++ []
def dkwX5_become_1 : List UInt8 := [180, 0, 9, 28, 46, 79, 42, 180, 0, 15, 28, 43, 180, 0, 15, 28, 46, 79, 132, 2, 1, 167, 255, 223]
abbrev dktX5_become_1 : List UInt8 := dkwX5_become_1 ++ dktX5_become_2
def dkwX5_become_0 : List UInt8 := [42, 43, 180, 0, 18, 181, 0, 18, 3, 61, 28, 16, 8, 162, 0, 33, 42, 180, 0, 9, 28, 43]
abbrev dktX5_become_0 : List UInt8 := dkwX5_become_0 ++ dktX5_become_1
theorem dksX5_become_0 : cX5_become.data.toList.drop 0 = dktX5_become_0 := by decide +kernel
theorem dksX5_become_1 : cX5_become.data.toList.drop 22 = dktX5_become_1 := dk_seg dksX5_become_0 22 rfl rfl
theorem dksX5_become_2 : cX5_become.data.toList.drop 46 = dktX5_become_2 := dk_seg dksX5_become_1 24 rfl rfl
theorem dX5_become_0 : decode cX5_become 0 = .ok (.aload_n 0, 1) := dk_42 (dk_at dksX5_become_0 0 rfl rfl)
theorem dX5_become_1 : decode cX5_become 1 = .ok (.aload_n 1, 1) := dk_43 (dk_at dksX5_become_0 1 rfl rfl)
theorem dX5_become_2 : decode cX5_become 2 = .ok (.getfield 18, 3) := dk_180 0 18 (dk_at dksX5_become_0 2 rfl rfl)
theorem dX5_become_5 : decode cX5_become 5 = .ok (.putfield 18, 3) := dk_181 0 18 (dk_at dksX5_become_0 5 rfl rfl)
theorem dX5_become_8 : decode cX5_become 8 = .ok (.iconst 0, 1) := dk_3 (dk_at dksX5_become_0 8 rfl rfl)
theorem dX5_become_9 : decode cX5_become 9 = .ok (.istore_n 2, 1) := dk_61 (dk_at dksX5_become_0 9 rfl rfl)
theorem dX5_become_10 : decode cX5_become 10 = .ok (.iload_n 2, 1) := dk_28 (dk_at dksX5_become_0 10 rfl rfl)
theorem dX5_become_11 : decode cX5_become 11 = .ok (.bipush 8, 2) := dk_16 8 (dk_at dksX5_become_0 11 rfl rfl)
theorem dX5_become_13 : decode cX5_become 13 = .ok (.if_icmp .ge 33, 3) := dk_162 0 33 (dk_at dksX5_become_0 13 rfl rfl)
theorem dX5_become_16 : decode cX5_become 16 = .ok (.aload_n 0, 1) := dk_42 (dk_at dksX5_become_0 16 rfl rfl)
theorem dX5_become_17 : decode cX5_become 17 = .ok (.getfield 9, 3) := dk_180 0 9 (dk_at dksX5_become_0 17 rfl rfl)
theorem dX5_become_20 : decode cX5_become 20 = .ok (.iload_n 2, 1) := dk_28 (dk_at dksX5_become_0 20 rfl rfl)
theorem dX5_become_21 : decode cX5_become 21 = .ok (.aload_n 1, 1) := dk_43 (dk_at dksX5_become_0 21 rfl rfl)
theorem dX5_become_22 : decode cX5_become 22 = .ok (.getfield 9, 3) := dk_180 0 9 (dk_at dksX5_become_1 0 rfl rfl)
theorem dX5_become_25 : decode cX5_become 25 = .ok (.iload_n 2, 1) := dk_28 (dk_at dksX5_become_1 3 rfl rfl)
theorem dX5_become_26 : decode cX5_become 26 = .ok (.iaload, 1) := dk_46 (dk_at dksX5_become_1 4 rfl rfl)
theorem dX5_become_27 : decode cX5_become 27 = .ok (.iastore, 1) := dk_79 (dk_at dksX5_become_1 5 rfl rfl)
theorem dX5_become_28 : decode cX5_become 28 = .ok (.aload_n 0, 1) := dk_42 (dk_at dksX5_become_1 6 rfl rfl)
theorem dX5_become_29 : decode cX5_become 29 = .ok (.getfield 15, 3) := dk_180 0 15 (dk_at dksX5_become_1 7 rfl rfl)
theorem dX5_become_32 : decode cX5_become 32 = .ok (.iload_n 2, 1) := dk_28 (dk_at dksX5_become_1 10 rfl rfl)
theorem dX5_become_33 : decode cX5_become 33 = .ok (.aload_n 1, 1) := dk_43 (dk_at dksX5_become_1 11 rfl rfl)
theorem dX5_become_34 : decode cX5_become 34 = .ok (.getfield 15, 3) := dk_180 0 15 (dk_at dksX5_become_1 12 rfl rfl)
theorem dX5_become_37 : decode cX5_become 37 = .ok (.iload_n 2, 1) := dk_28 (dk_at dksX5_become_1 15 rfl rfl)
theorem dX5_become_38 : decode cX5_become 38 = .ok (.iaload, 1) := dk_46 (dk_at dksX5_become_1 16 rfl rfl)
theorem dX5_become_39 : decode cX5_become 39 = .ok (.iastore, 1) := dk_79 (dk_at dksX5_become_1 17 rfl rfl)
theorem dX5_become_40 : decode cX5_become 40 = .ok (.iinc 2 1, 3) := dk_132 2 1 (dk_at dksX5_become_1 18 rfl rfl)
theorem dX5_become_43 : decode cX5_become 43 = .ok (.goto (-33), 3) := dk_167 255 223 (dk_at dksX5_become_1 21 rfl rfl)
theorem dX5_become_46 : decode cX5_become 46 = .ok (.return_, 1) := dk_177 (dk_at dksX5_become_2 0 rfl rfl)
abbrev cX7_init : ByteArray := prog_3_method_1_code
def yX7_init : MethodName := ⟨RX7, "<init>", "(II)V"⟩
def dkwX7_init_0 : List UInt8 := [42, 1, 1, 3, 3, 183, 0, 1, 42, 27, 181, 0, 7, 42, 28, 181, 0, 13, 177]
abbrev dktX7_init_0 : List UInt8 := dkwX7_init_0 ++ []
theorem dksX7_init_0 : cX7_init.data.toList.drop 0 = dktX7_init_0 := by decide +kernel
theorem dX7_init_0 : decode cX7_init 0 = .ok (.aload_n 0, 1) := dk_42 (dk_at dksX7_init_0 0 rfl rfl)
theorem dX7_init_1 : decode cX7_init 1 = .ok (.aconst_null, 1) := dk_1 (dk_at dksX7_init_0 1 rfl rfl)
theorem dX7_init_2 : decode cX7_init 2 = .ok (.aconst_null, 1) := dk_1 (dk_at dksX7_init_0 2 rfl rfl)
theorem dX7_init_3 : decode cX7_init 3 = .ok (.iconst 0, 1) := dk_3 (dk_at dksX7_init_0 3 rfl rfl)
theorem dX7_init_4 : decode cX7_init 4 = .ok (.iconst 0, 1) := dk_3 (dk_at dksX7_init_0 4 rfl rfl)
theorem dX7_init_5 : decode cX7_init 5 = .ok (.invokespecial 1, 3) := dk_183 0 1 (dk_at dksX7_init_0 5 rfl rfl)
theorem dX7_init_8 : decode cX7_init 8 = .ok (.aload_n 0, 1) := dk_42 (dk_at dksX7_init_0 8 rfl rfl)
theorem dX7_init_9 : decode cX7_init 9 = .ok (.iload_n 1, 1) := dk_27 (dk_at dksX7_init_0 9 rfl rfl)
theorem dX7_init_10 : decode cX7_init 10 = .ok (.putfield 7, 3) := dk_181 0 7 (dk_at dksX7_init_0 10 rfl rfl)
theorem dX7_init_13 : decode cX7_init 13 = .ok (.aload_n 0, 1) := dk_42 (dk_at dksX7_init_0 13 rfl rfl)
theorem dX7_init_14 : decode cX7_init 14 = .ok (.iload_n 2, 1) := dk_28 (dk_at dksX7_init_0 14 rfl rfl)
theorem dX7_init_15 : decode cX7_init 15 = .ok (.putfield 13, 3) := dk_181 0 13 (dk_at dksX7_init_0 15 rfl rfl)
theorem dX7_init_18 : decode cX7_init 18 = .ok (.return_, 1) := dk_177 (dk_at dksX7_init_0 18 rfl rfl)
abbrev cX8_init : ByteArray := prog_6_method_1_code
def yX8_init : MethodName := ⟨RX8, "<init>", "(III)V"⟩
def dkwX8_init_0 : List UInt8 := [42, 27, 183, 0, 3, 42, 28, 181, 0, 9, 42, 29, 181, 0, 15, 177]
abbrev dktX8_init_0 : List UInt8 := dkwX8_init_0 ++ []
theorem dksX8_init_0 : cX8_init.data.toList.drop 0 = dktX8_init_0 := by decide +kernel
theorem dX8_init_0 : decode cX8_init 0 = .ok (.aload_n 0, 1) := dk_42 (dk_at dksX8_init_0 0 rfl rfl)
theorem dX8_init_1 : decode cX8_init 1 = .ok (.iload_n 1, 1) := dk_27 (dk_at dksX8_init_0 1 rfl rfl)
theorem dX8_init_2 : decode cX8_init 2 = .ok (.invokespecial 3, 3) := dk_183 0 3 (dk_at dksX8_init_0 2 rfl rfl)
theorem dX8_init_5 : decode cX8_init 5 = .ok (.aload_n 0, 1) := dk_42 (dk_at dksX8_init_0 5 rfl rfl)
theorem dX8_init_6 : decode cX8_init 6 = .ok (.iload_n 2, 1) := dk_28 (dk_at dksX8_init_0 6 rfl rfl)
theorem dX8_init_7 : decode cX8_init 7 = .ok (.putfield 9, 3) := dk_181 0 9 (dk_at dksX8_init_0 7 rfl rfl)
theorem dX8_init_10 : decode cX8_init 10 = .ok (.aload_n 0, 1) := dk_42 (dk_at dksX8_init_0 10 rfl rfl)
theorem dX8_init_11 : decode cX8_init 11 = .ok (.iload_n 3, 1) := dk_29 (dk_at dksX8_init_0 11 rfl rfl)
theorem dX8_init_12 : decode cX8_init 12 = .ok (.putfield 15, 3) := dk_181 0 15 (dk_at dksX8_init_0 12 rfl rfl)
theorem dX8_init_15 : decode cX8_init 15 = .ok (.return_, 1) := dk_177 (dk_at dksX8_init_0 15 rfl rfl)
abbrev cX8_has : ByteArray := prog_6_method_3_code
def yX8_has : MethodName := ⟨RX8, "has", "(J)Z"⟩
def dkwX8_has_0 : List UInt8 := [31, 10, 148, 155, 0, 16, 31, 42, 182, 0, 22, 148, 157, 0, 7, 4, 167, 0, 4, 3, 172]
abbrev dktX8_has_0 : List UInt8 := dkwX8_has_0 ++ []
theorem dksX8_has_0 : cX8_has.data.toList.drop 0 = dktX8_has_0 := by decide +kernel
theorem dX8_has_0 : decode cX8_has 0 = .ok (.lload_n 1, 1) := dk_31 (dk_at dksX8_has_0 0 rfl rfl)
theorem dX8_has_1 : decode cX8_has 1 = .ok (.lconst 1, 1) := dk_10 (dk_at dksX8_has_0 1 rfl rfl)
theorem dX8_has_2 : decode cX8_has 2 = .ok (.lcmp, 1) := dk_148 (dk_at dksX8_has_0 2 rfl rfl)
theorem dX8_has_3 : decode cX8_has 3 = .ok (.ifCond .lt 16, 3) := dk_155 0 16 (dk_at dksX8_has_0 3 rfl rfl)
theorem dX8_has_6 : decode cX8_has 6 = .ok (.lload_n 1, 1) := dk_31 (dk_at dksX8_has_0 6 rfl rfl)
theorem dX8_has_7 : decode cX8_has 7 = .ok (.aload_n 0, 1) := dk_42 (dk_at dksX8_has_0 7 rfl rfl)
theorem dX8_has_8 : decode cX8_has 8 = .ok (.invokevirtual 22, 3) := dk_182 0 22 (dk_at dksX8_has_0 8 rfl rfl)
theorem dX8_has_11 : decode cX8_has 11 = .ok (.lcmp, 1) := dk_148 (dk_at dksX8_has_0 11 rfl rfl)
theorem dX8_has_12 : decode cX8_has 12 = .ok (.ifCond .gt 7, 3) := dk_157 0 7 (dk_at dksX8_has_0 12 rfl rfl)
theorem dX8_has_15 : decode cX8_has 15 = .ok (.iconst 1, 1) := dk_4 (dk_at dksX8_has_0 15 rfl rfl)
theorem dX8_has_16 : decode cX8_has 16 = .ok (.goto 4, 3) := dk_167 0 4 (dk_at dksX8_has_0 16 rfl rfl)
theorem dX8_has_19 : decode cX8_has 19 = .ok (.iconst 0, 1) := dk_3 (dk_at dksX8_has_0 19 rfl rfl)
theorem dX8_has_20 : decode cX8_has 20 = .ok (.ireturn, 1) := dk_172 (dk_at dksX8_has_0 20 rfl rfl)
abbrev cX8_last : ByteArray := prog_6_method_2_code
def yX8_last : MethodName := ⟨RX8, "last", "()J"⟩
def dkwX8_last_1 : List UInt8 := [167, 0, 6, 20, 0, 20, 173]
abbrev dktX8_last_1 : List UInt8 := dkwX8_last_1 ++ []
def dkwX8_last_0 : List UInt8 := [42, 180, 0, 15, 156, 0, 21, 42, 180, 0, 9, 4, 100, 42, 180, 0, 15, 116, 108, 133, 10, 97]
abbrev dktX8_last_0 : List UInt8 := dkwX8_last_0 ++ dktX8_last_1
theorem dksX8_last_0 : cX8_last.data.toList.drop 0 = dktX8_last_0 := by decide +kernel
theorem dksX8_last_1 : cX8_last.data.toList.drop 22 = dktX8_last_1 := dk_seg dksX8_last_0 22 rfl rfl
theorem dX8_last_0 : decode cX8_last 0 = .ok (.aload_n 0, 1) := dk_42 (dk_at dksX8_last_0 0 rfl rfl)
theorem dX8_last_1 : decode cX8_last 1 = .ok (.getfield 15, 3) := dk_180 0 15 (dk_at dksX8_last_0 1 rfl rfl)
theorem dX8_last_4 : decode cX8_last 4 = .ok (.ifCond .ge 21, 3) := dk_156 0 21 (dk_at dksX8_last_0 4 rfl rfl)
theorem dX8_last_7 : decode cX8_last 7 = .ok (.aload_n 0, 1) := dk_42 (dk_at dksX8_last_0 7 rfl rfl)
theorem dX8_last_8 : decode cX8_last 8 = .ok (.getfield 9, 3) := dk_180 0 9 (dk_at dksX8_last_0 8 rfl rfl)
theorem dX8_last_11 : decode cX8_last 11 = .ok (.iconst 1, 1) := dk_4 (dk_at dksX8_last_0 11 rfl rfl)
theorem dX8_last_12 : decode cX8_last 12 = .ok (.isub, 1) := dk_100 (dk_at dksX8_last_0 12 rfl rfl)
theorem dX8_last_13 : decode cX8_last 13 = .ok (.aload_n 0, 1) := dk_42 (dk_at dksX8_last_0 13 rfl rfl)
theorem dX8_last_14 : decode cX8_last 14 = .ok (.getfield 15, 3) := dk_180 0 15 (dk_at dksX8_last_0 14 rfl rfl)
theorem dX8_last_17 : decode cX8_last 17 = .ok (.ineg, 1) := dk_116 (dk_at dksX8_last_0 17 rfl rfl)
theorem dX8_last_18 : decode cX8_last 18 = .ok (.idiv, 1) := dk_108 (dk_at dksX8_last_0 18 rfl rfl)
theorem dX8_last_19 : decode cX8_last 19 = .ok (.i2l, 1) := dk_133 (dk_at dksX8_last_0 19 rfl rfl)
theorem dX8_last_20 : decode cX8_last 20 = .ok (.lconst 1, 1) := dk_10 (dk_at dksX8_last_0 20 rfl rfl)
theorem dX8_last_21 : decode cX8_last 21 = .ok (.ladd, 1) := dk_97 (dk_at dksX8_last_0 21 rfl rfl)
theorem dX8_last_22 : decode cX8_last 22 = .ok (.goto 6, 3) := dk_167 0 6 (dk_at dksX8_last_1 0 rfl rfl)
theorem dX8_last_25 : decode cX8_last 25 = .ok (.ldc2_w 20, 3) := dk_20 0 20 (dk_at dksX8_last_1 3 rfl rfl)
theorem dX8_last_28 : decode cX8_last 28 = .ok (.lreturn, 1) := dk_173 (dk_at dksX8_last_1 6 rfl rfl)
abbrev cX8_length : ByteArray := prog_6_method_4_code
def yX8_length : MethodName := ⟨RX8, "length", "(J)J"⟩
def dkwX8_length_0 : List UInt8 := [42, 180, 0, 9, 133, 42, 180, 0, 15, 133, 31, 10, 101, 105, 97, 173]
abbrev dktX8_length_0 : List UInt8 := dkwX8_length_0 ++ []
theorem dksX8_length_0 : cX8_length.data.toList.drop 0 = dktX8_length_0 := by decide +kernel
theorem dX8_length_0 : decode cX8_length 0 = .ok (.aload_n 0, 1) := dk_42 (dk_at dksX8_length_0 0 rfl rfl)
theorem dX8_length_1 : decode cX8_length 1 = .ok (.getfield 9, 3) := dk_180 0 9 (dk_at dksX8_length_0 1 rfl rfl)
theorem dX8_length_4 : decode cX8_length 4 = .ok (.i2l, 1) := dk_133 (dk_at dksX8_length_0 4 rfl rfl)
theorem dX8_length_5 : decode cX8_length 5 = .ok (.aload_n 0, 1) := dk_42 (dk_at dksX8_length_0 5 rfl rfl)
theorem dX8_length_6 : decode cX8_length 6 = .ok (.getfield 15, 3) := dk_180 0 15 (dk_at dksX8_length_0 6 rfl rfl)
theorem dX8_length_9 : decode cX8_length 9 = .ok (.i2l, 1) := dk_133 (dk_at dksX8_length_0 9 rfl rfl)
theorem dX8_length_10 : decode cX8_length 10 = .ok (.lload_n 1, 1) := dk_31 (dk_at dksX8_length_0 10 rfl rfl)
theorem dX8_length_11 : decode cX8_length 11 = .ok (.lconst 1, 1) := dk_10 (dk_at dksX8_length_0 11 rfl rfl)
theorem dX8_length_12 : decode cX8_length 12 = .ok (.lsub, 1) := dk_101 (dk_at dksX8_length_0 12 rfl rfl)
theorem dX8_length_13 : decode cX8_length 13 = .ok (.lmul, 1) := dk_105 (dk_at dksX8_length_0 13 rfl rfl)
theorem dX8_length_14 : decode cX8_length 14 = .ok (.ladd, 1) := dk_97 (dk_at dksX8_length_0 14 rfl rfl)
theorem dX8_length_15 : decode cX8_length 15 = .ok (.lreturn, 1) := dk_173 (dk_at dksX8_length_0 15 rfl rfl)
abbrev cX8_start : ByteArray := prog_6_method_5_code
def yX8_start : MethodName := ⟨RX8, "start", "(J)J"⟩
def dkwX8_start_2 : List UInt8 := [180, 0, 15, 133, 33, 33, 10, 101, 105, 20, 0, 35, 109, 105, 97, 184, 0, 37, 173]
abbrev dktX8_start_2 : List UInt8 := dkwX8_start_2 ++ []
def dkwX8_start_1 : List UInt8 := [158, 0, 7, 20, 0, 30, 173, 20, 0, 30, 42, 180, 0, 32, 133, 42, 180, 0, 9, 133, 33, 105, 97, 42]
abbrev dktX8_start_1 : List UInt8 := dkwX8_start_1 ++ dktX8_start_2
def dkwX8_start_0 : List UInt8 := [31, 10, 101, 66, 42, 180, 0, 15, 158, 0, 11, 33, 20, 0, 26, 148, 157, 0, 11, 33, 20, 0, 28, 148]
abbrev dktX8_start_0 : List UInt8 := dkwX8_start_0 ++ dktX8_start_1
theorem dksX8_start_0 : cX8_start.data.toList.drop 0 = dktX8_start_0 := by decide +kernel
theorem dksX8_start_1 : cX8_start.data.toList.drop 24 = dktX8_start_1 := dk_seg dksX8_start_0 24 rfl rfl
theorem dksX8_start_2 : cX8_start.data.toList.drop 48 = dktX8_start_2 := dk_seg dksX8_start_1 24 rfl rfl
theorem dX8_start_0 : decode cX8_start 0 = .ok (.lload_n 1, 1) := dk_31 (dk_at dksX8_start_0 0 rfl rfl)
theorem dX8_start_1 : decode cX8_start 1 = .ok (.lconst 1, 1) := dk_10 (dk_at dksX8_start_0 1 rfl rfl)
theorem dX8_start_2 : decode cX8_start 2 = .ok (.lsub, 1) := dk_101 (dk_at dksX8_start_0 2 rfl rfl)
theorem dX8_start_3 : decode cX8_start 3 = .ok (.lstore_n 3, 1) := dk_66 (dk_at dksX8_start_0 3 rfl rfl)
theorem dX8_start_4 : decode cX8_start 4 = .ok (.aload_n 0, 1) := dk_42 (dk_at dksX8_start_0 4 rfl rfl)
theorem dX8_start_5 : decode cX8_start 5 = .ok (.getfield 15, 3) := dk_180 0 15 (dk_at dksX8_start_0 5 rfl rfl)
theorem dX8_start_8 : decode cX8_start 8 = .ok (.ifCond .le 11, 3) := dk_158 0 11 (dk_at dksX8_start_0 8 rfl rfl)
theorem dX8_start_11 : decode cX8_start 11 = .ok (.lload_n 3, 1) := dk_33 (dk_at dksX8_start_0 11 rfl rfl)
theorem dX8_start_12 : decode cX8_start 12 = .ok (.ldc2_w 26, 3) := dk_20 0 26 (dk_at dksX8_start_0 12 rfl rfl)
theorem dX8_start_15 : decode cX8_start 15 = .ok (.lcmp, 1) := dk_148 (dk_at dksX8_start_0 15 rfl rfl)
theorem dX8_start_16 : decode cX8_start 16 = .ok (.ifCond .gt 11, 3) := dk_157 0 11 (dk_at dksX8_start_0 16 rfl rfl)
theorem dX8_start_19 : decode cX8_start 19 = .ok (.lload_n 3, 1) := dk_33 (dk_at dksX8_start_0 19 rfl rfl)
theorem dX8_start_20 : decode cX8_start 20 = .ok (.ldc2_w 28, 3) := dk_20 0 28 (dk_at dksX8_start_0 20 rfl rfl)
theorem dX8_start_23 : decode cX8_start 23 = .ok (.lcmp, 1) := dk_148 (dk_at dksX8_start_0 23 rfl rfl)
theorem dX8_start_24 : decode cX8_start 24 = .ok (.ifCond .le 7, 3) := dk_158 0 7 (dk_at dksX8_start_1 0 rfl rfl)
theorem dX8_start_27 : decode cX8_start 27 = .ok (.ldc2_w 30, 3) := dk_20 0 30 (dk_at dksX8_start_1 3 rfl rfl)
theorem dX8_start_30 : decode cX8_start 30 = .ok (.lreturn, 1) := dk_173 (dk_at dksX8_start_1 6 rfl rfl)
theorem dX8_start_31 : decode cX8_start 31 = .ok (.ldc2_w 30, 3) := dk_20 0 30 (dk_at dksX8_start_1 7 rfl rfl)
theorem dX8_start_34 : decode cX8_start 34 = .ok (.aload_n 0, 1) := dk_42 (dk_at dksX8_start_1 10 rfl rfl)
theorem dX8_start_35 : decode cX8_start 35 = .ok (.getfield 32, 3) := dk_180 0 32 (dk_at dksX8_start_1 11 rfl rfl)
theorem dX8_start_38 : decode cX8_start 38 = .ok (.i2l, 1) := dk_133 (dk_at dksX8_start_1 14 rfl rfl)
theorem dX8_start_39 : decode cX8_start 39 = .ok (.aload_n 0, 1) := dk_42 (dk_at dksX8_start_1 15 rfl rfl)
theorem dX8_start_40 : decode cX8_start 40 = .ok (.getfield 9, 3) := dk_180 0 9 (dk_at dksX8_start_1 16 rfl rfl)
theorem dX8_start_43 : decode cX8_start 43 = .ok (.i2l, 1) := dk_133 (dk_at dksX8_start_1 19 rfl rfl)
theorem dX8_start_44 : decode cX8_start 44 = .ok (.lload_n 3, 1) := dk_33 (dk_at dksX8_start_1 20 rfl rfl)
theorem dX8_start_45 : decode cX8_start 45 = .ok (.lmul, 1) := dk_105 (dk_at dksX8_start_1 21 rfl rfl)
theorem dX8_start_46 : decode cX8_start 46 = .ok (.ladd, 1) := dk_97 (dk_at dksX8_start_1 22 rfl rfl)
theorem dX8_start_47 : decode cX8_start 47 = .ok (.aload_n 0, 1) := dk_42 (dk_at dksX8_start_1 23 rfl rfl)
theorem dX8_start_48 : decode cX8_start 48 = .ok (.getfield 15, 3) := dk_180 0 15 (dk_at dksX8_start_2 0 rfl rfl)
theorem dX8_start_51 : decode cX8_start 51 = .ok (.i2l, 1) := dk_133 (dk_at dksX8_start_2 3 rfl rfl)
theorem dX8_start_52 : decode cX8_start 52 = .ok (.lload_n 3, 1) := dk_33 (dk_at dksX8_start_2 4 rfl rfl)
theorem dX8_start_53 : decode cX8_start 53 = .ok (.lload_n 3, 1) := dk_33 (dk_at dksX8_start_2 5 rfl rfl)
theorem dX8_start_54 : decode cX8_start 54 = .ok (.lconst 1, 1) := dk_10 (dk_at dksX8_start_2 6 rfl rfl)
theorem dX8_start_55 : decode cX8_start 55 = .ok (.lsub, 1) := dk_101 (dk_at dksX8_start_2 7 rfl rfl)
theorem dX8_start_56 : decode cX8_start 56 = .ok (.lmul, 1) := dk_105 (dk_at dksX8_start_2 8 rfl rfl)
theorem dX8_start_57 : decode cX8_start 57 = .ok (.ldc2_w 35, 3) := dk_20 0 35 (dk_at dksX8_start_2 9 rfl rfl)
theorem dX8_start_60 : decode cX8_start 60 = .ok (.ldiv, 1) := dk_109 (dk_at dksX8_start_2 12 rfl rfl)
theorem dX8_start_61 : decode cX8_start 61 = .ok (.lmul, 1) := dk_105 (dk_at dksX8_start_2 13 rfl rfl)
theorem dX8_start_62 : decode cX8_start 62 = .ok (.ladd, 1) := dk_97 (dk_at dksX8_start_2 14 rfl rfl)
theorem dX8_start_63 : decode cX8_start 63 = .ok (.invokestatic 37, 3) := dk_184 0 37 (dk_at dksX8_start_2 15 rfl rfl)
theorem dX8_start_66 : decode cX8_start 66 = .ok (.lreturn, 1) := dk_173 (dk_at dksX8_start_2 18 rfl rfl)
abbrev cX8_year : ByteArray := prog_6_method_6_code
def yX8_year : MethodName := ⟨RX8, "year", "(J)J"⟩
def dkwX8_year_4 : List UInt8 := [55, 5, 167, 255, 214, 33, 173]
abbrev dktX8_year_4 : List UInt8 := dkwX8_year_4 ++ []
def dkwX8_year_3 : List UInt8 := [109, 55, 7, 42, 22, 7, 182, 0, 43, 31, 148, 157, 0, 9, 22, 7, 66, 167, 0, 9, 22, 7, 10, 101]
abbrev dktX8_year_3 : List UInt8 := dkwX8_year_3 ++ dktX8_year_4
def dkwX8_year_2 : List UInt8 := [20, 0, 30, 184, 0, 37, 55, 5, 33, 22, 5, 148, 156, 0, 41, 33, 22, 5, 97, 10, 97, 20, 0, 35]
abbrev dktX8_year_2 : List UInt8 := dkwX8_year_2 ++ dktX8_year_3
def dkwX8_year_1 : List UInt8 := [182, 0, 22, 10, 97, 182, 0, 43, 148, 155, 0, 7, 20, 0, 47, 173, 10, 66, 42, 182, 0, 22]
abbrev dktX8_year_1 : List UInt8 := dkwX8_year_1 ++ dktX8_year_2
def dkwX8_year_0 : List UInt8 := [31, 42, 180, 0, 32, 133, 148, 155, 0, 29, 42, 182, 0, 22, 20, 0, 20, 148, 153, 0, 22, 31, 42, 42]
abbrev dktX8_year_0 : List UInt8 := dkwX8_year_0 ++ dktX8_year_1
theorem dksX8_year_0 : cX8_year.data.toList.drop 0 = dktX8_year_0 := by decide +kernel
theorem dksX8_year_1 : cX8_year.data.toList.drop 24 = dktX8_year_1 := dk_seg dksX8_year_0 24 rfl rfl
theorem dksX8_year_2 : cX8_year.data.toList.drop 46 = dktX8_year_2 := dk_seg dksX8_year_1 22 rfl rfl
theorem dksX8_year_3 : cX8_year.data.toList.drop 70 = dktX8_year_3 := dk_seg dksX8_year_2 24 rfl rfl
theorem dksX8_year_4 : cX8_year.data.toList.drop 94 = dktX8_year_4 := dk_seg dksX8_year_3 24 rfl rfl
theorem dX8_year_0 : decode cX8_year 0 = .ok (.lload_n 1, 1) := dk_31 (dk_at dksX8_year_0 0 rfl rfl)
theorem dX8_year_1 : decode cX8_year 1 = .ok (.aload_n 0, 1) := dk_42 (dk_at dksX8_year_0 1 rfl rfl)
theorem dX8_year_2 : decode cX8_year 2 = .ok (.getfield 32, 3) := dk_180 0 32 (dk_at dksX8_year_0 2 rfl rfl)
theorem dX8_year_5 : decode cX8_year 5 = .ok (.i2l, 1) := dk_133 (dk_at dksX8_year_0 5 rfl rfl)
theorem dX8_year_6 : decode cX8_year 6 = .ok (.lcmp, 1) := dk_148 (dk_at dksX8_year_0 6 rfl rfl)
theorem dX8_year_7 : decode cX8_year 7 = .ok (.ifCond .lt 29, 3) := dk_155 0 29 (dk_at dksX8_year_0 7 rfl rfl)
theorem dX8_year_10 : decode cX8_year 10 = .ok (.aload_n 0, 1) := dk_42 (dk_at dksX8_year_0 10 rfl rfl)
theorem dX8_year_11 : decode cX8_year 11 = .ok (.invokevirtual 22, 3) := dk_182 0 22 (dk_at dksX8_year_0 11 rfl rfl)
theorem dX8_year_14 : decode cX8_year 14 = .ok (.ldc2_w 20, 3) := dk_20 0 20 (dk_at dksX8_year_0 14 rfl rfl)
theorem dX8_year_17 : decode cX8_year 17 = .ok (.lcmp, 1) := dk_148 (dk_at dksX8_year_0 17 rfl rfl)
theorem dX8_year_18 : decode cX8_year 18 = .ok (.ifCond .eq 22, 3) := dk_153 0 22 (dk_at dksX8_year_0 18 rfl rfl)
theorem dX8_year_21 : decode cX8_year 21 = .ok (.lload_n 1, 1) := dk_31 (dk_at dksX8_year_0 21 rfl rfl)
theorem dX8_year_22 : decode cX8_year 22 = .ok (.aload_n 0, 1) := dk_42 (dk_at dksX8_year_0 22 rfl rfl)
theorem dX8_year_23 : decode cX8_year 23 = .ok (.aload_n 0, 1) := dk_42 (dk_at dksX8_year_0 23 rfl rfl)
theorem dX8_year_24 : decode cX8_year 24 = .ok (.invokevirtual 22, 3) := dk_182 0 22 (dk_at dksX8_year_1 0 rfl rfl)
theorem dX8_year_27 : decode cX8_year 27 = .ok (.lconst 1, 1) := dk_10 (dk_at dksX8_year_1 3 rfl rfl)
theorem dX8_year_28 : decode cX8_year 28 = .ok (.ladd, 1) := dk_97 (dk_at dksX8_year_1 4 rfl rfl)
theorem dX8_year_29 : decode cX8_year 29 = .ok (.invokevirtual 43, 3) := dk_182 0 43 (dk_at dksX8_year_1 5 rfl rfl)
theorem dX8_year_32 : decode cX8_year 32 = .ok (.lcmp, 1) := dk_148 (dk_at dksX8_year_1 8 rfl rfl)
theorem dX8_year_33 : decode cX8_year 33 = .ok (.ifCond .lt 7, 3) := dk_155 0 7 (dk_at dksX8_year_1 9 rfl rfl)
theorem dX8_year_36 : decode cX8_year 36 = .ok (.ldc2_w 47, 3) := dk_20 0 47 (dk_at dksX8_year_1 12 rfl rfl)
theorem dX8_year_39 : decode cX8_year 39 = .ok (.lreturn, 1) := dk_173 (dk_at dksX8_year_1 15 rfl rfl)
theorem dX8_year_40 : decode cX8_year 40 = .ok (.lconst 1, 1) := dk_10 (dk_at dksX8_year_1 16 rfl rfl)
theorem dX8_year_41 : decode cX8_year 41 = .ok (.lstore_n 3, 1) := dk_66 (dk_at dksX8_year_1 17 rfl rfl)
theorem dX8_year_42 : decode cX8_year 42 = .ok (.aload_n 0, 1) := dk_42 (dk_at dksX8_year_1 18 rfl rfl)
theorem dX8_year_43 : decode cX8_year 43 = .ok (.invokevirtual 22, 3) := dk_182 0 22 (dk_at dksX8_year_1 19 rfl rfl)
theorem dX8_year_46 : decode cX8_year 46 = .ok (.ldc2_w 30, 3) := dk_20 0 30 (dk_at dksX8_year_2 0 rfl rfl)
theorem dX8_year_49 : decode cX8_year 49 = .ok (.invokestatic 37, 3) := dk_184 0 37 (dk_at dksX8_year_2 3 rfl rfl)
theorem dX8_year_52 : decode cX8_year 52 = .ok (.lstore 5, 2) := dk_55 5 (dk_at dksX8_year_2 6 rfl rfl)
theorem dX8_year_54 : decode cX8_year 54 = .ok (.lload_n 3, 1) := dk_33 (dk_at dksX8_year_2 8 rfl rfl)
theorem dX8_year_55 : decode cX8_year 55 = .ok (.lload 5, 2) := dk_22 5 (dk_at dksX8_year_2 9 rfl rfl)
theorem dX8_year_57 : decode cX8_year 57 = .ok (.lcmp, 1) := dk_148 (dk_at dksX8_year_2 11 rfl rfl)
theorem dX8_year_58 : decode cX8_year 58 = .ok (.ifCond .ge 41, 3) := dk_156 0 41 (dk_at dksX8_year_2 12 rfl rfl)
theorem dX8_year_61 : decode cX8_year 61 = .ok (.lload_n 3, 1) := dk_33 (dk_at dksX8_year_2 15 rfl rfl)
theorem dX8_year_62 : decode cX8_year 62 = .ok (.lload 5, 2) := dk_22 5 (dk_at dksX8_year_2 16 rfl rfl)
theorem dX8_year_64 : decode cX8_year 64 = .ok (.ladd, 1) := dk_97 (dk_at dksX8_year_2 18 rfl rfl)
theorem dX8_year_65 : decode cX8_year 65 = .ok (.lconst 1, 1) := dk_10 (dk_at dksX8_year_2 19 rfl rfl)
theorem dX8_year_66 : decode cX8_year 66 = .ok (.ladd, 1) := dk_97 (dk_at dksX8_year_2 20 rfl rfl)
theorem dX8_year_67 : decode cX8_year 67 = .ok (.ldc2_w 35, 3) := dk_20 0 35 (dk_at dksX8_year_2 21 rfl rfl)
theorem dX8_year_70 : decode cX8_year 70 = .ok (.ldiv, 1) := dk_109 (dk_at dksX8_year_3 0 rfl rfl)
theorem dX8_year_71 : decode cX8_year 71 = .ok (.lstore 7, 2) := dk_55 7 (dk_at dksX8_year_3 1 rfl rfl)
theorem dX8_year_73 : decode cX8_year 73 = .ok (.aload_n 0, 1) := dk_42 (dk_at dksX8_year_3 3 rfl rfl)
theorem dX8_year_74 : decode cX8_year 74 = .ok (.lload 7, 2) := dk_22 7 (dk_at dksX8_year_3 4 rfl rfl)
theorem dX8_year_76 : decode cX8_year 76 = .ok (.invokevirtual 43, 3) := dk_182 0 43 (dk_at dksX8_year_3 6 rfl rfl)
theorem dX8_year_79 : decode cX8_year 79 = .ok (.lload_n 1, 1) := dk_31 (dk_at dksX8_year_3 9 rfl rfl)
theorem dX8_year_80 : decode cX8_year 80 = .ok (.lcmp, 1) := dk_148 (dk_at dksX8_year_3 10 rfl rfl)
theorem dX8_year_81 : decode cX8_year 81 = .ok (.ifCond .gt 9, 3) := dk_157 0 9 (dk_at dksX8_year_3 11 rfl rfl)
theorem dX8_year_84 : decode cX8_year 84 = .ok (.lload 7, 2) := dk_22 7 (dk_at dksX8_year_3 14 rfl rfl)
theorem dX8_year_86 : decode cX8_year 86 = .ok (.lstore_n 3, 1) := dk_66 (dk_at dksX8_year_3 16 rfl rfl)
theorem dX8_year_87 : decode cX8_year 87 = .ok (.goto 9, 3) := dk_167 0 9 (dk_at dksX8_year_3 17 rfl rfl)
theorem dX8_year_90 : decode cX8_year 90 = .ok (.lload 7, 2) := dk_22 7 (dk_at dksX8_year_3 20 rfl rfl)
theorem dX8_year_92 : decode cX8_year 92 = .ok (.lconst 1, 1) := dk_10 (dk_at dksX8_year_3 22 rfl rfl)
theorem dX8_year_93 : decode cX8_year 93 = .ok (.lsub, 1) := dk_101 (dk_at dksX8_year_3 23 rfl rfl)
theorem dX8_year_94 : decode cX8_year 94 = .ok (.lstore 5, 2) := dk_55 5 (dk_at dksX8_year_4 0 rfl rfl)
theorem dX8_year_96 : decode cX8_year 96 = .ok (.goto (-42), 3) := dk_167 255 214 (dk_at dksX8_year_4 2 rfl rfl)
theorem dX8_year_99 : decode cX8_year 99 = .ok (.lload_n 3, 1) := dk_33 (dk_at dksX8_year_4 5 rfl rfl)
theorem dX8_year_100 : decode cX8_year 100 = .ok (.lreturn, 1) := dk_173 (dk_at dksX8_year_4 6 rfl rfl)
abbrev cX8_day : ByteArray := prog_6_method_7_code
def yX8_day : MethodName := ⟨RX8, "day", "(J)J"⟩
def dkwX8_day_0 : List UInt8 := [31, 42, 42, 31, 182, 0, 49, 182, 0, 43, 101, 10, 97, 173]
abbrev dktX8_day_0 : List UInt8 := dkwX8_day_0 ++ []
theorem dksX8_day_0 : cX8_day.data.toList.drop 0 = dktX8_day_0 := by decide +kernel
theorem dX8_day_0 : decode cX8_day 0 = .ok (.lload_n 1, 1) := dk_31 (dk_at dksX8_day_0 0 rfl rfl)
theorem dX8_day_1 : decode cX8_day 1 = .ok (.aload_n 0, 1) := dk_42 (dk_at dksX8_day_0 1 rfl rfl)
theorem dX8_day_2 : decode cX8_day 2 = .ok (.aload_n 0, 1) := dk_42 (dk_at dksX8_day_0 2 rfl rfl)
theorem dX8_day_3 : decode cX8_day 3 = .ok (.lload_n 1, 1) := dk_31 (dk_at dksX8_day_0 3 rfl rfl)
theorem dX8_day_4 : decode cX8_day 4 = .ok (.invokevirtual 49, 3) := dk_182 0 49 (dk_at dksX8_day_0 4 rfl rfl)
theorem dX8_day_7 : decode cX8_day 7 = .ok (.invokevirtual 43, 3) := dk_182 0 43 (dk_at dksX8_day_0 7 rfl rfl)
theorem dX8_day_10 : decode cX8_day 10 = .ok (.lsub, 1) := dk_101 (dk_at dksX8_day_0 10 rfl rfl)
theorem dX8_day_11 : decode cX8_day 11 = .ok (.lconst 1, 1) := dk_10 (dk_at dksX8_day_0 11 rfl rfl)
theorem dX8_day_12 : decode cX8_day 12 = .ok (.ladd, 1) := dk_97 (dk_at dksX8_day_0 12 rfl rfl)
theorem dX8_day_13 : decode cX8_day 13 = .ok (.lreturn, 1) := dk_173 (dk_at dksX8_day_0 13 rfl rfl)
abbrev cX8_lastWith : ByteArray := prog_6_method_9_code
def yX8_lastWith : MethodName := ⟨RX8, "lastWith", "(J)J"⟩
def dkwX8_lastWith_1 : List UInt8 := [180, 0, 9, 133, 31, 101, 42, 180, 0, 15, 116, 133, 109, 10, 97, 167, 0, 6, 20, 0, 20, 173]
abbrev dktX8_lastWith_1 : List UInt8 := dkwX8_lastWith_1 ++ []
def dkwX8_lastWith_0 : List UInt8 := [42, 180, 0, 15, 156, 0, 36, 31, 42, 180, 0, 9, 133, 148, 158, 0, 7, 9, 167, 0, 25, 42]
abbrev dktX8_lastWith_0 : List UInt8 := dkwX8_lastWith_0 ++ dktX8_lastWith_1
theorem dksX8_lastWith_0 : cX8_lastWith.data.toList.drop 0 = dktX8_lastWith_0 := by decide +kernel
theorem dksX8_lastWith_1 : cX8_lastWith.data.toList.drop 22 = dktX8_lastWith_1 := dk_seg dksX8_lastWith_0 22 rfl rfl
theorem dX8_lastWith_0 : decode cX8_lastWith 0 = .ok (.aload_n 0, 1) := dk_42 (dk_at dksX8_lastWith_0 0 rfl rfl)
theorem dX8_lastWith_1 : decode cX8_lastWith 1 = .ok (.getfield 15, 3) := dk_180 0 15 (dk_at dksX8_lastWith_0 1 rfl rfl)
theorem dX8_lastWith_4 : decode cX8_lastWith 4 = .ok (.ifCond .ge 36, 3) := dk_156 0 36 (dk_at dksX8_lastWith_0 4 rfl rfl)
theorem dX8_lastWith_7 : decode cX8_lastWith 7 = .ok (.lload_n 1, 1) := dk_31 (dk_at dksX8_lastWith_0 7 rfl rfl)
theorem dX8_lastWith_8 : decode cX8_lastWith 8 = .ok (.aload_n 0, 1) := dk_42 (dk_at dksX8_lastWith_0 8 rfl rfl)
theorem dX8_lastWith_9 : decode cX8_lastWith 9 = .ok (.getfield 9, 3) := dk_180 0 9 (dk_at dksX8_lastWith_0 9 rfl rfl)
theorem dX8_lastWith_12 : decode cX8_lastWith 12 = .ok (.i2l, 1) := dk_133 (dk_at dksX8_lastWith_0 12 rfl rfl)
theorem dX8_lastWith_13 : decode cX8_lastWith 13 = .ok (.lcmp, 1) := dk_148 (dk_at dksX8_lastWith_0 13 rfl rfl)
theorem dX8_lastWith_14 : decode cX8_lastWith 14 = .ok (.ifCond .le 7, 3) := dk_158 0 7 (dk_at dksX8_lastWith_0 14 rfl rfl)
theorem dX8_lastWith_17 : decode cX8_lastWith 17 = .ok (.lconst 0, 1) := dk_9 (dk_at dksX8_lastWith_0 17 rfl rfl)
theorem dX8_lastWith_18 : decode cX8_lastWith 18 = .ok (.goto 25, 3) := dk_167 0 25 (dk_at dksX8_lastWith_0 18 rfl rfl)
theorem dX8_lastWith_21 : decode cX8_lastWith 21 = .ok (.aload_n 0, 1) := dk_42 (dk_at dksX8_lastWith_0 21 rfl rfl)
theorem dX8_lastWith_22 : decode cX8_lastWith 22 = .ok (.getfield 9, 3) := dk_180 0 9 (dk_at dksX8_lastWith_1 0 rfl rfl)
theorem dX8_lastWith_25 : decode cX8_lastWith 25 = .ok (.i2l, 1) := dk_133 (dk_at dksX8_lastWith_1 3 rfl rfl)
theorem dX8_lastWith_26 : decode cX8_lastWith 26 = .ok (.lload_n 1, 1) := dk_31 (dk_at dksX8_lastWith_1 4 rfl rfl)
theorem dX8_lastWith_27 : decode cX8_lastWith 27 = .ok (.lsub, 1) := dk_101 (dk_at dksX8_lastWith_1 5 rfl rfl)
theorem dX8_lastWith_28 : decode cX8_lastWith 28 = .ok (.aload_n 0, 1) := dk_42 (dk_at dksX8_lastWith_1 6 rfl rfl)
theorem dX8_lastWith_29 : decode cX8_lastWith 29 = .ok (.getfield 15, 3) := dk_180 0 15 (dk_at dksX8_lastWith_1 7 rfl rfl)
theorem dX8_lastWith_32 : decode cX8_lastWith 32 = .ok (.ineg, 1) := dk_116 (dk_at dksX8_lastWith_1 10 rfl rfl)
theorem dX8_lastWith_33 : decode cX8_lastWith 33 = .ok (.i2l, 1) := dk_133 (dk_at dksX8_lastWith_1 11 rfl rfl)
theorem dX8_lastWith_34 : decode cX8_lastWith 34 = .ok (.ldiv, 1) := dk_109 (dk_at dksX8_lastWith_1 12 rfl rfl)
theorem dX8_lastWith_35 : decode cX8_lastWith 35 = .ok (.lconst 1, 1) := dk_10 (dk_at dksX8_lastWith_1 13 rfl rfl)
theorem dX8_lastWith_36 : decode cX8_lastWith 36 = .ok (.ladd, 1) := dk_97 (dk_at dksX8_lastWith_1 14 rfl rfl)
theorem dX8_lastWith_37 : decode cX8_lastWith 37 = .ok (.goto 6, 3) := dk_167 0 6 (dk_at dksX8_lastWith_1 15 rfl rfl)
theorem dX8_lastWith_40 : decode cX8_lastWith 40 = .ok (.ldc2_w 20, 3) := dk_20 0 20 (dk_at dksX8_lastWith_1 18 rfl rfl)
theorem dX8_lastWith_43 : decode cX8_lastWith 43 = .ok (.lreturn, 1) := dk_173 (dk_at dksX8_lastWith_1 21 rfl rfl)
abbrev cX8_firstWith : ByteArray := prog_6_method_10_code
def yX8_firstWith : MethodName := ⟨RX8, "firstWith", "(J)J"⟩
def dkwX8_firstWith_2 : List UInt8 := [10, 97, 173]
abbrev dktX8_firstWith_2 : List UInt8 := dkwX8_firstWith_2 ++ []
def dkwX8_firstWith_1 : List UInt8 := [167, 0, 26, 31, 42, 180, 0, 9, 133, 101, 42, 180, 0, 15, 133, 97, 10, 101, 42, 180, 0, 15, 133, 109]
abbrev dktX8_firstWith_1 : List UInt8 := dkwX8_firstWith_1 ++ dktX8_firstWith_2
def dkwX8_firstWith_0 : List UInt8 := [31, 42, 180, 0, 9, 133, 148, 157, 0, 7, 10, 167, 0, 39, 42, 180, 0, 15, 157, 0, 9, 20, 0, 20]
abbrev dktX8_firstWith_0 : List UInt8 := dkwX8_firstWith_0 ++ dktX8_firstWith_1
theorem dksX8_firstWith_0 : cX8_firstWith.data.toList.drop 0 = dktX8_firstWith_0 := by decide +kernel
theorem dksX8_firstWith_1 : cX8_firstWith.data.toList.drop 24 = dktX8_firstWith_1 := dk_seg dksX8_firstWith_0 24 rfl rfl
theorem dksX8_firstWith_2 : cX8_firstWith.data.toList.drop 48 = dktX8_firstWith_2 := dk_seg dksX8_firstWith_1 24 rfl rfl
theorem dX8_firstWith_0 : decode cX8_firstWith 0 = .ok (.lload_n 1, 1) := dk_31 (dk_at dksX8_firstWith_0 0 rfl rfl)
theorem dX8_firstWith_1 : decode cX8_firstWith 1 = .ok (.aload_n 0, 1) := dk_42 (dk_at dksX8_firstWith_0 1 rfl rfl)
theorem dX8_firstWith_2 : decode cX8_firstWith 2 = .ok (.getfield 9, 3) := dk_180 0 9 (dk_at dksX8_firstWith_0 2 rfl rfl)
theorem dX8_firstWith_5 : decode cX8_firstWith 5 = .ok (.i2l, 1) := dk_133 (dk_at dksX8_firstWith_0 5 rfl rfl)
theorem dX8_firstWith_6 : decode cX8_firstWith 6 = .ok (.lcmp, 1) := dk_148 (dk_at dksX8_firstWith_0 6 rfl rfl)
theorem dX8_firstWith_7 : decode cX8_firstWith 7 = .ok (.ifCond .gt 7, 3) := dk_157 0 7 (dk_at dksX8_firstWith_0 7 rfl rfl)
theorem dX8_firstWith_10 : decode cX8_firstWith 10 = .ok (.lconst 1, 1) := dk_10 (dk_at dksX8_firstWith_0 10 rfl rfl)
theorem dX8_firstWith_11 : decode cX8_firstWith 11 = .ok (.goto 39, 3) := dk_167 0 39 (dk_at dksX8_firstWith_0 11 rfl rfl)
theorem dX8_firstWith_14 : decode cX8_firstWith 14 = .ok (.aload_n 0, 1) := dk_42 (dk_at dksX8_firstWith_0 14 rfl rfl)
theorem dX8_firstWith_15 : decode cX8_firstWith 15 = .ok (.getfield 15, 3) := dk_180 0 15 (dk_at dksX8_firstWith_0 15 rfl rfl)
theorem dX8_firstWith_18 : decode cX8_firstWith 18 = .ok (.ifCond .gt 9, 3) := dk_157 0 9 (dk_at dksX8_firstWith_0 18 rfl rfl)
theorem dX8_firstWith_21 : decode cX8_firstWith 21 = .ok (.ldc2_w 20, 3) := dk_20 0 20 (dk_at dksX8_firstWith_0 21 rfl rfl)
theorem dX8_firstWith_24 : decode cX8_firstWith 24 = .ok (.goto 26, 3) := dk_167 0 26 (dk_at dksX8_firstWith_1 0 rfl rfl)
theorem dX8_firstWith_27 : decode cX8_firstWith 27 = .ok (.lload_n 1, 1) := dk_31 (dk_at dksX8_firstWith_1 3 rfl rfl)
theorem dX8_firstWith_28 : decode cX8_firstWith 28 = .ok (.aload_n 0, 1) := dk_42 (dk_at dksX8_firstWith_1 4 rfl rfl)
theorem dX8_firstWith_29 : decode cX8_firstWith 29 = .ok (.getfield 9, 3) := dk_180 0 9 (dk_at dksX8_firstWith_1 5 rfl rfl)
theorem dX8_firstWith_32 : decode cX8_firstWith 32 = .ok (.i2l, 1) := dk_133 (dk_at dksX8_firstWith_1 8 rfl rfl)
theorem dX8_firstWith_33 : decode cX8_firstWith 33 = .ok (.lsub, 1) := dk_101 (dk_at dksX8_firstWith_1 9 rfl rfl)
theorem dX8_firstWith_34 : decode cX8_firstWith 34 = .ok (.aload_n 0, 1) := dk_42 (dk_at dksX8_firstWith_1 10 rfl rfl)
theorem dX8_firstWith_35 : decode cX8_firstWith 35 = .ok (.getfield 15, 3) := dk_180 0 15 (dk_at dksX8_firstWith_1 11 rfl rfl)
theorem dX8_firstWith_38 : decode cX8_firstWith 38 = .ok (.i2l, 1) := dk_133 (dk_at dksX8_firstWith_1 14 rfl rfl)
theorem dX8_firstWith_39 : decode cX8_firstWith 39 = .ok (.ladd, 1) := dk_97 (dk_at dksX8_firstWith_1 15 rfl rfl)
theorem dX8_firstWith_40 : decode cX8_firstWith 40 = .ok (.lconst 1, 1) := dk_10 (dk_at dksX8_firstWith_1 16 rfl rfl)
theorem dX8_firstWith_41 : decode cX8_firstWith 41 = .ok (.lsub, 1) := dk_101 (dk_at dksX8_firstWith_1 17 rfl rfl)
theorem dX8_firstWith_42 : decode cX8_firstWith 42 = .ok (.aload_n 0, 1) := dk_42 (dk_at dksX8_firstWith_1 18 rfl rfl)
theorem dX8_firstWith_43 : decode cX8_firstWith 43 = .ok (.getfield 15, 3) := dk_180 0 15 (dk_at dksX8_firstWith_1 19 rfl rfl)
theorem dX8_firstWith_46 : decode cX8_firstWith 46 = .ok (.i2l, 1) := dk_133 (dk_at dksX8_firstWith_1 22 rfl rfl)
theorem dX8_firstWith_47 : decode cX8_firstWith 47 = .ok (.ldiv, 1) := dk_109 (dk_at dksX8_firstWith_1 23 rfl rfl)
theorem dX8_firstWith_48 : decode cX8_firstWith 48 = .ok (.lconst 1, 1) := dk_10 (dk_at dksX8_firstWith_2 0 rfl rfl)
theorem dX8_firstWith_49 : decode cX8_firstWith 49 = .ok (.ladd, 1) := dk_97 (dk_at dksX8_firstWith_2 1 rfl rfl)
theorem dX8_firstWith_50 : decode cX8_firstWith 50 = .ok (.lreturn, 1) := dk_173 (dk_at dksX8_firstWith_2 2 rfl rfl)
abbrev cX8_ended : ByteArray := prog_6_method_8_code
def yX8_ended : MethodName := ⟨RX8, "ended", "(J)J"⟩
def dkwX8_ended_2 : List UInt8 := [148, 154, 0, 7, 33, 167, 0, 6, 33, 10, 101, 173]
abbrev dktX8_ended_2 : List UInt8 := dkwX8_ended_2 ++ []
def dkwX8_ended_1 : List UInt8 := [154, 0, 10, 42, 182, 0, 22, 167, 0, 28, 31, 42, 33, 182, 0, 43, 42, 33, 182, 0, 52, 97, 10, 101]
abbrev dktX8_ended_1 : List UInt8 := dkwX8_ended_1 ++ dktX8_ended_2
def dkwX8_ended_0 : List UInt8 := [31, 42, 180, 0, 32, 133, 148, 156, 0, 5, 9, 173, 42, 31, 182, 0, 49, 66, 33, 20, 0, 47, 148]
abbrev dktX8_ended_0 : List UInt8 := dkwX8_ended_0 ++ dktX8_ended_1
theorem dksX8_ended_0 : cX8_ended.data.toList.drop 0 = dktX8_ended_0 := by decide +kernel
theorem dksX8_ended_1 : cX8_ended.data.toList.drop 23 = dktX8_ended_1 := dk_seg dksX8_ended_0 23 rfl rfl
theorem dksX8_ended_2 : cX8_ended.data.toList.drop 47 = dktX8_ended_2 := dk_seg dksX8_ended_1 24 rfl rfl
theorem dX8_ended_0 : decode cX8_ended 0 = .ok (.lload_n 1, 1) := dk_31 (dk_at dksX8_ended_0 0 rfl rfl)
theorem dX8_ended_1 : decode cX8_ended 1 = .ok (.aload_n 0, 1) := dk_42 (dk_at dksX8_ended_0 1 rfl rfl)
theorem dX8_ended_2 : decode cX8_ended 2 = .ok (.getfield 32, 3) := dk_180 0 32 (dk_at dksX8_ended_0 2 rfl rfl)
theorem dX8_ended_5 : decode cX8_ended 5 = .ok (.i2l, 1) := dk_133 (dk_at dksX8_ended_0 5 rfl rfl)
theorem dX8_ended_6 : decode cX8_ended 6 = .ok (.lcmp, 1) := dk_148 (dk_at dksX8_ended_0 6 rfl rfl)
theorem dX8_ended_7 : decode cX8_ended 7 = .ok (.ifCond .ge 5, 3) := dk_156 0 5 (dk_at dksX8_ended_0 7 rfl rfl)
theorem dX8_ended_10 : decode cX8_ended 10 = .ok (.lconst 0, 1) := dk_9 (dk_at dksX8_ended_0 10 rfl rfl)
theorem dX8_ended_11 : decode cX8_ended 11 = .ok (.lreturn, 1) := dk_173 (dk_at dksX8_ended_0 11 rfl rfl)
theorem dX8_ended_12 : decode cX8_ended 12 = .ok (.aload_n 0, 1) := dk_42 (dk_at dksX8_ended_0 12 rfl rfl)
theorem dX8_ended_13 : decode cX8_ended 13 = .ok (.lload_n 1, 1) := dk_31 (dk_at dksX8_ended_0 13 rfl rfl)
theorem dX8_ended_14 : decode cX8_ended 14 = .ok (.invokevirtual 49, 3) := dk_182 0 49 (dk_at dksX8_ended_0 14 rfl rfl)
theorem dX8_ended_17 : decode cX8_ended 17 = .ok (.lstore_n 3, 1) := dk_66 (dk_at dksX8_ended_0 17 rfl rfl)
theorem dX8_ended_18 : decode cX8_ended 18 = .ok (.lload_n 3, 1) := dk_33 (dk_at dksX8_ended_0 18 rfl rfl)
theorem dX8_ended_19 : decode cX8_ended 19 = .ok (.ldc2_w 47, 3) := dk_20 0 47 (dk_at dksX8_ended_0 19 rfl rfl)
theorem dX8_ended_22 : decode cX8_ended 22 = .ok (.lcmp, 1) := dk_148 (dk_at dksX8_ended_0 22 rfl rfl)
theorem dX8_ended_23 : decode cX8_ended 23 = .ok (.ifCond .ne 10, 3) := dk_154 0 10 (dk_at dksX8_ended_1 0 rfl rfl)
theorem dX8_ended_26 : decode cX8_ended 26 = .ok (.aload_n 0, 1) := dk_42 (dk_at dksX8_ended_1 3 rfl rfl)
theorem dX8_ended_27 : decode cX8_ended 27 = .ok (.invokevirtual 22, 3) := dk_182 0 22 (dk_at dksX8_ended_1 4 rfl rfl)
theorem dX8_ended_30 : decode cX8_ended 30 = .ok (.goto 28, 3) := dk_167 0 28 (dk_at dksX8_ended_1 7 rfl rfl)
theorem dX8_ended_33 : decode cX8_ended 33 = .ok (.lload_n 1, 1) := dk_31 (dk_at dksX8_ended_1 10 rfl rfl)
theorem dX8_ended_34 : decode cX8_ended 34 = .ok (.aload_n 0, 1) := dk_42 (dk_at dksX8_ended_1 11 rfl rfl)
theorem dX8_ended_35 : decode cX8_ended 35 = .ok (.lload_n 3, 1) := dk_33 (dk_at dksX8_ended_1 12 rfl rfl)
theorem dX8_ended_36 : decode cX8_ended 36 = .ok (.invokevirtual 43, 3) := dk_182 0 43 (dk_at dksX8_ended_1 13 rfl rfl)
theorem dX8_ended_39 : decode cX8_ended 39 = .ok (.aload_n 0, 1) := dk_42 (dk_at dksX8_ended_1 16 rfl rfl)
theorem dX8_ended_40 : decode cX8_ended 40 = .ok (.lload_n 3, 1) := dk_33 (dk_at dksX8_ended_1 17 rfl rfl)
theorem dX8_ended_41 : decode cX8_ended 41 = .ok (.invokevirtual 52, 3) := dk_182 0 52 (dk_at dksX8_ended_1 18 rfl rfl)
theorem dX8_ended_44 : decode cX8_ended 44 = .ok (.ladd, 1) := dk_97 (dk_at dksX8_ended_1 21 rfl rfl)
theorem dX8_ended_45 : decode cX8_ended 45 = .ok (.lconst 1, 1) := dk_10 (dk_at dksX8_ended_1 22 rfl rfl)
theorem dX8_ended_46 : decode cX8_ended 46 = .ok (.lsub, 1) := dk_101 (dk_at dksX8_ended_1 23 rfl rfl)
theorem dX8_ended_47 : decode cX8_ended 47 = .ok (.lcmp, 1) := dk_148 (dk_at dksX8_ended_2 0 rfl rfl)
theorem dX8_ended_48 : decode cX8_ended 48 = .ok (.ifCond .ne 7, 3) := dk_154 0 7 (dk_at dksX8_ended_2 1 rfl rfl)
theorem dX8_ended_51 : decode cX8_ended 51 = .ok (.lload_n 3, 1) := dk_33 (dk_at dksX8_ended_2 4 rfl rfl)
theorem dX8_ended_52 : decode cX8_ended 52 = .ok (.goto 6, 3) := dk_167 0 6 (dk_at dksX8_ended_2 5 rfl rfl)
theorem dX8_ended_55 : decode cX8_ended 55 = .ok (.lload_n 3, 1) := dk_33 (dk_at dksX8_ended_2 8 rfl rfl)
theorem dX8_ended_56 : decode cX8_ended 56 = .ok (.lconst 1, 1) := dk_10 (dk_at dksX8_ended_2 9 rfl rfl)
theorem dX8_ended_57 : decode cX8_ended 57 = .ok (.lsub, 1) := dk_101 (dk_at dksX8_ended_2 10 rfl rfl)
theorem dX8_ended_58 : decode cX8_ended 58 = .ok (.lreturn, 1) := dk_173 (dk_at dksX8_ended_2 11 rfl rfl)
abbrev cX9_init : ByteArray := prog_13_method_1_code
def yX9_init : MethodName := ⟨RX9, "<init>", "(IJ)V"⟩
def dkwX9_init_0 : List UInt8 := [42, 27, 183, 0, 3, 42, 20, 0, 9, 181, 0, 11, 42, 32, 181, 0, 17, 177]
abbrev dktX9_init_0 : List UInt8 := dkwX9_init_0 ++ []
theorem dksX9_init_0 : cX9_init.data.toList.drop 0 = dktX9_init_0 := by decide +kernel
theorem dX9_init_0 : decode cX9_init 0 = .ok (.aload_n 0, 1) := dk_42 (dk_at dksX9_init_0 0 rfl rfl)
theorem dX9_init_1 : decode cX9_init 1 = .ok (.iload_n 1, 1) := dk_27 (dk_at dksX9_init_0 1 rfl rfl)
theorem dX9_init_2 : decode cX9_init 2 = .ok (.invokespecial 3, 3) := dk_183 0 3 (dk_at dksX9_init_0 2 rfl rfl)
theorem dX9_init_5 : decode cX9_init 5 = .ok (.aload_n 0, 1) := dk_42 (dk_at dksX9_init_0 5 rfl rfl)
theorem dX9_init_6 : decode cX9_init 6 = .ok (.ldc2_w 9, 3) := dk_20 0 9 (dk_at dksX9_init_0 6 rfl rfl)
theorem dX9_init_9 : decode cX9_init 9 = .ok (.putfield 11, 3) := dk_181 0 11 (dk_at dksX9_init_0 9 rfl rfl)
theorem dX9_init_12 : decode cX9_init 12 = .ok (.aload_n 0, 1) := dk_42 (dk_at dksX9_init_0 12 rfl rfl)
theorem dX9_init_13 : decode cX9_init 13 = .ok (.lload_n 2, 1) := dk_32 (dk_at dksX9_init_0 13 rfl rfl)
theorem dX9_init_14 : decode cX9_init 14 = .ok (.putfield 17, 3) := dk_181 0 17 (dk_at dksX9_init_0 14 rfl rfl)
theorem dX9_init_17 : decode cX9_init 17 = .ok (.return_, 1) := dk_177 (dk_at dksX9_init_0 17 rfl rfl)
abbrev cX9_isAlive : ByteArray := prog_13_method_2_code
def yX9_isAlive : MethodName := ⟨RX9, "isAlive", "(J)Z"⟩
def dkwX9_isAlive_1 : List UInt8 := [180, 0, 11, 148, 157, 0, 7, 4, 167, 0, 4, 3, 172]
abbrev dktX9_isAlive_1 : List UInt8 := dkwX9_isAlive_1 ++ []
def dkwX9_isAlive_0 : List UInt8 := [31, 42, 180, 0, 17, 148, 155, 0, 27, 42, 180, 0, 11, 20, 0, 9, 148, 153, 0, 12, 31, 42]
abbrev dktX9_isAlive_0 : List UInt8 := dkwX9_isAlive_0 ++ dktX9_isAlive_1
theorem dksX9_isAlive_0 : cX9_isAlive.data.toList.drop 0 = dktX9_isAlive_0 := by decide +kernel
theorem dksX9_isAlive_1 : cX9_isAlive.data.toList.drop 22 = dktX9_isAlive_1 := dk_seg dksX9_isAlive_0 22 rfl rfl
theorem dX9_isAlive_0 : decode cX9_isAlive 0 = .ok (.lload_n 1, 1) := dk_31 (dk_at dksX9_isAlive_0 0 rfl rfl)
theorem dX9_isAlive_1 : decode cX9_isAlive 1 = .ok (.aload_n 0, 1) := dk_42 (dk_at dksX9_isAlive_0 1 rfl rfl)
theorem dX9_isAlive_2 : decode cX9_isAlive 2 = .ok (.getfield 17, 3) := dk_180 0 17 (dk_at dksX9_isAlive_0 2 rfl rfl)
theorem dX9_isAlive_5 : decode cX9_isAlive 5 = .ok (.lcmp, 1) := dk_148 (dk_at dksX9_isAlive_0 5 rfl rfl)
theorem dX9_isAlive_6 : decode cX9_isAlive 6 = .ok (.ifCond .lt 27, 3) := dk_155 0 27 (dk_at dksX9_isAlive_0 6 rfl rfl)
theorem dX9_isAlive_9 : decode cX9_isAlive 9 = .ok (.aload_n 0, 1) := dk_42 (dk_at dksX9_isAlive_0 9 rfl rfl)
theorem dX9_isAlive_10 : decode cX9_isAlive 10 = .ok (.getfield 11, 3) := dk_180 0 11 (dk_at dksX9_isAlive_0 10 rfl rfl)
theorem dX9_isAlive_13 : decode cX9_isAlive 13 = .ok (.ldc2_w 9, 3) := dk_20 0 9 (dk_at dksX9_isAlive_0 13 rfl rfl)
theorem dX9_isAlive_16 : decode cX9_isAlive 16 = .ok (.lcmp, 1) := dk_148 (dk_at dksX9_isAlive_0 16 rfl rfl)
theorem dX9_isAlive_17 : decode cX9_isAlive 17 = .ok (.ifCond .eq 12, 3) := dk_153 0 12 (dk_at dksX9_isAlive_0 17 rfl rfl)
theorem dX9_isAlive_20 : decode cX9_isAlive 20 = .ok (.lload_n 1, 1) := dk_31 (dk_at dksX9_isAlive_0 20 rfl rfl)
theorem dX9_isAlive_21 : decode cX9_isAlive 21 = .ok (.aload_n 0, 1) := dk_42 (dk_at dksX9_isAlive_0 21 rfl rfl)
theorem dX9_isAlive_22 : decode cX9_isAlive 22 = .ok (.getfield 11, 3) := dk_180 0 11 (dk_at dksX9_isAlive_1 0 rfl rfl)
theorem dX9_isAlive_25 : decode cX9_isAlive 25 = .ok (.lcmp, 1) := dk_148 (dk_at dksX9_isAlive_1 3 rfl rfl)
theorem dX9_isAlive_26 : decode cX9_isAlive 26 = .ok (.ifCond .gt 7, 3) := dk_157 0 7 (dk_at dksX9_isAlive_1 4 rfl rfl)
theorem dX9_isAlive_29 : decode cX9_isAlive 29 = .ok (.iconst 1, 1) := dk_4 (dk_at dksX9_isAlive_1 7 rfl rfl)
theorem dX9_isAlive_30 : decode cX9_isAlive 30 = .ok (.goto 4, 3) := dk_167 0 4 (dk_at dksX9_isAlive_1 8 rfl rfl)
theorem dX9_isAlive_33 : decode cX9_isAlive 33 = .ok (.iconst 0, 1) := dk_3 (dk_at dksX9_isAlive_1 11 rfl rfl)
theorem dX9_isAlive_34 : decode cX9_isAlive 34 = .ok (.ireturn, 1) := dk_172 (dk_at dksX9_isAlive_1 12 rfl rfl)
abbrev cX10_init : ByteArray := prog_2_method_1_code
def yX10_init : MethodName := ⟨RX10, "<init>", "(IJI)V"⟩
def dkwX10_init_0 : List UInt8 := [42, 27, 183, 0, 3, 42, 32, 181, 0, 9, 42, 21, 4, 181, 0, 15, 177]
abbrev dktX10_init_0 : List UInt8 := dkwX10_init_0 ++ []
theorem dksX10_init_0 : cX10_init.data.toList.drop 0 = dktX10_init_0 := by decide +kernel
theorem dX10_init_0 : decode cX10_init 0 = .ok (.aload_n 0, 1) := dk_42 (dk_at dksX10_init_0 0 rfl rfl)
theorem dX10_init_1 : decode cX10_init 1 = .ok (.iload_n 1, 1) := dk_27 (dk_at dksX10_init_0 1 rfl rfl)
theorem dX10_init_2 : decode cX10_init 2 = .ok (.invokespecial 3, 3) := dk_183 0 3 (dk_at dksX10_init_0 2 rfl rfl)
theorem dX10_init_5 : decode cX10_init 5 = .ok (.aload_n 0, 1) := dk_42 (dk_at dksX10_init_0 5 rfl rfl)
theorem dX10_init_6 : decode cX10_init 6 = .ok (.lload_n 2, 1) := dk_32 (dk_at dksX10_init_0 6 rfl rfl)
theorem dX10_init_7 : decode cX10_init 7 = .ok (.putfield 9, 3) := dk_181 0 9 (dk_at dksX10_init_0 7 rfl rfl)
theorem dX10_init_10 : decode cX10_init 10 = .ok (.aload_n 0, 1) := dk_42 (dk_at dksX10_init_0 10 rfl rfl)
theorem dX10_init_11 : decode cX10_init 11 = .ok (.iload 4, 2) := dk_21 4 (dk_at dksX10_init_0 11 rfl rfl)
theorem dX10_init_13 : decode cX10_init 13 = .ok (.putfield 15, 3) := dk_181 0 15 (dk_at dksX10_init_0 13 rfl rfl)
theorem dX10_init_16 : decode cX10_init 16 = .ok (.return_, 1) := dk_177 (dk_at dksX10_init_0 16 rfl rfl)
abbrev cX10_counted : ByteArray := prog_2_method_3_code
def yX10_counted : MethodName := ⟨RX10, "counted", "(J)J"⟩
def dkwX10_counted_0 : List UInt8 := [30, 20, 0, 23, 148, 158, 0, 9, 20, 0, 25, 167, 0, 4, 30, 173]
abbrev dktX10_counted_0 : List UInt8 := dkwX10_counted_0 ++ []
theorem dksX10_counted_0 : cX10_counted.data.toList.drop 0 = dktX10_counted_0 := by decide +kernel
theorem dX10_counted_0 : decode cX10_counted 0 = .ok (.lload_n 0, 1) := dk_30 (dk_at dksX10_counted_0 0 rfl rfl)
theorem dX10_counted_1 : decode cX10_counted 1 = .ok (.ldc2_w 23, 3) := dk_20 0 23 (dk_at dksX10_counted_0 1 rfl rfl)
theorem dX10_counted_4 : decode cX10_counted 4 = .ok (.lcmp, 1) := dk_148 (dk_at dksX10_counted_0 4 rfl rfl)
theorem dX10_counted_5 : decode cX10_counted 5 = .ok (.ifCond .le 9, 3) := dk_158 0 9 (dk_at dksX10_counted_0 5 rfl rfl)
theorem dX10_counted_8 : decode cX10_counted 8 = .ok (.ldc2_w 25, 3) := dk_20 0 25 (dk_at dksX10_counted_0 8 rfl rfl)
theorem dX10_counted_11 : decode cX10_counted 11 = .ok (.goto 4, 3) := dk_167 0 4 (dk_at dksX10_counted_0 11 rfl rfl)
theorem dX10_counted_14 : decode cX10_counted 14 = .ok (.lload_n 0, 1) := dk_30 (dk_at dksX10_counted_0 14 rfl rfl)
theorem dX10_counted_15 : decode cX10_counted 15 = .ok (.lreturn, 1) := dk_173 (dk_at dksX10_counted_0 15 rfl rfl)
abbrev cX10_due : ByteArray := prog_2_method_2_code
def yX10_due : MethodName := ⟨RX10, "due", "(LLongYears;LLongYears$Land;)J"⟩
def dkwX10_due_0 : List UInt8 := [42, 180, 0, 9, 42, 180, 0, 15, 133, 97, 184, 0, 19, 173]
abbrev dktX10_due_0 : List UInt8 := dkwX10_due_0 ++ []
theorem dksX10_due_0 : cX10_due.data.toList.drop 0 = dktX10_due_0 := by decide +kernel
theorem dX10_due_0 : decode cX10_due 0 = .ok (.aload_n 0, 1) := dk_42 (dk_at dksX10_due_0 0 rfl rfl)
theorem dX10_due_1 : decode cX10_due 1 = .ok (.getfield 9, 3) := dk_180 0 9 (dk_at dksX10_due_0 1 rfl rfl)
theorem dX10_due_4 : decode cX10_due 4 = .ok (.aload_n 0, 1) := dk_42 (dk_at dksX10_due_0 4 rfl rfl)
theorem dX10_due_5 : decode cX10_due 5 = .ok (.getfield 15, 3) := dk_180 0 15 (dk_at dksX10_due_0 5 rfl rfl)
theorem dX10_due_8 : decode cX10_due 8 = .ok (.i2l, 1) := dk_133 (dk_at dksX10_due_0 8 rfl rfl)
theorem dX10_due_9 : decode cX10_due 9 = .ok (.ladd, 1) := dk_97 (dk_at dksX10_due_0 9 rfl rfl)
theorem dX10_due_10 : decode cX10_due 10 = .ok (.invokestatic 19, 3) := dk_184 0 19 (dk_at dksX10_due_0 10 rfl rfl)
theorem dX10_due_13 : decode cX10_due 13 = .ok (.lreturn, 1) := dk_173 (dk_at dksX10_due_0 13 rfl rfl)
abbrev cX11_init : ByteArray := prog_18_method_1_code
def yX11_init : MethodName := ⟨RX11, "<init>", "(IJI)V"⟩
def dkwX11_init_0 : List UInt8 := [42, 27, 32, 21, 4, 183, 0, 3, 177]
abbrev dktX11_init_0 : List UInt8 := dkwX11_init_0 ++ []
theorem dksX11_init_0 : cX11_init.data.toList.drop 0 = dktX11_init_0 := by decide +kernel
theorem dX11_init_0 : decode cX11_init 0 = .ok (.aload_n 0, 1) := dk_42 (dk_at dksX11_init_0 0 rfl rfl)
theorem dX11_init_1 : decode cX11_init 1 = .ok (.iload_n 1, 1) := dk_27 (dk_at dksX11_init_0 1 rfl rfl)
theorem dX11_init_2 : decode cX11_init 2 = .ok (.lload_n 2, 1) := dk_32 (dk_at dksX11_init_0 2 rfl rfl)
theorem dX11_init_3 : decode cX11_init 3 = .ok (.iload 4, 2) := dk_21 4 (dk_at dksX11_init_0 3 rfl rfl)
theorem dX11_init_5 : decode cX11_init 5 = .ok (.invokespecial 3, 3) := dk_183 0 3 (dk_at dksX11_init_0 5 rfl rfl)
theorem dX11_init_8 : decode cX11_init 8 = .ok (.return_, 1) := dk_177 (dk_at dksX11_init_0 8 rfl rfl)
abbrev cX11_due : ByteArray := prog_18_method_2_code
def yX11_due : MethodName := ⟨RX11, "due", "(LLongYears;LLongYears$Land;)J"⟩
def dkwX11_due_3 : List UInt8 := [153, 0, 16, 44, 33, 10, 97, 182, 0, 37, 184, 0, 40, 167, 0, 6, 20, 0, 32, 173]
abbrev dktX11_due_3 : List UInt8 := dkwX11_due_3 ++ []
def dkwX11_due_2 : List UInt8 := [157, 0, 17, 44, 33, 182, 0, 37, 22, 5, 97, 10, 101, 184, 0, 40, 173, 44, 33, 10, 97, 182, 0, 28]
abbrev dktX11_due_2 : List UInt8 := dkwX11_due_2 ++ dktX11_due_3
def dkwX11_due_1 : List UInt8 := [55, 5, 44, 33, 182, 0, 28, 154, 0, 7, 20, 0, 32, 173, 22, 5, 44, 33, 182, 0, 34, 148]
abbrev dktX11_due_1 : List UInt8 := dkwX11_due_1 ++ dktX11_due_2
def dkwX11_due_0 : List UInt8 := [44, 42, 180, 0, 9, 182, 0, 15, 42, 180, 0, 21, 133, 97, 66, 44, 42, 180, 0, 9, 182, 0, 25]
abbrev dktX11_due_0 : List UInt8 := dkwX11_due_0 ++ dktX11_due_1
theorem dksX11_due_0 : cX11_due.data.toList.drop 0 = dktX11_due_0 := by decide +kernel
theorem dksX11_due_1 : cX11_due.data.toList.drop 23 = dktX11_due_1 := dk_seg dksX11_due_0 23 rfl rfl
theorem dksX11_due_2 : cX11_due.data.toList.drop 45 = dktX11_due_2 := dk_seg dksX11_due_1 22 rfl rfl
theorem dksX11_due_3 : cX11_due.data.toList.drop 69 = dktX11_due_3 := dk_seg dksX11_due_2 24 rfl rfl
theorem dX11_due_0 : decode cX11_due 0 = .ok (.aload_n 2, 1) := dk_44 (dk_at dksX11_due_0 0 rfl rfl)
theorem dX11_due_1 : decode cX11_due 1 = .ok (.aload_n 0, 1) := dk_42 (dk_at dksX11_due_0 1 rfl rfl)
theorem dX11_due_2 : decode cX11_due 2 = .ok (.getfield 9, 3) := dk_180 0 9 (dk_at dksX11_due_0 2 rfl rfl)
theorem dX11_due_5 : decode cX11_due 5 = .ok (.invokevirtual 15, 3) := dk_182 0 15 (dk_at dksX11_due_0 5 rfl rfl)
theorem dX11_due_8 : decode cX11_due 8 = .ok (.aload_n 0, 1) := dk_42 (dk_at dksX11_due_0 8 rfl rfl)
theorem dX11_due_9 : decode cX11_due 9 = .ok (.getfield 21, 3) := dk_180 0 21 (dk_at dksX11_due_0 9 rfl rfl)
theorem dX11_due_12 : decode cX11_due 12 = .ok (.i2l, 1) := dk_133 (dk_at dksX11_due_0 12 rfl rfl)
theorem dX11_due_13 : decode cX11_due 13 = .ok (.ladd, 1) := dk_97 (dk_at dksX11_due_0 13 rfl rfl)
theorem dX11_due_14 : decode cX11_due 14 = .ok (.lstore_n 3, 1) := dk_66 (dk_at dksX11_due_0 14 rfl rfl)
theorem dX11_due_15 : decode cX11_due 15 = .ok (.aload_n 2, 1) := dk_44 (dk_at dksX11_due_0 15 rfl rfl)
theorem dX11_due_16 : decode cX11_due 16 = .ok (.aload_n 0, 1) := dk_42 (dk_at dksX11_due_0 16 rfl rfl)
theorem dX11_due_17 : decode cX11_due 17 = .ok (.getfield 9, 3) := dk_180 0 9 (dk_at dksX11_due_0 17 rfl rfl)
theorem dX11_due_20 : decode cX11_due 20 = .ok (.invokevirtual 25, 3) := dk_182 0 25 (dk_at dksX11_due_0 20 rfl rfl)
theorem dX11_due_23 : decode cX11_due 23 = .ok (.lstore 5, 2) := dk_55 5 (dk_at dksX11_due_1 0 rfl rfl)
theorem dX11_due_25 : decode cX11_due 25 = .ok (.aload_n 2, 1) := dk_44 (dk_at dksX11_due_1 2 rfl rfl)
theorem dX11_due_26 : decode cX11_due 26 = .ok (.lload_n 3, 1) := dk_33 (dk_at dksX11_due_1 3 rfl rfl)
theorem dX11_due_27 : decode cX11_due 27 = .ok (.invokevirtual 28, 3) := dk_182 0 28 (dk_at dksX11_due_1 4 rfl rfl)
theorem dX11_due_30 : decode cX11_due 30 = .ok (.ifCond .ne 7, 3) := dk_154 0 7 (dk_at dksX11_due_1 7 rfl rfl)
theorem dX11_due_33 : decode cX11_due 33 = .ok (.ldc2_w 32, 3) := dk_20 0 32 (dk_at dksX11_due_1 10 rfl rfl)
theorem dX11_due_36 : decode cX11_due 36 = .ok (.lreturn, 1) := dk_173 (dk_at dksX11_due_1 13 rfl rfl)
theorem dX11_due_37 : decode cX11_due 37 = .ok (.lload 5, 2) := dk_22 5 (dk_at dksX11_due_1 14 rfl rfl)
theorem dX11_due_39 : decode cX11_due 39 = .ok (.aload_n 2, 1) := dk_44 (dk_at dksX11_due_1 16 rfl rfl)
theorem dX11_due_40 : decode cX11_due 40 = .ok (.lload_n 3, 1) := dk_33 (dk_at dksX11_due_1 17 rfl rfl)
theorem dX11_due_41 : decode cX11_due 41 = .ok (.invokevirtual 34, 3) := dk_182 0 34 (dk_at dksX11_due_1 18 rfl rfl)
theorem dX11_due_44 : decode cX11_due 44 = .ok (.lcmp, 1) := dk_148 (dk_at dksX11_due_1 21 rfl rfl)
theorem dX11_due_45 : decode cX11_due 45 = .ok (.ifCond .gt 17, 3) := dk_157 0 17 (dk_at dksX11_due_2 0 rfl rfl)
theorem dX11_due_48 : decode cX11_due 48 = .ok (.aload_n 2, 1) := dk_44 (dk_at dksX11_due_2 3 rfl rfl)
theorem dX11_due_49 : decode cX11_due 49 = .ok (.lload_n 3, 1) := dk_33 (dk_at dksX11_due_2 4 rfl rfl)
theorem dX11_due_50 : decode cX11_due 50 = .ok (.invokevirtual 37, 3) := dk_182 0 37 (dk_at dksX11_due_2 5 rfl rfl)
theorem dX11_due_53 : decode cX11_due 53 = .ok (.lload 5, 2) := dk_22 5 (dk_at dksX11_due_2 8 rfl rfl)
theorem dX11_due_55 : decode cX11_due 55 = .ok (.ladd, 1) := dk_97 (dk_at dksX11_due_2 10 rfl rfl)
theorem dX11_due_56 : decode cX11_due 56 = .ok (.lconst 1, 1) := dk_10 (dk_at dksX11_due_2 11 rfl rfl)
theorem dX11_due_57 : decode cX11_due 57 = .ok (.lsub, 1) := dk_101 (dk_at dksX11_due_2 12 rfl rfl)
theorem dX11_due_58 : decode cX11_due 58 = .ok (.invokestatic 40, 3) := dk_184 0 40 (dk_at dksX11_due_2 13 rfl rfl)
theorem dX11_due_61 : decode cX11_due 61 = .ok (.lreturn, 1) := dk_173 (dk_at dksX11_due_2 16 rfl rfl)
theorem dX11_due_62 : decode cX11_due 62 = .ok (.aload_n 2, 1) := dk_44 (dk_at dksX11_due_2 17 rfl rfl)
theorem dX11_due_63 : decode cX11_due 63 = .ok (.lload_n 3, 1) := dk_33 (dk_at dksX11_due_2 18 rfl rfl)
theorem dX11_due_64 : decode cX11_due 64 = .ok (.lconst 1, 1) := dk_10 (dk_at dksX11_due_2 19 rfl rfl)
theorem dX11_due_65 : decode cX11_due 65 = .ok (.ladd, 1) := dk_97 (dk_at dksX11_due_2 20 rfl rfl)
theorem dX11_due_66 : decode cX11_due 66 = .ok (.invokevirtual 28, 3) := dk_182 0 28 (dk_at dksX11_due_2 21 rfl rfl)
theorem dX11_due_69 : decode cX11_due 69 = .ok (.ifCond .eq 16, 3) := dk_153 0 16 (dk_at dksX11_due_3 0 rfl rfl)
theorem dX11_due_72 : decode cX11_due 72 = .ok (.aload_n 2, 1) := dk_44 (dk_at dksX11_due_3 3 rfl rfl)
theorem dX11_due_73 : decode cX11_due 73 = .ok (.lload_n 3, 1) := dk_33 (dk_at dksX11_due_3 4 rfl rfl)
theorem dX11_due_74 : decode cX11_due 74 = .ok (.lconst 1, 1) := dk_10 (dk_at dksX11_due_3 5 rfl rfl)
theorem dX11_due_75 : decode cX11_due 75 = .ok (.ladd, 1) := dk_97 (dk_at dksX11_due_3 6 rfl rfl)
theorem dX11_due_76 : decode cX11_due 76 = .ok (.invokevirtual 37, 3) := dk_182 0 37 (dk_at dksX11_due_3 7 rfl rfl)
theorem dX11_due_79 : decode cX11_due 79 = .ok (.invokestatic 40, 3) := dk_184 0 40 (dk_at dksX11_due_3 10 rfl rfl)
theorem dX11_due_82 : decode cX11_due 82 = .ok (.goto 6, 3) := dk_167 0 6 (dk_at dksX11_due_3 13 rfl rfl)
theorem dX11_due_85 : decode cX11_due 85 = .ok (.ldc2_w 32, 3) := dk_20 0 32 (dk_at dksX11_due_3 16 rfl rfl)
theorem dX11_due_88 : decode cX11_due 88 = .ok (.lreturn, 1) := dk_173 (dk_at dksX11_due_3 19 rfl rfl)
abbrev cX12_init : ByteArray := prog_5_method_1_code
def yX12_init : MethodName := ⟨RX12, "<init>", "(IJI)V"⟩
def dkwX12_init_0 : List UInt8 := [42, 27, 32, 21, 4, 183, 0, 1, 177]
abbrev dktX12_init_0 : List UInt8 := dkwX12_init_0 ++ []
theorem dksX12_init_0 : cX12_init.data.toList.drop 0 = dktX12_init_0 := by decide +kernel
theorem dX12_init_0 : decode cX12_init 0 = .ok (.aload_n 0, 1) := dk_42 (dk_at dksX12_init_0 0 rfl rfl)
theorem dX12_init_1 : decode cX12_init 1 = .ok (.iload_n 1, 1) := dk_27 (dk_at dksX12_init_0 1 rfl rfl)
theorem dX12_init_2 : decode cX12_init 2 = .ok (.lload_n 2, 1) := dk_32 (dk_at dksX12_init_0 2 rfl rfl)
theorem dX12_init_3 : decode cX12_init 3 = .ok (.iload 4, 2) := dk_21 4 (dk_at dksX12_init_0 3 rfl rfl)
theorem dX12_init_5 : decode cX12_init 5 = .ok (.invokespecial 1, 3) := dk_183 0 1 (dk_at dksX12_init_0 5 rfl rfl)
theorem dX12_init_8 : decode cX12_init 8 = .ok (.return_, 1) := dk_177 (dk_at dksX12_init_0 8 rfl rfl)
abbrev cX12_due : ByteArray := prog_5_method_2_code
def yX12_due : MethodName := ⟨RX12, "due", "(LLongYears;LLongYears$Land;)J"⟩
def dkwX12_due_0 : List UInt8 := [43, 42, 180, 0, 7, 42, 180, 0, 13, 10, 97, 182, 0, 17, 173]
abbrev dktX12_due_0 : List UInt8 := dkwX12_due_0 ++ []
theorem dksX12_due_0 : cX12_due.data.toList.drop 0 = dktX12_due_0 := by decide +kernel
theorem dX12_due_0 : decode cX12_due 0 = .ok (.aload_n 1, 1) := dk_43 (dk_at dksX12_due_0 0 rfl rfl)
theorem dX12_due_1 : decode cX12_due 1 = .ok (.aload_n 0, 1) := dk_42 (dk_at dksX12_due_0 1 rfl rfl)
theorem dX12_due_2 : decode cX12_due 2 = .ok (.getfield 7, 3) := dk_180 0 7 (dk_at dksX12_due_0 2 rfl rfl)
theorem dX12_due_5 : decode cX12_due 5 = .ok (.aload_n 0, 1) := dk_42 (dk_at dksX12_due_0 5 rfl rfl)
theorem dX12_due_6 : decode cX12_due 6 = .ok (.getfield 13, 3) := dk_180 0 13 (dk_at dksX12_due_0 6 rfl rfl)
theorem dX12_due_9 : decode cX12_due 9 = .ok (.lconst 1, 1) := dk_10 (dk_at dksX12_due_0 9 rfl rfl)
theorem dX12_due_10 : decode cX12_due 10 = .ok (.ladd, 1) := dk_97 (dk_at dksX12_due_0 10 rfl rfl)
theorem dX12_due_11 : decode cX12_due 11 = .ok (.invokevirtual 17, 3) := dk_182 0 17 (dk_at dksX12_due_0 11 rfl rfl)
theorem dX12_due_14 : decode cX12_due 14 = .ok (.lreturn, 1) := dk_173 (dk_at dksX12_due_0 14 rfl rfl)
abbrev cX13_init : ByteArray := prog_4_method_1_code
def yX13_init : MethodName := ⟨RX13, "<init>", "(ILLongYears$Part;)V"⟩
def dkwX13_init_0 : List UInt8 := [42, 27, 183, 0, 1, 42, 44, 181, 0, 7, 177]
abbrev dktX13_init_0 : List UInt8 := dkwX13_init_0 ++ []
theorem dksX13_init_0 : cX13_init.data.toList.drop 0 = dktX13_init_0 := by decide +kernel
theorem dX13_init_0 : decode cX13_init 0 = .ok (.aload_n 0, 1) := dk_42 (dk_at dksX13_init_0 0 rfl rfl)
theorem dX13_init_1 : decode cX13_init 1 = .ok (.iload_n 1, 1) := dk_27 (dk_at dksX13_init_0 1 rfl rfl)
theorem dX13_init_2 : decode cX13_init 2 = .ok (.invokespecial 1, 3) := dk_183 0 1 (dk_at dksX13_init_0 2 rfl rfl)
theorem dX13_init_5 : decode cX13_init 5 = .ok (.aload_n 0, 1) := dk_42 (dk_at dksX13_init_0 5 rfl rfl)
theorem dX13_init_6 : decode cX13_init 6 = .ok (.aload_n 2, 1) := dk_44 (dk_at dksX13_init_0 6 rfl rfl)
theorem dX13_init_7 : decode cX13_init 7 = .ok (.putfield 7, 3) := dk_181 0 7 (dk_at dksX13_init_0 7 rfl rfl)
theorem dX13_init_10 : decode cX13_init 10 = .ok (.return_, 1) := dk_177 (dk_at dksX13_init_0 10 rfl rfl)
abbrev cX14_init : ByteArray := prog_12_method_1_code
def yX14_init : MethodName := ⟨RX14, "<init>", "()V"⟩
theorem dX14_init_0 : decode cX14_init 0 = .ok (.aload_n 0, 1) := by decide +kernel
theorem dX14_init_1 : decode cX14_init 1 = .ok (.invokespecial 1, 3) := by decide +kernel
theorem dX14_init_4 : decode cX14_init 4 = .ok (.return_, 1) := by decide +kernel
abbrev cX15_init : ByteArray := prog_11_method_1_code
def yX15_init : MethodName := ⟨RX15, "<init>", "(I)V"⟩
def dkwX15_init_0 : List UInt8 := [42, 183, 0, 1, 42, 27, 181, 0, 7, 177]
abbrev dktX15_init_0 : List UInt8 := dkwX15_init_0 ++ []
theorem dksX15_init_0 : cX15_init.data.toList.drop 0 = dktX15_init_0 := by decide +kernel
theorem dX15_init_0 : decode cX15_init 0 = .ok (.aload_n 0, 1) := dk_42 (dk_at dksX15_init_0 0 rfl rfl)
theorem dX15_init_1 : decode cX15_init 1 = .ok (.invokespecial 1, 3) := dk_183 0 1 (dk_at dksX15_init_0 1 rfl rfl)
theorem dX15_init_4 : decode cX15_init 4 = .ok (.aload_n 0, 1) := dk_42 (dk_at dksX15_init_0 4 rfl rfl)
theorem dX15_init_5 : decode cX15_init 5 = .ok (.iload_n 1, 1) := dk_27 (dk_at dksX15_init_0 5 rfl rfl)
theorem dX15_init_6 : decode cX15_init 6 = .ok (.putfield 7, 3) := dk_181 0 7 (dk_at dksX15_init_0 6 rfl rfl)
theorem dX15_init_9 : decode cX15_init 9 = .ok (.return_, 1) := dk_177 (dk_at dksX15_init_0 9 rfl rfl)
abbrev cX15_of : ByteArray := prog_11_method_2_code
def yX15_of : MethodName := ⟨RX15, "of", "([J)J"⟩
def dkwX15_of_0 : List UInt8 := [42, 180, 0, 7, 133, 173]
abbrev dktX15_of_0 : List UInt8 := dkwX15_of_0 ++ []
theorem dksX15_of_0 : cX15_of.data.toList.drop 0 = dktX15_of_0 := by decide +kernel
theorem dX15_of_0 : decode cX15_of 0 = .ok (.aload_n 0, 1) := dk_42 (dk_at dksX15_of_0 0 rfl rfl)
theorem dX15_of_1 : decode cX15_of 1 = .ok (.getfield 7, 3) := dk_180 0 7 (dk_at dksX15_of_0 1 rfl rfl)
theorem dX15_of_4 : decode cX15_of 4 = .ok (.i2l, 1) := dk_133 (dk_at dksX15_of_0 4 rfl rfl)
theorem dX15_of_5 : decode cX15_of 5 = .ok (.lreturn, 1) := dk_173 (dk_at dksX15_of_0 5 rfl rfl)
abbrev cX16_init : ByteArray := prog_7_method_1_code
def yX16_init : MethodName := ⟨RX16, "<init>", "(I)V"⟩
def dkwX16_init_0 : List UInt8 := [42, 183, 0, 1, 42, 27, 181, 0, 7, 177]
abbrev dktX16_init_0 : List UInt8 := dkwX16_init_0 ++ []
theorem dksX16_init_0 : cX16_init.data.toList.drop 0 = dktX16_init_0 := by decide +kernel
theorem dX16_init_0 : decode cX16_init 0 = .ok (.aload_n 0, 1) := dk_42 (dk_at dksX16_init_0 0 rfl rfl)
theorem dX16_init_1 : decode cX16_init 1 = .ok (.invokespecial 1, 3) := dk_183 0 1 (dk_at dksX16_init_0 1 rfl rfl)
theorem dX16_init_4 : decode cX16_init 4 = .ok (.aload_n 0, 1) := dk_42 (dk_at dksX16_init_0 4 rfl rfl)
theorem dX16_init_5 : decode cX16_init 5 = .ok (.iload_n 1, 1) := dk_27 (dk_at dksX16_init_0 5 rfl rfl)
theorem dX16_init_6 : decode cX16_init 6 = .ok (.putfield 7, 3) := dk_181 0 7 (dk_at dksX16_init_0 6 rfl rfl)
theorem dX16_init_9 : decode cX16_init 9 = .ok (.return_, 1) := dk_177 (dk_at dksX16_init_0 9 rfl rfl)
abbrev cX16_of : ByteArray := prog_7_method_2_code
def yX16_of : MethodName := ⟨RX16, "of", "([J)J"⟩
def dkwX16_of_0 : List UInt8 := [43, 42, 180, 0, 7, 47, 184, 0, 13, 173]
abbrev dktX16_of_0 : List UInt8 := dkwX16_of_0 ++ []
theorem dksX16_of_0 : cX16_of.data.toList.drop 0 = dktX16_of_0 := by decide +kernel
theorem dX16_of_0 : decode cX16_of 0 = .ok (.aload_n 1, 1) := dk_43 (dk_at dksX16_of_0 0 rfl rfl)
theorem dX16_of_1 : decode cX16_of 1 = .ok (.aload_n 0, 1) := dk_42 (dk_at dksX16_of_0 1 rfl rfl)
theorem dX16_of_2 : decode cX16_of 2 = .ok (.getfield 7, 3) := dk_180 0 7 (dk_at dksX16_of_0 2 rfl rfl)
theorem dX16_of_5 : decode cX16_of 5 = .ok (.laload, 1) := dk_47 (dk_at dksX16_of_0 5 rfl rfl)
theorem dX16_of_6 : decode cX16_of 6 = .ok (.invokestatic 13, 3) := dk_184 0 13 (dk_at dksX16_of_0 6 rfl rfl)
theorem dX16_of_9 : decode cX16_of 9 = .ok (.lreturn, 1) := dk_173 (dk_at dksX16_of_0 9 rfl rfl)
abbrev cX17_init : ByteArray := prog_9_method_1_code
def yX17_init : MethodName := ⟨RX17, "<init>", "(LLongYears$Part;)V"⟩
def dkwX17_init_0 : List UInt8 := [42, 183, 0, 1, 42, 43, 181, 0, 7, 177]
abbrev dktX17_init_0 : List UInt8 := dkwX17_init_0 ++ []
theorem dksX17_init_0 : cX17_init.data.toList.drop 0 = dktX17_init_0 := by decide +kernel
theorem dX17_init_0 : decode cX17_init 0 = .ok (.aload_n 0, 1) := dk_42 (dk_at dksX17_init_0 0 rfl rfl)
theorem dX17_init_1 : decode cX17_init 1 = .ok (.invokespecial 1, 3) := dk_183 0 1 (dk_at dksX17_init_0 1 rfl rfl)
theorem dX17_init_4 : decode cX17_init 4 = .ok (.aload_n 0, 1) := dk_42 (dk_at dksX17_init_0 4 rfl rfl)
theorem dX17_init_5 : decode cX17_init 5 = .ok (.aload_n 1, 1) := dk_43 (dk_at dksX17_init_0 5 rfl rfl)
theorem dX17_init_6 : decode cX17_init 6 = .ok (.putfield 7, 3) := dk_181 0 7 (dk_at dksX17_init_0 6 rfl rfl)
theorem dX17_init_9 : decode cX17_init 9 = .ok (.return_, 1) := dk_177 (dk_at dksX17_init_0 9 rfl rfl)
abbrev cX17_of : ByteArray := prog_9_method_2_code
def yX17_of : MethodName := ⟨RX17, "of", "([J)J"⟩
def dkwX17_of_0 : List UInt8 := [42, 180, 0, 7, 43, 182, 0, 13, 9, 148, 154, 0, 7, 10, 167, 0, 4, 9, 173]
abbrev dktX17_of_0 : List UInt8 := dkwX17_of_0 ++ []
theorem dksX17_of_0 : cX17_of.data.toList.drop 0 = dktX17_of_0 := by decide +kernel
theorem dX17_of_0 : decode cX17_of 0 = .ok (.aload_n 0, 1) := dk_42 (dk_at dksX17_of_0 0 rfl rfl)
theorem dX17_of_1 : decode cX17_of 1 = .ok (.getfield 7, 3) := dk_180 0 7 (dk_at dksX17_of_0 1 rfl rfl)
theorem dX17_of_4 : decode cX17_of 4 = .ok (.aload_n 1, 1) := dk_43 (dk_at dksX17_of_0 4 rfl rfl)
theorem dX17_of_5 : decode cX17_of 5 = .ok (.invokevirtual 13, 3) := dk_182 0 13 (dk_at dksX17_of_0 5 rfl rfl)
theorem dX17_of_8 : decode cX17_of 8 = .ok (.lconst 0, 1) := dk_9 (dk_at dksX17_of_0 8 rfl rfl)
theorem dX17_of_9 : decode cX17_of 9 = .ok (.lcmp, 1) := dk_148 (dk_at dksX17_of_0 9 rfl rfl)
theorem dX17_of_10 : decode cX17_of 10 = .ok (.ifCond .ne 7, 3) := dk_154 0 7 (dk_at dksX17_of_0 10 rfl rfl)
theorem dX17_of_13 : decode cX17_of 13 = .ok (.lconst 1, 1) := dk_10 (dk_at dksX17_of_0 13 rfl rfl)
theorem dX17_of_14 : decode cX17_of 14 = .ok (.goto 4, 3) := dk_167 0 4 (dk_at dksX17_of_0 14 rfl rfl)
theorem dX17_of_17 : decode cX17_of 17 = .ok (.lconst 0, 1) := dk_9 (dk_at dksX17_of_0 17 rfl rfl)
theorem dX17_of_18 : decode cX17_of 18 = .ok (.lreturn, 1) := dk_173 (dk_at dksX17_of_0 18 rfl rfl)
abbrev cX18_init : ByteArray := prog_17_method_1_code
def yX18_init : MethodName := ⟨RX18, "<init>", "(ILLongYears$Part;LLongYears$Part;)V"⟩
def dkwX18_init_0 : List UInt8 := [42, 44, 183, 0, 3, 42, 27, 181, 0, 9, 42, 45, 181, 0, 15, 177]
abbrev dktX18_init_0 : List UInt8 := dkwX18_init_0 ++ []
theorem dksX18_init_0 : cX18_init.data.toList.drop 0 = dktX18_init_0 := by decide +kernel
theorem dX18_init_0 : decode cX18_init 0 = .ok (.aload_n 0, 1) := dk_42 (dk_at dksX18_init_0 0 rfl rfl)
theorem dX18_init_1 : decode cX18_init 1 = .ok (.aload_n 2, 1) := dk_44 (dk_at dksX18_init_0 1 rfl rfl)
theorem dX18_init_2 : decode cX18_init 2 = .ok (.invokespecial 3, 3) := dk_183 0 3 (dk_at dksX18_init_0 2 rfl rfl)
theorem dX18_init_5 : decode cX18_init 5 = .ok (.aload_n 0, 1) := dk_42 (dk_at dksX18_init_0 5 rfl rfl)
theorem dX18_init_6 : decode cX18_init 6 = .ok (.iload_n 1, 1) := dk_27 (dk_at dksX18_init_0 6 rfl rfl)
theorem dX18_init_7 : decode cX18_init 7 = .ok (.putfield 9, 3) := dk_181 0 9 (dk_at dksX18_init_0 7 rfl rfl)
theorem dX18_init_10 : decode cX18_init 10 = .ok (.aload_n 0, 1) := dk_42 (dk_at dksX18_init_0 10 rfl rfl)
theorem dX18_init_11 : decode cX18_init 11 = .ok (.aload_n 3, 1) := dk_45 (dk_at dksX18_init_0 11 rfl rfl)
theorem dX18_init_12 : decode cX18_init 12 = .ok (.putfield 15, 3) := dk_181 0 15 (dk_at dksX18_init_0 12 rfl rfl)
theorem dX18_init_15 : decode cX18_init 15 = .ok (.return_, 1) := dk_177 (dk_at dksX18_init_0 15 rfl rfl)
abbrev cX18_of : ByteArray := prog_17_method_3_code
def yX18_of : MethodName := ⟨RX18, "of", "([J)J"⟩
def dkwX18_of_9 : List UInt8 := [153, 0, 7, 4, 167, 0, 4, 3, 184, 0, 39, 173]
abbrev dktX18_of_9 : List UInt8 := dkwX18_of_9 ++ []
def dkwX18_of_8 : List UInt8 := [9, 148, 153, 0, 7, 4, 167, 0, 4, 3, 184, 0, 39, 173, 32, 9, 148, 154, 0, 10, 22, 4, 9, 148]
abbrev dktX18_of_8 : List UInt8 := dkwX18_of_8 ++ dktX18_of_9
def dkwX18_of_7 : List UInt8 := [32, 22, 4, 148, 153, 0, 7, 4, 167, 0, 4, 3, 184, 0, 39, 173, 32, 9, 148, 153, 0, 14, 22, 4]
abbrev dktX18_of_7 : List UInt8 := dkwX18_of_7 ++ dktX18_of_8
def dkwX18_of_6 : List UInt8 := [167, 0, 4, 3, 184, 0, 39, 173, 32, 22, 4, 148, 155, 0, 7, 4, 167, 0, 4, 3, 184, 0, 39, 173]
abbrev dktX18_of_6 : List UInt8 := dkwX18_of_6 ++ dktX18_of_7
def dkwX18_of_5 : List UInt8 := [32, 22, 4, 148, 154, 0, 7, 4, 167, 0, 4, 3, 184, 0, 39, 173, 32, 22, 4, 148, 157, 0, 7, 4]
abbrev dktX18_of_5 : List UInt8 := dkwX18_of_5 ++ dktX18_of_6
def dkwX18_of_4 : List UInt8 := [167, 0, 4, 3, 184, 0, 39, 173, 32, 22, 4, 148, 158, 0, 7, 4, 167, 0, 4, 3, 184, 0, 39, 173]
abbrev dktX18_of_4 : List UInt8 := dkwX18_of_4 ++ dktX18_of_5
def dkwX18_of_3 : List UInt8 := [22, 4, 184, 0, 36, 109, 173, 32, 22, 4, 184, 0, 36, 113, 173, 32, 22, 4, 148, 156, 0, 7, 4]
abbrev dktX18_of_3 : List UInt8 := dkwX18_of_3 ++ dktX18_of_4
def dkwX18_of_2 : List UInt8 := [32, 22, 4, 97, 184, 0, 28, 173, 32, 22, 4, 101, 184, 0, 28, 173, 32, 22, 4, 184, 0, 32, 173, 32]
abbrev dktX18_of_2 : List UInt8 := dkwX18_of_2 ++ dktX18_of_3
def dkwX18_of_1 : List UInt8 := [171, 0, 0, 1, 6, 0, 0, 0, 12, 0, 0, 0, 17, 0, 0, 0, 240, 0, 0, 0, 37, 0, 0, 0, 136, 0, 0, 0, 42, 0, 0, 0, 121, 0, 0, 0, 43, 0, 0, 0, 105, 0, 0, 0, 45, 0, 0, 0, 113, 0, 0, 0, 47, 0, 0, 0, 128, 0, 0, 0, 60, 0, 0, 0, 144, 0, 0, 0, 61, 0, 0, 0, 176, 0, 0, 0, 62, 0, 0, 0, 160, 0, 0, 1, 0, 0, 0, 0, 192, 0, 0, 1, 1, 0, 0, 0, 208, 0, 0, 1, 2, 0, 0, 0, 224]
abbrev dktX18_of_1 : List UInt8 := dkwX18_of_1 ++ dktX18_of_2
def dkwX18_of_0 : List UInt8 := [42, 180, 0, 19, 43, 182, 0, 22, 65, 42, 180, 0, 15, 43, 182, 0, 22, 55, 4, 42, 180, 0, 9]
abbrev dktX18_of_0 : List UInt8 := dkwX18_of_0 ++ dktX18_of_1
theorem dksX18_of_0 : cX18_of.data.toList.drop 0 = dktX18_of_0 := by decide +kernel
theorem dksX18_of_1 : cX18_of.data.toList.drop 23 = dktX18_of_1 := dk_seg dksX18_of_0 23 rfl rfl
theorem dksX18_of_2 : cX18_of.data.toList.drop 128 = dktX18_of_2 := dk_seg dksX18_of_1 105 rfl rfl
theorem dksX18_of_3 : cX18_of.data.toList.drop 152 = dktX18_of_3 := dk_seg dksX18_of_2 24 rfl rfl
theorem dksX18_of_4 : cX18_of.data.toList.drop 175 = dktX18_of_4 := dk_seg dksX18_of_3 23 rfl rfl
theorem dksX18_of_5 : cX18_of.data.toList.drop 199 = dktX18_of_5 := dk_seg dksX18_of_4 24 rfl rfl
theorem dksX18_of_6 : cX18_of.data.toList.drop 223 = dktX18_of_6 := dk_seg dksX18_of_5 24 rfl rfl
theorem dksX18_of_7 : cX18_of.data.toList.drop 247 = dktX18_of_7 := dk_seg dksX18_of_6 24 rfl rfl
theorem dksX18_of_8 : cX18_of.data.toList.drop 271 = dktX18_of_8 := dk_seg dksX18_of_7 24 rfl rfl
theorem dksX18_of_9 : cX18_of.data.toList.drop 295 = dktX18_of_9 := dk_seg dksX18_of_8 24 rfl rfl
theorem dX18_of_0 : decode cX18_of 0 = .ok (.aload_n 0, 1) := dk_42 (dk_at dksX18_of_0 0 rfl rfl)
theorem dX18_of_1 : decode cX18_of 1 = .ok (.getfield 19, 3) := dk_180 0 19 (dk_at dksX18_of_0 1 rfl rfl)
theorem dX18_of_4 : decode cX18_of 4 = .ok (.aload_n 1, 1) := dk_43 (dk_at dksX18_of_0 4 rfl rfl)
theorem dX18_of_5 : decode cX18_of 5 = .ok (.invokevirtual 22, 3) := dk_182 0 22 (dk_at dksX18_of_0 5 rfl rfl)
theorem dX18_of_8 : decode cX18_of 8 = .ok (.lstore_n 2, 1) := dk_65 (dk_at dksX18_of_0 8 rfl rfl)
theorem dX18_of_9 : decode cX18_of 9 = .ok (.aload_n 0, 1) := dk_42 (dk_at dksX18_of_0 9 rfl rfl)
theorem dX18_of_10 : decode cX18_of 10 = .ok (.getfield 15, 3) := dk_180 0 15 (dk_at dksX18_of_0 10 rfl rfl)
theorem dX18_of_13 : decode cX18_of 13 = .ok (.aload_n 1, 1) := dk_43 (dk_at dksX18_of_0 13 rfl rfl)
theorem dX18_of_14 : decode cX18_of 14 = .ok (.invokevirtual 22, 3) := dk_182 0 22 (dk_at dksX18_of_0 14 rfl rfl)
theorem dX18_of_17 : decode cX18_of 17 = .ok (.lstore 4, 2) := dk_55 4 (dk_at dksX18_of_0 17 rfl rfl)
theorem dX18_of_19 : decode cX18_of 19 = .ok (.aload_n 0, 1) := dk_42 (dk_at dksX18_of_0 19 rfl rfl)
theorem dX18_of_20 : decode cX18_of 20 = .ok (.getfield 9, 3) := dk_180 0 9 (dk_at dksX18_of_0 20 rfl rfl)
theorem dX18_of_23 : decode cX18_of 23 = .ok (.lookupswitch 262 #[(17, 240), (37, 136), (42, 121), (43, 105), (45, 113), (47, 128), (60, 144), (61, 176), (62, 160), (256, 192), (257, 208), (258, 224)], 105) := by decide +kernel
theorem dX18_of_128 : decode cX18_of 128 = .ok (.lload_n 2, 1) := dk_32 (dk_at dksX18_of_2 0 rfl rfl)
theorem dX18_of_129 : decode cX18_of 129 = .ok (.lload 4, 2) := dk_22 4 (dk_at dksX18_of_2 1 rfl rfl)
theorem dX18_of_131 : decode cX18_of 131 = .ok (.ladd, 1) := dk_97 (dk_at dksX18_of_2 3 rfl rfl)
theorem dX18_of_132 : decode cX18_of 132 = .ok (.invokestatic 28, 3) := dk_184 0 28 (dk_at dksX18_of_2 4 rfl rfl)
theorem dX18_of_135 : decode cX18_of 135 = .ok (.lreturn, 1) := dk_173 (dk_at dksX18_of_2 7 rfl rfl)
theorem dX18_of_136 : decode cX18_of 136 = .ok (.lload_n 2, 1) := dk_32 (dk_at dksX18_of_2 8 rfl rfl)
theorem dX18_of_137 : decode cX18_of 137 = .ok (.lload 4, 2) := dk_22 4 (dk_at dksX18_of_2 9 rfl rfl)
theorem dX18_of_139 : decode cX18_of 139 = .ok (.lsub, 1) := dk_101 (dk_at dksX18_of_2 11 rfl rfl)
theorem dX18_of_140 : decode cX18_of 140 = .ok (.invokestatic 28, 3) := dk_184 0 28 (dk_at dksX18_of_2 12 rfl rfl)
theorem dX18_of_143 : decode cX18_of 143 = .ok (.lreturn, 1) := dk_173 (dk_at dksX18_of_2 15 rfl rfl)
theorem dX18_of_144 : decode cX18_of 144 = .ok (.lload_n 2, 1) := dk_32 (dk_at dksX18_of_2 16 rfl rfl)
theorem dX18_of_145 : decode cX18_of 145 = .ok (.lload 4, 2) := dk_22 4 (dk_at dksX18_of_2 17 rfl rfl)
theorem dX18_of_147 : decode cX18_of 147 = .ok (.invokestatic 32, 3) := dk_184 0 32 (dk_at dksX18_of_2 19 rfl rfl)
theorem dX18_of_150 : decode cX18_of 150 = .ok (.lreturn, 1) := dk_173 (dk_at dksX18_of_2 22 rfl rfl)
theorem dX18_of_151 : decode cX18_of 151 = .ok (.lload_n 2, 1) := dk_32 (dk_at dksX18_of_2 23 rfl rfl)
theorem dX18_of_152 : decode cX18_of 152 = .ok (.lload 4, 2) := dk_22 4 (dk_at dksX18_of_3 0 rfl rfl)
theorem dX18_of_154 : decode cX18_of 154 = .ok (.invokestatic 36, 3) := dk_184 0 36 (dk_at dksX18_of_3 2 rfl rfl)
theorem dX18_of_157 : decode cX18_of 157 = .ok (.ldiv, 1) := dk_109 (dk_at dksX18_of_3 5 rfl rfl)
theorem dX18_of_158 : decode cX18_of 158 = .ok (.lreturn, 1) := dk_173 (dk_at dksX18_of_3 6 rfl rfl)
theorem dX18_of_159 : decode cX18_of 159 = .ok (.lload_n 2, 1) := dk_32 (dk_at dksX18_of_3 7 rfl rfl)
theorem dX18_of_160 : decode cX18_of 160 = .ok (.lload 4, 2) := dk_22 4 (dk_at dksX18_of_3 8 rfl rfl)
theorem dX18_of_162 : decode cX18_of 162 = .ok (.invokestatic 36, 3) := dk_184 0 36 (dk_at dksX18_of_3 10 rfl rfl)
theorem dX18_of_165 : decode cX18_of 165 = .ok (.lrem, 1) := dk_113 (dk_at dksX18_of_3 13 rfl rfl)
theorem dX18_of_166 : decode cX18_of 166 = .ok (.lreturn, 1) := dk_173 (dk_at dksX18_of_3 14 rfl rfl)
theorem dX18_of_167 : decode cX18_of 167 = .ok (.lload_n 2, 1) := dk_32 (dk_at dksX18_of_3 15 rfl rfl)
theorem dX18_of_168 : decode cX18_of 168 = .ok (.lload 4, 2) := dk_22 4 (dk_at dksX18_of_3 16 rfl rfl)
theorem dX18_of_170 : decode cX18_of 170 = .ok (.lcmp, 1) := dk_148 (dk_at dksX18_of_3 18 rfl rfl)
theorem dX18_of_171 : decode cX18_of 171 = .ok (.ifCond .ge 7, 3) := dk_156 0 7 (dk_at dksX18_of_3 19 rfl rfl)
theorem dX18_of_174 : decode cX18_of 174 = .ok (.iconst 1, 1) := dk_4 (dk_at dksX18_of_3 22 rfl rfl)
theorem dX18_of_175 : decode cX18_of 175 = .ok (.goto 4, 3) := dk_167 0 4 (dk_at dksX18_of_4 0 rfl rfl)
theorem dX18_of_178 : decode cX18_of 178 = .ok (.iconst 0, 1) := dk_3 (dk_at dksX18_of_4 3 rfl rfl)
theorem dX18_of_179 : decode cX18_of 179 = .ok (.invokestatic 39, 3) := dk_184 0 39 (dk_at dksX18_of_4 4 rfl rfl)
theorem dX18_of_182 : decode cX18_of 182 = .ok (.lreturn, 1) := dk_173 (dk_at dksX18_of_4 7 rfl rfl)
theorem dX18_of_183 : decode cX18_of 183 = .ok (.lload_n 2, 1) := dk_32 (dk_at dksX18_of_4 8 rfl rfl)
theorem dX18_of_184 : decode cX18_of 184 = .ok (.lload 4, 2) := dk_22 4 (dk_at dksX18_of_4 9 rfl rfl)
theorem dX18_of_186 : decode cX18_of 186 = .ok (.lcmp, 1) := dk_148 (dk_at dksX18_of_4 11 rfl rfl)
theorem dX18_of_187 : decode cX18_of 187 = .ok (.ifCond .le 7, 3) := dk_158 0 7 (dk_at dksX18_of_4 12 rfl rfl)
theorem dX18_of_190 : decode cX18_of 190 = .ok (.iconst 1, 1) := dk_4 (dk_at dksX18_of_4 15 rfl rfl)
theorem dX18_of_191 : decode cX18_of 191 = .ok (.goto 4, 3) := dk_167 0 4 (dk_at dksX18_of_4 16 rfl rfl)
theorem dX18_of_194 : decode cX18_of 194 = .ok (.iconst 0, 1) := dk_3 (dk_at dksX18_of_4 19 rfl rfl)
theorem dX18_of_195 : decode cX18_of 195 = .ok (.invokestatic 39, 3) := dk_184 0 39 (dk_at dksX18_of_4 20 rfl rfl)
theorem dX18_of_198 : decode cX18_of 198 = .ok (.lreturn, 1) := dk_173 (dk_at dksX18_of_4 23 rfl rfl)
theorem dX18_of_199 : decode cX18_of 199 = .ok (.lload_n 2, 1) := dk_32 (dk_at dksX18_of_5 0 rfl rfl)
theorem dX18_of_200 : decode cX18_of 200 = .ok (.lload 4, 2) := dk_22 4 (dk_at dksX18_of_5 1 rfl rfl)
theorem dX18_of_202 : decode cX18_of 202 = .ok (.lcmp, 1) := dk_148 (dk_at dksX18_of_5 3 rfl rfl)
theorem dX18_of_203 : decode cX18_of 203 = .ok (.ifCond .ne 7, 3) := dk_154 0 7 (dk_at dksX18_of_5 4 rfl rfl)
theorem dX18_of_206 : decode cX18_of 206 = .ok (.iconst 1, 1) := dk_4 (dk_at dksX18_of_5 7 rfl rfl)
theorem dX18_of_207 : decode cX18_of 207 = .ok (.goto 4, 3) := dk_167 0 4 (dk_at dksX18_of_5 8 rfl rfl)
theorem dX18_of_210 : decode cX18_of 210 = .ok (.iconst 0, 1) := dk_3 (dk_at dksX18_of_5 11 rfl rfl)
theorem dX18_of_211 : decode cX18_of 211 = .ok (.invokestatic 39, 3) := dk_184 0 39 (dk_at dksX18_of_5 12 rfl rfl)
theorem dX18_of_214 : decode cX18_of 214 = .ok (.lreturn, 1) := dk_173 (dk_at dksX18_of_5 15 rfl rfl)
theorem dX18_of_215 : decode cX18_of 215 = .ok (.lload_n 2, 1) := dk_32 (dk_at dksX18_of_5 16 rfl rfl)
theorem dX18_of_216 : decode cX18_of 216 = .ok (.lload 4, 2) := dk_22 4 (dk_at dksX18_of_5 17 rfl rfl)
theorem dX18_of_218 : decode cX18_of 218 = .ok (.lcmp, 1) := dk_148 (dk_at dksX18_of_5 19 rfl rfl)
theorem dX18_of_219 : decode cX18_of 219 = .ok (.ifCond .gt 7, 3) := dk_157 0 7 (dk_at dksX18_of_5 20 rfl rfl)
theorem dX18_of_222 : decode cX18_of 222 = .ok (.iconst 1, 1) := dk_4 (dk_at dksX18_of_5 23 rfl rfl)
theorem dX18_of_223 : decode cX18_of 223 = .ok (.goto 4, 3) := dk_167 0 4 (dk_at dksX18_of_6 0 rfl rfl)
theorem dX18_of_226 : decode cX18_of 226 = .ok (.iconst 0, 1) := dk_3 (dk_at dksX18_of_6 3 rfl rfl)
theorem dX18_of_227 : decode cX18_of 227 = .ok (.invokestatic 39, 3) := dk_184 0 39 (dk_at dksX18_of_6 4 rfl rfl)
theorem dX18_of_230 : decode cX18_of 230 = .ok (.lreturn, 1) := dk_173 (dk_at dksX18_of_6 7 rfl rfl)
theorem dX18_of_231 : decode cX18_of 231 = .ok (.lload_n 2, 1) := dk_32 (dk_at dksX18_of_6 8 rfl rfl)
theorem dX18_of_232 : decode cX18_of 232 = .ok (.lload 4, 2) := dk_22 4 (dk_at dksX18_of_6 9 rfl rfl)
theorem dX18_of_234 : decode cX18_of 234 = .ok (.lcmp, 1) := dk_148 (dk_at dksX18_of_6 11 rfl rfl)
theorem dX18_of_235 : decode cX18_of 235 = .ok (.ifCond .lt 7, 3) := dk_155 0 7 (dk_at dksX18_of_6 12 rfl rfl)
theorem dX18_of_238 : decode cX18_of 238 = .ok (.iconst 1, 1) := dk_4 (dk_at dksX18_of_6 15 rfl rfl)
theorem dX18_of_239 : decode cX18_of 239 = .ok (.goto 4, 3) := dk_167 0 4 (dk_at dksX18_of_6 16 rfl rfl)
theorem dX18_of_242 : decode cX18_of 242 = .ok (.iconst 0, 1) := dk_3 (dk_at dksX18_of_6 19 rfl rfl)
theorem dX18_of_243 : decode cX18_of 243 = .ok (.invokestatic 39, 3) := dk_184 0 39 (dk_at dksX18_of_6 20 rfl rfl)
theorem dX18_of_246 : decode cX18_of 246 = .ok (.lreturn, 1) := dk_173 (dk_at dksX18_of_6 23 rfl rfl)
theorem dX18_of_247 : decode cX18_of 247 = .ok (.lload_n 2, 1) := dk_32 (dk_at dksX18_of_7 0 rfl rfl)
theorem dX18_of_248 : decode cX18_of 248 = .ok (.lload 4, 2) := dk_22 4 (dk_at dksX18_of_7 1 rfl rfl)
theorem dX18_of_250 : decode cX18_of 250 = .ok (.lcmp, 1) := dk_148 (dk_at dksX18_of_7 3 rfl rfl)
theorem dX18_of_251 : decode cX18_of 251 = .ok (.ifCond .eq 7, 3) := dk_153 0 7 (dk_at dksX18_of_7 4 rfl rfl)
theorem dX18_of_254 : decode cX18_of 254 = .ok (.iconst 1, 1) := dk_4 (dk_at dksX18_of_7 7 rfl rfl)
theorem dX18_of_255 : decode cX18_of 255 = .ok (.goto 4, 3) := dk_167 0 4 (dk_at dksX18_of_7 8 rfl rfl)
theorem dX18_of_258 : decode cX18_of 258 = .ok (.iconst 0, 1) := dk_3 (dk_at dksX18_of_7 11 rfl rfl)
theorem dX18_of_259 : decode cX18_of 259 = .ok (.invokestatic 39, 3) := dk_184 0 39 (dk_at dksX18_of_7 12 rfl rfl)
theorem dX18_of_262 : decode cX18_of 262 = .ok (.lreturn, 1) := dk_173 (dk_at dksX18_of_7 15 rfl rfl)
theorem dX18_of_263 : decode cX18_of 263 = .ok (.lload_n 2, 1) := dk_32 (dk_at dksX18_of_7 16 rfl rfl)
theorem dX18_of_264 : decode cX18_of 264 = .ok (.lconst 0, 1) := dk_9 (dk_at dksX18_of_7 17 rfl rfl)
theorem dX18_of_265 : decode cX18_of 265 = .ok (.lcmp, 1) := dk_148 (dk_at dksX18_of_7 18 rfl rfl)
theorem dX18_of_266 : decode cX18_of 266 = .ok (.ifCond .eq 14, 3) := dk_153 0 14 (dk_at dksX18_of_7 19 rfl rfl)
theorem dX18_of_269 : decode cX18_of 269 = .ok (.lload 4, 2) := dk_22 4 (dk_at dksX18_of_7 22 rfl rfl)
theorem dX18_of_271 : decode cX18_of 271 = .ok (.lconst 0, 1) := dk_9 (dk_at dksX18_of_8 0 rfl rfl)
theorem dX18_of_272 : decode cX18_of 272 = .ok (.lcmp, 1) := dk_148 (dk_at dksX18_of_8 1 rfl rfl)
theorem dX18_of_273 : decode cX18_of 273 = .ok (.ifCond .eq 7, 3) := dk_153 0 7 (dk_at dksX18_of_8 2 rfl rfl)
theorem dX18_of_276 : decode cX18_of 276 = .ok (.iconst 1, 1) := dk_4 (dk_at dksX18_of_8 5 rfl rfl)
theorem dX18_of_277 : decode cX18_of 277 = .ok (.goto 4, 3) := dk_167 0 4 (dk_at dksX18_of_8 6 rfl rfl)
theorem dX18_of_280 : decode cX18_of 280 = .ok (.iconst 0, 1) := dk_3 (dk_at dksX18_of_8 9 rfl rfl)
theorem dX18_of_281 : decode cX18_of 281 = .ok (.invokestatic 39, 3) := dk_184 0 39 (dk_at dksX18_of_8 10 rfl rfl)
theorem dX18_of_284 : decode cX18_of 284 = .ok (.lreturn, 1) := dk_173 (dk_at dksX18_of_8 13 rfl rfl)
theorem dX18_of_285 : decode cX18_of 285 = .ok (.lload_n 2, 1) := dk_32 (dk_at dksX18_of_8 14 rfl rfl)
theorem dX18_of_286 : decode cX18_of 286 = .ok (.lconst 0, 1) := dk_9 (dk_at dksX18_of_8 15 rfl rfl)
theorem dX18_of_287 : decode cX18_of 287 = .ok (.lcmp, 1) := dk_148 (dk_at dksX18_of_8 16 rfl rfl)
theorem dX18_of_288 : decode cX18_of 288 = .ok (.ifCond .ne 10, 3) := dk_154 0 10 (dk_at dksX18_of_8 17 rfl rfl)
theorem dX18_of_291 : decode cX18_of 291 = .ok (.lload 4, 2) := dk_22 4 (dk_at dksX18_of_8 20 rfl rfl)
theorem dX18_of_293 : decode cX18_of 293 = .ok (.lconst 0, 1) := dk_9 (dk_at dksX18_of_8 22 rfl rfl)
theorem dX18_of_294 : decode cX18_of 294 = .ok (.lcmp, 1) := dk_148 (dk_at dksX18_of_8 23 rfl rfl)
theorem dX18_of_295 : decode cX18_of 295 = .ok (.ifCond .eq 7, 3) := dk_153 0 7 (dk_at dksX18_of_9 0 rfl rfl)
theorem dX18_of_298 : decode cX18_of 298 = .ok (.iconst 1, 1) := dk_4 (dk_at dksX18_of_9 3 rfl rfl)
theorem dX18_of_299 : decode cX18_of 299 = .ok (.goto 4, 3) := dk_167 0 4 (dk_at dksX18_of_9 4 rfl rfl)
theorem dX18_of_302 : decode cX18_of 302 = .ok (.iconst 0, 1) := dk_3 (dk_at dksX18_of_9 7 rfl rfl)
theorem dX18_of_303 : decode cX18_of 303 = .ok (.invokestatic 39, 3) := dk_184 0 39 (dk_at dksX18_of_9 8 rfl rfl)
theorem dX18_of_306 : decode cX18_of 306 = .ok (.lreturn, 1) := dk_173 (dk_at dksX18_of_9 11 rfl rfl)
abbrev cX18_times : ByteArray := prog_17_method_5_code
def yX18_times : MethodName := ⟨RX18, "times", "(JJ)J"⟩
def dkwX18_times_1 : List UInt8 := [178, 0, 43, 191, 30, 32, 105, 173]
abbrev dktX18_times_1 : List UInt8 := dkwX18_times_1 ++ []
def dkwX18_times_0 : List UInt8 := [30, 9, 148, 153, 0, 23, 32, 184, 0, 47, 20, 0, 52, 30, 184, 0, 47, 109, 148, 158, 0, 7]
abbrev dktX18_times_0 : List UInt8 := dkwX18_times_0 ++ dktX18_times_1
theorem dksX18_times_0 : cX18_times.data.toList.drop 0 = dktX18_times_0 := by decide +kernel
theorem dksX18_times_1 : cX18_times.data.toList.drop 22 = dktX18_times_1 := dk_seg dksX18_times_0 22 rfl rfl
theorem dX18_times_0 : decode cX18_times 0 = .ok (.lload_n 0, 1) := dk_30 (dk_at dksX18_times_0 0 rfl rfl)
theorem dX18_times_1 : decode cX18_times 1 = .ok (.lconst 0, 1) := dk_9 (dk_at dksX18_times_0 1 rfl rfl)
theorem dX18_times_2 : decode cX18_times 2 = .ok (.lcmp, 1) := dk_148 (dk_at dksX18_times_0 2 rfl rfl)
theorem dX18_times_3 : decode cX18_times 3 = .ok (.ifCond .eq 23, 3) := dk_153 0 23 (dk_at dksX18_times_0 3 rfl rfl)
theorem dX18_times_6 : decode cX18_times 6 = .ok (.lload_n 2, 1) := dk_32 (dk_at dksX18_times_0 6 rfl rfl)
theorem dX18_times_7 : decode cX18_times 7 = .ok (.invokestatic 47, 3) := dk_184 0 47 (dk_at dksX18_times_0 7 rfl rfl)
theorem dX18_times_10 : decode cX18_times 10 = .ok (.ldc2_w 52, 3) := dk_20 0 52 (dk_at dksX18_times_0 10 rfl rfl)
theorem dX18_times_13 : decode cX18_times 13 = .ok (.lload_n 0, 1) := dk_30 (dk_at dksX18_times_0 13 rfl rfl)
theorem dX18_times_14 : decode cX18_times 14 = .ok (.invokestatic 47, 3) := dk_184 0 47 (dk_at dksX18_times_0 14 rfl rfl)
theorem dX18_times_17 : decode cX18_times 17 = .ok (.ldiv, 1) := dk_109 (dk_at dksX18_times_0 17 rfl rfl)
theorem dX18_times_18 : decode cX18_times 18 = .ok (.lcmp, 1) := dk_148 (dk_at dksX18_times_0 18 rfl rfl)
theorem dX18_times_19 : decode cX18_times 19 = .ok (.ifCond .le 7, 3) := dk_158 0 7 (dk_at dksX18_times_0 19 rfl rfl)
theorem dX18_times_22 : decode cX18_times 22 = .ok (.getstatic 43, 3) := dk_178 0 43 (dk_at dksX18_times_1 0 rfl rfl)
theorem dX18_times_25 : decode cX18_times 25 = .ok (.athrow, 1) := dk_191 (dk_at dksX18_times_1 3 rfl rfl)
theorem dX18_times_26 : decode cX18_times 26 = .ok (.lload_n 0, 1) := dk_30 (dk_at dksX18_times_1 4 rfl rfl)
theorem dX18_times_27 : decode cX18_times 27 = .ok (.lload_n 2, 1) := dk_32 (dk_at dksX18_times_1 5 rfl rfl)
theorem dX18_times_28 : decode cX18_times 28 = .ok (.lmul, 1) := dk_105 (dk_at dksX18_times_1 6 rfl rfl)
theorem dX18_times_29 : decode cX18_times 29 = .ok (.lreturn, 1) := dk_173 (dk_at dksX18_times_1 7 rfl rfl)
abbrev cX18_some : ByteArray := prog_17_method_4_code
def yX18_some : MethodName := ⟨RX18, "some", "(J)J"⟩
def dkwX18_some_0 : List UInt8 := [30, 9, 148, 154, 0, 7, 178, 0, 43, 191, 30, 173]
abbrev dktX18_some_0 : List UInt8 := dkwX18_some_0 ++ []
theorem dksX18_some_0 : cX18_some.data.toList.drop 0 = dktX18_some_0 := by decide +kernel
theorem dX18_some_0 : decode cX18_some 0 = .ok (.lload_n 0, 1) := dk_30 (dk_at dksX18_some_0 0 rfl rfl)
theorem dX18_some_1 : decode cX18_some 1 = .ok (.lconst 0, 1) := dk_9 (dk_at dksX18_some_0 1 rfl rfl)
theorem dX18_some_2 : decode cX18_some 2 = .ok (.lcmp, 1) := dk_148 (dk_at dksX18_some_0 2 rfl rfl)
theorem dX18_some_3 : decode cX18_some 3 = .ok (.ifCond .ne 7, 3) := dk_154 0 7 (dk_at dksX18_some_0 3 rfl rfl)
theorem dX18_some_6 : decode cX18_some 6 = .ok (.getstatic 43, 3) := dk_178 0 43 (dk_at dksX18_some_0 6 rfl rfl)
theorem dX18_some_9 : decode cX18_some 9 = .ok (.athrow, 1) := dk_191 (dk_at dksX18_some_0 9 rfl rfl)
theorem dX18_some_10 : decode cX18_some 10 = .ok (.lload_n 0, 1) := dk_30 (dk_at dksX18_some_0 10 rfl rfl)
theorem dX18_some_11 : decode cX18_some 11 = .ok (.lreturn, 1) := dk_173 (dk_at dksX18_some_0 11 rfl rfl)
abbrev cX18_is : ByteArray := prog_17_method_2_code
def yX18_is : MethodName := ⟨RX18, "is", "(Z)J"⟩
def dkwX18_is_0 : List UInt8 := [26, 153, 0, 7, 10, 167, 0, 4, 9, 173]
abbrev dktX18_is_0 : List UInt8 := dkwX18_is_0 ++ []
theorem dksX18_is_0 : cX18_is.data.toList.drop 0 = dktX18_is_0 := by decide +kernel
theorem dX18_is_0 : decode cX18_is 0 = .ok (.iload_n 0, 1) := dk_26 (dk_at dksX18_is_0 0 rfl rfl)
theorem dX18_is_1 : decode cX18_is 1 = .ok (.ifCond .eq 7, 3) := dk_153 0 7 (dk_at dksX18_is_0 1 rfl rfl)
theorem dX18_is_4 : decode cX18_is 4 = .ok (.lconst 1, 1) := dk_10 (dk_at dksX18_is_0 4 rfl rfl)
theorem dX18_is_5 : decode cX18_is 5 = .ok (.goto 4, 3) := dk_167 0 4 (dk_at dksX18_is_0 5 rfl rfl)
theorem dX18_is_8 : decode cX18_is 8 = .ok (.lconst 0, 1) := dk_9 (dk_at dksX18_is_0 8 rfl rfl)
theorem dX18_is_9 : decode cX18_is 9 = .ok (.lreturn, 1) := dk_173 (dk_at dksX18_is_0 9 rfl rfl)
