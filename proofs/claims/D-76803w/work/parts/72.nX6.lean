/-! names and decode rows: X6 -/
set_option maxRecDepth 100000
abbrev cX6_init : ByteArray := prog_33_method_1_code
def dkwX6_init_10 : List UInt8 := [177]
abbrev dktX6_init_10 : List UInt8 := dkwX6_init_10 ++ []
def dkwX6_init_9 : List UInt8 := [27, 16, 6, 104, 96, 2, 79, 132, 1, 1, 167, 255, 234, 42, 180, 0, 9, 42, 180, 0, 16, 184, 0, 73]
abbrev dktX6_init_9 : List UInt8 := dkwX6_init_9 ++ dktX6_init_10
def dkwX6_init_8 : List UInt8 := [96, 16, 16, 79, 132, 1, 1, 167, 255, 225, 3, 60, 27, 16, 12, 162, 0, 22, 42, 180, 0, 9, 16, 24]
abbrev dktX6_init_8 : List UInt8 := dkwX6_init_8 ++ dktX6_init_9
def dkwX6_init_7 : List UInt8 := [27, 16, 8, 162, 0, 31, 42, 180, 0, 9, 16, 8, 27, 96, 16, 10, 79, 42, 180, 0, 9, 16, 16, 27]
abbrev dktX6_init_7 : List UInt8 := dkwX6_init_7 ++ dktX6_init_8
def dkwX6_init_6 : List UInt8 := [16, 80, 188, 10, 181, 0, 70, 42, 180, 0, 9, 5, 4, 79, 42, 180, 0, 9, 6, 16, 80, 79, 3, 60]
abbrev dktX6_init_6 : List UInt8 := dkwX6_init_6 ++ dktX6_init_7
def dkwX6_init_5 : List UInt8 := [16, 80, 188, 10, 181, 0, 61, 42, 16, 80, 188, 10, 181, 0, 64, 42, 16, 80, 188, 10, 181, 0, 67, 42]
abbrev dktX6_init_5 : List UInt8 := dkwX6_init_5 ++ dktX6_init_6
def dkwX6_init_4 : List UInt8 := [2, 181, 0, 49, 42, 2, 181, 0, 52, 42, 7, 188, 10, 181, 0, 55, 42, 7, 188, 10, 181, 0, 58, 42]
abbrev dktX6_init_4 : List UInt8 := dkwX6_init_4 ++ dktX6_init_5
def dkwX6_init_3 : List UInt8 := [7, 188, 10, 181, 0, 36, 42, 7, 188, 10, 181, 0, 39, 42, 2, 181, 0, 42, 42, 2, 181, 0, 46, 42]
abbrev dktX6_init_3 : List UInt8 := dkwX6_init_3 ++ dktX6_init_4
def dkwX6_init_2 : List UInt8 := [42, 16, 16, 188, 11, 181, 0, 26, 42, 16, 60, 188, 8, 181, 0, 29, 42, 7, 188, 10, 181, 0, 33, 42]
abbrev dktX6_init_2 : List UInt8 := dkwX6_init_2 ++ dktX6_init_3
def dkwX6_init_1 : List UInt8 := [17, 15, 100, 188, 10, 181, 0, 16, 42, 16, 16, 188, 11, 181, 0, 19, 42, 16, 16, 188, 11, 181, 0, 23]
abbrev dktX6_init_1 : List UInt8 := dkwX6_init_1 ++ dktX6_init_2
def dkwX6_init_0 : List UInt8 := [42, 183, 0, 3, 42, 17, 15, 100, 188, 10, 181, 0, 9, 42, 17, 15, 100, 188, 10, 181, 0, 13, 42]
abbrev dktX6_init_0 : List UInt8 := dkwX6_init_0 ++ dktX6_init_1
theorem dksX6_init_0 : cX6_init.data.toList.drop 0 = dktX6_init_0 := by decide +kernel
theorem dksX6_init_1 : cX6_init.data.toList.drop 23 = dktX6_init_1 := dk_seg dksX6_init_0 23 rfl rfl
theorem dksX6_init_2 : cX6_init.data.toList.drop 47 = dktX6_init_2 := dk_seg dksX6_init_1 24 rfl rfl
theorem dksX6_init_3 : cX6_init.data.toList.drop 71 = dktX6_init_3 := dk_seg dksX6_init_2 24 rfl rfl
theorem dksX6_init_4 : cX6_init.data.toList.drop 95 = dktX6_init_4 := dk_seg dksX6_init_3 24 rfl rfl
theorem dksX6_init_5 : cX6_init.data.toList.drop 119 = dktX6_init_5 := dk_seg dksX6_init_4 24 rfl rfl
theorem dksX6_init_6 : cX6_init.data.toList.drop 143 = dktX6_init_6 := dk_seg dksX6_init_5 24 rfl rfl
theorem dksX6_init_7 : cX6_init.data.toList.drop 167 = dktX6_init_7 := dk_seg dksX6_init_6 24 rfl rfl
theorem dksX6_init_8 : cX6_init.data.toList.drop 191 = dktX6_init_8 := dk_seg dksX6_init_7 24 rfl rfl
theorem dksX6_init_9 : cX6_init.data.toList.drop 215 = dktX6_init_9 := dk_seg dksX6_init_8 24 rfl rfl
theorem dksX6_init_10 : cX6_init.data.toList.drop 239 = dktX6_init_10 := dk_seg dksX6_init_9 24 rfl rfl
theorem dX6_init_0 : decode cX6_init 0 = .ok (.aload_n 0, 1) := dk_42 (dk_at dksX6_init_0 0 rfl rfl)
theorem dX6_init_1 : decode cX6_init 1 = .ok (.invokespecial 3, 3) := dk_183 0 3 (dk_at dksX6_init_0 1 rfl rfl)
theorem dX6_init_4 : decode cX6_init 4 = .ok (.aload_n 0, 1) := dk_42 (dk_at dksX6_init_0 4 rfl rfl)
theorem dX6_init_5 : decode cX6_init 5 = .ok (.sipush 3940, 3) := dk_17 15 100 (dk_at dksX6_init_0 5 rfl rfl)
theorem dX6_init_8 : decode cX6_init 8 = .ok (.newarray .int, 2) := dk_188_10 (dk_at dksX6_init_0 8 rfl rfl)
theorem dX6_init_10 : decode cX6_init 10 = .ok (.putfield 9, 3) := dk_181 0 9 (dk_at dksX6_init_0 10 rfl rfl)
theorem dX6_init_13 : decode cX6_init 13 = .ok (.aload_n 0, 1) := dk_42 (dk_at dksX6_init_0 13 rfl rfl)
theorem dX6_init_14 : decode cX6_init 14 = .ok (.sipush 3940, 3) := dk_17 15 100 (dk_at dksX6_init_0 14 rfl rfl)
theorem dX6_init_17 : decode cX6_init 17 = .ok (.newarray .int, 2) := dk_188_10 (dk_at dksX6_init_0 17 rfl rfl)
theorem dX6_init_19 : decode cX6_init 19 = .ok (.putfield 13, 3) := dk_181 0 13 (dk_at dksX6_init_0 19 rfl rfl)
theorem dX6_init_22 : decode cX6_init 22 = .ok (.aload_n 0, 1) := dk_42 (dk_at dksX6_init_0 22 rfl rfl)
theorem dX6_init_23 : decode cX6_init 23 = .ok (.sipush 3940, 3) := dk_17 15 100 (dk_at dksX6_init_1 0 rfl rfl)
theorem dX6_init_26 : decode cX6_init 26 = .ok (.newarray .int, 2) := dk_188_10 (dk_at dksX6_init_1 3 rfl rfl)
theorem dX6_init_28 : decode cX6_init 28 = .ok (.putfield 16, 3) := dk_181 0 16 (dk_at dksX6_init_1 5 rfl rfl)
theorem dX6_init_31 : decode cX6_init 31 = .ok (.aload_n 0, 1) := dk_42 (dk_at dksX6_init_1 8 rfl rfl)
theorem dX6_init_32 : decode cX6_init 32 = .ok (.bipush 16, 2) := dk_16 16 (dk_at dksX6_init_1 9 rfl rfl)
theorem dX6_init_34 : decode cX6_init 34 = .ok (.newarray .long, 2) := dk_188_11 (dk_at dksX6_init_1 11 rfl rfl)
theorem dX6_init_36 : decode cX6_init 36 = .ok (.putfield 19, 3) := dk_181 0 19 (dk_at dksX6_init_1 13 rfl rfl)
theorem dX6_init_39 : decode cX6_init 39 = .ok (.aload_n 0, 1) := dk_42 (dk_at dksX6_init_1 16 rfl rfl)
theorem dX6_init_40 : decode cX6_init 40 = .ok (.bipush 16, 2) := dk_16 16 (dk_at dksX6_init_1 17 rfl rfl)
theorem dX6_init_42 : decode cX6_init 42 = .ok (.newarray .long, 2) := dk_188_11 (dk_at dksX6_init_1 19 rfl rfl)
theorem dX6_init_44 : decode cX6_init 44 = .ok (.putfield 23, 3) := dk_181 0 23 (dk_at dksX6_init_1 21 rfl rfl)
theorem dX6_init_47 : decode cX6_init 47 = .ok (.aload_n 0, 1) := dk_42 (dk_at dksX6_init_2 0 rfl rfl)
theorem dX6_init_48 : decode cX6_init 48 = .ok (.bipush 16, 2) := dk_16 16 (dk_at dksX6_init_2 1 rfl rfl)
theorem dX6_init_50 : decode cX6_init 50 = .ok (.newarray .long, 2) := dk_188_11 (dk_at dksX6_init_2 3 rfl rfl)
theorem dX6_init_52 : decode cX6_init 52 = .ok (.putfield 26, 3) := dk_181 0 26 (dk_at dksX6_init_2 5 rfl rfl)
theorem dX6_init_55 : decode cX6_init 55 = .ok (.aload_n 0, 1) := dk_42 (dk_at dksX6_init_2 8 rfl rfl)
theorem dX6_init_56 : decode cX6_init 56 = .ok (.bipush 60, 2) := dk_16 60 (dk_at dksX6_init_2 9 rfl rfl)
theorem dX6_init_58 : decode cX6_init 58 = .ok (.newarray .byte, 2) := dk_188_8 (dk_at dksX6_init_2 11 rfl rfl)
theorem dX6_init_60 : decode cX6_init 60 = .ok (.putfield 29, 3) := dk_181 0 29 (dk_at dksX6_init_2 13 rfl rfl)
theorem dX6_init_63 : decode cX6_init 63 = .ok (.aload_n 0, 1) := dk_42 (dk_at dksX6_init_2 16 rfl rfl)
theorem dX6_init_64 : decode cX6_init 64 = .ok (.iconst 4, 1) := dk_7 (dk_at dksX6_init_2 17 rfl rfl)
theorem dX6_init_65 : decode cX6_init 65 = .ok (.newarray .int, 2) := dk_188_10 (dk_at dksX6_init_2 18 rfl rfl)
theorem dX6_init_67 : decode cX6_init 67 = .ok (.putfield 33, 3) := dk_181 0 33 (dk_at dksX6_init_2 20 rfl rfl)
theorem dX6_init_70 : decode cX6_init 70 = .ok (.aload_n 0, 1) := dk_42 (dk_at dksX6_init_2 23 rfl rfl)
theorem dX6_init_71 : decode cX6_init 71 = .ok (.iconst 4, 1) := dk_7 (dk_at dksX6_init_3 0 rfl rfl)
theorem dX6_init_72 : decode cX6_init 72 = .ok (.newarray .int, 2) := dk_188_10 (dk_at dksX6_init_3 1 rfl rfl)
theorem dX6_init_74 : decode cX6_init 74 = .ok (.putfield 36, 3) := dk_181 0 36 (dk_at dksX6_init_3 3 rfl rfl)
theorem dX6_init_77 : decode cX6_init 77 = .ok (.aload_n 0, 1) := dk_42 (dk_at dksX6_init_3 6 rfl rfl)
theorem dX6_init_78 : decode cX6_init 78 = .ok (.iconst 4, 1) := dk_7 (dk_at dksX6_init_3 7 rfl rfl)
theorem dX6_init_79 : decode cX6_init 79 = .ok (.newarray .int, 2) := dk_188_10 (dk_at dksX6_init_3 8 rfl rfl)
theorem dX6_init_81 : decode cX6_init 81 = .ok (.putfield 39, 3) := dk_181 0 39 (dk_at dksX6_init_3 10 rfl rfl)
theorem dX6_init_84 : decode cX6_init 84 = .ok (.aload_n 0, 1) := dk_42 (dk_at dksX6_init_3 13 rfl rfl)
theorem dX6_init_85 : decode cX6_init 85 = .ok (.iconst (-1), 1) := dk_2 (dk_at dksX6_init_3 14 rfl rfl)
theorem dX6_init_86 : decode cX6_init 86 = .ok (.putfield 42, 3) := dk_181 0 42 (dk_at dksX6_init_3 15 rfl rfl)
theorem dX6_init_89 : decode cX6_init 89 = .ok (.aload_n 0, 1) := dk_42 (dk_at dksX6_init_3 18 rfl rfl)
theorem dX6_init_90 : decode cX6_init 90 = .ok (.iconst (-1), 1) := dk_2 (dk_at dksX6_init_3 19 rfl rfl)
theorem dX6_init_91 : decode cX6_init 91 = .ok (.putfield 46, 3) := dk_181 0 46 (dk_at dksX6_init_3 20 rfl rfl)
theorem dX6_init_94 : decode cX6_init 94 = .ok (.aload_n 0, 1) := dk_42 (dk_at dksX6_init_3 23 rfl rfl)
theorem dX6_init_95 : decode cX6_init 95 = .ok (.iconst (-1), 1) := dk_2 (dk_at dksX6_init_4 0 rfl rfl)
theorem dX6_init_96 : decode cX6_init 96 = .ok (.putfield 49, 3) := dk_181 0 49 (dk_at dksX6_init_4 1 rfl rfl)
theorem dX6_init_99 : decode cX6_init 99 = .ok (.aload_n 0, 1) := dk_42 (dk_at dksX6_init_4 4 rfl rfl)
theorem dX6_init_100 : decode cX6_init 100 = .ok (.iconst (-1), 1) := dk_2 (dk_at dksX6_init_4 5 rfl rfl)
theorem dX6_init_101 : decode cX6_init 101 = .ok (.putfield 52, 3) := dk_181 0 52 (dk_at dksX6_init_4 6 rfl rfl)
theorem dX6_init_104 : decode cX6_init 104 = .ok (.aload_n 0, 1) := dk_42 (dk_at dksX6_init_4 9 rfl rfl)
theorem dX6_init_105 : decode cX6_init 105 = .ok (.iconst 4, 1) := dk_7 (dk_at dksX6_init_4 10 rfl rfl)
theorem dX6_init_106 : decode cX6_init 106 = .ok (.newarray .int, 2) := dk_188_10 (dk_at dksX6_init_4 11 rfl rfl)
theorem dX6_init_108 : decode cX6_init 108 = .ok (.putfield 55, 3) := dk_181 0 55 (dk_at dksX6_init_4 13 rfl rfl)
theorem dX6_init_111 : decode cX6_init 111 = .ok (.aload_n 0, 1) := dk_42 (dk_at dksX6_init_4 16 rfl rfl)
theorem dX6_init_112 : decode cX6_init 112 = .ok (.iconst 4, 1) := dk_7 (dk_at dksX6_init_4 17 rfl rfl)
theorem dX6_init_113 : decode cX6_init 113 = .ok (.newarray .int, 2) := dk_188_10 (dk_at dksX6_init_4 18 rfl rfl)
theorem dX6_init_115 : decode cX6_init 115 = .ok (.putfield 58, 3) := dk_181 0 58 (dk_at dksX6_init_4 20 rfl rfl)
theorem dX6_init_118 : decode cX6_init 118 = .ok (.aload_n 0, 1) := dk_42 (dk_at dksX6_init_4 23 rfl rfl)
theorem dX6_init_119 : decode cX6_init 119 = .ok (.bipush 80, 2) := dk_16 80 (dk_at dksX6_init_5 0 rfl rfl)
theorem dX6_init_121 : decode cX6_init 121 = .ok (.newarray .int, 2) := dk_188_10 (dk_at dksX6_init_5 2 rfl rfl)
theorem dX6_init_123 : decode cX6_init 123 = .ok (.putfield 61, 3) := dk_181 0 61 (dk_at dksX6_init_5 4 rfl rfl)
theorem dX6_init_126 : decode cX6_init 126 = .ok (.aload_n 0, 1) := dk_42 (dk_at dksX6_init_5 7 rfl rfl)
theorem dX6_init_127 : decode cX6_init 127 = .ok (.bipush 80, 2) := dk_16 80 (dk_at dksX6_init_5 8 rfl rfl)
theorem dX6_init_129 : decode cX6_init 129 = .ok (.newarray .int, 2) := dk_188_10 (dk_at dksX6_init_5 10 rfl rfl)
theorem dX6_init_131 : decode cX6_init 131 = .ok (.putfield 64, 3) := dk_181 0 64 (dk_at dksX6_init_5 12 rfl rfl)
theorem dX6_init_134 : decode cX6_init 134 = .ok (.aload_n 0, 1) := dk_42 (dk_at dksX6_init_5 15 rfl rfl)
theorem dX6_init_135 : decode cX6_init 135 = .ok (.bipush 80, 2) := dk_16 80 (dk_at dksX6_init_5 16 rfl rfl)
theorem dX6_init_137 : decode cX6_init 137 = .ok (.newarray .int, 2) := dk_188_10 (dk_at dksX6_init_5 18 rfl rfl)
theorem dX6_init_139 : decode cX6_init 139 = .ok (.putfield 67, 3) := dk_181 0 67 (dk_at dksX6_init_5 20 rfl rfl)
theorem dX6_init_142 : decode cX6_init 142 = .ok (.aload_n 0, 1) := dk_42 (dk_at dksX6_init_5 23 rfl rfl)
theorem dX6_init_143 : decode cX6_init 143 = .ok (.bipush 80, 2) := dk_16 80 (dk_at dksX6_init_6 0 rfl rfl)
theorem dX6_init_145 : decode cX6_init 145 = .ok (.newarray .int, 2) := dk_188_10 (dk_at dksX6_init_6 2 rfl rfl)
theorem dX6_init_147 : decode cX6_init 147 = .ok (.putfield 70, 3) := dk_181 0 70 (dk_at dksX6_init_6 4 rfl rfl)
theorem dX6_init_150 : decode cX6_init 150 = .ok (.aload_n 0, 1) := dk_42 (dk_at dksX6_init_6 7 rfl rfl)
theorem dX6_init_151 : decode cX6_init 151 = .ok (.getfield 9, 3) := dk_180 0 9 (dk_at dksX6_init_6 8 rfl rfl)
theorem dX6_init_154 : decode cX6_init 154 = .ok (.iconst 2, 1) := dk_5 (dk_at dksX6_init_6 11 rfl rfl)
theorem dX6_init_155 : decode cX6_init 155 = .ok (.iconst 1, 1) := dk_4 (dk_at dksX6_init_6 12 rfl rfl)
theorem dX6_init_156 : decode cX6_init 156 = .ok (.iastore, 1) := dk_79 (dk_at dksX6_init_6 13 rfl rfl)
theorem dX6_init_157 : decode cX6_init 157 = .ok (.aload_n 0, 1) := dk_42 (dk_at dksX6_init_6 14 rfl rfl)
theorem dX6_init_158 : decode cX6_init 158 = .ok (.getfield 9, 3) := dk_180 0 9 (dk_at dksX6_init_6 15 rfl rfl)
theorem dX6_init_161 : decode cX6_init 161 = .ok (.iconst 3, 1) := dk_6 (dk_at dksX6_init_6 18 rfl rfl)
theorem dX6_init_162 : decode cX6_init 162 = .ok (.bipush 80, 2) := dk_16 80 (dk_at dksX6_init_6 19 rfl rfl)
theorem dX6_init_164 : decode cX6_init 164 = .ok (.iastore, 1) := dk_79 (dk_at dksX6_init_6 21 rfl rfl)
theorem dX6_init_165 : decode cX6_init 165 = .ok (.iconst 0, 1) := dk_3 (dk_at dksX6_init_6 22 rfl rfl)
theorem dX6_init_166 : decode cX6_init 166 = .ok (.istore_n 1, 1) := dk_60 (dk_at dksX6_init_6 23 rfl rfl)
theorem dX6_init_167 : decode cX6_init 167 = .ok (.iload_n 1, 1) := dk_27 (dk_at dksX6_init_7 0 rfl rfl)
theorem dX6_init_168 : decode cX6_init 168 = .ok (.bipush 8, 2) := dk_16 8 (dk_at dksX6_init_7 1 rfl rfl)
theorem dX6_init_170 : decode cX6_init 170 = .ok (.if_icmp .ge 31, 3) := dk_162 0 31 (dk_at dksX6_init_7 3 rfl rfl)
theorem dX6_init_173 : decode cX6_init 173 = .ok (.aload_n 0, 1) := dk_42 (dk_at dksX6_init_7 6 rfl rfl)
theorem dX6_init_174 : decode cX6_init 174 = .ok (.getfield 9, 3) := dk_180 0 9 (dk_at dksX6_init_7 7 rfl rfl)
theorem dX6_init_177 : decode cX6_init 177 = .ok (.bipush 8, 2) := dk_16 8 (dk_at dksX6_init_7 10 rfl rfl)
theorem dX6_init_179 : decode cX6_init 179 = .ok (.iload_n 1, 1) := dk_27 (dk_at dksX6_init_7 12 rfl rfl)
theorem dX6_init_180 : decode cX6_init 180 = .ok (.iadd, 1) := dk_96 (dk_at dksX6_init_7 13 rfl rfl)
theorem dX6_init_181 : decode cX6_init 181 = .ok (.bipush 10, 2) := dk_16 10 (dk_at dksX6_init_7 14 rfl rfl)
theorem dX6_init_183 : decode cX6_init 183 = .ok (.iastore, 1) := dk_79 (dk_at dksX6_init_7 16 rfl rfl)
theorem dX6_init_184 : decode cX6_init 184 = .ok (.aload_n 0, 1) := dk_42 (dk_at dksX6_init_7 17 rfl rfl)
theorem dX6_init_185 : decode cX6_init 185 = .ok (.getfield 9, 3) := dk_180 0 9 (dk_at dksX6_init_7 18 rfl rfl)
theorem dX6_init_188 : decode cX6_init 188 = .ok (.bipush 16, 2) := dk_16 16 (dk_at dksX6_init_7 21 rfl rfl)
theorem dX6_init_190 : decode cX6_init 190 = .ok (.iload_n 1, 1) := dk_27 (dk_at dksX6_init_7 23 rfl rfl)
theorem dX6_init_191 : decode cX6_init 191 = .ok (.iadd, 1) := dk_96 (dk_at dksX6_init_8 0 rfl rfl)
theorem dX6_init_192 : decode cX6_init 192 = .ok (.bipush 16, 2) := dk_16 16 (dk_at dksX6_init_8 1 rfl rfl)
theorem dX6_init_194 : decode cX6_init 194 = .ok (.iastore, 1) := dk_79 (dk_at dksX6_init_8 3 rfl rfl)
theorem dX6_init_195 : decode cX6_init 195 = .ok (.iinc 1 1, 3) := dk_132 1 1 (dk_at dksX6_init_8 4 rfl rfl)
theorem dX6_init_198 : decode cX6_init 198 = .ok (.goto (-31), 3) := dk_167 255 225 (dk_at dksX6_init_8 7 rfl rfl)
theorem dX6_init_201 : decode cX6_init 201 = .ok (.iconst 0, 1) := dk_3 (dk_at dksX6_init_8 10 rfl rfl)
theorem dX6_init_202 : decode cX6_init 202 = .ok (.istore_n 1, 1) := dk_60 (dk_at dksX6_init_8 11 rfl rfl)
theorem dX6_init_203 : decode cX6_init 203 = .ok (.iload_n 1, 1) := dk_27 (dk_at dksX6_init_8 12 rfl rfl)
theorem dX6_init_204 : decode cX6_init 204 = .ok (.bipush 12, 2) := dk_16 12 (dk_at dksX6_init_8 13 rfl rfl)
theorem dX6_init_206 : decode cX6_init 206 = .ok (.if_icmp .ge 22, 3) := dk_162 0 22 (dk_at dksX6_init_8 15 rfl rfl)
theorem dX6_init_209 : decode cX6_init 209 = .ok (.aload_n 0, 1) := dk_42 (dk_at dksX6_init_8 18 rfl rfl)
theorem dX6_init_210 : decode cX6_init 210 = .ok (.getfield 9, 3) := dk_180 0 9 (dk_at dksX6_init_8 19 rfl rfl)
theorem dX6_init_213 : decode cX6_init 213 = .ok (.bipush 24, 2) := dk_16 24 (dk_at dksX6_init_8 22 rfl rfl)
theorem dX6_init_215 : decode cX6_init 215 = .ok (.iload_n 1, 1) := dk_27 (dk_at dksX6_init_9 0 rfl rfl)
theorem dX6_init_216 : decode cX6_init 216 = .ok (.bipush 6, 2) := dk_16 6 (dk_at dksX6_init_9 1 rfl rfl)
theorem dX6_init_218 : decode cX6_init 218 = .ok (.imul, 1) := dk_104 (dk_at dksX6_init_9 3 rfl rfl)
theorem dX6_init_219 : decode cX6_init 219 = .ok (.iadd, 1) := dk_96 (dk_at dksX6_init_9 4 rfl rfl)
theorem dX6_init_220 : decode cX6_init 220 = .ok (.iconst (-1), 1) := dk_2 (dk_at dksX6_init_9 5 rfl rfl)
theorem dX6_init_221 : decode cX6_init 221 = .ok (.iastore, 1) := dk_79 (dk_at dksX6_init_9 6 rfl rfl)
theorem dX6_init_222 : decode cX6_init 222 = .ok (.iinc 1 1, 3) := dk_132 1 1 (dk_at dksX6_init_9 7 rfl rfl)
theorem dX6_init_225 : decode cX6_init 225 = .ok (.goto (-22), 3) := dk_167 255 234 (dk_at dksX6_init_9 10 rfl rfl)
theorem dX6_init_228 : decode cX6_init 228 = .ok (.aload_n 0, 1) := dk_42 (dk_at dksX6_init_9 13 rfl rfl)
theorem dX6_init_229 : decode cX6_init 229 = .ok (.getfield 9, 3) := dk_180 0 9 (dk_at dksX6_init_9 14 rfl rfl)
theorem dX6_init_232 : decode cX6_init 232 = .ok (.aload_n 0, 1) := dk_42 (dk_at dksX6_init_9 17 rfl rfl)
theorem dX6_init_233 : decode cX6_init 233 = .ok (.getfield 16, 3) := dk_180 0 16 (dk_at dksX6_init_9 18 rfl rfl)
theorem dX6_init_236 : decode cX6_init 236 = .ok (.invokestatic 73, 3) := dk_184 0 73 (dk_at dksX6_init_9 21 rfl rfl)
theorem dX6_init_239 : decode cX6_init 239 = .ok (.return_, 1) := dk_177 (dk_at dksX6_init_10 0 rfl rfl)
abbrev cX6_weight : ByteArray := prog_33_method_28_code
def dkwX6_weight_1 : List UInt8 := [180, 0, 9, 16, 8, 27, 96, 46, 62, 42, 180, 0, 9, 16, 8, 27, 96, 28, 79, 29, 172]
abbrev dktX6_weight_1 : List UInt8 := dkwX6_weight_1 ++ []
def dkwX6_weight_0 : List UInt8 := [27, 184, 0, 145, 153, 0, 15, 28, 133, 10, 20, 0, 148, 184, 0, 79, 154, 0, 5, 2, 172, 42]
abbrev dktX6_weight_0 : List UInt8 := dkwX6_weight_0 ++ dktX6_weight_1
theorem dksX6_weight_0 : cX6_weight.data.toList.drop 0 = dktX6_weight_0 := by decide +kernel
theorem dksX6_weight_1 : cX6_weight.data.toList.drop 22 = dktX6_weight_1 := dk_seg dksX6_weight_0 22 rfl rfl
theorem dX6_weight_0 : decode cX6_weight 0 = .ok (.iload_n 1, 1) := dk_27 (dk_at dksX6_weight_0 0 rfl rfl)
theorem dX6_weight_1 : decode cX6_weight 1 = .ok (.invokestatic 145, 3) := dk_184 0 145 (dk_at dksX6_weight_0 1 rfl rfl)
theorem dX6_weight_4 : decode cX6_weight 4 = .ok (.ifCond .eq 15, 3) := dk_153 0 15 (dk_at dksX6_weight_0 4 rfl rfl)
theorem dX6_weight_7 : decode cX6_weight 7 = .ok (.iload_n 2, 1) := dk_28 (dk_at dksX6_weight_0 7 rfl rfl)
theorem dX6_weight_8 : decode cX6_weight 8 = .ok (.i2l, 1) := dk_133 (dk_at dksX6_weight_0 8 rfl rfl)
theorem dX6_weight_9 : decode cX6_weight 9 = .ok (.lconst 1, 1) := dk_10 (dk_at dksX6_weight_0 9 rfl rfl)
theorem dX6_weight_10 : decode cX6_weight 10 = .ok (.ldc2_w 148, 3) := dk_20 0 148 (dk_at dksX6_weight_0 10 rfl rfl)
theorem dX6_weight_13 : decode cX6_weight 13 = .ok (.invokestatic 79, 3) := dk_184 0 79 (dk_at dksX6_weight_0 13 rfl rfl)
theorem dX6_weight_16 : decode cX6_weight 16 = .ok (.ifCond .ne 5, 3) := dk_154 0 5 (dk_at dksX6_weight_0 16 rfl rfl)
theorem dX6_weight_19 : decode cX6_weight 19 = .ok (.iconst (-1), 1) := dk_2 (dk_at dksX6_weight_0 19 rfl rfl)
theorem dX6_weight_20 : decode cX6_weight 20 = .ok (.ireturn, 1) := dk_172 (dk_at dksX6_weight_0 20 rfl rfl)
theorem dX6_weight_21 : decode cX6_weight 21 = .ok (.aload_n 0, 1) := dk_42 (dk_at dksX6_weight_0 21 rfl rfl)
theorem dX6_weight_22 : decode cX6_weight 22 = .ok (.getfield 9, 3) := dk_180 0 9 (dk_at dksX6_weight_1 0 rfl rfl)
theorem dX6_weight_25 : decode cX6_weight 25 = .ok (.bipush 8, 2) := dk_16 8 (dk_at dksX6_weight_1 3 rfl rfl)
theorem dX6_weight_27 : decode cX6_weight 27 = .ok (.iload_n 1, 1) := dk_27 (dk_at dksX6_weight_1 5 rfl rfl)
theorem dX6_weight_28 : decode cX6_weight 28 = .ok (.iadd, 1) := dk_96 (dk_at dksX6_weight_1 6 rfl rfl)
theorem dX6_weight_29 : decode cX6_weight 29 = .ok (.iaload, 1) := dk_46 (dk_at dksX6_weight_1 7 rfl rfl)
theorem dX6_weight_30 : decode cX6_weight 30 = .ok (.istore_n 3, 1) := dk_62 (dk_at dksX6_weight_1 8 rfl rfl)
theorem dX6_weight_31 : decode cX6_weight 31 = .ok (.aload_n 0, 1) := dk_42 (dk_at dksX6_weight_1 9 rfl rfl)
theorem dX6_weight_32 : decode cX6_weight 32 = .ok (.getfield 9, 3) := dk_180 0 9 (dk_at dksX6_weight_1 10 rfl rfl)
theorem dX6_weight_35 : decode cX6_weight 35 = .ok (.bipush 8, 2) := dk_16 8 (dk_at dksX6_weight_1 13 rfl rfl)
theorem dX6_weight_37 : decode cX6_weight 37 = .ok (.iload_n 1, 1) := dk_27 (dk_at dksX6_weight_1 15 rfl rfl)
theorem dX6_weight_38 : decode cX6_weight 38 = .ok (.iadd, 1) := dk_96 (dk_at dksX6_weight_1 16 rfl rfl)
theorem dX6_weight_39 : decode cX6_weight 39 = .ok (.iload_n 2, 1) := dk_28 (dk_at dksX6_weight_1 17 rfl rfl)
theorem dX6_weight_40 : decode cX6_weight 40 = .ok (.iastore, 1) := dk_79 (dk_at dksX6_weight_1 18 rfl rfl)
theorem dX6_weight_41 : decode cX6_weight 41 = .ok (.iload_n 3, 1) := dk_29 (dk_at dksX6_weight_1 19 rfl rfl)
theorem dX6_weight_42 : decode cX6_weight 42 = .ok (.ireturn, 1) := dk_172 (dk_at dksX6_weight_1 20 rfl rfl)
abbrev cX6_limit : ByteArray := prog_33_method_29_code
def dkwX6_limit_1 : List UInt8 := [180, 0, 9, 16, 16, 27, 96, 46, 62, 42, 180, 0, 9, 16, 16, 27, 96, 28, 79, 29, 172]
abbrev dktX6_limit_1 : List UInt8 := dkwX6_limit_1 ++ []
def dkwX6_limit_0 : List UInt8 := [27, 184, 0, 145, 153, 0, 15, 28, 133, 9, 20, 0, 150, 184, 0, 79, 154, 0, 5, 2, 172, 42]
abbrev dktX6_limit_0 : List UInt8 := dkwX6_limit_0 ++ dktX6_limit_1
theorem dksX6_limit_0 : cX6_limit.data.toList.drop 0 = dktX6_limit_0 := by decide +kernel
theorem dksX6_limit_1 : cX6_limit.data.toList.drop 22 = dktX6_limit_1 := dk_seg dksX6_limit_0 22 rfl rfl
theorem dX6_limit_0 : decode cX6_limit 0 = .ok (.iload_n 1, 1) := dk_27 (dk_at dksX6_limit_0 0 rfl rfl)
theorem dX6_limit_1 : decode cX6_limit 1 = .ok (.invokestatic 145, 3) := dk_184 0 145 (dk_at dksX6_limit_0 1 rfl rfl)
theorem dX6_limit_4 : decode cX6_limit 4 = .ok (.ifCond .eq 15, 3) := dk_153 0 15 (dk_at dksX6_limit_0 4 rfl rfl)
theorem dX6_limit_7 : decode cX6_limit 7 = .ok (.iload_n 2, 1) := dk_28 (dk_at dksX6_limit_0 7 rfl rfl)
theorem dX6_limit_8 : decode cX6_limit 8 = .ok (.i2l, 1) := dk_133 (dk_at dksX6_limit_0 8 rfl rfl)
theorem dX6_limit_9 : decode cX6_limit 9 = .ok (.lconst 0, 1) := dk_9 (dk_at dksX6_limit_0 9 rfl rfl)
theorem dX6_limit_10 : decode cX6_limit 10 = .ok (.ldc2_w 150, 3) := dk_20 0 150 (dk_at dksX6_limit_0 10 rfl rfl)
theorem dX6_limit_13 : decode cX6_limit 13 = .ok (.invokestatic 79, 3) := dk_184 0 79 (dk_at dksX6_limit_0 13 rfl rfl)
theorem dX6_limit_16 : decode cX6_limit 16 = .ok (.ifCond .ne 5, 3) := dk_154 0 5 (dk_at dksX6_limit_0 16 rfl rfl)
theorem dX6_limit_19 : decode cX6_limit 19 = .ok (.iconst (-1), 1) := dk_2 (dk_at dksX6_limit_0 19 rfl rfl)
theorem dX6_limit_20 : decode cX6_limit 20 = .ok (.ireturn, 1) := dk_172 (dk_at dksX6_limit_0 20 rfl rfl)
theorem dX6_limit_21 : decode cX6_limit 21 = .ok (.aload_n 0, 1) := dk_42 (dk_at dksX6_limit_0 21 rfl rfl)
theorem dX6_limit_22 : decode cX6_limit 22 = .ok (.getfield 9, 3) := dk_180 0 9 (dk_at dksX6_limit_1 0 rfl rfl)
theorem dX6_limit_25 : decode cX6_limit 25 = .ok (.bipush 16, 2) := dk_16 16 (dk_at dksX6_limit_1 3 rfl rfl)
theorem dX6_limit_27 : decode cX6_limit 27 = .ok (.iload_n 1, 1) := dk_27 (dk_at dksX6_limit_1 5 rfl rfl)
theorem dX6_limit_28 : decode cX6_limit 28 = .ok (.iadd, 1) := dk_96 (dk_at dksX6_limit_1 6 rfl rfl)
theorem dX6_limit_29 : decode cX6_limit 29 = .ok (.iaload, 1) := dk_46 (dk_at dksX6_limit_1 7 rfl rfl)
theorem dX6_limit_30 : decode cX6_limit 30 = .ok (.istore_n 3, 1) := dk_62 (dk_at dksX6_limit_1 8 rfl rfl)
theorem dX6_limit_31 : decode cX6_limit 31 = .ok (.aload_n 0, 1) := dk_42 (dk_at dksX6_limit_1 9 rfl rfl)
theorem dX6_limit_32 : decode cX6_limit 32 = .ok (.getfield 9, 3) := dk_180 0 9 (dk_at dksX6_limit_1 10 rfl rfl)
theorem dX6_limit_35 : decode cX6_limit 35 = .ok (.bipush 16, 2) := dk_16 16 (dk_at dksX6_limit_1 13 rfl rfl)
theorem dX6_limit_37 : decode cX6_limit 37 = .ok (.iload_n 1, 1) := dk_27 (dk_at dksX6_limit_1 15 rfl rfl)
theorem dX6_limit_38 : decode cX6_limit 38 = .ok (.iadd, 1) := dk_96 (dk_at dksX6_limit_1 16 rfl rfl)
theorem dX6_limit_39 : decode cX6_limit 39 = .ok (.iload_n 2, 1) := dk_28 (dk_at dksX6_limit_1 17 rfl rfl)
theorem dX6_limit_40 : decode cX6_limit 40 = .ok (.iastore, 1) := dk_79 (dk_at dksX6_limit_1 18 rfl rfl)
theorem dX6_limit_41 : decode cX6_limit 41 = .ok (.iload_n 3, 1) := dk_29 (dk_at dksX6_limit_1 19 rfl rfl)
theorem dX6_limit_42 : decode cX6_limit 42 = .ok (.ireturn, 1) := dk_172 (dk_at dksX6_limit_1 20 rfl rfl)
abbrev cX6_ranked : ByteArray := prog_33_method_31_code
def dkwX6_ranked_3 : List UInt8 := [160, 0, 5, 28, 172, 132, 2, 1, 167, 255, 189, 2, 172]
abbrev dktX6_ranked_3 : List UInt8 := dkwX6_ranked_3 ++ []
def dkwX6_ranked_2 : List UInt8 := [154, 0, 13, 21, 4, 28, 162, 0, 7, 4, 167, 0, 4, 3, 96, 62, 132, 4, 1, 167, 255, 213, 29, 27]
abbrev dktX6_ranked_2 : List UInt8 := dkwX6_ranked_2 ++ dktX6_ranked_3
def dkwX6_ranked_1 : List UInt8 := [16, 8, 162, 0, 42, 42, 21, 4, 28, 182, 0, 152, 54, 5, 29, 21, 5, 155, 0, 14, 21, 5]
abbrev dktX6_ranked_1 : List UInt8 := dkwX6_ranked_1 ++ dktX6_ranked_2
def dkwX6_ranked_0 : List UInt8 := [27, 184, 0, 145, 154, 0, 5, 2, 172, 3, 61, 28, 16, 8, 162, 0, 67, 3, 62, 3, 54, 4, 21, 4]
abbrev dktX6_ranked_0 : List UInt8 := dkwX6_ranked_0 ++ dktX6_ranked_1
theorem dksX6_ranked_0 : cX6_ranked.data.toList.drop 0 = dktX6_ranked_0 := by decide +kernel
theorem dksX6_ranked_1 : cX6_ranked.data.toList.drop 24 = dktX6_ranked_1 := dk_seg dksX6_ranked_0 24 rfl rfl
theorem dksX6_ranked_2 : cX6_ranked.data.toList.drop 46 = dktX6_ranked_2 := dk_seg dksX6_ranked_1 22 rfl rfl
theorem dksX6_ranked_3 : cX6_ranked.data.toList.drop 70 = dktX6_ranked_3 := dk_seg dksX6_ranked_2 24 rfl rfl
theorem dX6_ranked_0 : decode cX6_ranked 0 = .ok (.iload_n 1, 1) := dk_27 (dk_at dksX6_ranked_0 0 rfl rfl)
theorem dX6_ranked_1 : decode cX6_ranked 1 = .ok (.invokestatic 145, 3) := dk_184 0 145 (dk_at dksX6_ranked_0 1 rfl rfl)
theorem dX6_ranked_4 : decode cX6_ranked 4 = .ok (.ifCond .ne 5, 3) := dk_154 0 5 (dk_at dksX6_ranked_0 4 rfl rfl)
theorem dX6_ranked_7 : decode cX6_ranked 7 = .ok (.iconst (-1), 1) := dk_2 (dk_at dksX6_ranked_0 7 rfl rfl)
theorem dX6_ranked_8 : decode cX6_ranked 8 = .ok (.ireturn, 1) := dk_172 (dk_at dksX6_ranked_0 8 rfl rfl)
theorem dX6_ranked_9 : decode cX6_ranked 9 = .ok (.iconst 0, 1) := dk_3 (dk_at dksX6_ranked_0 9 rfl rfl)
theorem dX6_ranked_10 : decode cX6_ranked 10 = .ok (.istore_n 2, 1) := dk_61 (dk_at dksX6_ranked_0 10 rfl rfl)
theorem dX6_ranked_11 : decode cX6_ranked 11 = .ok (.iload_n 2, 1) := dk_28 (dk_at dksX6_ranked_0 11 rfl rfl)
theorem dX6_ranked_12 : decode cX6_ranked 12 = .ok (.bipush 8, 2) := dk_16 8 (dk_at dksX6_ranked_0 12 rfl rfl)
theorem dX6_ranked_14 : decode cX6_ranked 14 = .ok (.if_icmp .ge 67, 3) := dk_162 0 67 (dk_at dksX6_ranked_0 14 rfl rfl)
theorem dX6_ranked_17 : decode cX6_ranked 17 = .ok (.iconst 0, 1) := dk_3 (dk_at dksX6_ranked_0 17 rfl rfl)
theorem dX6_ranked_18 : decode cX6_ranked 18 = .ok (.istore_n 3, 1) := dk_62 (dk_at dksX6_ranked_0 18 rfl rfl)
theorem dX6_ranked_19 : decode cX6_ranked 19 = .ok (.iconst 0, 1) := dk_3 (dk_at dksX6_ranked_0 19 rfl rfl)
theorem dX6_ranked_20 : decode cX6_ranked 20 = .ok (.istore 4, 2) := dk_54 4 (dk_at dksX6_ranked_0 20 rfl rfl)
theorem dX6_ranked_22 : decode cX6_ranked 22 = .ok (.iload 4, 2) := dk_21 4 (dk_at dksX6_ranked_0 22 rfl rfl)
theorem dX6_ranked_24 : decode cX6_ranked 24 = .ok (.bipush 8, 2) := dk_16 8 (dk_at dksX6_ranked_1 0 rfl rfl)
theorem dX6_ranked_26 : decode cX6_ranked 26 = .ok (.if_icmp .ge 42, 3) := dk_162 0 42 (dk_at dksX6_ranked_1 2 rfl rfl)
theorem dX6_ranked_29 : decode cX6_ranked 29 = .ok (.aload_n 0, 1) := dk_42 (dk_at dksX6_ranked_1 5 rfl rfl)
theorem dX6_ranked_30 : decode cX6_ranked 30 = .ok (.iload 4, 2) := dk_21 4 (dk_at dksX6_ranked_1 6 rfl rfl)
theorem dX6_ranked_32 : decode cX6_ranked 32 = .ok (.iload_n 2, 1) := dk_28 (dk_at dksX6_ranked_1 8 rfl rfl)
theorem dX6_ranked_33 : decode cX6_ranked 33 = .ok (.invokevirtual 152, 3) := dk_182 0 152 (dk_at dksX6_ranked_1 9 rfl rfl)
theorem dX6_ranked_36 : decode cX6_ranked 36 = .ok (.istore 5, 2) := dk_54 5 (dk_at dksX6_ranked_1 12 rfl rfl)
theorem dX6_ranked_38 : decode cX6_ranked 38 = .ok (.iload_n 3, 1) := dk_29 (dk_at dksX6_ranked_1 14 rfl rfl)
theorem dX6_ranked_39 : decode cX6_ranked 39 = .ok (.iload 5, 2) := dk_21 5 (dk_at dksX6_ranked_1 15 rfl rfl)
theorem dX6_ranked_41 : decode cX6_ranked 41 = .ok (.ifCond .lt 14, 3) := dk_155 0 14 (dk_at dksX6_ranked_1 17 rfl rfl)
theorem dX6_ranked_44 : decode cX6_ranked 44 = .ok (.iload 5, 2) := dk_21 5 (dk_at dksX6_ranked_1 20 rfl rfl)
theorem dX6_ranked_46 : decode cX6_ranked 46 = .ok (.ifCond .ne 13, 3) := dk_154 0 13 (dk_at dksX6_ranked_2 0 rfl rfl)
theorem dX6_ranked_49 : decode cX6_ranked 49 = .ok (.iload 4, 2) := dk_21 4 (dk_at dksX6_ranked_2 3 rfl rfl)
theorem dX6_ranked_51 : decode cX6_ranked 51 = .ok (.iload_n 2, 1) := dk_28 (dk_at dksX6_ranked_2 5 rfl rfl)
theorem dX6_ranked_52 : decode cX6_ranked 52 = .ok (.if_icmp .ge 7, 3) := dk_162 0 7 (dk_at dksX6_ranked_2 6 rfl rfl)
theorem dX6_ranked_55 : decode cX6_ranked 55 = .ok (.iconst 1, 1) := dk_4 (dk_at dksX6_ranked_2 9 rfl rfl)
theorem dX6_ranked_56 : decode cX6_ranked 56 = .ok (.goto 4, 3) := dk_167 0 4 (dk_at dksX6_ranked_2 10 rfl rfl)
theorem dX6_ranked_59 : decode cX6_ranked 59 = .ok (.iconst 0, 1) := dk_3 (dk_at dksX6_ranked_2 13 rfl rfl)
theorem dX6_ranked_60 : decode cX6_ranked 60 = .ok (.iadd, 1) := dk_96 (dk_at dksX6_ranked_2 14 rfl rfl)
theorem dX6_ranked_61 : decode cX6_ranked 61 = .ok (.istore_n 3, 1) := dk_62 (dk_at dksX6_ranked_2 15 rfl rfl)
theorem dX6_ranked_62 : decode cX6_ranked 62 = .ok (.iinc 4 1, 3) := dk_132 4 1 (dk_at dksX6_ranked_2 16 rfl rfl)
theorem dX6_ranked_65 : decode cX6_ranked 65 = .ok (.goto (-43), 3) := dk_167 255 213 (dk_at dksX6_ranked_2 19 rfl rfl)
theorem dX6_ranked_68 : decode cX6_ranked 68 = .ok (.iload_n 3, 1) := dk_29 (dk_at dksX6_ranked_2 22 rfl rfl)
theorem dX6_ranked_69 : decode cX6_ranked 69 = .ok (.iload_n 1, 1) := dk_27 (dk_at dksX6_ranked_2 23 rfl rfl)
theorem dX6_ranked_70 : decode cX6_ranked 70 = .ok (.if_icmp .ne 5, 3) := dk_160 0 5 (dk_at dksX6_ranked_3 0 rfl rfl)
theorem dX6_ranked_73 : decode cX6_ranked 73 = .ok (.iload_n 2, 1) := dk_28 (dk_at dksX6_ranked_3 3 rfl rfl)
theorem dX6_ranked_74 : decode cX6_ranked 74 = .ok (.ireturn, 1) := dk_172 (dk_at dksX6_ranked_3 4 rfl rfl)
theorem dX6_ranked_75 : decode cX6_ranked 75 = .ok (.iinc 2 1, 3) := dk_132 2 1 (dk_at dksX6_ranked_3 5 rfl rfl)
theorem dX6_ranked_78 : decode cX6_ranked 78 = .ok (.goto (-67), 3) := dk_167 255 189 (dk_at dksX6_ranked_3 8 rfl rfl)
theorem dX6_ranked_81 : decode cX6_ranked 81 = .ok (.iconst (-1), 1) := dk_2 (dk_at dksX6_ranked_3 11 rfl rfl)
theorem dX6_ranked_82 : decode cX6_ranked 82 = .ok (.ireturn, 1) := dk_172 (dk_at dksX6_ranked_3 12 rfl rfl)
abbrev cX6_rule : ByteArray := prog_33_method_33_code
def dkwX6_rule_1 : List UInt8 := [27, 96, 28, 79, 29, 172]
abbrev dktX6_rule_1 : List UInt8 := dkwX6_rule_1 ++ []
def dkwX6_rule_0 : List UInt8 := [27, 28, 184, 0, 159, 154, 0, 5, 2, 172, 42, 180, 0, 9, 5, 27, 96, 46, 62, 42, 180, 0, 9, 5]
abbrev dktX6_rule_0 : List UInt8 := dkwX6_rule_0 ++ dktX6_rule_1
theorem dksX6_rule_0 : cX6_rule.data.toList.drop 0 = dktX6_rule_0 := by decide +kernel
theorem dksX6_rule_1 : cX6_rule.data.toList.drop 24 = dktX6_rule_1 := dk_seg dksX6_rule_0 24 rfl rfl
theorem dX6_rule_0 : decode cX6_rule 0 = .ok (.iload_n 1, 1) := dk_27 (dk_at dksX6_rule_0 0 rfl rfl)
theorem dX6_rule_1 : decode cX6_rule 1 = .ok (.iload_n 2, 1) := dk_28 (dk_at dksX6_rule_0 1 rfl rfl)
theorem dX6_rule_2 : decode cX6_rule 2 = .ok (.invokestatic 159, 3) := dk_184 0 159 (dk_at dksX6_rule_0 2 rfl rfl)
theorem dX6_rule_5 : decode cX6_rule 5 = .ok (.ifCond .ne 5, 3) := dk_154 0 5 (dk_at dksX6_rule_0 5 rfl rfl)
theorem dX6_rule_8 : decode cX6_rule 8 = .ok (.iconst (-1), 1) := dk_2 (dk_at dksX6_rule_0 8 rfl rfl)
theorem dX6_rule_9 : decode cX6_rule 9 = .ok (.ireturn, 1) := dk_172 (dk_at dksX6_rule_0 9 rfl rfl)
theorem dX6_rule_10 : decode cX6_rule 10 = .ok (.aload_n 0, 1) := dk_42 (dk_at dksX6_rule_0 10 rfl rfl)
theorem dX6_rule_11 : decode cX6_rule 11 = .ok (.getfield 9, 3) := dk_180 0 9 (dk_at dksX6_rule_0 11 rfl rfl)
theorem dX6_rule_14 : decode cX6_rule 14 = .ok (.iconst 2, 1) := dk_5 (dk_at dksX6_rule_0 14 rfl rfl)
theorem dX6_rule_15 : decode cX6_rule 15 = .ok (.iload_n 1, 1) := dk_27 (dk_at dksX6_rule_0 15 rfl rfl)
theorem dX6_rule_16 : decode cX6_rule 16 = .ok (.iadd, 1) := dk_96 (dk_at dksX6_rule_0 16 rfl rfl)
theorem dX6_rule_17 : decode cX6_rule 17 = .ok (.iaload, 1) := dk_46 (dk_at dksX6_rule_0 17 rfl rfl)
theorem dX6_rule_18 : decode cX6_rule 18 = .ok (.istore_n 3, 1) := dk_62 (dk_at dksX6_rule_0 18 rfl rfl)
theorem dX6_rule_19 : decode cX6_rule 19 = .ok (.aload_n 0, 1) := dk_42 (dk_at dksX6_rule_0 19 rfl rfl)
theorem dX6_rule_20 : decode cX6_rule 20 = .ok (.getfield 9, 3) := dk_180 0 9 (dk_at dksX6_rule_0 20 rfl rfl)
theorem dX6_rule_23 : decode cX6_rule 23 = .ok (.iconst 2, 1) := dk_5 (dk_at dksX6_rule_0 23 rfl rfl)
theorem dX6_rule_24 : decode cX6_rule 24 = .ok (.iload_n 1, 1) := dk_27 (dk_at dksX6_rule_1 0 rfl rfl)
theorem dX6_rule_25 : decode cX6_rule 25 = .ok (.iadd, 1) := dk_96 (dk_at dksX6_rule_1 1 rfl rfl)
theorem dX6_rule_26 : decode cX6_rule 26 = .ok (.iload_n 2, 1) := dk_28 (dk_at dksX6_rule_1 2 rfl rfl)
theorem dX6_rule_27 : decode cX6_rule 27 = .ok (.iastore, 1) := dk_79 (dk_at dksX6_rule_1 3 rfl rfl)
theorem dX6_rule_28 : decode cX6_rule 28 = .ok (.iload_n 3, 1) := dk_29 (dk_at dksX6_rule_1 4 rfl rfl)
theorem dX6_rule_29 : decode cX6_rule 29 = .ok (.ireturn, 1) := dk_172 (dk_at dksX6_rule_1 5 rfl rfl)
abbrev cX6_used : ByteArray := prog_33_method_34_code
def dkwX6_used_0 : List UInt8 := [27, 184, 0, 145, 153, 0, 14, 42, 180, 0, 19, 3, 27, 96, 47, 167, 0, 6, 20, 0, 162, 173]
abbrev dktX6_used_0 : List UInt8 := dkwX6_used_0 ++ []
theorem dksX6_used_0 : cX6_used.data.toList.drop 0 = dktX6_used_0 := by decide +kernel
theorem dX6_used_0 : decode cX6_used 0 = .ok (.iload_n 1, 1) := dk_27 (dk_at dksX6_used_0 0 rfl rfl)
theorem dX6_used_1 : decode cX6_used 1 = .ok (.invokestatic 145, 3) := dk_184 0 145 (dk_at dksX6_used_0 1 rfl rfl)
theorem dX6_used_4 : decode cX6_used 4 = .ok (.ifCond .eq 14, 3) := dk_153 0 14 (dk_at dksX6_used_0 4 rfl rfl)
theorem dX6_used_7 : decode cX6_used 7 = .ok (.aload_n 0, 1) := dk_42 (dk_at dksX6_used_0 7 rfl rfl)
theorem dX6_used_8 : decode cX6_used 8 = .ok (.getfield 19, 3) := dk_180 0 19 (dk_at dksX6_used_0 8 rfl rfl)
theorem dX6_used_11 : decode cX6_used 11 = .ok (.iconst 0, 1) := dk_3 (dk_at dksX6_used_0 11 rfl rfl)
theorem dX6_used_12 : decode cX6_used 12 = .ok (.iload_n 1, 1) := dk_27 (dk_at dksX6_used_0 12 rfl rfl)
theorem dX6_used_13 : decode cX6_used 13 = .ok (.iadd, 1) := dk_96 (dk_at dksX6_used_0 13 rfl rfl)
theorem dX6_used_14 : decode cX6_used 14 = .ok (.laload, 1) := dk_47 (dk_at dksX6_used_0 14 rfl rfl)
theorem dX6_used_15 : decode cX6_used 15 = .ok (.goto 6, 3) := dk_167 0 6 (dk_at dksX6_used_0 15 rfl rfl)
theorem dX6_used_18 : decode cX6_used 18 = .ok (.ldc2_w 162, 3) := dk_20 0 162 (dk_at dksX6_used_0 18 rfl rfl)
theorem dX6_used_21 : decode cX6_used 21 = .ok (.lreturn, 1) := dk_173 (dk_at dksX6_used_0 21 rfl rfl)
abbrev cX6_feed : ByteArray := prog_33_method_35_code
def dkwX6_feed_2 : List UInt8 := [181, 0, 168, 42, 180, 0, 168, 172]
abbrev dktX6_feed_2 : List UInt8 := dkwX6_feed_2 ++ []
def dkwX6_feed_1 : List UInt8 := [160, 0, 6, 16, 253, 172, 42, 180, 0, 29, 42, 180, 0, 168, 27, 145, 84, 42, 89, 180, 0, 168, 4, 96]
abbrev dktX6_feed_1 : List UInt8 := dkwX6_feed_1 ++ dktX6_feed_2
def dkwX6_feed_0 : List UInt8 := [27, 133, 20, 0, 164, 20, 0, 166, 184, 0, 79, 154, 0, 5, 2, 172, 42, 180, 0, 168, 16, 60]
abbrev dktX6_feed_0 : List UInt8 := dkwX6_feed_0 ++ dktX6_feed_1
theorem dksX6_feed_0 : cX6_feed.data.toList.drop 0 = dktX6_feed_0 := by decide +kernel
theorem dksX6_feed_1 : cX6_feed.data.toList.drop 22 = dktX6_feed_1 := dk_seg dksX6_feed_0 22 rfl rfl
theorem dksX6_feed_2 : cX6_feed.data.toList.drop 46 = dktX6_feed_2 := dk_seg dksX6_feed_1 24 rfl rfl
theorem dX6_feed_0 : decode cX6_feed 0 = .ok (.iload_n 1, 1) := dk_27 (dk_at dksX6_feed_0 0 rfl rfl)
theorem dX6_feed_1 : decode cX6_feed 1 = .ok (.i2l, 1) := dk_133 (dk_at dksX6_feed_0 1 rfl rfl)
theorem dX6_feed_2 : decode cX6_feed 2 = .ok (.ldc2_w 164, 3) := dk_20 0 164 (dk_at dksX6_feed_0 2 rfl rfl)
theorem dX6_feed_5 : decode cX6_feed 5 = .ok (.ldc2_w 166, 3) := dk_20 0 166 (dk_at dksX6_feed_0 5 rfl rfl)
theorem dX6_feed_8 : decode cX6_feed 8 = .ok (.invokestatic 79, 3) := dk_184 0 79 (dk_at dksX6_feed_0 8 rfl rfl)
theorem dX6_feed_11 : decode cX6_feed 11 = .ok (.ifCond .ne 5, 3) := dk_154 0 5 (dk_at dksX6_feed_0 11 rfl rfl)
theorem dX6_feed_14 : decode cX6_feed 14 = .ok (.iconst (-1), 1) := dk_2 (dk_at dksX6_feed_0 14 rfl rfl)
theorem dX6_feed_15 : decode cX6_feed 15 = .ok (.ireturn, 1) := dk_172 (dk_at dksX6_feed_0 15 rfl rfl)
theorem dX6_feed_16 : decode cX6_feed 16 = .ok (.aload_n 0, 1) := dk_42 (dk_at dksX6_feed_0 16 rfl rfl)
theorem dX6_feed_17 : decode cX6_feed 17 = .ok (.getfield 168, 3) := dk_180 0 168 (dk_at dksX6_feed_0 17 rfl rfl)
theorem dX6_feed_20 : decode cX6_feed 20 = .ok (.bipush 60, 2) := dk_16 60 (dk_at dksX6_feed_0 20 rfl rfl)
theorem dX6_feed_22 : decode cX6_feed 22 = .ok (.if_icmp .ne 6, 3) := dk_160 0 6 (dk_at dksX6_feed_1 0 rfl rfl)
theorem dX6_feed_25 : decode cX6_feed 25 = .ok (.bipush (-3), 2) := dk_16 253 (dk_at dksX6_feed_1 3 rfl rfl)
theorem dX6_feed_27 : decode cX6_feed 27 = .ok (.ireturn, 1) := dk_172 (dk_at dksX6_feed_1 5 rfl rfl)
theorem dX6_feed_28 : decode cX6_feed 28 = .ok (.aload_n 0, 1) := dk_42 (dk_at dksX6_feed_1 6 rfl rfl)
theorem dX6_feed_29 : decode cX6_feed 29 = .ok (.getfield 29, 3) := dk_180 0 29 (dk_at dksX6_feed_1 7 rfl rfl)
theorem dX6_feed_32 : decode cX6_feed 32 = .ok (.aload_n 0, 1) := dk_42 (dk_at dksX6_feed_1 10 rfl rfl)
theorem dX6_feed_33 : decode cX6_feed 33 = .ok (.getfield 168, 3) := dk_180 0 168 (dk_at dksX6_feed_1 11 rfl rfl)
theorem dX6_feed_36 : decode cX6_feed 36 = .ok (.iload_n 1, 1) := dk_27 (dk_at dksX6_feed_1 14 rfl rfl)
theorem dX6_feed_37 : decode cX6_feed 37 = .ok (.i2b, 1) := dk_145 (dk_at dksX6_feed_1 15 rfl rfl)
theorem dX6_feed_38 : decode cX6_feed 38 = .ok (.bastore, 1) := dk_84 (dk_at dksX6_feed_1 16 rfl rfl)
theorem dX6_feed_39 : decode cX6_feed 39 = .ok (.aload_n 0, 1) := dk_42 (dk_at dksX6_feed_1 17 rfl rfl)
theorem dX6_feed_40 : decode cX6_feed 40 = .ok (.dup, 1) := dk_89 (dk_at dksX6_feed_1 18 rfl rfl)
theorem dX6_feed_41 : decode cX6_feed 41 = .ok (.getfield 168, 3) := dk_180 0 168 (dk_at dksX6_feed_1 19 rfl rfl)
theorem dX6_feed_44 : decode cX6_feed 44 = .ok (.iconst 1, 1) := dk_4 (dk_at dksX6_feed_1 22 rfl rfl)
theorem dX6_feed_45 : decode cX6_feed 45 = .ok (.iadd, 1) := dk_96 (dk_at dksX6_feed_1 23 rfl rfl)
theorem dX6_feed_46 : decode cX6_feed 46 = .ok (.putfield 168, 3) := dk_181 0 168 (dk_at dksX6_feed_2 0 rfl rfl)
theorem dX6_feed_49 : decode cX6_feed 49 = .ok (.aload_n 0, 1) := dk_42 (dk_at dksX6_feed_2 3 rfl rfl)
theorem dX6_feed_50 : decode cX6_feed 50 = .ok (.getfield 168, 3) := dk_180 0 168 (dk_at dksX6_feed_2 4 rfl rfl)
theorem dX6_feed_53 : decode cX6_feed 53 = .ok (.ireturn, 1) := dk_172 (dk_at dksX6_feed_2 7 rfl rfl)
abbrev cX6_job : ByteArray := prog_33_method_42_code
def dkwX6_job_4 : List UInt8 := [21, 5, 100, 167, 0, 12, 42, 27, 28, 29, 21, 4, 182, 0, 207, 172]
abbrev dktX6_job_4 : List UInt8 := dkwX6_job_4 ++ []
def dkwX6_job_3 : List UInt8 := [8, 182, 0, 83, 7, 160, 0, 6, 16, 251, 172, 42, 182, 0, 203, 54, 5, 21, 5, 155, 0, 11, 16, 156]
abbrev dktX6_job_3 : List UInt8 := dkwX6_job_3 ++ dktX6_job_4
def dkwX6_job_2 : List UInt8 := [2, 172, 42, 180, 0, 9, 4, 46, 16, 80, 160, 0, 6, 16, 253, 172, 21, 4, 155, 0, 17, 42, 21, 4]
abbrev dktX6_job_2 : List UInt8 := dkwX6_job_2 ++ dktX6_job_3
def dkwX6_job_1 : List UInt8 := [20, 0, 198, 184, 0, 79, 153, 0, 18, 21, 4, 2, 159, 0, 14, 42, 21, 4, 182, 0, 200, 154, 0, 5]
abbrev dktX6_job_1 : List UInt8 := dkwX6_job_1 ++ dktX6_job_2
def dkwX6_job_0 : List UInt8 := [27, 184, 0, 145, 153, 0, 42, 28, 133, 9, 20, 0, 196, 184, 0, 79, 153, 0, 30, 29, 133, 10]
abbrev dktX6_job_0 : List UInt8 := dkwX6_job_0 ++ dktX6_job_1
theorem dksX6_job_0 : cX6_job.data.toList.drop 0 = dktX6_job_0 := by decide +kernel
theorem dksX6_job_1 : cX6_job.data.toList.drop 22 = dktX6_job_1 := dk_seg dksX6_job_0 22 rfl rfl
theorem dksX6_job_2 : cX6_job.data.toList.drop 46 = dktX6_job_2 := dk_seg dksX6_job_1 24 rfl rfl
theorem dksX6_job_3 : cX6_job.data.toList.drop 70 = dktX6_job_3 := dk_seg dksX6_job_2 24 rfl rfl
theorem dksX6_job_4 : cX6_job.data.toList.drop 94 = dktX6_job_4 := dk_seg dksX6_job_3 24 rfl rfl
theorem dX6_job_0 : decode cX6_job 0 = .ok (.iload_n 1, 1) := dk_27 (dk_at dksX6_job_0 0 rfl rfl)
theorem dX6_job_1 : decode cX6_job 1 = .ok (.invokestatic 145, 3) := dk_184 0 145 (dk_at dksX6_job_0 1 rfl rfl)
theorem dX6_job_4 : decode cX6_job 4 = .ok (.ifCond .eq 42, 3) := dk_153 0 42 (dk_at dksX6_job_0 4 rfl rfl)
theorem dX6_job_7 : decode cX6_job 7 = .ok (.iload_n 2, 1) := dk_28 (dk_at dksX6_job_0 7 rfl rfl)
theorem dX6_job_8 : decode cX6_job 8 = .ok (.i2l, 1) := dk_133 (dk_at dksX6_job_0 8 rfl rfl)
theorem dX6_job_9 : decode cX6_job 9 = .ok (.lconst 0, 1) := dk_9 (dk_at dksX6_job_0 9 rfl rfl)
theorem dX6_job_10 : decode cX6_job 10 = .ok (.ldc2_w 196, 3) := dk_20 0 196 (dk_at dksX6_job_0 10 rfl rfl)
theorem dX6_job_13 : decode cX6_job 13 = .ok (.invokestatic 79, 3) := dk_184 0 79 (dk_at dksX6_job_0 13 rfl rfl)
theorem dX6_job_16 : decode cX6_job 16 = .ok (.ifCond .eq 30, 3) := dk_153 0 30 (dk_at dksX6_job_0 16 rfl rfl)
theorem dX6_job_19 : decode cX6_job 19 = .ok (.iload_n 3, 1) := dk_29 (dk_at dksX6_job_0 19 rfl rfl)
theorem dX6_job_20 : decode cX6_job 20 = .ok (.i2l, 1) := dk_133 (dk_at dksX6_job_0 20 rfl rfl)
theorem dX6_job_21 : decode cX6_job 21 = .ok (.lconst 1, 1) := dk_10 (dk_at dksX6_job_0 21 rfl rfl)
theorem dX6_job_22 : decode cX6_job 22 = .ok (.ldc2_w 198, 3) := dk_20 0 198 (dk_at dksX6_job_1 0 rfl rfl)
theorem dX6_job_25 : decode cX6_job 25 = .ok (.invokestatic 79, 3) := dk_184 0 79 (dk_at dksX6_job_1 3 rfl rfl)
theorem dX6_job_28 : decode cX6_job 28 = .ok (.ifCond .eq 18, 3) := dk_153 0 18 (dk_at dksX6_job_1 6 rfl rfl)
theorem dX6_job_31 : decode cX6_job 31 = .ok (.iload 4, 2) := dk_21 4 (dk_at dksX6_job_1 9 rfl rfl)
theorem dX6_job_33 : decode cX6_job 33 = .ok (.iconst (-1), 1) := dk_2 (dk_at dksX6_job_1 11 rfl rfl)
theorem dX6_job_34 : decode cX6_job 34 = .ok (.if_icmp .eq 14, 3) := dk_159 0 14 (dk_at dksX6_job_1 12 rfl rfl)
theorem dX6_job_37 : decode cX6_job 37 = .ok (.aload_n 0, 1) := dk_42 (dk_at dksX6_job_1 15 rfl rfl)
theorem dX6_job_38 : decode cX6_job 38 = .ok (.iload 4, 2) := dk_21 4 (dk_at dksX6_job_1 16 rfl rfl)
theorem dX6_job_40 : decode cX6_job 40 = .ok (.invokevirtual 200, 3) := dk_182 0 200 (dk_at dksX6_job_1 18 rfl rfl)
theorem dX6_job_43 : decode cX6_job 43 = .ok (.ifCond .ne 5, 3) := dk_154 0 5 (dk_at dksX6_job_1 21 rfl rfl)
theorem dX6_job_46 : decode cX6_job 46 = .ok (.iconst (-1), 1) := dk_2 (dk_at dksX6_job_2 0 rfl rfl)
theorem dX6_job_47 : decode cX6_job 47 = .ok (.ireturn, 1) := dk_172 (dk_at dksX6_job_2 1 rfl rfl)
theorem dX6_job_48 : decode cX6_job 48 = .ok (.aload_n 0, 1) := dk_42 (dk_at dksX6_job_2 2 rfl rfl)
theorem dX6_job_49 : decode cX6_job 49 = .ok (.getfield 9, 3) := dk_180 0 9 (dk_at dksX6_job_2 3 rfl rfl)
theorem dX6_job_52 : decode cX6_job 52 = .ok (.iconst 1, 1) := dk_4 (dk_at dksX6_job_2 6 rfl rfl)
theorem dX6_job_53 : decode cX6_job 53 = .ok (.iaload, 1) := dk_46 (dk_at dksX6_job_2 7 rfl rfl)
theorem dX6_job_54 : decode cX6_job 54 = .ok (.bipush 80, 2) := dk_16 80 (dk_at dksX6_job_2 8 rfl rfl)
theorem dX6_job_56 : decode cX6_job 56 = .ok (.if_icmp .ne 6, 3) := dk_160 0 6 (dk_at dksX6_job_2 10 rfl rfl)
theorem dX6_job_59 : decode cX6_job 59 = .ok (.bipush (-3), 2) := dk_16 253 (dk_at dksX6_job_2 13 rfl rfl)
theorem dX6_job_61 : decode cX6_job 61 = .ok (.ireturn, 1) := dk_172 (dk_at dksX6_job_2 15 rfl rfl)
theorem dX6_job_62 : decode cX6_job 62 = .ok (.iload 4, 2) := dk_21 4 (dk_at dksX6_job_2 16 rfl rfl)
theorem dX6_job_64 : decode cX6_job 64 = .ok (.ifCond .lt 17, 3) := dk_155 0 17 (dk_at dksX6_job_2 18 rfl rfl)
theorem dX6_job_67 : decode cX6_job 67 = .ok (.aload_n 0, 1) := dk_42 (dk_at dksX6_job_2 21 rfl rfl)
theorem dX6_job_68 : decode cX6_job 68 = .ok (.iload 4, 2) := dk_21 4 (dk_at dksX6_job_2 22 rfl rfl)
theorem dX6_job_70 : decode cX6_job 70 = .ok (.iconst 5, 1) := dk_8 (dk_at dksX6_job_3 0 rfl rfl)
theorem dX6_job_71 : decode cX6_job 71 = .ok (.invokevirtual 83, 3) := dk_182 0 83 (dk_at dksX6_job_3 1 rfl rfl)
theorem dX6_job_74 : decode cX6_job 74 = .ok (.iconst 4, 1) := dk_7 (dk_at dksX6_job_3 4 rfl rfl)
theorem dX6_job_75 : decode cX6_job 75 = .ok (.if_icmp .ne 6, 3) := dk_160 0 6 (dk_at dksX6_job_3 5 rfl rfl)
theorem dX6_job_78 : decode cX6_job 78 = .ok (.bipush (-5), 2) := dk_16 251 (dk_at dksX6_job_3 8 rfl rfl)
theorem dX6_job_80 : decode cX6_job 80 = .ok (.ireturn, 1) := dk_172 (dk_at dksX6_job_3 10 rfl rfl)
theorem dX6_job_81 : decode cX6_job 81 = .ok (.aload_n 0, 1) := dk_42 (dk_at dksX6_job_3 11 rfl rfl)
theorem dX6_job_82 : decode cX6_job 82 = .ok (.invokevirtual 203, 3) := dk_182 0 203 (dk_at dksX6_job_3 12 rfl rfl)
theorem dX6_job_85 : decode cX6_job 85 = .ok (.istore 5, 2) := dk_54 5 (dk_at dksX6_job_3 15 rfl rfl)
theorem dX6_job_87 : decode cX6_job 87 = .ok (.iload 5, 2) := dk_21 5 (dk_at dksX6_job_3 17 rfl rfl)
theorem dX6_job_89 : decode cX6_job 89 = .ok (.ifCond .lt 11, 3) := dk_155 0 11 (dk_at dksX6_job_3 19 rfl rfl)
theorem dX6_job_92 : decode cX6_job 92 = .ok (.bipush (-100), 2) := dk_16 156 (dk_at dksX6_job_3 22 rfl rfl)
theorem dX6_job_94 : decode cX6_job 94 = .ok (.iload 5, 2) := dk_21 5 (dk_at dksX6_job_4 0 rfl rfl)
theorem dX6_job_96 : decode cX6_job 96 = .ok (.isub, 1) := dk_100 (dk_at dksX6_job_4 2 rfl rfl)
theorem dX6_job_97 : decode cX6_job 97 = .ok (.goto 12, 3) := dk_167 0 12 (dk_at dksX6_job_4 3 rfl rfl)
theorem dX6_job_100 : decode cX6_job 100 = .ok (.aload_n 0, 1) := dk_42 (dk_at dksX6_job_4 6 rfl rfl)
theorem dX6_job_101 : decode cX6_job 101 = .ok (.iload_n 1, 1) := dk_27 (dk_at dksX6_job_4 7 rfl rfl)
theorem dX6_job_102 : decode cX6_job 102 = .ok (.iload_n 2, 1) := dk_28 (dk_at dksX6_job_4 8 rfl rfl)
theorem dX6_job_103 : decode cX6_job 103 = .ok (.iload_n 3, 1) := dk_29 (dk_at dksX6_job_4 9 rfl rfl)
theorem dX6_job_104 : decode cX6_job 104 = .ok (.iload 4, 2) := dk_21 4 (dk_at dksX6_job_4 10 rfl rfl)
theorem dX6_job_106 : decode cX6_job 106 = .ok (.invokevirtual 207, 3) := dk_182 0 207 (dk_at dksX6_job_4 12 rfl rfl)
theorem dX6_job_109 : decode cX6_job 109 = .ok (.ireturn, 1) := dk_172 (dk_at dksX6_job_4 15 rfl rfl)
abbrev cX6_off : ByteArray := prog_33_method_44_code
def dkwX6_off_1 : List UInt8 := [167, 0, 8, 42, 27, 182, 0, 214, 172]
abbrev dktX6_off_1 : List UInt8 := dkwX6_off_1 ++ []
def dkwX6_off_0 : List UInt8 := [42, 27, 182, 0, 200, 154, 0, 5, 2, 172, 42, 27, 8, 182, 0, 83, 4, 164, 0, 8, 16, 251]
abbrev dktX6_off_0 : List UInt8 := dkwX6_off_0 ++ dktX6_off_1
theorem dksX6_off_0 : cX6_off.data.toList.drop 0 = dktX6_off_0 := by decide +kernel
theorem dksX6_off_1 : cX6_off.data.toList.drop 22 = dktX6_off_1 := dk_seg dksX6_off_0 22 rfl rfl
theorem dX6_off_0 : decode cX6_off 0 = .ok (.aload_n 0, 1) := dk_42 (dk_at dksX6_off_0 0 rfl rfl)
theorem dX6_off_1 : decode cX6_off 1 = .ok (.iload_n 1, 1) := dk_27 (dk_at dksX6_off_0 1 rfl rfl)
theorem dX6_off_2 : decode cX6_off 2 = .ok (.invokevirtual 200, 3) := dk_182 0 200 (dk_at dksX6_off_0 2 rfl rfl)
theorem dX6_off_5 : decode cX6_off 5 = .ok (.ifCond .ne 5, 3) := dk_154 0 5 (dk_at dksX6_off_0 5 rfl rfl)
theorem dX6_off_8 : decode cX6_off 8 = .ok (.iconst (-1), 1) := dk_2 (dk_at dksX6_off_0 8 rfl rfl)
theorem dX6_off_9 : decode cX6_off 9 = .ok (.ireturn, 1) := dk_172 (dk_at dksX6_off_0 9 rfl rfl)
theorem dX6_off_10 : decode cX6_off 10 = .ok (.aload_n 0, 1) := dk_42 (dk_at dksX6_off_0 10 rfl rfl)
theorem dX6_off_11 : decode cX6_off 11 = .ok (.iload_n 1, 1) := dk_27 (dk_at dksX6_off_0 11 rfl rfl)
theorem dX6_off_12 : decode cX6_off 12 = .ok (.iconst 5, 1) := dk_8 (dk_at dksX6_off_0 12 rfl rfl)
theorem dX6_off_13 : decode cX6_off 13 = .ok (.invokevirtual 83, 3) := dk_182 0 83 (dk_at dksX6_off_0 13 rfl rfl)
theorem dX6_off_16 : decode cX6_off 16 = .ok (.iconst 1, 1) := dk_4 (dk_at dksX6_off_0 16 rfl rfl)
theorem dX6_off_17 : decode cX6_off 17 = .ok (.if_icmp .le 8, 3) := dk_164 0 8 (dk_at dksX6_off_0 17 rfl rfl)
theorem dX6_off_20 : decode cX6_off 20 = .ok (.bipush (-5), 2) := dk_16 251 (dk_at dksX6_off_0 20 rfl rfl)
theorem dX6_off_22 : decode cX6_off 22 = .ok (.goto 8, 3) := dk_167 0 8 (dk_at dksX6_off_1 0 rfl rfl)
theorem dX6_off_25 : decode cX6_off 25 = .ok (.aload_n 0, 1) := dk_42 (dk_at dksX6_off_1 3 rfl rfl)
theorem dX6_off_26 : decode cX6_off 26 = .ok (.iload_n 1, 1) := dk_27 (dk_at dksX6_off_1 4 rfl rfl)
theorem dX6_off_27 : decode cX6_off 27 = .ok (.invokevirtual 214, 3) := dk_182 0 214 (dk_at dksX6_off_1 5 rfl rfl)
theorem dX6_off_30 : decode cX6_off 30 = .ok (.ireturn, 1) := dk_172 (dk_at dksX6_off_1 8 rfl rfl)
abbrev cX6_of : ByteArray := prog_33_method_46_code
def dkwX6_of_6 : List UInt8 := [2, 172]
abbrev dktX6_of_6 : List UInt8 := dkwX6_of_6 ++ []
def dkwX6_of_5 : List UInt8 := [182, 0, 83, 184, 0, 217, 172, 42, 27, 16, 9, 182, 0, 83, 184, 0, 217, 172, 42, 27, 182, 0, 220, 172]
abbrev dktX6_of_5 : List UInt8 := dkwX6_of_5 ++ dktX6_of_6
def dkwX6_of_4 : List UInt8 := [182, 0, 83, 184, 0, 217, 172, 42, 27, 16, 7, 182, 0, 83, 184, 0, 217, 172, 42, 27, 16, 8]
abbrev dktX6_of_4 : List UInt8 := dkwX6_of_4 ++ dktX6_of_5
def dkwX6_of_3 : List UInt8 := [182, 0, 83, 172, 42, 27, 6, 182, 0, 83, 172, 42, 27, 7, 182, 0, 83, 172, 42, 27, 16, 6]
abbrev dktX6_of_3 : List UInt8 := dkwX6_of_3 ++ dktX6_of_4
def dkwX6_of_2 : List UInt8 := [42, 27, 8, 182, 0, 83, 172, 42, 27, 3, 182, 0, 83, 172, 42, 27, 4, 182, 0, 83, 172, 42, 27, 5]
abbrev dktX6_of_2 : List UInt8 := dkwX6_of_2 ++ dktX6_of_3
def dkwX6_of_1 : List UInt8 := [170, 0, 0, 0, 149, 0, 0, 0, 0, 0, 0, 0, 10, 0, 0, 0, 57, 0, 0, 0, 64, 0, 0, 0, 71, 0, 0, 0, 78, 0, 0, 0, 85, 0, 0, 0, 92, 0, 0, 0, 99, 0, 0, 0, 110, 0, 0, 0, 121, 0, 0, 0, 132, 0, 0, 0, 143]
abbrev dktX6_of_1 : List UInt8 := dkwX6_of_1 ++ dktX6_of_2
def dkwX6_of_0 : List UInt8 := [42, 27, 182, 0, 200, 154, 0, 5, 2, 172, 28]
abbrev dktX6_of_0 : List UInt8 := dkwX6_of_0 ++ dktX6_of_1
theorem dksX6_of_0 : cX6_of.data.toList.drop 0 = dktX6_of_0 := by decide +kernel
theorem dksX6_of_1 : cX6_of.data.toList.drop 11 = dktX6_of_1 := dk_seg dksX6_of_0 11 rfl rfl
theorem dksX6_of_2 : cX6_of.data.toList.drop 68 = dktX6_of_2 := dk_seg dksX6_of_1 57 rfl rfl
theorem dksX6_of_3 : cX6_of.data.toList.drop 92 = dktX6_of_3 := dk_seg dksX6_of_2 24 rfl rfl
theorem dksX6_of_4 : cX6_of.data.toList.drop 114 = dktX6_of_4 := dk_seg dksX6_of_3 22 rfl rfl
theorem dksX6_of_5 : cX6_of.data.toList.drop 136 = dktX6_of_5 := dk_seg dksX6_of_4 22 rfl rfl
theorem dksX6_of_6 : cX6_of.data.toList.drop 160 = dktX6_of_6 := dk_seg dksX6_of_5 24 rfl rfl
theorem dX6_of_0 : decode cX6_of 0 = .ok (.aload_n 0, 1) := dk_42 (dk_at dksX6_of_0 0 rfl rfl)
theorem dX6_of_1 : decode cX6_of 1 = .ok (.iload_n 1, 1) := dk_27 (dk_at dksX6_of_0 1 rfl rfl)
theorem dX6_of_2 : decode cX6_of 2 = .ok (.invokevirtual 200, 3) := dk_182 0 200 (dk_at dksX6_of_0 2 rfl rfl)
theorem dX6_of_5 : decode cX6_of 5 = .ok (.ifCond .ne 5, 3) := dk_154 0 5 (dk_at dksX6_of_0 5 rfl rfl)
theorem dX6_of_8 : decode cX6_of 8 = .ok (.iconst (-1), 1) := dk_2 (dk_at dksX6_of_0 8 rfl rfl)
theorem dX6_of_9 : decode cX6_of 9 = .ok (.ireturn, 1) := dk_172 (dk_at dksX6_of_0 9 rfl rfl)
theorem dX6_of_10 : decode cX6_of 10 = .ok (.iload_n 2, 1) := dk_28 (dk_at dksX6_of_0 10 rfl rfl)
theorem dX6_of_11 : decode cX6_of 11 = .ok (.tableswitch 149 0 10 #[57, 64, 71, 78, 85, 92, 99, 110, 121, 132, 143], 57) := by decide +kernel
theorem dX6_of_68 : decode cX6_of 68 = .ok (.aload_n 0, 1) := dk_42 (dk_at dksX6_of_2 0 rfl rfl)
theorem dX6_of_69 : decode cX6_of 69 = .ok (.iload_n 1, 1) := dk_27 (dk_at dksX6_of_2 1 rfl rfl)
theorem dX6_of_70 : decode cX6_of 70 = .ok (.iconst 5, 1) := dk_8 (dk_at dksX6_of_2 2 rfl rfl)
theorem dX6_of_71 : decode cX6_of 71 = .ok (.invokevirtual 83, 3) := dk_182 0 83 (dk_at dksX6_of_2 3 rfl rfl)
theorem dX6_of_74 : decode cX6_of 74 = .ok (.ireturn, 1) := dk_172 (dk_at dksX6_of_2 6 rfl rfl)
theorem dX6_of_75 : decode cX6_of 75 = .ok (.aload_n 0, 1) := dk_42 (dk_at dksX6_of_2 7 rfl rfl)
theorem dX6_of_76 : decode cX6_of 76 = .ok (.iload_n 1, 1) := dk_27 (dk_at dksX6_of_2 8 rfl rfl)
theorem dX6_of_77 : decode cX6_of 77 = .ok (.iconst 0, 1) := dk_3 (dk_at dksX6_of_2 9 rfl rfl)
theorem dX6_of_78 : decode cX6_of 78 = .ok (.invokevirtual 83, 3) := dk_182 0 83 (dk_at dksX6_of_2 10 rfl rfl)
theorem dX6_of_81 : decode cX6_of 81 = .ok (.ireturn, 1) := dk_172 (dk_at dksX6_of_2 13 rfl rfl)
theorem dX6_of_82 : decode cX6_of 82 = .ok (.aload_n 0, 1) := dk_42 (dk_at dksX6_of_2 14 rfl rfl)
theorem dX6_of_83 : decode cX6_of 83 = .ok (.iload_n 1, 1) := dk_27 (dk_at dksX6_of_2 15 rfl rfl)
theorem dX6_of_84 : decode cX6_of 84 = .ok (.iconst 1, 1) := dk_4 (dk_at dksX6_of_2 16 rfl rfl)
theorem dX6_of_85 : decode cX6_of 85 = .ok (.invokevirtual 83, 3) := dk_182 0 83 (dk_at dksX6_of_2 17 rfl rfl)
theorem dX6_of_88 : decode cX6_of 88 = .ok (.ireturn, 1) := dk_172 (dk_at dksX6_of_2 20 rfl rfl)
theorem dX6_of_89 : decode cX6_of 89 = .ok (.aload_n 0, 1) := dk_42 (dk_at dksX6_of_2 21 rfl rfl)
theorem dX6_of_90 : decode cX6_of 90 = .ok (.iload_n 1, 1) := dk_27 (dk_at dksX6_of_2 22 rfl rfl)
theorem dX6_of_91 : decode cX6_of 91 = .ok (.iconst 2, 1) := dk_5 (dk_at dksX6_of_2 23 rfl rfl)
theorem dX6_of_92 : decode cX6_of 92 = .ok (.invokevirtual 83, 3) := dk_182 0 83 (dk_at dksX6_of_3 0 rfl rfl)
theorem dX6_of_95 : decode cX6_of 95 = .ok (.ireturn, 1) := dk_172 (dk_at dksX6_of_3 3 rfl rfl)
theorem dX6_of_96 : decode cX6_of 96 = .ok (.aload_n 0, 1) := dk_42 (dk_at dksX6_of_3 4 rfl rfl)
theorem dX6_of_97 : decode cX6_of 97 = .ok (.iload_n 1, 1) := dk_27 (dk_at dksX6_of_3 5 rfl rfl)
theorem dX6_of_98 : decode cX6_of 98 = .ok (.iconst 3, 1) := dk_6 (dk_at dksX6_of_3 6 rfl rfl)
theorem dX6_of_99 : decode cX6_of 99 = .ok (.invokevirtual 83, 3) := dk_182 0 83 (dk_at dksX6_of_3 7 rfl rfl)
theorem dX6_of_102 : decode cX6_of 102 = .ok (.ireturn, 1) := dk_172 (dk_at dksX6_of_3 10 rfl rfl)
theorem dX6_of_103 : decode cX6_of 103 = .ok (.aload_n 0, 1) := dk_42 (dk_at dksX6_of_3 11 rfl rfl)
theorem dX6_of_104 : decode cX6_of 104 = .ok (.iload_n 1, 1) := dk_27 (dk_at dksX6_of_3 12 rfl rfl)
theorem dX6_of_105 : decode cX6_of 105 = .ok (.iconst 4, 1) := dk_7 (dk_at dksX6_of_3 13 rfl rfl)
theorem dX6_of_106 : decode cX6_of 106 = .ok (.invokevirtual 83, 3) := dk_182 0 83 (dk_at dksX6_of_3 14 rfl rfl)
theorem dX6_of_109 : decode cX6_of 109 = .ok (.ireturn, 1) := dk_172 (dk_at dksX6_of_3 17 rfl rfl)
theorem dX6_of_110 : decode cX6_of 110 = .ok (.aload_n 0, 1) := dk_42 (dk_at dksX6_of_3 18 rfl rfl)
theorem dX6_of_111 : decode cX6_of 111 = .ok (.iload_n 1, 1) := dk_27 (dk_at dksX6_of_3 19 rfl rfl)
theorem dX6_of_112 : decode cX6_of 112 = .ok (.bipush 6, 2) := dk_16 6 (dk_at dksX6_of_3 20 rfl rfl)
theorem dX6_of_114 : decode cX6_of 114 = .ok (.invokevirtual 83, 3) := dk_182 0 83 (dk_at dksX6_of_4 0 rfl rfl)
theorem dX6_of_117 : decode cX6_of 117 = .ok (.invokestatic 217, 3) := dk_184 0 217 (dk_at dksX6_of_4 3 rfl rfl)
theorem dX6_of_120 : decode cX6_of 120 = .ok (.ireturn, 1) := dk_172 (dk_at dksX6_of_4 6 rfl rfl)
theorem dX6_of_121 : decode cX6_of 121 = .ok (.aload_n 0, 1) := dk_42 (dk_at dksX6_of_4 7 rfl rfl)
theorem dX6_of_122 : decode cX6_of 122 = .ok (.iload_n 1, 1) := dk_27 (dk_at dksX6_of_4 8 rfl rfl)
theorem dX6_of_123 : decode cX6_of 123 = .ok (.bipush 7, 2) := dk_16 7 (dk_at dksX6_of_4 9 rfl rfl)
theorem dX6_of_125 : decode cX6_of 125 = .ok (.invokevirtual 83, 3) := dk_182 0 83 (dk_at dksX6_of_4 11 rfl rfl)
theorem dX6_of_128 : decode cX6_of 128 = .ok (.invokestatic 217, 3) := dk_184 0 217 (dk_at dksX6_of_4 14 rfl rfl)
theorem dX6_of_131 : decode cX6_of 131 = .ok (.ireturn, 1) := dk_172 (dk_at dksX6_of_4 17 rfl rfl)
theorem dX6_of_132 : decode cX6_of 132 = .ok (.aload_n 0, 1) := dk_42 (dk_at dksX6_of_4 18 rfl rfl)
theorem dX6_of_133 : decode cX6_of 133 = .ok (.iload_n 1, 1) := dk_27 (dk_at dksX6_of_4 19 rfl rfl)
theorem dX6_of_134 : decode cX6_of 134 = .ok (.bipush 8, 2) := dk_16 8 (dk_at dksX6_of_4 20 rfl rfl)
theorem dX6_of_136 : decode cX6_of 136 = .ok (.invokevirtual 83, 3) := dk_182 0 83 (dk_at dksX6_of_5 0 rfl rfl)
theorem dX6_of_139 : decode cX6_of 139 = .ok (.invokestatic 217, 3) := dk_184 0 217 (dk_at dksX6_of_5 3 rfl rfl)
theorem dX6_of_142 : decode cX6_of 142 = .ok (.ireturn, 1) := dk_172 (dk_at dksX6_of_5 6 rfl rfl)
theorem dX6_of_143 : decode cX6_of 143 = .ok (.aload_n 0, 1) := dk_42 (dk_at dksX6_of_5 7 rfl rfl)
theorem dX6_of_144 : decode cX6_of 144 = .ok (.iload_n 1, 1) := dk_27 (dk_at dksX6_of_5 8 rfl rfl)
theorem dX6_of_145 : decode cX6_of 145 = .ok (.bipush 9, 2) := dk_16 9 (dk_at dksX6_of_5 9 rfl rfl)
theorem dX6_of_147 : decode cX6_of 147 = .ok (.invokevirtual 83, 3) := dk_182 0 83 (dk_at dksX6_of_5 11 rfl rfl)
theorem dX6_of_150 : decode cX6_of 150 = .ok (.invokestatic 217, 3) := dk_184 0 217 (dk_at dksX6_of_5 14 rfl rfl)
theorem dX6_of_153 : decode cX6_of 153 = .ok (.ireturn, 1) := dk_172 (dk_at dksX6_of_5 17 rfl rfl)
theorem dX6_of_154 : decode cX6_of 154 = .ok (.aload_n 0, 1) := dk_42 (dk_at dksX6_of_5 18 rfl rfl)
theorem dX6_of_155 : decode cX6_of 155 = .ok (.iload_n 1, 1) := dk_27 (dk_at dksX6_of_5 19 rfl rfl)
theorem dX6_of_156 : decode cX6_of 156 = .ok (.invokevirtual 220, 3) := dk_182 0 220 (dk_at dksX6_of_5 20 rfl rfl)
theorem dX6_of_159 : decode cX6_of 159 = .ok (.ireturn, 1) := dk_172 (dk_at dksX6_of_5 23 rfl rfl)
theorem dX6_of_160 : decode cX6_of 160 = .ok (.iconst (-1), 1) := dk_2 (dk_at dksX6_of_6 0 rfl rfl)
theorem dX6_of_161 : decode cX6_of 161 = .ok (.ireturn, 1) := dk_172 (dk_at dksX6_of_6 1 rfl rfl)
abbrev cX6_arm : ByteArray := prog_33_method_47_code
def dkwX6_arm_5 : List UInt8 := [182, 0, 83, 184, 0, 217, 172, 2, 172]
abbrev dktX6_arm_5 : List UInt8 := dkwX6_arm_5 ++ []
def dkwX6_arm_4 : List UInt8 := [182, 0, 223, 172, 42, 27, 16, 20, 28, 96, 182, 0, 83, 184, 0, 217, 172, 42, 27, 16, 24, 28, 96]
abbrev dktX6_arm_4 : List UInt8 := dkwX6_arm_4 ++ dktX6_arm_5
def dkwX6_arm_3 : List UInt8 := [42, 27, 16, 12, 28, 96, 182, 0, 83, 172, 42, 27, 16, 16, 28, 96, 182, 0, 83, 172, 42, 27, 28]
abbrev dktX6_arm_3 : List UInt8 := dkwX6_arm_3 ++ dktX6_arm_4
def dkwX6_arm_2 : List UInt8 := [170, 0, 0, 0, 0, 0, 88, 0, 0, 0, 0, 0, 0, 0, 4, 0, 0, 0, 35, 0, 0, 0, 45, 0, 0, 0, 55, 0, 0, 0, 62, 0, 0, 0, 75]
abbrev dktX6_arm_2 : List UInt8 := dkwX6_arm_2 ++ dktX6_arm_3
def dkwX6_arm_1 : List UInt8 := [154, 0, 5, 2, 172, 29]
abbrev dktX6_arm_1 : List UInt8 := dkwX6_arm_1 ++ dktX6_arm_2
def dkwX6_arm_0 : List UInt8 := [42, 27, 182, 0, 200, 153, 0, 21, 28, 133, 9, 42, 27, 7, 182, 0, 83, 4, 100, 133, 184, 0, 79]
abbrev dktX6_arm_0 : List UInt8 := dkwX6_arm_0 ++ dktX6_arm_1
theorem dksX6_arm_0 : cX6_arm.data.toList.drop 0 = dktX6_arm_0 := by decide +kernel
theorem dksX6_arm_1 : cX6_arm.data.toList.drop 23 = dktX6_arm_1 := dk_seg dksX6_arm_0 23 rfl rfl
theorem dksX6_arm_2 : cX6_arm.data.toList.drop 29 = dktX6_arm_2 := dk_seg dksX6_arm_1 6 rfl rfl
theorem dksX6_arm_3 : cX6_arm.data.toList.drop 64 = dktX6_arm_3 := dk_seg dksX6_arm_2 35 rfl rfl
theorem dksX6_arm_4 : cX6_arm.data.toList.drop 87 = dktX6_arm_4 := dk_seg dksX6_arm_3 23 rfl rfl
theorem dksX6_arm_5 : cX6_arm.data.toList.drop 110 = dktX6_arm_5 := dk_seg dksX6_arm_4 23 rfl rfl
theorem dX6_arm_0 : decode cX6_arm 0 = .ok (.aload_n 0, 1) := dk_42 (dk_at dksX6_arm_0 0 rfl rfl)
theorem dX6_arm_1 : decode cX6_arm 1 = .ok (.iload_n 1, 1) := dk_27 (dk_at dksX6_arm_0 1 rfl rfl)
theorem dX6_arm_2 : decode cX6_arm 2 = .ok (.invokevirtual 200, 3) := dk_182 0 200 (dk_at dksX6_arm_0 2 rfl rfl)
theorem dX6_arm_5 : decode cX6_arm 5 = .ok (.ifCond .eq 21, 3) := dk_153 0 21 (dk_at dksX6_arm_0 5 rfl rfl)
theorem dX6_arm_8 : decode cX6_arm 8 = .ok (.iload_n 2, 1) := dk_28 (dk_at dksX6_arm_0 8 rfl rfl)
theorem dX6_arm_9 : decode cX6_arm 9 = .ok (.i2l, 1) := dk_133 (dk_at dksX6_arm_0 9 rfl rfl)
theorem dX6_arm_10 : decode cX6_arm 10 = .ok (.lconst 0, 1) := dk_9 (dk_at dksX6_arm_0 10 rfl rfl)
theorem dX6_arm_11 : decode cX6_arm 11 = .ok (.aload_n 0, 1) := dk_42 (dk_at dksX6_arm_0 11 rfl rfl)
theorem dX6_arm_12 : decode cX6_arm 12 = .ok (.iload_n 1, 1) := dk_27 (dk_at dksX6_arm_0 12 rfl rfl)
theorem dX6_arm_13 : decode cX6_arm 13 = .ok (.iconst 4, 1) := dk_7 (dk_at dksX6_arm_0 13 rfl rfl)
theorem dX6_arm_14 : decode cX6_arm 14 = .ok (.invokevirtual 83, 3) := dk_182 0 83 (dk_at dksX6_arm_0 14 rfl rfl)
theorem dX6_arm_17 : decode cX6_arm 17 = .ok (.iconst 1, 1) := dk_4 (dk_at dksX6_arm_0 17 rfl rfl)
theorem dX6_arm_18 : decode cX6_arm 18 = .ok (.isub, 1) := dk_100 (dk_at dksX6_arm_0 18 rfl rfl)
theorem dX6_arm_19 : decode cX6_arm 19 = .ok (.i2l, 1) := dk_133 (dk_at dksX6_arm_0 19 rfl rfl)
theorem dX6_arm_20 : decode cX6_arm 20 = .ok (.invokestatic 79, 3) := dk_184 0 79 (dk_at dksX6_arm_0 20 rfl rfl)
theorem dX6_arm_23 : decode cX6_arm 23 = .ok (.ifCond .ne 5, 3) := dk_154 0 5 (dk_at dksX6_arm_1 0 rfl rfl)
theorem dX6_arm_26 : decode cX6_arm 26 = .ok (.iconst (-1), 1) := dk_2 (dk_at dksX6_arm_1 3 rfl rfl)
theorem dX6_arm_27 : decode cX6_arm 27 = .ok (.ireturn, 1) := dk_172 (dk_at dksX6_arm_1 4 rfl rfl)
theorem dX6_arm_28 : decode cX6_arm 28 = .ok (.iload_n 3, 1) := dk_29 (dk_at dksX6_arm_1 5 rfl rfl)
theorem dX6_arm_29 : decode cX6_arm 29 = .ok (.tableswitch 88 0 4 #[35, 45, 55, 62, 75], 35) := by decide +kernel
theorem dX6_arm_64 : decode cX6_arm 64 = .ok (.aload_n 0, 1) := dk_42 (dk_at dksX6_arm_3 0 rfl rfl)
theorem dX6_arm_65 : decode cX6_arm 65 = .ok (.iload_n 1, 1) := dk_27 (dk_at dksX6_arm_3 1 rfl rfl)
theorem dX6_arm_66 : decode cX6_arm 66 = .ok (.bipush 12, 2) := dk_16 12 (dk_at dksX6_arm_3 2 rfl rfl)
theorem dX6_arm_68 : decode cX6_arm 68 = .ok (.iload_n 2, 1) := dk_28 (dk_at dksX6_arm_3 4 rfl rfl)
theorem dX6_arm_69 : decode cX6_arm 69 = .ok (.iadd, 1) := dk_96 (dk_at dksX6_arm_3 5 rfl rfl)
theorem dX6_arm_70 : decode cX6_arm 70 = .ok (.invokevirtual 83, 3) := dk_182 0 83 (dk_at dksX6_arm_3 6 rfl rfl)
theorem dX6_arm_73 : decode cX6_arm 73 = .ok (.ireturn, 1) := dk_172 (dk_at dksX6_arm_3 9 rfl rfl)
theorem dX6_arm_74 : decode cX6_arm 74 = .ok (.aload_n 0, 1) := dk_42 (dk_at dksX6_arm_3 10 rfl rfl)
theorem dX6_arm_75 : decode cX6_arm 75 = .ok (.iload_n 1, 1) := dk_27 (dk_at dksX6_arm_3 11 rfl rfl)
theorem dX6_arm_76 : decode cX6_arm 76 = .ok (.bipush 16, 2) := dk_16 16 (dk_at dksX6_arm_3 12 rfl rfl)
theorem dX6_arm_78 : decode cX6_arm 78 = .ok (.iload_n 2, 1) := dk_28 (dk_at dksX6_arm_3 14 rfl rfl)
theorem dX6_arm_79 : decode cX6_arm 79 = .ok (.iadd, 1) := dk_96 (dk_at dksX6_arm_3 15 rfl rfl)
theorem dX6_arm_80 : decode cX6_arm 80 = .ok (.invokevirtual 83, 3) := dk_182 0 83 (dk_at dksX6_arm_3 16 rfl rfl)
theorem dX6_arm_83 : decode cX6_arm 83 = .ok (.ireturn, 1) := dk_172 (dk_at dksX6_arm_3 19 rfl rfl)
theorem dX6_arm_84 : decode cX6_arm 84 = .ok (.aload_n 0, 1) := dk_42 (dk_at dksX6_arm_3 20 rfl rfl)
theorem dX6_arm_85 : decode cX6_arm 85 = .ok (.iload_n 1, 1) := dk_27 (dk_at dksX6_arm_3 21 rfl rfl)
theorem dX6_arm_86 : decode cX6_arm 86 = .ok (.iload_n 2, 1) := dk_28 (dk_at dksX6_arm_3 22 rfl rfl)
theorem dX6_arm_87 : decode cX6_arm 87 = .ok (.invokevirtual 223, 3) := dk_182 0 223 (dk_at dksX6_arm_4 0 rfl rfl)
theorem dX6_arm_90 : decode cX6_arm 90 = .ok (.ireturn, 1) := dk_172 (dk_at dksX6_arm_4 3 rfl rfl)
theorem dX6_arm_91 : decode cX6_arm 91 = .ok (.aload_n 0, 1) := dk_42 (dk_at dksX6_arm_4 4 rfl rfl)
theorem dX6_arm_92 : decode cX6_arm 92 = .ok (.iload_n 1, 1) := dk_27 (dk_at dksX6_arm_4 5 rfl rfl)
theorem dX6_arm_93 : decode cX6_arm 93 = .ok (.bipush 20, 2) := dk_16 20 (dk_at dksX6_arm_4 6 rfl rfl)
theorem dX6_arm_95 : decode cX6_arm 95 = .ok (.iload_n 2, 1) := dk_28 (dk_at dksX6_arm_4 8 rfl rfl)
theorem dX6_arm_96 : decode cX6_arm 96 = .ok (.iadd, 1) := dk_96 (dk_at dksX6_arm_4 9 rfl rfl)
theorem dX6_arm_97 : decode cX6_arm 97 = .ok (.invokevirtual 83, 3) := dk_182 0 83 (dk_at dksX6_arm_4 10 rfl rfl)
theorem dX6_arm_100 : decode cX6_arm 100 = .ok (.invokestatic 217, 3) := dk_184 0 217 (dk_at dksX6_arm_4 13 rfl rfl)
theorem dX6_arm_103 : decode cX6_arm 103 = .ok (.ireturn, 1) := dk_172 (dk_at dksX6_arm_4 16 rfl rfl)
theorem dX6_arm_104 : decode cX6_arm 104 = .ok (.aload_n 0, 1) := dk_42 (dk_at dksX6_arm_4 17 rfl rfl)
theorem dX6_arm_105 : decode cX6_arm 105 = .ok (.iload_n 1, 1) := dk_27 (dk_at dksX6_arm_4 18 rfl rfl)
theorem dX6_arm_106 : decode cX6_arm 106 = .ok (.bipush 24, 2) := dk_16 24 (dk_at dksX6_arm_4 19 rfl rfl)
theorem dX6_arm_108 : decode cX6_arm 108 = .ok (.iload_n 2, 1) := dk_28 (dk_at dksX6_arm_4 21 rfl rfl)
theorem dX6_arm_109 : decode cX6_arm 109 = .ok (.iadd, 1) := dk_96 (dk_at dksX6_arm_4 22 rfl rfl)
theorem dX6_arm_110 : decode cX6_arm 110 = .ok (.invokevirtual 83, 3) := dk_182 0 83 (dk_at dksX6_arm_5 0 rfl rfl)
theorem dX6_arm_113 : decode cX6_arm 113 = .ok (.invokestatic 217, 3) := dk_184 0 217 (dk_at dksX6_arm_5 3 rfl rfl)
theorem dX6_arm_116 : decode cX6_arm 116 = .ok (.ireturn, 1) := dk_172 (dk_at dksX6_arm_5 6 rfl rfl)
theorem dX6_arm_117 : decode cX6_arm 117 = .ok (.iconst (-1), 1) := dk_2 (dk_at dksX6_arm_5 7 rfl rfl)
theorem dX6_arm_118 : decode cX6_arm 118 = .ok (.ireturn, 1) := dk_172 (dk_at dksX6_arm_5 8 rfl rfl)
abbrev cX6_line : ByteArray := prog_33_method_51_code
def dkwX6_line_1 : List UInt8 := [162, 0, 12, 42, 180, 0, 61, 27, 46, 167, 0, 5, 16, 254, 172]
abbrev dktX6_line_1 : List UInt8 := dkwX6_line_1 ++ []
def dkwX6_line_0 : List UInt8 := [27, 2, 162, 0, 5, 2, 172, 42, 182, 0, 232, 61, 27, 156, 0, 7, 28, 167, 0, 19, 27, 28]
abbrev dktX6_line_0 : List UInt8 := dkwX6_line_0 ++ dktX6_line_1
theorem dksX6_line_0 : cX6_line.data.toList.drop 0 = dktX6_line_0 := by decide +kernel
theorem dksX6_line_1 : cX6_line.data.toList.drop 22 = dktX6_line_1 := dk_seg dksX6_line_0 22 rfl rfl
theorem dX6_line_0 : decode cX6_line 0 = .ok (.iload_n 1, 1) := dk_27 (dk_at dksX6_line_0 0 rfl rfl)
theorem dX6_line_1 : decode cX6_line 1 = .ok (.iconst (-1), 1) := dk_2 (dk_at dksX6_line_0 1 rfl rfl)
theorem dX6_line_2 : decode cX6_line 2 = .ok (.if_icmp .ge 5, 3) := dk_162 0 5 (dk_at dksX6_line_0 2 rfl rfl)
theorem dX6_line_5 : decode cX6_line 5 = .ok (.iconst (-1), 1) := dk_2 (dk_at dksX6_line_0 5 rfl rfl)
theorem dX6_line_6 : decode cX6_line 6 = .ok (.ireturn, 1) := dk_172 (dk_at dksX6_line_0 6 rfl rfl)
theorem dX6_line_7 : decode cX6_line 7 = .ok (.aload_n 0, 1) := dk_42 (dk_at dksX6_line_0 7 rfl rfl)
theorem dX6_line_8 : decode cX6_line 8 = .ok (.invokevirtual 232, 3) := dk_182 0 232 (dk_at dksX6_line_0 8 rfl rfl)
theorem dX6_line_11 : decode cX6_line 11 = .ok (.istore_n 2, 1) := dk_61 (dk_at dksX6_line_0 11 rfl rfl)
theorem dX6_line_12 : decode cX6_line 12 = .ok (.iload_n 1, 1) := dk_27 (dk_at dksX6_line_0 12 rfl rfl)
theorem dX6_line_13 : decode cX6_line 13 = .ok (.ifCond .ge 7, 3) := dk_156 0 7 (dk_at dksX6_line_0 13 rfl rfl)
theorem dX6_line_16 : decode cX6_line 16 = .ok (.iload_n 2, 1) := dk_28 (dk_at dksX6_line_0 16 rfl rfl)
theorem dX6_line_17 : decode cX6_line 17 = .ok (.goto 19, 3) := dk_167 0 19 (dk_at dksX6_line_0 17 rfl rfl)
theorem dX6_line_20 : decode cX6_line 20 = .ok (.iload_n 1, 1) := dk_27 (dk_at dksX6_line_0 20 rfl rfl)
theorem dX6_line_21 : decode cX6_line 21 = .ok (.iload_n 2, 1) := dk_28 (dk_at dksX6_line_0 21 rfl rfl)
theorem dX6_line_22 : decode cX6_line 22 = .ok (.if_icmp .ge 12, 3) := dk_162 0 12 (dk_at dksX6_line_1 0 rfl rfl)
theorem dX6_line_25 : decode cX6_line 25 = .ok (.aload_n 0, 1) := dk_42 (dk_at dksX6_line_1 3 rfl rfl)
theorem dX6_line_26 : decode cX6_line 26 = .ok (.getfield 61, 3) := dk_180 0 61 (dk_at dksX6_line_1 4 rfl rfl)
theorem dX6_line_29 : decode cX6_line 29 = .ok (.iload_n 1, 1) := dk_27 (dk_at dksX6_line_1 7 rfl rfl)
theorem dX6_line_30 : decode cX6_line 30 = .ok (.iaload, 1) := dk_46 (dk_at dksX6_line_1 8 rfl rfl)
theorem dX6_line_31 : decode cX6_line 31 = .ok (.goto 5, 3) := dk_167 0 5 (dk_at dksX6_line_1 9 rfl rfl)
theorem dX6_line_34 : decode cX6_line 34 = .ok (.bipush (-2), 2) := dk_16 254 (dk_at dksX6_line_1 12 rfl rfl)
theorem dX6_line_36 : decode cX6_line 36 = .ok (.ireturn, 1) := dk_172 (dk_at dksX6_line_1 14 rfl rfl)
abbrev cX6_rank : ByteArray := prog_33_method_52_code
def dkwX6_rank_2 : List UInt8 := [172]
abbrev dktX6_rank_2 : List UInt8 := dkwX6_rank_2 ++ []
def dkwX6_rank_1 : List UInt8 := [182, 0, 211, 154, 0, 6, 16, 251, 172, 42, 27, 4, 182, 0, 83, 62, 42, 27, 4, 28, 182, 0, 188, 29]
abbrev dktX6_rank_1 : List UInt8 := dkwX6_rank_1 ++ dktX6_rank_2
def dkwX6_rank_0 : List UInt8 := [42, 27, 182, 0, 200, 153, 0, 15, 28, 133, 9, 20, 0, 196, 184, 0, 79, 154, 0, 5, 2, 172, 42, 27]
abbrev dktX6_rank_0 : List UInt8 := dkwX6_rank_0 ++ dktX6_rank_1
theorem dksX6_rank_0 : cX6_rank.data.toList.drop 0 = dktX6_rank_0 := by decide +kernel
theorem dksX6_rank_1 : cX6_rank.data.toList.drop 24 = dktX6_rank_1 := dk_seg dksX6_rank_0 24 rfl rfl
theorem dksX6_rank_2 : cX6_rank.data.toList.drop 48 = dktX6_rank_2 := dk_seg dksX6_rank_1 24 rfl rfl
theorem dX6_rank_0 : decode cX6_rank 0 = .ok (.aload_n 0, 1) := dk_42 (dk_at dksX6_rank_0 0 rfl rfl)
theorem dX6_rank_1 : decode cX6_rank 1 = .ok (.iload_n 1, 1) := dk_27 (dk_at dksX6_rank_0 1 rfl rfl)
theorem dX6_rank_2 : decode cX6_rank 2 = .ok (.invokevirtual 200, 3) := dk_182 0 200 (dk_at dksX6_rank_0 2 rfl rfl)
theorem dX6_rank_5 : decode cX6_rank 5 = .ok (.ifCond .eq 15, 3) := dk_153 0 15 (dk_at dksX6_rank_0 5 rfl rfl)
theorem dX6_rank_8 : decode cX6_rank 8 = .ok (.iload_n 2, 1) := dk_28 (dk_at dksX6_rank_0 8 rfl rfl)
theorem dX6_rank_9 : decode cX6_rank 9 = .ok (.i2l, 1) := dk_133 (dk_at dksX6_rank_0 9 rfl rfl)
theorem dX6_rank_10 : decode cX6_rank 10 = .ok (.lconst 0, 1) := dk_9 (dk_at dksX6_rank_0 10 rfl rfl)
theorem dX6_rank_11 : decode cX6_rank 11 = .ok (.ldc2_w 196, 3) := dk_20 0 196 (dk_at dksX6_rank_0 11 rfl rfl)
theorem dX6_rank_14 : decode cX6_rank 14 = .ok (.invokestatic 79, 3) := dk_184 0 79 (dk_at dksX6_rank_0 14 rfl rfl)
theorem dX6_rank_17 : decode cX6_rank 17 = .ok (.ifCond .ne 5, 3) := dk_154 0 5 (dk_at dksX6_rank_0 17 rfl rfl)
theorem dX6_rank_20 : decode cX6_rank 20 = .ok (.iconst (-1), 1) := dk_2 (dk_at dksX6_rank_0 20 rfl rfl)
theorem dX6_rank_21 : decode cX6_rank 21 = .ok (.ireturn, 1) := dk_172 (dk_at dksX6_rank_0 21 rfl rfl)
theorem dX6_rank_22 : decode cX6_rank 22 = .ok (.aload_n 0, 1) := dk_42 (dk_at dksX6_rank_0 22 rfl rfl)
theorem dX6_rank_23 : decode cX6_rank 23 = .ok (.iload_n 1, 1) := dk_27 (dk_at dksX6_rank_0 23 rfl rfl)
theorem dX6_rank_24 : decode cX6_rank 24 = .ok (.invokevirtual 211, 3) := dk_182 0 211 (dk_at dksX6_rank_1 0 rfl rfl)
theorem dX6_rank_27 : decode cX6_rank 27 = .ok (.ifCond .ne 6, 3) := dk_154 0 6 (dk_at dksX6_rank_1 3 rfl rfl)
theorem dX6_rank_30 : decode cX6_rank 30 = .ok (.bipush (-5), 2) := dk_16 251 (dk_at dksX6_rank_1 6 rfl rfl)
theorem dX6_rank_32 : decode cX6_rank 32 = .ok (.ireturn, 1) := dk_172 (dk_at dksX6_rank_1 8 rfl rfl)
theorem dX6_rank_33 : decode cX6_rank 33 = .ok (.aload_n 0, 1) := dk_42 (dk_at dksX6_rank_1 9 rfl rfl)
theorem dX6_rank_34 : decode cX6_rank 34 = .ok (.iload_n 1, 1) := dk_27 (dk_at dksX6_rank_1 10 rfl rfl)
theorem dX6_rank_35 : decode cX6_rank 35 = .ok (.iconst 1, 1) := dk_4 (dk_at dksX6_rank_1 11 rfl rfl)
theorem dX6_rank_36 : decode cX6_rank 36 = .ok (.invokevirtual 83, 3) := dk_182 0 83 (dk_at dksX6_rank_1 12 rfl rfl)
theorem dX6_rank_39 : decode cX6_rank 39 = .ok (.istore_n 3, 1) := dk_62 (dk_at dksX6_rank_1 15 rfl rfl)
theorem dX6_rank_40 : decode cX6_rank 40 = .ok (.aload_n 0, 1) := dk_42 (dk_at dksX6_rank_1 16 rfl rfl)
theorem dX6_rank_41 : decode cX6_rank 41 = .ok (.iload_n 1, 1) := dk_27 (dk_at dksX6_rank_1 17 rfl rfl)
theorem dX6_rank_42 : decode cX6_rank 42 = .ok (.iconst 1, 1) := dk_4 (dk_at dksX6_rank_1 18 rfl rfl)
theorem dX6_rank_43 : decode cX6_rank 43 = .ok (.iload_n 2, 1) := dk_28 (dk_at dksX6_rank_1 19 rfl rfl)
theorem dX6_rank_44 : decode cX6_rank 44 = .ok (.invokevirtual 188, 3) := dk_182 0 188 (dk_at dksX6_rank_1 20 rfl rfl)
theorem dX6_rank_47 : decode cX6_rank 47 = .ok (.iload_n 3, 1) := dk_29 (dk_at dksX6_rank_1 23 rfl rfl)
theorem dX6_rank_48 : decode cX6_rank 48 = .ok (.ireturn, 1) := dk_172 (dk_at dksX6_rank_2 0 rfl rfl)
abbrev cX6_hold : ByteArray := prog_33_method_53_code
def dkwX6_hold_2 : List UInt8 := [182, 0, 188, 28, 4, 160, 0, 11, 42, 27, 16, 9, 2, 182, 0, 188, 29, 172]
abbrev dktX6_hold_2 : List UInt8 := dkwX6_hold_2 ++ []
def dkwX6_hold_1 : List UInt8 := [182, 0, 211, 154, 0, 6, 16, 251, 172, 42, 27, 16, 10, 182, 0, 83, 62, 42, 27, 16, 10, 28]
abbrev dktX6_hold_1 : List UInt8 := dkwX6_hold_1 ++ dktX6_hold_2
def dkwX6_hold_0 : List UInt8 := [42, 27, 182, 0, 200, 153, 0, 13, 28, 133, 9, 10, 184, 0, 79, 154, 0, 5, 2, 172, 42, 27]
abbrev dktX6_hold_0 : List UInt8 := dkwX6_hold_0 ++ dktX6_hold_1
theorem dksX6_hold_0 : cX6_hold.data.toList.drop 0 = dktX6_hold_0 := by decide +kernel
theorem dksX6_hold_1 : cX6_hold.data.toList.drop 22 = dktX6_hold_1 := dk_seg dksX6_hold_0 22 rfl rfl
theorem dksX6_hold_2 : cX6_hold.data.toList.drop 44 = dktX6_hold_2 := dk_seg dksX6_hold_1 22 rfl rfl
theorem dX6_hold_0 : decode cX6_hold 0 = .ok (.aload_n 0, 1) := dk_42 (dk_at dksX6_hold_0 0 rfl rfl)
theorem dX6_hold_1 : decode cX6_hold 1 = .ok (.iload_n 1, 1) := dk_27 (dk_at dksX6_hold_0 1 rfl rfl)
theorem dX6_hold_2 : decode cX6_hold 2 = .ok (.invokevirtual 200, 3) := dk_182 0 200 (dk_at dksX6_hold_0 2 rfl rfl)
theorem dX6_hold_5 : decode cX6_hold 5 = .ok (.ifCond .eq 13, 3) := dk_153 0 13 (dk_at dksX6_hold_0 5 rfl rfl)
theorem dX6_hold_8 : decode cX6_hold 8 = .ok (.iload_n 2, 1) := dk_28 (dk_at dksX6_hold_0 8 rfl rfl)
theorem dX6_hold_9 : decode cX6_hold 9 = .ok (.i2l, 1) := dk_133 (dk_at dksX6_hold_0 9 rfl rfl)
theorem dX6_hold_10 : decode cX6_hold 10 = .ok (.lconst 0, 1) := dk_9 (dk_at dksX6_hold_0 10 rfl rfl)
theorem dX6_hold_11 : decode cX6_hold 11 = .ok (.lconst 1, 1) := dk_10 (dk_at dksX6_hold_0 11 rfl rfl)
theorem dX6_hold_12 : decode cX6_hold 12 = .ok (.invokestatic 79, 3) := dk_184 0 79 (dk_at dksX6_hold_0 12 rfl rfl)
theorem dX6_hold_15 : decode cX6_hold 15 = .ok (.ifCond .ne 5, 3) := dk_154 0 5 (dk_at dksX6_hold_0 15 rfl rfl)
theorem dX6_hold_18 : decode cX6_hold 18 = .ok (.iconst (-1), 1) := dk_2 (dk_at dksX6_hold_0 18 rfl rfl)
theorem dX6_hold_19 : decode cX6_hold 19 = .ok (.ireturn, 1) := dk_172 (dk_at dksX6_hold_0 19 rfl rfl)
theorem dX6_hold_20 : decode cX6_hold 20 = .ok (.aload_n 0, 1) := dk_42 (dk_at dksX6_hold_0 20 rfl rfl)
theorem dX6_hold_21 : decode cX6_hold 21 = .ok (.iload_n 1, 1) := dk_27 (dk_at dksX6_hold_0 21 rfl rfl)
theorem dX6_hold_22 : decode cX6_hold 22 = .ok (.invokevirtual 211, 3) := dk_182 0 211 (dk_at dksX6_hold_1 0 rfl rfl)
theorem dX6_hold_25 : decode cX6_hold 25 = .ok (.ifCond .ne 6, 3) := dk_154 0 6 (dk_at dksX6_hold_1 3 rfl rfl)
theorem dX6_hold_28 : decode cX6_hold 28 = .ok (.bipush (-5), 2) := dk_16 251 (dk_at dksX6_hold_1 6 rfl rfl)
theorem dX6_hold_30 : decode cX6_hold 30 = .ok (.ireturn, 1) := dk_172 (dk_at dksX6_hold_1 8 rfl rfl)
theorem dX6_hold_31 : decode cX6_hold 31 = .ok (.aload_n 0, 1) := dk_42 (dk_at dksX6_hold_1 9 rfl rfl)
theorem dX6_hold_32 : decode cX6_hold 32 = .ok (.iload_n 1, 1) := dk_27 (dk_at dksX6_hold_1 10 rfl rfl)
theorem dX6_hold_33 : decode cX6_hold 33 = .ok (.bipush 10, 2) := dk_16 10 (dk_at dksX6_hold_1 11 rfl rfl)
theorem dX6_hold_35 : decode cX6_hold 35 = .ok (.invokevirtual 83, 3) := dk_182 0 83 (dk_at dksX6_hold_1 13 rfl rfl)
theorem dX6_hold_38 : decode cX6_hold 38 = .ok (.istore_n 3, 1) := dk_62 (dk_at dksX6_hold_1 16 rfl rfl)
theorem dX6_hold_39 : decode cX6_hold 39 = .ok (.aload_n 0, 1) := dk_42 (dk_at dksX6_hold_1 17 rfl rfl)
theorem dX6_hold_40 : decode cX6_hold 40 = .ok (.iload_n 1, 1) := dk_27 (dk_at dksX6_hold_1 18 rfl rfl)
theorem dX6_hold_41 : decode cX6_hold 41 = .ok (.bipush 10, 2) := dk_16 10 (dk_at dksX6_hold_1 19 rfl rfl)
theorem dX6_hold_43 : decode cX6_hold 43 = .ok (.iload_n 2, 1) := dk_28 (dk_at dksX6_hold_1 21 rfl rfl)
theorem dX6_hold_44 : decode cX6_hold 44 = .ok (.invokevirtual 188, 3) := dk_182 0 188 (dk_at dksX6_hold_2 0 rfl rfl)
theorem dX6_hold_47 : decode cX6_hold 47 = .ok (.iload_n 2, 1) := dk_28 (dk_at dksX6_hold_2 3 rfl rfl)
theorem dX6_hold_48 : decode cX6_hold 48 = .ok (.iconst 1, 1) := dk_4 (dk_at dksX6_hold_2 4 rfl rfl)
theorem dX6_hold_49 : decode cX6_hold 49 = .ok (.if_icmp .ne 11, 3) := dk_160 0 11 (dk_at dksX6_hold_2 5 rfl rfl)
theorem dX6_hold_52 : decode cX6_hold 52 = .ok (.aload_n 0, 1) := dk_42 (dk_at dksX6_hold_2 8 rfl rfl)
theorem dX6_hold_53 : decode cX6_hold 53 = .ok (.iload_n 1, 1) := dk_27 (dk_at dksX6_hold_2 9 rfl rfl)
theorem dX6_hold_54 : decode cX6_hold 54 = .ok (.bipush 9, 2) := dk_16 9 (dk_at dksX6_hold_2 10 rfl rfl)
theorem dX6_hold_56 : decode cX6_hold 56 = .ok (.iconst (-1), 1) := dk_2 (dk_at dksX6_hold_2 12 rfl rfl)
theorem dX6_hold_57 : decode cX6_hold 57 = .ok (.invokevirtual 188, 3) := dk_182 0 188 (dk_at dksX6_hold_2 13 rfl rfl)
theorem dX6_hold_60 : decode cX6_hold 60 = .ok (.iload_n 3, 1) := dk_29 (dk_at dksX6_hold_2 16 rfl rfl)
theorem dX6_hold_61 : decode cX6_hold 61 = .ok (.ireturn, 1) := dk_172 (dk_at dksX6_hold_2 17 rfl rfl)
abbrev cX6_text : ByteArray := prog_33_method_56_code
def dkwX6_text_8 : List UInt8 := [180, 0, 235, 162, 0, 12, 42, 180, 0, 70, 28, 46, 167, 0, 5, 16, 254, 172]
abbrev dktX6_text_8 : List UInt8 := dkwX6_text_8 ++ []
def dkwX6_text_7 : List UInt8 := [27, 16, 6, 182, 0, 83, 182, 0, 242, 28, 156, 0, 10, 42, 180, 0, 235, 167, 0, 22, 28, 42]
abbrev dktX6_text_7 : List UInt8 := dkwX6_text_7 ++ dktX6_text_8
def dkwX6_text_6 : List UInt8 := [42, 27, 16, 6, 182, 0, 83, 155, 0, 26, 42, 16, 32, 182, 0, 238, 42, 16, 64, 182, 0, 238, 42, 42]
abbrev dktX6_text_6 : List UInt8 := dkwX6_text_6 ++ dktX6_text_7
def dkwX6_text_5 : List UInt8 := [16, 120, 182, 0, 238, 42, 42, 27, 16, 16, 29, 96, 182, 0, 83, 182, 0, 242, 132, 3, 1, 167, 255, 201]
abbrev dktX6_text_5 : List UInt8 := dkwX6_text_5 ++ dktX6_text_6
def dkwX6_text_4 : List UInt8 := [158, 0, 9, 42, 16, 44, 182, 0, 238, 42, 42, 27, 16, 12, 29, 96, 182, 0, 83, 182, 0, 242, 42]
abbrev dktX6_text_4 : List UInt8 := dkwX6_text_4 ++ dktX6_text_5
def dkwX6_text_3 : List UInt8 := [182, 0, 242, 42, 16, 32, 182, 0, 238, 3, 62, 29, 42, 27, 7, 182, 0, 83, 162, 0, 51, 29]
abbrev dktX6_text_3 : List UInt8 := dkwX6_text_3 ++ dktX6_text_4
def dkwX6_text_2 : List UInt8 := [182, 0, 242, 42, 16, 32, 182, 0, 238, 42, 16, 114, 182, 0, 238, 42, 42, 27, 4, 182, 0, 83]
abbrev dktX6_text_2 : List UInt8 := dkwX6_text_2 ++ dktX6_text_3
def dkwX6_text_1 : List UInt8 := [182, 0, 242, 42, 16, 58, 182, 0, 238, 42, 16, 97, 182, 0, 238, 42, 42, 27, 3, 182, 0, 83]
abbrev dktX6_text_1 : List UInt8 := dkwX6_text_1 ++ dktX6_text_2
def dkwX6_text_0 : List UInt8 := [42, 27, 182, 0, 200, 153, 0, 8, 28, 2, 162, 0, 5, 2, 172, 42, 3, 181, 0, 235, 42, 27]
abbrev dktX6_text_0 : List UInt8 := dkwX6_text_0 ++ dktX6_text_1
theorem dksX6_text_0 : cX6_text.data.toList.drop 0 = dktX6_text_0 := by decide +kernel
theorem dksX6_text_1 : cX6_text.data.toList.drop 22 = dktX6_text_1 := dk_seg dksX6_text_0 22 rfl rfl
theorem dksX6_text_2 : cX6_text.data.toList.drop 44 = dktX6_text_2 := dk_seg dksX6_text_1 22 rfl rfl
theorem dksX6_text_3 : cX6_text.data.toList.drop 66 = dktX6_text_3 := dk_seg dksX6_text_2 22 rfl rfl
theorem dksX6_text_4 : cX6_text.data.toList.drop 88 = dktX6_text_4 := dk_seg dksX6_text_3 22 rfl rfl
theorem dksX6_text_5 : cX6_text.data.toList.drop 111 = dktX6_text_5 := dk_seg dksX6_text_4 23 rfl rfl
theorem dksX6_text_6 : cX6_text.data.toList.drop 135 = dktX6_text_6 := dk_seg dksX6_text_5 24 rfl rfl
theorem dksX6_text_7 : cX6_text.data.toList.drop 159 = dktX6_text_7 := dk_seg dksX6_text_6 24 rfl rfl
theorem dksX6_text_8 : cX6_text.data.toList.drop 181 = dktX6_text_8 := dk_seg dksX6_text_7 22 rfl rfl
theorem dX6_text_0 : decode cX6_text 0 = .ok (.aload_n 0, 1) := dk_42 (dk_at dksX6_text_0 0 rfl rfl)
theorem dX6_text_1 : decode cX6_text 1 = .ok (.iload_n 1, 1) := dk_27 (dk_at dksX6_text_0 1 rfl rfl)
theorem dX6_text_2 : decode cX6_text 2 = .ok (.invokevirtual 200, 3) := dk_182 0 200 (dk_at dksX6_text_0 2 rfl rfl)
theorem dX6_text_5 : decode cX6_text 5 = .ok (.ifCond .eq 8, 3) := dk_153 0 8 (dk_at dksX6_text_0 5 rfl rfl)
theorem dX6_text_8 : decode cX6_text 8 = .ok (.iload_n 2, 1) := dk_28 (dk_at dksX6_text_0 8 rfl rfl)
theorem dX6_text_9 : decode cX6_text 9 = .ok (.iconst (-1), 1) := dk_2 (dk_at dksX6_text_0 9 rfl rfl)
theorem dX6_text_10 : decode cX6_text 10 = .ok (.if_icmp .ge 5, 3) := dk_162 0 5 (dk_at dksX6_text_0 10 rfl rfl)
theorem dX6_text_13 : decode cX6_text 13 = .ok (.iconst (-1), 1) := dk_2 (dk_at dksX6_text_0 13 rfl rfl)
theorem dX6_text_14 : decode cX6_text 14 = .ok (.ireturn, 1) := dk_172 (dk_at dksX6_text_0 14 rfl rfl)
theorem dX6_text_15 : decode cX6_text 15 = .ok (.aload_n 0, 1) := dk_42 (dk_at dksX6_text_0 15 rfl rfl)
theorem dX6_text_16 : decode cX6_text 16 = .ok (.iconst 0, 1) := dk_3 (dk_at dksX6_text_0 16 rfl rfl)
theorem dX6_text_17 : decode cX6_text 17 = .ok (.putfield 235, 3) := dk_181 0 235 (dk_at dksX6_text_0 17 rfl rfl)
theorem dX6_text_20 : decode cX6_text 20 = .ok (.aload_n 0, 1) := dk_42 (dk_at dksX6_text_0 20 rfl rfl)
theorem dX6_text_21 : decode cX6_text 21 = .ok (.iload_n 1, 1) := dk_27 (dk_at dksX6_text_0 21 rfl rfl)
theorem dX6_text_22 : decode cX6_text 22 = .ok (.invokevirtual 242, 3) := dk_182 0 242 (dk_at dksX6_text_1 0 rfl rfl)
theorem dX6_text_25 : decode cX6_text 25 = .ok (.aload_n 0, 1) := dk_42 (dk_at dksX6_text_1 3 rfl rfl)
theorem dX6_text_26 : decode cX6_text 26 = .ok (.bipush 58, 2) := dk_16 58 (dk_at dksX6_text_1 4 rfl rfl)
theorem dX6_text_28 : decode cX6_text 28 = .ok (.invokevirtual 238, 3) := dk_182 0 238 (dk_at dksX6_text_1 6 rfl rfl)
theorem dX6_text_31 : decode cX6_text 31 = .ok (.aload_n 0, 1) := dk_42 (dk_at dksX6_text_1 9 rfl rfl)
theorem dX6_text_32 : decode cX6_text 32 = .ok (.bipush 97, 2) := dk_16 97 (dk_at dksX6_text_1 10 rfl rfl)
theorem dX6_text_34 : decode cX6_text 34 = .ok (.invokevirtual 238, 3) := dk_182 0 238 (dk_at dksX6_text_1 12 rfl rfl)
theorem dX6_text_37 : decode cX6_text 37 = .ok (.aload_n 0, 1) := dk_42 (dk_at dksX6_text_1 15 rfl rfl)
theorem dX6_text_38 : decode cX6_text 38 = .ok (.aload_n 0, 1) := dk_42 (dk_at dksX6_text_1 16 rfl rfl)
theorem dX6_text_39 : decode cX6_text 39 = .ok (.iload_n 1, 1) := dk_27 (dk_at dksX6_text_1 17 rfl rfl)
theorem dX6_text_40 : decode cX6_text 40 = .ok (.iconst 0, 1) := dk_3 (dk_at dksX6_text_1 18 rfl rfl)
theorem dX6_text_41 : decode cX6_text 41 = .ok (.invokevirtual 83, 3) := dk_182 0 83 (dk_at dksX6_text_1 19 rfl rfl)
theorem dX6_text_44 : decode cX6_text 44 = .ok (.invokevirtual 242, 3) := dk_182 0 242 (dk_at dksX6_text_2 0 rfl rfl)
theorem dX6_text_47 : decode cX6_text 47 = .ok (.aload_n 0, 1) := dk_42 (dk_at dksX6_text_2 3 rfl rfl)
theorem dX6_text_48 : decode cX6_text 48 = .ok (.bipush 32, 2) := dk_16 32 (dk_at dksX6_text_2 4 rfl rfl)
theorem dX6_text_50 : decode cX6_text 50 = .ok (.invokevirtual 238, 3) := dk_182 0 238 (dk_at dksX6_text_2 6 rfl rfl)
theorem dX6_text_53 : decode cX6_text 53 = .ok (.aload_n 0, 1) := dk_42 (dk_at dksX6_text_2 9 rfl rfl)
theorem dX6_text_54 : decode cX6_text 54 = .ok (.bipush 114, 2) := dk_16 114 (dk_at dksX6_text_2 10 rfl rfl)
theorem dX6_text_56 : decode cX6_text 56 = .ok (.invokevirtual 238, 3) := dk_182 0 238 (dk_at dksX6_text_2 12 rfl rfl)
theorem dX6_text_59 : decode cX6_text 59 = .ok (.aload_n 0, 1) := dk_42 (dk_at dksX6_text_2 15 rfl rfl)
theorem dX6_text_60 : decode cX6_text 60 = .ok (.aload_n 0, 1) := dk_42 (dk_at dksX6_text_2 16 rfl rfl)
theorem dX6_text_61 : decode cX6_text 61 = .ok (.iload_n 1, 1) := dk_27 (dk_at dksX6_text_2 17 rfl rfl)
theorem dX6_text_62 : decode cX6_text 62 = .ok (.iconst 1, 1) := dk_4 (dk_at dksX6_text_2 18 rfl rfl)
theorem dX6_text_63 : decode cX6_text 63 = .ok (.invokevirtual 83, 3) := dk_182 0 83 (dk_at dksX6_text_2 19 rfl rfl)
theorem dX6_text_66 : decode cX6_text 66 = .ok (.invokevirtual 242, 3) := dk_182 0 242 (dk_at dksX6_text_3 0 rfl rfl)
theorem dX6_text_69 : decode cX6_text 69 = .ok (.aload_n 0, 1) := dk_42 (dk_at dksX6_text_3 3 rfl rfl)
theorem dX6_text_70 : decode cX6_text 70 = .ok (.bipush 32, 2) := dk_16 32 (dk_at dksX6_text_3 4 rfl rfl)
theorem dX6_text_72 : decode cX6_text 72 = .ok (.invokevirtual 238, 3) := dk_182 0 238 (dk_at dksX6_text_3 6 rfl rfl)
theorem dX6_text_75 : decode cX6_text 75 = .ok (.iconst 0, 1) := dk_3 (dk_at dksX6_text_3 9 rfl rfl)
theorem dX6_text_76 : decode cX6_text 76 = .ok (.istore_n 3, 1) := dk_62 (dk_at dksX6_text_3 10 rfl rfl)
theorem dX6_text_77 : decode cX6_text 77 = .ok (.iload_n 3, 1) := dk_29 (dk_at dksX6_text_3 11 rfl rfl)
theorem dX6_text_78 : decode cX6_text 78 = .ok (.aload_n 0, 1) := dk_42 (dk_at dksX6_text_3 12 rfl rfl)
theorem dX6_text_79 : decode cX6_text 79 = .ok (.iload_n 1, 1) := dk_27 (dk_at dksX6_text_3 13 rfl rfl)
theorem dX6_text_80 : decode cX6_text 80 = .ok (.iconst 4, 1) := dk_7 (dk_at dksX6_text_3 14 rfl rfl)
theorem dX6_text_81 : decode cX6_text 81 = .ok (.invokevirtual 83, 3) := dk_182 0 83 (dk_at dksX6_text_3 15 rfl rfl)
theorem dX6_text_84 : decode cX6_text 84 = .ok (.if_icmp .ge 51, 3) := dk_162 0 51 (dk_at dksX6_text_3 18 rfl rfl)
theorem dX6_text_87 : decode cX6_text 87 = .ok (.iload_n 3, 1) := dk_29 (dk_at dksX6_text_3 21 rfl rfl)
theorem dX6_text_88 : decode cX6_text 88 = .ok (.ifCond .le 9, 3) := dk_158 0 9 (dk_at dksX6_text_4 0 rfl rfl)
theorem dX6_text_91 : decode cX6_text 91 = .ok (.aload_n 0, 1) := dk_42 (dk_at dksX6_text_4 3 rfl rfl)
theorem dX6_text_92 : decode cX6_text 92 = .ok (.bipush 44, 2) := dk_16 44 (dk_at dksX6_text_4 4 rfl rfl)
theorem dX6_text_94 : decode cX6_text 94 = .ok (.invokevirtual 238, 3) := dk_182 0 238 (dk_at dksX6_text_4 6 rfl rfl)
theorem dX6_text_97 : decode cX6_text 97 = .ok (.aload_n 0, 1) := dk_42 (dk_at dksX6_text_4 9 rfl rfl)
theorem dX6_text_98 : decode cX6_text 98 = .ok (.aload_n 0, 1) := dk_42 (dk_at dksX6_text_4 10 rfl rfl)
theorem dX6_text_99 : decode cX6_text 99 = .ok (.iload_n 1, 1) := dk_27 (dk_at dksX6_text_4 11 rfl rfl)
theorem dX6_text_100 : decode cX6_text 100 = .ok (.bipush 12, 2) := dk_16 12 (dk_at dksX6_text_4 12 rfl rfl)
theorem dX6_text_102 : decode cX6_text 102 = .ok (.iload_n 3, 1) := dk_29 (dk_at dksX6_text_4 14 rfl rfl)
theorem dX6_text_103 : decode cX6_text 103 = .ok (.iadd, 1) := dk_96 (dk_at dksX6_text_4 15 rfl rfl)
theorem dX6_text_104 : decode cX6_text 104 = .ok (.invokevirtual 83, 3) := dk_182 0 83 (dk_at dksX6_text_4 16 rfl rfl)
theorem dX6_text_107 : decode cX6_text 107 = .ok (.invokevirtual 242, 3) := dk_182 0 242 (dk_at dksX6_text_4 19 rfl rfl)
theorem dX6_text_110 : decode cX6_text 110 = .ok (.aload_n 0, 1) := dk_42 (dk_at dksX6_text_4 22 rfl rfl)
theorem dX6_text_111 : decode cX6_text 111 = .ok (.bipush 120, 2) := dk_16 120 (dk_at dksX6_text_5 0 rfl rfl)
theorem dX6_text_113 : decode cX6_text 113 = .ok (.invokevirtual 238, 3) := dk_182 0 238 (dk_at dksX6_text_5 2 rfl rfl)
theorem dX6_text_116 : decode cX6_text 116 = .ok (.aload_n 0, 1) := dk_42 (dk_at dksX6_text_5 5 rfl rfl)
theorem dX6_text_117 : decode cX6_text 117 = .ok (.aload_n 0, 1) := dk_42 (dk_at dksX6_text_5 6 rfl rfl)
theorem dX6_text_118 : decode cX6_text 118 = .ok (.iload_n 1, 1) := dk_27 (dk_at dksX6_text_5 7 rfl rfl)
theorem dX6_text_119 : decode cX6_text 119 = .ok (.bipush 16, 2) := dk_16 16 (dk_at dksX6_text_5 8 rfl rfl)
theorem dX6_text_121 : decode cX6_text 121 = .ok (.iload_n 3, 1) := dk_29 (dk_at dksX6_text_5 10 rfl rfl)
theorem dX6_text_122 : decode cX6_text 122 = .ok (.iadd, 1) := dk_96 (dk_at dksX6_text_5 11 rfl rfl)
theorem dX6_text_123 : decode cX6_text 123 = .ok (.invokevirtual 83, 3) := dk_182 0 83 (dk_at dksX6_text_5 12 rfl rfl)
theorem dX6_text_126 : decode cX6_text 126 = .ok (.invokevirtual 242, 3) := dk_182 0 242 (dk_at dksX6_text_5 15 rfl rfl)
theorem dX6_text_129 : decode cX6_text 129 = .ok (.iinc 3 1, 3) := dk_132 3 1 (dk_at dksX6_text_5 18 rfl rfl)
theorem dX6_text_132 : decode cX6_text 132 = .ok (.goto (-55), 3) := dk_167 255 201 (dk_at dksX6_text_5 21 rfl rfl)
theorem dX6_text_135 : decode cX6_text 135 = .ok (.aload_n 0, 1) := dk_42 (dk_at dksX6_text_6 0 rfl rfl)
theorem dX6_text_136 : decode cX6_text 136 = .ok (.iload_n 1, 1) := dk_27 (dk_at dksX6_text_6 1 rfl rfl)
theorem dX6_text_137 : decode cX6_text 137 = .ok (.bipush 6, 2) := dk_16 6 (dk_at dksX6_text_6 2 rfl rfl)
theorem dX6_text_139 : decode cX6_text 139 = .ok (.invokevirtual 83, 3) := dk_182 0 83 (dk_at dksX6_text_6 4 rfl rfl)
theorem dX6_text_142 : decode cX6_text 142 = .ok (.ifCond .lt 26, 3) := dk_155 0 26 (dk_at dksX6_text_6 7 rfl rfl)
theorem dX6_text_145 : decode cX6_text 145 = .ok (.aload_n 0, 1) := dk_42 (dk_at dksX6_text_6 10 rfl rfl)
theorem dX6_text_146 : decode cX6_text 146 = .ok (.bipush 32, 2) := dk_16 32 (dk_at dksX6_text_6 11 rfl rfl)
theorem dX6_text_148 : decode cX6_text 148 = .ok (.invokevirtual 238, 3) := dk_182 0 238 (dk_at dksX6_text_6 13 rfl rfl)
theorem dX6_text_151 : decode cX6_text 151 = .ok (.aload_n 0, 1) := dk_42 (dk_at dksX6_text_6 16 rfl rfl)
theorem dX6_text_152 : decode cX6_text 152 = .ok (.bipush 64, 2) := dk_16 64 (dk_at dksX6_text_6 17 rfl rfl)
theorem dX6_text_154 : decode cX6_text 154 = .ok (.invokevirtual 238, 3) := dk_182 0 238 (dk_at dksX6_text_6 19 rfl rfl)
theorem dX6_text_157 : decode cX6_text 157 = .ok (.aload_n 0, 1) := dk_42 (dk_at dksX6_text_6 22 rfl rfl)
theorem dX6_text_158 : decode cX6_text 158 = .ok (.aload_n 0, 1) := dk_42 (dk_at dksX6_text_6 23 rfl rfl)
theorem dX6_text_159 : decode cX6_text 159 = .ok (.iload_n 1, 1) := dk_27 (dk_at dksX6_text_7 0 rfl rfl)
theorem dX6_text_160 : decode cX6_text 160 = .ok (.bipush 6, 2) := dk_16 6 (dk_at dksX6_text_7 1 rfl rfl)
theorem dX6_text_162 : decode cX6_text 162 = .ok (.invokevirtual 83, 3) := dk_182 0 83 (dk_at dksX6_text_7 3 rfl rfl)
theorem dX6_text_165 : decode cX6_text 165 = .ok (.invokevirtual 242, 3) := dk_182 0 242 (dk_at dksX6_text_7 6 rfl rfl)
theorem dX6_text_168 : decode cX6_text 168 = .ok (.iload_n 2, 1) := dk_28 (dk_at dksX6_text_7 9 rfl rfl)
theorem dX6_text_169 : decode cX6_text 169 = .ok (.ifCond .ge 10, 3) := dk_156 0 10 (dk_at dksX6_text_7 10 rfl rfl)
theorem dX6_text_172 : decode cX6_text 172 = .ok (.aload_n 0, 1) := dk_42 (dk_at dksX6_text_7 13 rfl rfl)
theorem dX6_text_173 : decode cX6_text 173 = .ok (.getfield 235, 3) := dk_180 0 235 (dk_at dksX6_text_7 14 rfl rfl)
theorem dX6_text_176 : decode cX6_text 176 = .ok (.goto 22, 3) := dk_167 0 22 (dk_at dksX6_text_7 17 rfl rfl)
theorem dX6_text_179 : decode cX6_text 179 = .ok (.iload_n 2, 1) := dk_28 (dk_at dksX6_text_7 20 rfl rfl)
theorem dX6_text_180 : decode cX6_text 180 = .ok (.aload_n 0, 1) := dk_42 (dk_at dksX6_text_7 21 rfl rfl)
theorem dX6_text_181 : decode cX6_text 181 = .ok (.getfield 235, 3) := dk_180 0 235 (dk_at dksX6_text_8 0 rfl rfl)
theorem dX6_text_184 : decode cX6_text 184 = .ok (.if_icmp .ge 12, 3) := dk_162 0 12 (dk_at dksX6_text_8 3 rfl rfl)
theorem dX6_text_187 : decode cX6_text 187 = .ok (.aload_n 0, 1) := dk_42 (dk_at dksX6_text_8 6 rfl rfl)
theorem dX6_text_188 : decode cX6_text 188 = .ok (.getfield 70, 3) := dk_180 0 70 (dk_at dksX6_text_8 7 rfl rfl)
theorem dX6_text_191 : decode cX6_text 191 = .ok (.iload_n 2, 1) := dk_28 (dk_at dksX6_text_8 10 rfl rfl)
theorem dX6_text_192 : decode cX6_text 192 = .ok (.iaload, 1) := dk_46 (dk_at dksX6_text_8 11 rfl rfl)
theorem dX6_text_193 : decode cX6_text 193 = .ok (.goto 5, 3) := dk_167 0 5 (dk_at dksX6_text_8 12 rfl rfl)
theorem dX6_text_196 : decode cX6_text 196 = .ok (.bipush (-2), 2) := dk_16 254 (dk_at dksX6_text_8 15 rfl rfl)
theorem dX6_text_198 : decode cX6_text 198 = .ok (.ireturn, 1) := dk_172 (dk_at dksX6_text_8 17 rfl rfl)
abbrev cX6_keep : ByteArray := prog_33_method_62_code
def dkwX6_keep_3 : List UInt8 := [182, 1, 5, 172]
abbrev dktX6_keep_3 : List UInt8 := dkwX6_keep_3 ++ []
def dkwX6_keep_2 : List UInt8 := [184, 0, 92, 28, 29, 182, 1, 1, 153, 0, 8, 16, 251, 167, 0, 12, 42, 27, 28, 29, 21, 4]
abbrev dktX6_keep_2 : List UInt8 := dkwX6_keep_2 ++ dktX6_keep_3
def dkwX6_keep_1 : List UInt8 := [160, 0, 6, 16, 253, 172, 42, 27, 16, 100, 108, 27, 16, 100, 112, 27, 16, 100, 108, 100, 4, 96]
abbrev dktX6_keep_1 : List UInt8 := dkwX6_keep_1 ++ dktX6_keep_2
def dkwX6_keep_0 : List UInt8 := [42, 27, 28, 133, 29, 133, 21, 4, 182, 0, 250, 154, 0, 5, 2, 172, 42, 182, 0, 254, 16, 12]
abbrev dktX6_keep_0 : List UInt8 := dkwX6_keep_0 ++ dktX6_keep_1
theorem dksX6_keep_0 : cX6_keep.data.toList.drop 0 = dktX6_keep_0 := by decide +kernel
theorem dksX6_keep_1 : cX6_keep.data.toList.drop 22 = dktX6_keep_1 := dk_seg dksX6_keep_0 22 rfl rfl
theorem dksX6_keep_2 : cX6_keep.data.toList.drop 44 = dktX6_keep_2 := dk_seg dksX6_keep_1 22 rfl rfl
theorem dksX6_keep_3 : cX6_keep.data.toList.drop 66 = dktX6_keep_3 := dk_seg dksX6_keep_2 22 rfl rfl
theorem dX6_keep_0 : decode cX6_keep 0 = .ok (.aload_n 0, 1) := dk_42 (dk_at dksX6_keep_0 0 rfl rfl)
theorem dX6_keep_1 : decode cX6_keep 1 = .ok (.iload_n 1, 1) := dk_27 (dk_at dksX6_keep_0 1 rfl rfl)
theorem dX6_keep_2 : decode cX6_keep 2 = .ok (.iload_n 2, 1) := dk_28 (dk_at dksX6_keep_0 2 rfl rfl)
theorem dX6_keep_3 : decode cX6_keep 3 = .ok (.i2l, 1) := dk_133 (dk_at dksX6_keep_0 3 rfl rfl)
theorem dX6_keep_4 : decode cX6_keep 4 = .ok (.iload_n 3, 1) := dk_29 (dk_at dksX6_keep_0 4 rfl rfl)
theorem dX6_keep_5 : decode cX6_keep 5 = .ok (.i2l, 1) := dk_133 (dk_at dksX6_keep_0 5 rfl rfl)
theorem dX6_keep_6 : decode cX6_keep 6 = .ok (.iload 4, 2) := dk_21 4 (dk_at dksX6_keep_0 6 rfl rfl)
theorem dX6_keep_8 : decode cX6_keep 8 = .ok (.invokevirtual 250, 3) := dk_182 0 250 (dk_at dksX6_keep_0 8 rfl rfl)
theorem dX6_keep_11 : decode cX6_keep 11 = .ok (.ifCond .ne 5, 3) := dk_154 0 5 (dk_at dksX6_keep_0 11 rfl rfl)
theorem dX6_keep_14 : decode cX6_keep 14 = .ok (.iconst (-1), 1) := dk_2 (dk_at dksX6_keep_0 14 rfl rfl)
theorem dX6_keep_15 : decode cX6_keep 15 = .ok (.ireturn, 1) := dk_172 (dk_at dksX6_keep_0 15 rfl rfl)
theorem dX6_keep_16 : decode cX6_keep 16 = .ok (.aload_n 0, 1) := dk_42 (dk_at dksX6_keep_0 16 rfl rfl)
theorem dX6_keep_17 : decode cX6_keep 17 = .ok (.invokevirtual 254, 3) := dk_182 0 254 (dk_at dksX6_keep_0 17 rfl rfl)
theorem dX6_keep_20 : decode cX6_keep 20 = .ok (.bipush 12, 2) := dk_16 12 (dk_at dksX6_keep_0 20 rfl rfl)
theorem dX6_keep_22 : decode cX6_keep 22 = .ok (.if_icmp .ne 6, 3) := dk_160 0 6 (dk_at dksX6_keep_1 0 rfl rfl)
theorem dX6_keep_25 : decode cX6_keep 25 = .ok (.bipush (-3), 2) := dk_16 253 (dk_at dksX6_keep_1 3 rfl rfl)
theorem dX6_keep_27 : decode cX6_keep 27 = .ok (.ireturn, 1) := dk_172 (dk_at dksX6_keep_1 5 rfl rfl)
theorem dX6_keep_28 : decode cX6_keep 28 = .ok (.aload_n 0, 1) := dk_42 (dk_at dksX6_keep_1 6 rfl rfl)
theorem dX6_keep_29 : decode cX6_keep 29 = .ok (.iload_n 1, 1) := dk_27 (dk_at dksX6_keep_1 7 rfl rfl)
theorem dX6_keep_30 : decode cX6_keep 30 = .ok (.bipush 100, 2) := dk_16 100 (dk_at dksX6_keep_1 8 rfl rfl)
theorem dX6_keep_32 : decode cX6_keep 32 = .ok (.idiv, 1) := dk_108 (dk_at dksX6_keep_1 10 rfl rfl)
theorem dX6_keep_33 : decode cX6_keep 33 = .ok (.iload_n 1, 1) := dk_27 (dk_at dksX6_keep_1 11 rfl rfl)
theorem dX6_keep_34 : decode cX6_keep 34 = .ok (.bipush 100, 2) := dk_16 100 (dk_at dksX6_keep_1 12 rfl rfl)
theorem dX6_keep_36 : decode cX6_keep 36 = .ok (.irem, 1) := dk_112 (dk_at dksX6_keep_1 14 rfl rfl)
theorem dX6_keep_37 : decode cX6_keep 37 = .ok (.iload_n 1, 1) := dk_27 (dk_at dksX6_keep_1 15 rfl rfl)
theorem dX6_keep_38 : decode cX6_keep 38 = .ok (.bipush 100, 2) := dk_16 100 (dk_at dksX6_keep_1 16 rfl rfl)
theorem dX6_keep_40 : decode cX6_keep 40 = .ok (.idiv, 1) := dk_108 (dk_at dksX6_keep_1 18 rfl rfl)
theorem dX6_keep_41 : decode cX6_keep 41 = .ok (.isub, 1) := dk_100 (dk_at dksX6_keep_1 19 rfl rfl)
theorem dX6_keep_42 : decode cX6_keep 42 = .ok (.iconst 1, 1) := dk_4 (dk_at dksX6_keep_1 20 rfl rfl)
theorem dX6_keep_43 : decode cX6_keep 43 = .ok (.iadd, 1) := dk_96 (dk_at dksX6_keep_1 21 rfl rfl)
theorem dX6_keep_44 : decode cX6_keep 44 = .ok (.invokestatic 92, 3) := dk_184 0 92 (dk_at dksX6_keep_2 0 rfl rfl)
theorem dX6_keep_47 : decode cX6_keep 47 = .ok (.iload_n 2, 1) := dk_28 (dk_at dksX6_keep_2 3 rfl rfl)
theorem dX6_keep_48 : decode cX6_keep 48 = .ok (.iload_n 3, 1) := dk_29 (dk_at dksX6_keep_2 4 rfl rfl)
theorem dX6_keep_49 : decode cX6_keep 49 = .ok (.invokevirtual 257, 3) := dk_182 1 1 (dk_at dksX6_keep_2 5 rfl rfl)
theorem dX6_keep_52 : decode cX6_keep 52 = .ok (.ifCond .eq 8, 3) := dk_153 0 8 (dk_at dksX6_keep_2 8 rfl rfl)
theorem dX6_keep_55 : decode cX6_keep 55 = .ok (.bipush (-5), 2) := dk_16 251 (dk_at dksX6_keep_2 11 rfl rfl)
theorem dX6_keep_57 : decode cX6_keep 57 = .ok (.goto 12, 3) := dk_167 0 12 (dk_at dksX6_keep_2 13 rfl rfl)
theorem dX6_keep_60 : decode cX6_keep 60 = .ok (.aload_n 0, 1) := dk_42 (dk_at dksX6_keep_2 16 rfl rfl)
theorem dX6_keep_61 : decode cX6_keep 61 = .ok (.iload_n 1, 1) := dk_27 (dk_at dksX6_keep_2 17 rfl rfl)
theorem dX6_keep_62 : decode cX6_keep 62 = .ok (.iload_n 2, 1) := dk_28 (dk_at dksX6_keep_2 18 rfl rfl)
theorem dX6_keep_63 : decode cX6_keep 63 = .ok (.iload_n 3, 1) := dk_29 (dk_at dksX6_keep_2 19 rfl rfl)
theorem dX6_keep_64 : decode cX6_keep 64 = .ok (.iload 4, 2) := dk_21 4 (dk_at dksX6_keep_2 20 rfl rfl)
theorem dX6_keep_66 : decode cX6_keep 66 = .ok (.invokevirtual 261, 3) := dk_182 1 5 (dk_at dksX6_keep_3 0 rfl rfl)
theorem dX6_keep_69 : decode cX6_keep 69 = .ok (.ireturn, 1) := dk_172 (dk_at dksX6_keep_3 3 rfl rfl)
abbrev cX6_every : ByteArray := prog_33_method_63_code
def dkwX6_every_7 : List UInt8 := [96, 29, 96, 21, 6, 182, 1, 5, 87, 132, 9, 1, 167, 255, 222, 21, 8, 172]
abbrev dktX6_every_7 : List UInt8 := dkwX6_every_7 ++ []
def dkwX6_every_6 : List UInt8 := [54, 9, 21, 9, 21, 5, 162, 0, 33, 42, 27, 28, 21, 9, 21, 4, 104, 96, 28, 21, 9, 21, 4, 104]
abbrev dktX6_every_6 : List UInt8 := dkwX6_every_6 ++ dktX6_every_7
def dkwX6_every_5 : List UInt8 := [182, 1, 1, 153, 0, 6, 16, 251, 172, 132, 8, 1, 167, 255, 218, 42, 180, 0, 9, 8, 46, 54, 8, 3]
abbrev dktX6_every_5 : List UInt8 := dkwX6_every_5 ++ dktX6_every_6
def dkwX6_every_4 : List UInt8 := [162, 0, 37, 42, 21, 7, 28, 21, 8, 21, 4, 104, 96, 28, 21, 8, 21, 4, 104, 96, 29, 96]
abbrev dktX6_every_4 : List UInt8 := dkwX6_every_4 ++ dktX6_every_5
def dkwX6_every_3 : List UInt8 := [27, 16, 100, 112, 27, 16, 100, 108, 100, 4, 96, 184, 0, 92, 54, 7, 3, 54, 8, 21, 8, 21, 5]
abbrev dktX6_every_3 : List UInt8 := dkwX6_every_3 ++ dktX6_every_4
def dkwX6_every_2 : List UInt8 := [154, 0, 5, 2, 172, 42, 182, 0, 254, 21, 5, 96, 16, 12, 164, 0, 6, 16, 253, 172, 27, 16, 100, 108]
abbrev dktX6_every_2 : List UInt8 := dkwX6_every_2 ++ dktX6_every_3
def dkwX6_every_1 : List UInt8 := [42, 27, 28, 133, 28, 133, 21, 5, 133, 10, 101, 21, 4, 133, 105, 97, 29, 133, 97, 21, 6, 182, 0, 250]
abbrev dktX6_every_1 : List UInt8 := dkwX6_every_1 ++ dktX6_every_2
def dkwX6_every_0 : List UInt8 := [21, 5, 133, 10, 20, 1, 8, 184, 0, 79, 153, 0, 41, 29, 4, 161, 0, 36, 21, 4, 29, 161, 0, 30]
abbrev dktX6_every_0 : List UInt8 := dkwX6_every_0 ++ dktX6_every_1
theorem dksX6_every_0 : cX6_every.data.toList.drop 0 = dktX6_every_0 := by decide +kernel
theorem dksX6_every_1 : cX6_every.data.toList.drop 24 = dktX6_every_1 := dk_seg dksX6_every_0 24 rfl rfl
theorem dksX6_every_2 : cX6_every.data.toList.drop 48 = dktX6_every_2 := dk_seg dksX6_every_1 24 rfl rfl
theorem dksX6_every_3 : cX6_every.data.toList.drop 72 = dktX6_every_3 := dk_seg dksX6_every_2 24 rfl rfl
theorem dksX6_every_4 : cX6_every.data.toList.drop 95 = dktX6_every_4 := dk_seg dksX6_every_3 23 rfl rfl
theorem dksX6_every_5 : cX6_every.data.toList.drop 117 = dktX6_every_5 := dk_seg dksX6_every_4 22 rfl rfl
theorem dksX6_every_6 : cX6_every.data.toList.drop 141 = dktX6_every_6 := dk_seg dksX6_every_5 24 rfl rfl
theorem dksX6_every_7 : cX6_every.data.toList.drop 165 = dktX6_every_7 := dk_seg dksX6_every_6 24 rfl rfl
theorem dX6_every_0 : decode cX6_every 0 = .ok (.iload 5, 2) := dk_21 5 (dk_at dksX6_every_0 0 rfl rfl)
theorem dX6_every_2 : decode cX6_every 2 = .ok (.i2l, 1) := dk_133 (dk_at dksX6_every_0 2 rfl rfl)
theorem dX6_every_3 : decode cX6_every 3 = .ok (.lconst 1, 1) := dk_10 (dk_at dksX6_every_0 3 rfl rfl)
theorem dX6_every_4 : decode cX6_every 4 = .ok (.ldc2_w 264, 3) := dk_20 1 8 (dk_at dksX6_every_0 4 rfl rfl)
theorem dX6_every_7 : decode cX6_every 7 = .ok (.invokestatic 79, 3) := dk_184 0 79 (dk_at dksX6_every_0 7 rfl rfl)
theorem dX6_every_10 : decode cX6_every 10 = .ok (.ifCond .eq 41, 3) := dk_153 0 41 (dk_at dksX6_every_0 10 rfl rfl)
theorem dX6_every_13 : decode cX6_every 13 = .ok (.iload_n 3, 1) := dk_29 (dk_at dksX6_every_0 13 rfl rfl)
theorem dX6_every_14 : decode cX6_every 14 = .ok (.iconst 1, 1) := dk_4 (dk_at dksX6_every_0 14 rfl rfl)
theorem dX6_every_15 : decode cX6_every 15 = .ok (.if_icmp .lt 36, 3) := dk_161 0 36 (dk_at dksX6_every_0 15 rfl rfl)
theorem dX6_every_18 : decode cX6_every 18 = .ok (.iload 4, 2) := dk_21 4 (dk_at dksX6_every_0 18 rfl rfl)
theorem dX6_every_20 : decode cX6_every 20 = .ok (.iload_n 3, 1) := dk_29 (dk_at dksX6_every_0 20 rfl rfl)
theorem dX6_every_21 : decode cX6_every 21 = .ok (.if_icmp .lt 30, 3) := dk_161 0 30 (dk_at dksX6_every_0 21 rfl rfl)
theorem dX6_every_24 : decode cX6_every 24 = .ok (.aload_n 0, 1) := dk_42 (dk_at dksX6_every_1 0 rfl rfl)
theorem dX6_every_25 : decode cX6_every 25 = .ok (.iload_n 1, 1) := dk_27 (dk_at dksX6_every_1 1 rfl rfl)
theorem dX6_every_26 : decode cX6_every 26 = .ok (.iload_n 2, 1) := dk_28 (dk_at dksX6_every_1 2 rfl rfl)
theorem dX6_every_27 : decode cX6_every 27 = .ok (.i2l, 1) := dk_133 (dk_at dksX6_every_1 3 rfl rfl)
theorem dX6_every_28 : decode cX6_every 28 = .ok (.iload_n 2, 1) := dk_28 (dk_at dksX6_every_1 4 rfl rfl)
theorem dX6_every_29 : decode cX6_every 29 = .ok (.i2l, 1) := dk_133 (dk_at dksX6_every_1 5 rfl rfl)
theorem dX6_every_30 : decode cX6_every 30 = .ok (.iload 5, 2) := dk_21 5 (dk_at dksX6_every_1 6 rfl rfl)
theorem dX6_every_32 : decode cX6_every 32 = .ok (.i2l, 1) := dk_133 (dk_at dksX6_every_1 8 rfl rfl)
theorem dX6_every_33 : decode cX6_every 33 = .ok (.lconst 1, 1) := dk_10 (dk_at dksX6_every_1 9 rfl rfl)
theorem dX6_every_34 : decode cX6_every 34 = .ok (.lsub, 1) := dk_101 (dk_at dksX6_every_1 10 rfl rfl)
theorem dX6_every_35 : decode cX6_every 35 = .ok (.iload 4, 2) := dk_21 4 (dk_at dksX6_every_1 11 rfl rfl)
theorem dX6_every_37 : decode cX6_every 37 = .ok (.i2l, 1) := dk_133 (dk_at dksX6_every_1 13 rfl rfl)
theorem dX6_every_38 : decode cX6_every 38 = .ok (.lmul, 1) := dk_105 (dk_at dksX6_every_1 14 rfl rfl)
theorem dX6_every_39 : decode cX6_every 39 = .ok (.ladd, 1) := dk_97 (dk_at dksX6_every_1 15 rfl rfl)
theorem dX6_every_40 : decode cX6_every 40 = .ok (.iload_n 3, 1) := dk_29 (dk_at dksX6_every_1 16 rfl rfl)
theorem dX6_every_41 : decode cX6_every 41 = .ok (.i2l, 1) := dk_133 (dk_at dksX6_every_1 17 rfl rfl)
theorem dX6_every_42 : decode cX6_every 42 = .ok (.ladd, 1) := dk_97 (dk_at dksX6_every_1 18 rfl rfl)
theorem dX6_every_43 : decode cX6_every 43 = .ok (.iload 6, 2) := dk_21 6 (dk_at dksX6_every_1 19 rfl rfl)
theorem dX6_every_45 : decode cX6_every 45 = .ok (.invokevirtual 250, 3) := dk_182 0 250 (dk_at dksX6_every_1 21 rfl rfl)
theorem dX6_every_48 : decode cX6_every 48 = .ok (.ifCond .ne 5, 3) := dk_154 0 5 (dk_at dksX6_every_2 0 rfl rfl)
theorem dX6_every_51 : decode cX6_every 51 = .ok (.iconst (-1), 1) := dk_2 (dk_at dksX6_every_2 3 rfl rfl)
theorem dX6_every_52 : decode cX6_every 52 = .ok (.ireturn, 1) := dk_172 (dk_at dksX6_every_2 4 rfl rfl)
theorem dX6_every_53 : decode cX6_every 53 = .ok (.aload_n 0, 1) := dk_42 (dk_at dksX6_every_2 5 rfl rfl)
theorem dX6_every_54 : decode cX6_every 54 = .ok (.invokevirtual 254, 3) := dk_182 0 254 (dk_at dksX6_every_2 6 rfl rfl)
theorem dX6_every_57 : decode cX6_every 57 = .ok (.iload 5, 2) := dk_21 5 (dk_at dksX6_every_2 9 rfl rfl)
theorem dX6_every_59 : decode cX6_every 59 = .ok (.iadd, 1) := dk_96 (dk_at dksX6_every_2 11 rfl rfl)
theorem dX6_every_60 : decode cX6_every 60 = .ok (.bipush 12, 2) := dk_16 12 (dk_at dksX6_every_2 12 rfl rfl)
theorem dX6_every_62 : decode cX6_every 62 = .ok (.if_icmp .le 6, 3) := dk_164 0 6 (dk_at dksX6_every_2 14 rfl rfl)
theorem dX6_every_65 : decode cX6_every 65 = .ok (.bipush (-3), 2) := dk_16 253 (dk_at dksX6_every_2 17 rfl rfl)
theorem dX6_every_67 : decode cX6_every 67 = .ok (.ireturn, 1) := dk_172 (dk_at dksX6_every_2 19 rfl rfl)
theorem dX6_every_68 : decode cX6_every 68 = .ok (.iload_n 1, 1) := dk_27 (dk_at dksX6_every_2 20 rfl rfl)
theorem dX6_every_69 : decode cX6_every 69 = .ok (.bipush 100, 2) := dk_16 100 (dk_at dksX6_every_2 21 rfl rfl)
theorem dX6_every_71 : decode cX6_every 71 = .ok (.idiv, 1) := dk_108 (dk_at dksX6_every_2 23 rfl rfl)
theorem dX6_every_72 : decode cX6_every 72 = .ok (.iload_n 1, 1) := dk_27 (dk_at dksX6_every_3 0 rfl rfl)
theorem dX6_every_73 : decode cX6_every 73 = .ok (.bipush 100, 2) := dk_16 100 (dk_at dksX6_every_3 1 rfl rfl)
theorem dX6_every_75 : decode cX6_every 75 = .ok (.irem, 1) := dk_112 (dk_at dksX6_every_3 3 rfl rfl)
theorem dX6_every_76 : decode cX6_every 76 = .ok (.iload_n 1, 1) := dk_27 (dk_at dksX6_every_3 4 rfl rfl)
theorem dX6_every_77 : decode cX6_every 77 = .ok (.bipush 100, 2) := dk_16 100 (dk_at dksX6_every_3 5 rfl rfl)
theorem dX6_every_79 : decode cX6_every 79 = .ok (.idiv, 1) := dk_108 (dk_at dksX6_every_3 7 rfl rfl)
theorem dX6_every_80 : decode cX6_every 80 = .ok (.isub, 1) := dk_100 (dk_at dksX6_every_3 8 rfl rfl)
theorem dX6_every_81 : decode cX6_every 81 = .ok (.iconst 1, 1) := dk_4 (dk_at dksX6_every_3 9 rfl rfl)
theorem dX6_every_82 : decode cX6_every 82 = .ok (.iadd, 1) := dk_96 (dk_at dksX6_every_3 10 rfl rfl)
theorem dX6_every_83 : decode cX6_every 83 = .ok (.invokestatic 92, 3) := dk_184 0 92 (dk_at dksX6_every_3 11 rfl rfl)
theorem dX6_every_86 : decode cX6_every 86 = .ok (.istore 7, 2) := dk_54 7 (dk_at dksX6_every_3 14 rfl rfl)
theorem dX6_every_88 : decode cX6_every 88 = .ok (.iconst 0, 1) := dk_3 (dk_at dksX6_every_3 16 rfl rfl)
theorem dX6_every_89 : decode cX6_every 89 = .ok (.istore 8, 2) := dk_54 8 (dk_at dksX6_every_3 17 rfl rfl)
theorem dX6_every_91 : decode cX6_every 91 = .ok (.iload 8, 2) := dk_21 8 (dk_at dksX6_every_3 19 rfl rfl)
theorem dX6_every_93 : decode cX6_every 93 = .ok (.iload 5, 2) := dk_21 5 (dk_at dksX6_every_3 21 rfl rfl)
theorem dX6_every_95 : decode cX6_every 95 = .ok (.if_icmp .ge 37, 3) := dk_162 0 37 (dk_at dksX6_every_4 0 rfl rfl)
theorem dX6_every_98 : decode cX6_every 98 = .ok (.aload_n 0, 1) := dk_42 (dk_at dksX6_every_4 3 rfl rfl)
theorem dX6_every_99 : decode cX6_every 99 = .ok (.iload 7, 2) := dk_21 7 (dk_at dksX6_every_4 4 rfl rfl)
theorem dX6_every_101 : decode cX6_every 101 = .ok (.iload_n 2, 1) := dk_28 (dk_at dksX6_every_4 6 rfl rfl)
theorem dX6_every_102 : decode cX6_every 102 = .ok (.iload 8, 2) := dk_21 8 (dk_at dksX6_every_4 7 rfl rfl)
theorem dX6_every_104 : decode cX6_every 104 = .ok (.iload 4, 2) := dk_21 4 (dk_at dksX6_every_4 9 rfl rfl)
theorem dX6_every_106 : decode cX6_every 106 = .ok (.imul, 1) := dk_104 (dk_at dksX6_every_4 11 rfl rfl)
theorem dX6_every_107 : decode cX6_every 107 = .ok (.iadd, 1) := dk_96 (dk_at dksX6_every_4 12 rfl rfl)
theorem dX6_every_108 : decode cX6_every 108 = .ok (.iload_n 2, 1) := dk_28 (dk_at dksX6_every_4 13 rfl rfl)
theorem dX6_every_109 : decode cX6_every 109 = .ok (.iload 8, 2) := dk_21 8 (dk_at dksX6_every_4 14 rfl rfl)
theorem dX6_every_111 : decode cX6_every 111 = .ok (.iload 4, 2) := dk_21 4 (dk_at dksX6_every_4 16 rfl rfl)
theorem dX6_every_113 : decode cX6_every 113 = .ok (.imul, 1) := dk_104 (dk_at dksX6_every_4 18 rfl rfl)
theorem dX6_every_114 : decode cX6_every 114 = .ok (.iadd, 1) := dk_96 (dk_at dksX6_every_4 19 rfl rfl)
theorem dX6_every_115 : decode cX6_every 115 = .ok (.iload_n 3, 1) := dk_29 (dk_at dksX6_every_4 20 rfl rfl)
theorem dX6_every_116 : decode cX6_every 116 = .ok (.iadd, 1) := dk_96 (dk_at dksX6_every_4 21 rfl rfl)
theorem dX6_every_117 : decode cX6_every 117 = .ok (.invokevirtual 257, 3) := dk_182 1 1 (dk_at dksX6_every_5 0 rfl rfl)
theorem dX6_every_120 : decode cX6_every 120 = .ok (.ifCond .eq 6, 3) := dk_153 0 6 (dk_at dksX6_every_5 3 rfl rfl)
theorem dX6_every_123 : decode cX6_every 123 = .ok (.bipush (-5), 2) := dk_16 251 (dk_at dksX6_every_5 6 rfl rfl)
theorem dX6_every_125 : decode cX6_every 125 = .ok (.ireturn, 1) := dk_172 (dk_at dksX6_every_5 8 rfl rfl)
theorem dX6_every_126 : decode cX6_every 126 = .ok (.iinc 8 1, 3) := dk_132 8 1 (dk_at dksX6_every_5 9 rfl rfl)
theorem dX6_every_129 : decode cX6_every 129 = .ok (.goto (-38), 3) := dk_167 255 218 (dk_at dksX6_every_5 12 rfl rfl)
theorem dX6_every_132 : decode cX6_every 132 = .ok (.aload_n 0, 1) := dk_42 (dk_at dksX6_every_5 15 rfl rfl)
theorem dX6_every_133 : decode cX6_every 133 = .ok (.getfield 9, 3) := dk_180 0 9 (dk_at dksX6_every_5 16 rfl rfl)
theorem dX6_every_136 : decode cX6_every 136 = .ok (.iconst 5, 1) := dk_8 (dk_at dksX6_every_5 19 rfl rfl)
theorem dX6_every_137 : decode cX6_every 137 = .ok (.iaload, 1) := dk_46 (dk_at dksX6_every_5 20 rfl rfl)
theorem dX6_every_138 : decode cX6_every 138 = .ok (.istore 8, 2) := dk_54 8 (dk_at dksX6_every_5 21 rfl rfl)
theorem dX6_every_140 : decode cX6_every 140 = .ok (.iconst 0, 1) := dk_3 (dk_at dksX6_every_5 23 rfl rfl)
theorem dX6_every_141 : decode cX6_every 141 = .ok (.istore 9, 2) := dk_54 9 (dk_at dksX6_every_6 0 rfl rfl)
theorem dX6_every_143 : decode cX6_every 143 = .ok (.iload 9, 2) := dk_21 9 (dk_at dksX6_every_6 2 rfl rfl)
theorem dX6_every_145 : decode cX6_every 145 = .ok (.iload 5, 2) := dk_21 5 (dk_at dksX6_every_6 4 rfl rfl)
theorem dX6_every_147 : decode cX6_every 147 = .ok (.if_icmp .ge 33, 3) := dk_162 0 33 (dk_at dksX6_every_6 6 rfl rfl)
theorem dX6_every_150 : decode cX6_every 150 = .ok (.aload_n 0, 1) := dk_42 (dk_at dksX6_every_6 9 rfl rfl)
theorem dX6_every_151 : decode cX6_every 151 = .ok (.iload_n 1, 1) := dk_27 (dk_at dksX6_every_6 10 rfl rfl)
theorem dX6_every_152 : decode cX6_every 152 = .ok (.iload_n 2, 1) := dk_28 (dk_at dksX6_every_6 11 rfl rfl)
theorem dX6_every_153 : decode cX6_every 153 = .ok (.iload 9, 2) := dk_21 9 (dk_at dksX6_every_6 12 rfl rfl)
theorem dX6_every_155 : decode cX6_every 155 = .ok (.iload 4, 2) := dk_21 4 (dk_at dksX6_every_6 14 rfl rfl)
theorem dX6_every_157 : decode cX6_every 157 = .ok (.imul, 1) := dk_104 (dk_at dksX6_every_6 16 rfl rfl)
theorem dX6_every_158 : decode cX6_every 158 = .ok (.iadd, 1) := dk_96 (dk_at dksX6_every_6 17 rfl rfl)
theorem dX6_every_159 : decode cX6_every 159 = .ok (.iload_n 2, 1) := dk_28 (dk_at dksX6_every_6 18 rfl rfl)
theorem dX6_every_160 : decode cX6_every 160 = .ok (.iload 9, 2) := dk_21 9 (dk_at dksX6_every_6 19 rfl rfl)
theorem dX6_every_162 : decode cX6_every 162 = .ok (.iload 4, 2) := dk_21 4 (dk_at dksX6_every_6 21 rfl rfl)
theorem dX6_every_164 : decode cX6_every 164 = .ok (.imul, 1) := dk_104 (dk_at dksX6_every_6 23 rfl rfl)
theorem dX6_every_165 : decode cX6_every 165 = .ok (.iadd, 1) := dk_96 (dk_at dksX6_every_7 0 rfl rfl)
theorem dX6_every_166 : decode cX6_every 166 = .ok (.iload_n 3, 1) := dk_29 (dk_at dksX6_every_7 1 rfl rfl)
theorem dX6_every_167 : decode cX6_every 167 = .ok (.iadd, 1) := dk_96 (dk_at dksX6_every_7 2 rfl rfl)
theorem dX6_every_168 : decode cX6_every 168 = .ok (.iload 6, 2) := dk_21 6 (dk_at dksX6_every_7 3 rfl rfl)
theorem dX6_every_170 : decode cX6_every 170 = .ok (.invokevirtual 261, 3) := dk_182 1 5 (dk_at dksX6_every_7 5 rfl rfl)
theorem dX6_every_173 : decode cX6_every 173 = .ok (.pop, 1) := dk_87 (dk_at dksX6_every_7 8 rfl rfl)
theorem dX6_every_174 : decode cX6_every 174 = .ok (.iinc 9 1, 3) := dk_132 9 1 (dk_at dksX6_every_7 9 rfl rfl)
theorem dX6_every_177 : decode cX6_every 177 = .ok (.goto (-34), 3) := dk_167 255 222 (dk_at dksX6_every_7 12 rfl rfl)
theorem dX6_every_180 : decode cX6_every 180 = .ok (.iload 8, 2) := dk_21 8 (dk_at dksX6_every_7 15 rfl rfl)
theorem dX6_every_182 : decode cX6_every 182 = .ok (.ireturn, 1) := dk_172 (dk_at dksX6_every_7 17 rfl rfl)
abbrev cX6_free : ByteArray := prog_33_method_64_code
def dkwX6_free_2 : List UInt8 := [172]
abbrev dktX6_free_2 : List UInt8 := dkwX6_free_2 ++ []
def dkwX6_free_1 : List UInt8 := [180, 0, 9, 16, 24, 28, 16, 6, 104, 96, 2, 79, 42, 182, 0, 254, 172, 132, 2, 1, 167, 255, 215, 2]
abbrev dktX6_free_1 : List UInt8 := dkwX6_free_1 ++ dktX6_free_2
def dkwX6_free_0 : List UInt8 := [3, 61, 28, 16, 12, 162, 0, 41, 27, 155, 0, 37, 42, 28, 3, 182, 0, 95, 27, 160, 0, 21, 42]
abbrev dktX6_free_0 : List UInt8 := dkwX6_free_0 ++ dktX6_free_1
theorem dksX6_free_0 : cX6_free.data.toList.drop 0 = dktX6_free_0 := by decide +kernel
theorem dksX6_free_1 : cX6_free.data.toList.drop 23 = dktX6_free_1 := dk_seg dksX6_free_0 23 rfl rfl
theorem dksX6_free_2 : cX6_free.data.toList.drop 47 = dktX6_free_2 := dk_seg dksX6_free_1 24 rfl rfl
theorem dX6_free_0 : decode cX6_free 0 = .ok (.iconst 0, 1) := dk_3 (dk_at dksX6_free_0 0 rfl rfl)
theorem dX6_free_1 : decode cX6_free 1 = .ok (.istore_n 2, 1) := dk_61 (dk_at dksX6_free_0 1 rfl rfl)
theorem dX6_free_2 : decode cX6_free 2 = .ok (.iload_n 2, 1) := dk_28 (dk_at dksX6_free_0 2 rfl rfl)
theorem dX6_free_3 : decode cX6_free 3 = .ok (.bipush 12, 2) := dk_16 12 (dk_at dksX6_free_0 3 rfl rfl)
theorem dX6_free_5 : decode cX6_free 5 = .ok (.if_icmp .ge 41, 3) := dk_162 0 41 (dk_at dksX6_free_0 5 rfl rfl)
theorem dX6_free_8 : decode cX6_free 8 = .ok (.iload_n 1, 1) := dk_27 (dk_at dksX6_free_0 8 rfl rfl)
theorem dX6_free_9 : decode cX6_free 9 = .ok (.ifCond .lt 37, 3) := dk_155 0 37 (dk_at dksX6_free_0 9 rfl rfl)
theorem dX6_free_12 : decode cX6_free 12 = .ok (.aload_n 0, 1) := dk_42 (dk_at dksX6_free_0 12 rfl rfl)
theorem dX6_free_13 : decode cX6_free 13 = .ok (.iload_n 2, 1) := dk_28 (dk_at dksX6_free_0 13 rfl rfl)
theorem dX6_free_14 : decode cX6_free 14 = .ok (.iconst 0, 1) := dk_3 (dk_at dksX6_free_0 14 rfl rfl)
theorem dX6_free_15 : decode cX6_free 15 = .ok (.invokevirtual 95, 3) := dk_182 0 95 (dk_at dksX6_free_0 15 rfl rfl)
theorem dX6_free_18 : decode cX6_free 18 = .ok (.iload_n 1, 1) := dk_27 (dk_at dksX6_free_0 18 rfl rfl)
theorem dX6_free_19 : decode cX6_free 19 = .ok (.if_icmp .ne 21, 3) := dk_160 0 21 (dk_at dksX6_free_0 19 rfl rfl)
theorem dX6_free_22 : decode cX6_free 22 = .ok (.aload_n 0, 1) := dk_42 (dk_at dksX6_free_0 22 rfl rfl)
theorem dX6_free_23 : decode cX6_free 23 = .ok (.getfield 9, 3) := dk_180 0 9 (dk_at dksX6_free_1 0 rfl rfl)
theorem dX6_free_26 : decode cX6_free 26 = .ok (.bipush 24, 2) := dk_16 24 (dk_at dksX6_free_1 3 rfl rfl)
theorem dX6_free_28 : decode cX6_free 28 = .ok (.iload_n 2, 1) := dk_28 (dk_at dksX6_free_1 5 rfl rfl)
theorem dX6_free_29 : decode cX6_free 29 = .ok (.bipush 6, 2) := dk_16 6 (dk_at dksX6_free_1 6 rfl rfl)
theorem dX6_free_31 : decode cX6_free 31 = .ok (.imul, 1) := dk_104 (dk_at dksX6_free_1 8 rfl rfl)
theorem dX6_free_32 : decode cX6_free 32 = .ok (.iadd, 1) := dk_96 (dk_at dksX6_free_1 9 rfl rfl)
theorem dX6_free_33 : decode cX6_free 33 = .ok (.iconst (-1), 1) := dk_2 (dk_at dksX6_free_1 10 rfl rfl)
theorem dX6_free_34 : decode cX6_free 34 = .ok (.iastore, 1) := dk_79 (dk_at dksX6_free_1 11 rfl rfl)
theorem dX6_free_35 : decode cX6_free 35 = .ok (.aload_n 0, 1) := dk_42 (dk_at dksX6_free_1 12 rfl rfl)
theorem dX6_free_36 : decode cX6_free 36 = .ok (.invokevirtual 254, 3) := dk_182 0 254 (dk_at dksX6_free_1 13 rfl rfl)
theorem dX6_free_39 : decode cX6_free 39 = .ok (.ireturn, 1) := dk_172 (dk_at dksX6_free_1 16 rfl rfl)
theorem dX6_free_40 : decode cX6_free 40 = .ok (.iinc 2 1, 3) := dk_132 2 1 (dk_at dksX6_free_1 17 rfl rfl)
theorem dX6_free_43 : decode cX6_free 43 = .ok (.goto (-41), 3) := dk_167 255 215 (dk_at dksX6_free_1 20 rfl rfl)
theorem dX6_free_46 : decode cX6_free 46 = .ok (.iconst (-1), 1) := dk_2 (dk_at dksX6_free_1 23 rfl rfl)
theorem dX6_free_47 : decode cX6_free 47 = .ok (.ireturn, 1) := dk_172 (dk_at dksX6_free_2 0 rfl rfl)
abbrev cX6_step : ByteArray := prog_33_method_72_code
def dkwX6_step_2 : List UInt8 := [167, 255, 244, 42, 180, 0, 9, 3, 46, 172]
abbrev dktX6_step_2 : List UInt8 := dkwX6_step_2 ++ []
def dkwX6_step_1 : List UInt8 := [19, 1, 39, 164, 0, 6, 16, 253, 172, 3, 61, 28, 27, 162, 0, 13, 42, 182, 1, 40, 132, 2, 1]
abbrev dktX6_step_1 : List UInt8 := dkwX6_step_1 ++ dktX6_step_2
def dkwX6_step_0 : List UInt8 := [27, 133, 10, 20, 0, 148, 184, 0, 79, 154, 0, 5, 2, 172, 42, 180, 0, 9, 3, 46, 27, 96]
abbrev dktX6_step_0 : List UInt8 := dkwX6_step_0 ++ dktX6_step_1
theorem dksX6_step_0 : cX6_step.data.toList.drop 0 = dktX6_step_0 := by decide +kernel
theorem dksX6_step_1 : cX6_step.data.toList.drop 22 = dktX6_step_1 := dk_seg dksX6_step_0 22 rfl rfl
theorem dksX6_step_2 : cX6_step.data.toList.drop 45 = dktX6_step_2 := dk_seg dksX6_step_1 23 rfl rfl
theorem dX6_step_0 : decode cX6_step 0 = .ok (.iload_n 1, 1) := dk_27 (dk_at dksX6_step_0 0 rfl rfl)
theorem dX6_step_1 : decode cX6_step 1 = .ok (.i2l, 1) := dk_133 (dk_at dksX6_step_0 1 rfl rfl)
theorem dX6_step_2 : decode cX6_step 2 = .ok (.lconst 1, 1) := dk_10 (dk_at dksX6_step_0 2 rfl rfl)
theorem dX6_step_3 : decode cX6_step 3 = .ok (.ldc2_w 148, 3) := dk_20 0 148 (dk_at dksX6_step_0 3 rfl rfl)
theorem dX6_step_6 : decode cX6_step 6 = .ok (.invokestatic 79, 3) := dk_184 0 79 (dk_at dksX6_step_0 6 rfl rfl)
theorem dX6_step_9 : decode cX6_step 9 = .ok (.ifCond .ne 5, 3) := dk_154 0 5 (dk_at dksX6_step_0 9 rfl rfl)
theorem dX6_step_12 : decode cX6_step 12 = .ok (.iconst (-1), 1) := dk_2 (dk_at dksX6_step_0 12 rfl rfl)
theorem dX6_step_13 : decode cX6_step 13 = .ok (.ireturn, 1) := dk_172 (dk_at dksX6_step_0 13 rfl rfl)
theorem dX6_step_14 : decode cX6_step 14 = .ok (.aload_n 0, 1) := dk_42 (dk_at dksX6_step_0 14 rfl rfl)
theorem dX6_step_15 : decode cX6_step 15 = .ok (.getfield 9, 3) := dk_180 0 9 (dk_at dksX6_step_0 15 rfl rfl)
theorem dX6_step_18 : decode cX6_step 18 = .ok (.iconst 0, 1) := dk_3 (dk_at dksX6_step_0 18 rfl rfl)
theorem dX6_step_19 : decode cX6_step 19 = .ok (.iaload, 1) := dk_46 (dk_at dksX6_step_0 19 rfl rfl)
theorem dX6_step_20 : decode cX6_step 20 = .ok (.iload_n 1, 1) := dk_27 (dk_at dksX6_step_0 20 rfl rfl)
theorem dX6_step_21 : decode cX6_step 21 = .ok (.iadd, 1) := dk_96 (dk_at dksX6_step_0 21 rfl rfl)
theorem dX6_step_22 : decode cX6_step 22 = .ok (.ldc_w 295, 3) := dk_19 1 39 (dk_at dksX6_step_1 0 rfl rfl)
theorem dX6_step_25 : decode cX6_step 25 = .ok (.if_icmp .le 6, 3) := dk_164 0 6 (dk_at dksX6_step_1 3 rfl rfl)
theorem dX6_step_28 : decode cX6_step 28 = .ok (.bipush (-3), 2) := dk_16 253 (dk_at dksX6_step_1 6 rfl rfl)
theorem dX6_step_30 : decode cX6_step 30 = .ok (.ireturn, 1) := dk_172 (dk_at dksX6_step_1 8 rfl rfl)
theorem dX6_step_31 : decode cX6_step 31 = .ok (.iconst 0, 1) := dk_3 (dk_at dksX6_step_1 9 rfl rfl)
theorem dX6_step_32 : decode cX6_step 32 = .ok (.istore_n 2, 1) := dk_61 (dk_at dksX6_step_1 10 rfl rfl)
theorem dX6_step_33 : decode cX6_step 33 = .ok (.iload_n 2, 1) := dk_28 (dk_at dksX6_step_1 11 rfl rfl)
theorem dX6_step_34 : decode cX6_step 34 = .ok (.iload_n 1, 1) := dk_27 (dk_at dksX6_step_1 12 rfl rfl)
theorem dX6_step_35 : decode cX6_step 35 = .ok (.if_icmp .ge 13, 3) := dk_162 0 13 (dk_at dksX6_step_1 13 rfl rfl)
theorem dX6_step_38 : decode cX6_step 38 = .ok (.aload_n 0, 1) := dk_42 (dk_at dksX6_step_1 16 rfl rfl)
theorem dX6_step_39 : decode cX6_step 39 = .ok (.invokevirtual 296, 3) := dk_182 1 40 (dk_at dksX6_step_1 17 rfl rfl)
theorem dX6_step_42 : decode cX6_step 42 = .ok (.iinc 2 1, 3) := dk_132 2 1 (dk_at dksX6_step_1 20 rfl rfl)
theorem dX6_step_45 : decode cX6_step 45 = .ok (.goto (-12), 3) := dk_167 255 244 (dk_at dksX6_step_2 0 rfl rfl)
theorem dX6_step_48 : decode cX6_step 48 = .ok (.aload_n 0, 1) := dk_42 (dk_at dksX6_step_2 3 rfl rfl)
theorem dX6_step_49 : decode cX6_step 49 = .ok (.getfield 9, 3) := dk_180 0 9 (dk_at dksX6_step_2 4 rfl rfl)
theorem dX6_step_52 : decode cX6_step 52 = .ok (.iconst 0, 1) := dk_3 (dk_at dksX6_step_2 7 rfl rfl)
theorem dX6_step_53 : decode cX6_step 53 = .ok (.iaload, 1) := dk_46 (dk_at dksX6_step_2 8 rfl rfl)
theorem dX6_step_54 : decode cX6_step 54 = .ok (.ireturn, 1) := dk_172 (dk_at dksX6_step_2 9 rfl rfl)
abbrev cX6_pass : ByteArray := prog_33_method_73_code
theorem dX6_pass_0 : decode cX6_pass 0 = .ok (.aload_n 0, 1) := by decide +kernel
theorem dX6_pass_1 : decode cX6_pass 1 = .ok (.invokevirtual 284, 3) := by decide +kernel
theorem dX6_pass_4 : decode cX6_pass 4 = .ok (.ireturn, 1) := by decide +kernel
abbrev cX6_holder : ByteArray := prog_33_method_75_code
def dkwX6_holder_0 : List UInt8 := [27, 184, 1, 43, 153, 0, 14, 42, 27, 182, 1, 31, 184, 0, 217, 167, 0, 4, 2, 172]
abbrev dktX6_holder_0 : List UInt8 := dkwX6_holder_0 ++ []
theorem dksX6_holder_0 : cX6_holder.data.toList.drop 0 = dktX6_holder_0 := by decide +kernel
theorem dX6_holder_0 : decode cX6_holder 0 = .ok (.iload_n 1, 1) := dk_27 (dk_at dksX6_holder_0 0 rfl rfl)
theorem dX6_holder_1 : decode cX6_holder 1 = .ok (.invokestatic 299, 3) := dk_184 1 43 (dk_at dksX6_holder_0 1 rfl rfl)
theorem dX6_holder_4 : decode cX6_holder 4 = .ok (.ifCond .eq 14, 3) := dk_153 0 14 (dk_at dksX6_holder_0 4 rfl rfl)
theorem dX6_holder_7 : decode cX6_holder 7 = .ok (.aload_n 0, 1) := dk_42 (dk_at dksX6_holder_0 7 rfl rfl)
theorem dX6_holder_8 : decode cX6_holder 8 = .ok (.iload_n 1, 1) := dk_27 (dk_at dksX6_holder_0 8 rfl rfl)
theorem dX6_holder_9 : decode cX6_holder 9 = .ok (.invokevirtual 287, 3) := dk_182 1 31 (dk_at dksX6_holder_0 9 rfl rfl)
theorem dX6_holder_12 : decode cX6_holder 12 = .ok (.invokestatic 217, 3) := dk_184 0 217 (dk_at dksX6_holder_0 12 rfl rfl)
theorem dX6_holder_15 : decode cX6_holder 15 = .ok (.goto 4, 3) := dk_167 0 4 (dk_at dksX6_holder_0 15 rfl rfl)
theorem dX6_holder_18 : decode cX6_holder 18 = .ok (.iconst (-1), 1) := dk_2 (dk_at dksX6_holder_0 18 rfl rfl)
theorem dX6_holder_19 : decode cX6_holder 19 = .ok (.ireturn, 1) := dk_172 (dk_at dksX6_holder_0 19 rfl rfl)
abbrev cX6_promised : ByteArray := prog_33_method_76_code
def dkwX6_promised_4 : List UInt8 := [184, 0, 79, 153, 0, 5, 29, 172, 132, 5, 1, 167, 255, 193, 132, 3, 1, 167, 255, 165, 16, 254, 172]
abbrev dktX6_promised_4 : List UInt8 := dkwX6_promised_4 ++ []
def dkwX6_promised_3 : List UInt8 := [160, 0, 32, 28, 133, 21, 4, 133, 21, 4, 42, 29, 16, 16, 21, 5, 96, 182, 0, 83, 96, 4, 100, 133]
abbrev dktX6_promised_3 : List UInt8 := dkwX6_promised_3 ++ dktX6_promised_4
def dkwX6_promised_2 : List UInt8 := [7, 182, 0, 83, 162, 0, 58, 21, 4, 155, 0, 53, 42, 29, 21, 5, 182, 0, 108, 27, 122, 4, 126, 4]
abbrev dktX6_promised_2 : List UInt8 := dkwX6_promised_2 ++ dktX6_promised_3
def dkwX6_promised_1 : List UInt8 := [180, 0, 9, 4, 46, 162, 0, 87, 42, 29, 16, 9, 182, 0, 83, 54, 4, 3, 54, 5, 21, 5, 42, 29]
abbrev dktX6_promised_1 : List UInt8 := dkwX6_promised_1 ++ dktX6_promised_2
def dkwX6_promised_0 : List UInt8 := [27, 184, 1, 43, 153, 0, 13, 28, 42, 180, 0, 9, 3, 46, 162, 0, 5, 2, 172, 3, 62, 29, 42]
abbrev dktX6_promised_0 : List UInt8 := dkwX6_promised_0 ++ dktX6_promised_1
theorem dksX6_promised_0 : cX6_promised.data.toList.drop 0 = dktX6_promised_0 := by decide +kernel
theorem dksX6_promised_1 : cX6_promised.data.toList.drop 23 = dktX6_promised_1 := dk_seg dksX6_promised_0 23 rfl rfl
theorem dksX6_promised_2 : cX6_promised.data.toList.drop 47 = dktX6_promised_2 := dk_seg dksX6_promised_1 24 rfl rfl
theorem dksX6_promised_3 : cX6_promised.data.toList.drop 71 = dktX6_promised_3 := dk_seg dksX6_promised_2 24 rfl rfl
theorem dksX6_promised_4 : cX6_promised.data.toList.drop 95 = dktX6_promised_4 := dk_seg dksX6_promised_3 24 rfl rfl
theorem dX6_promised_0 : decode cX6_promised 0 = .ok (.iload_n 1, 1) := dk_27 (dk_at dksX6_promised_0 0 rfl rfl)
theorem dX6_promised_1 : decode cX6_promised 1 = .ok (.invokestatic 299, 3) := dk_184 1 43 (dk_at dksX6_promised_0 1 rfl rfl)
theorem dX6_promised_4 : decode cX6_promised 4 = .ok (.ifCond .eq 13, 3) := dk_153 0 13 (dk_at dksX6_promised_0 4 rfl rfl)
theorem dX6_promised_7 : decode cX6_promised 7 = .ok (.iload_n 2, 1) := dk_28 (dk_at dksX6_promised_0 7 rfl rfl)
theorem dX6_promised_8 : decode cX6_promised 8 = .ok (.aload_n 0, 1) := dk_42 (dk_at dksX6_promised_0 8 rfl rfl)
theorem dX6_promised_9 : decode cX6_promised 9 = .ok (.getfield 9, 3) := dk_180 0 9 (dk_at dksX6_promised_0 9 rfl rfl)
theorem dX6_promised_12 : decode cX6_promised 12 = .ok (.iconst 0, 1) := dk_3 (dk_at dksX6_promised_0 12 rfl rfl)
theorem dX6_promised_13 : decode cX6_promised 13 = .ok (.iaload, 1) := dk_46 (dk_at dksX6_promised_0 13 rfl rfl)
theorem dX6_promised_14 : decode cX6_promised 14 = .ok (.if_icmp .ge 5, 3) := dk_162 0 5 (dk_at dksX6_promised_0 14 rfl rfl)
theorem dX6_promised_17 : decode cX6_promised 17 = .ok (.iconst (-1), 1) := dk_2 (dk_at dksX6_promised_0 17 rfl rfl)
theorem dX6_promised_18 : decode cX6_promised 18 = .ok (.ireturn, 1) := dk_172 (dk_at dksX6_promised_0 18 rfl rfl)
theorem dX6_promised_19 : decode cX6_promised 19 = .ok (.iconst 0, 1) := dk_3 (dk_at dksX6_promised_0 19 rfl rfl)
theorem dX6_promised_20 : decode cX6_promised 20 = .ok (.istore_n 3, 1) := dk_62 (dk_at dksX6_promised_0 20 rfl rfl)
theorem dX6_promised_21 : decode cX6_promised 21 = .ok (.iload_n 3, 1) := dk_29 (dk_at dksX6_promised_0 21 rfl rfl)
theorem dX6_promised_22 : decode cX6_promised 22 = .ok (.aload_n 0, 1) := dk_42 (dk_at dksX6_promised_0 22 rfl rfl)
theorem dX6_promised_23 : decode cX6_promised 23 = .ok (.getfield 9, 3) := dk_180 0 9 (dk_at dksX6_promised_1 0 rfl rfl)
theorem dX6_promised_26 : decode cX6_promised 26 = .ok (.iconst 1, 1) := dk_4 (dk_at dksX6_promised_1 3 rfl rfl)
theorem dX6_promised_27 : decode cX6_promised 27 = .ok (.iaload, 1) := dk_46 (dk_at dksX6_promised_1 4 rfl rfl)
theorem dX6_promised_28 : decode cX6_promised 28 = .ok (.if_icmp .ge 87, 3) := dk_162 0 87 (dk_at dksX6_promised_1 5 rfl rfl)
theorem dX6_promised_31 : decode cX6_promised 31 = .ok (.aload_n 0, 1) := dk_42 (dk_at dksX6_promised_1 8 rfl rfl)
theorem dX6_promised_32 : decode cX6_promised 32 = .ok (.iload_n 3, 1) := dk_29 (dk_at dksX6_promised_1 9 rfl rfl)
theorem dX6_promised_33 : decode cX6_promised 33 = .ok (.bipush 9, 2) := dk_16 9 (dk_at dksX6_promised_1 10 rfl rfl)
theorem dX6_promised_35 : decode cX6_promised 35 = .ok (.invokevirtual 83, 3) := dk_182 0 83 (dk_at dksX6_promised_1 12 rfl rfl)
theorem dX6_promised_38 : decode cX6_promised 38 = .ok (.istore 4, 2) := dk_54 4 (dk_at dksX6_promised_1 15 rfl rfl)
theorem dX6_promised_40 : decode cX6_promised 40 = .ok (.iconst 0, 1) := dk_3 (dk_at dksX6_promised_1 17 rfl rfl)
theorem dX6_promised_41 : decode cX6_promised 41 = .ok (.istore 5, 2) := dk_54 5 (dk_at dksX6_promised_1 18 rfl rfl)
theorem dX6_promised_43 : decode cX6_promised 43 = .ok (.iload 5, 2) := dk_21 5 (dk_at dksX6_promised_1 20 rfl rfl)
theorem dX6_promised_45 : decode cX6_promised 45 = .ok (.aload_n 0, 1) := dk_42 (dk_at dksX6_promised_1 22 rfl rfl)
theorem dX6_promised_46 : decode cX6_promised 46 = .ok (.iload_n 3, 1) := dk_29 (dk_at dksX6_promised_1 23 rfl rfl)
theorem dX6_promised_47 : decode cX6_promised 47 = .ok (.iconst 4, 1) := dk_7 (dk_at dksX6_promised_2 0 rfl rfl)
theorem dX6_promised_48 : decode cX6_promised 48 = .ok (.invokevirtual 83, 3) := dk_182 0 83 (dk_at dksX6_promised_2 1 rfl rfl)
theorem dX6_promised_51 : decode cX6_promised 51 = .ok (.if_icmp .ge 58, 3) := dk_162 0 58 (dk_at dksX6_promised_2 4 rfl rfl)
theorem dX6_promised_54 : decode cX6_promised 54 = .ok (.iload 4, 2) := dk_21 4 (dk_at dksX6_promised_2 7 rfl rfl)
theorem dX6_promised_56 : decode cX6_promised 56 = .ok (.ifCond .lt 53, 3) := dk_155 0 53 (dk_at dksX6_promised_2 9 rfl rfl)
theorem dX6_promised_59 : decode cX6_promised 59 = .ok (.aload_n 0, 1) := dk_42 (dk_at dksX6_promised_2 12 rfl rfl)
theorem dX6_promised_60 : decode cX6_promised 60 = .ok (.iload_n 3, 1) := dk_29 (dk_at dksX6_promised_2 13 rfl rfl)
theorem dX6_promised_61 : decode cX6_promised 61 = .ok (.iload 5, 2) := dk_21 5 (dk_at dksX6_promised_2 14 rfl rfl)
theorem dX6_promised_63 : decode cX6_promised 63 = .ok (.invokevirtual 108, 3) := dk_182 0 108 (dk_at dksX6_promised_2 16 rfl rfl)
theorem dX6_promised_66 : decode cX6_promised 66 = .ok (.iload_n 1, 1) := dk_27 (dk_at dksX6_promised_2 19 rfl rfl)
theorem dX6_promised_67 : decode cX6_promised 67 = .ok (.ishr, 1) := dk_122 (dk_at dksX6_promised_2 20 rfl rfl)
theorem dX6_promised_68 : decode cX6_promised 68 = .ok (.iconst 1, 1) := dk_4 (dk_at dksX6_promised_2 21 rfl rfl)
theorem dX6_promised_69 : decode cX6_promised 69 = .ok (.iand, 1) := dk_126 (dk_at dksX6_promised_2 22 rfl rfl)
theorem dX6_promised_70 : decode cX6_promised 70 = .ok (.iconst 1, 1) := dk_4 (dk_at dksX6_promised_2 23 rfl rfl)
theorem dX6_promised_71 : decode cX6_promised 71 = .ok (.if_icmp .ne 32, 3) := dk_160 0 32 (dk_at dksX6_promised_3 0 rfl rfl)
theorem dX6_promised_74 : decode cX6_promised 74 = .ok (.iload_n 2, 1) := dk_28 (dk_at dksX6_promised_3 3 rfl rfl)
theorem dX6_promised_75 : decode cX6_promised 75 = .ok (.i2l, 1) := dk_133 (dk_at dksX6_promised_3 4 rfl rfl)
theorem dX6_promised_76 : decode cX6_promised 76 = .ok (.iload 4, 2) := dk_21 4 (dk_at dksX6_promised_3 5 rfl rfl)
theorem dX6_promised_78 : decode cX6_promised 78 = .ok (.i2l, 1) := dk_133 (dk_at dksX6_promised_3 7 rfl rfl)
theorem dX6_promised_79 : decode cX6_promised 79 = .ok (.iload 4, 2) := dk_21 4 (dk_at dksX6_promised_3 8 rfl rfl)
theorem dX6_promised_81 : decode cX6_promised 81 = .ok (.aload_n 0, 1) := dk_42 (dk_at dksX6_promised_3 10 rfl rfl)
theorem dX6_promised_82 : decode cX6_promised 82 = .ok (.iload_n 3, 1) := dk_29 (dk_at dksX6_promised_3 11 rfl rfl)
theorem dX6_promised_83 : decode cX6_promised 83 = .ok (.bipush 16, 2) := dk_16 16 (dk_at dksX6_promised_3 12 rfl rfl)
theorem dX6_promised_85 : decode cX6_promised 85 = .ok (.iload 5, 2) := dk_21 5 (dk_at dksX6_promised_3 14 rfl rfl)
theorem dX6_promised_87 : decode cX6_promised 87 = .ok (.iadd, 1) := dk_96 (dk_at dksX6_promised_3 16 rfl rfl)
theorem dX6_promised_88 : decode cX6_promised 88 = .ok (.invokevirtual 83, 3) := dk_182 0 83 (dk_at dksX6_promised_3 17 rfl rfl)
theorem dX6_promised_91 : decode cX6_promised 91 = .ok (.iadd, 1) := dk_96 (dk_at dksX6_promised_3 20 rfl rfl)
theorem dX6_promised_92 : decode cX6_promised 92 = .ok (.iconst 1, 1) := dk_4 (dk_at dksX6_promised_3 21 rfl rfl)
theorem dX6_promised_93 : decode cX6_promised 93 = .ok (.isub, 1) := dk_100 (dk_at dksX6_promised_3 22 rfl rfl)
theorem dX6_promised_94 : decode cX6_promised 94 = .ok (.i2l, 1) := dk_133 (dk_at dksX6_promised_3 23 rfl rfl)
theorem dX6_promised_95 : decode cX6_promised 95 = .ok (.invokestatic 79, 3) := dk_184 0 79 (dk_at dksX6_promised_4 0 rfl rfl)
theorem dX6_promised_98 : decode cX6_promised 98 = .ok (.ifCond .eq 5, 3) := dk_153 0 5 (dk_at dksX6_promised_4 3 rfl rfl)
theorem dX6_promised_101 : decode cX6_promised 101 = .ok (.iload_n 3, 1) := dk_29 (dk_at dksX6_promised_4 6 rfl rfl)
theorem dX6_promised_102 : decode cX6_promised 102 = .ok (.ireturn, 1) := dk_172 (dk_at dksX6_promised_4 7 rfl rfl)
theorem dX6_promised_103 : decode cX6_promised 103 = .ok (.iinc 5 1, 3) := dk_132 5 1 (dk_at dksX6_promised_4 8 rfl rfl)
theorem dX6_promised_106 : decode cX6_promised 106 = .ok (.goto (-63), 3) := dk_167 255 193 (dk_at dksX6_promised_4 11 rfl rfl)
theorem dX6_promised_109 : decode cX6_promised 109 = .ok (.iinc 3 1, 3) := dk_132 3 1 (dk_at dksX6_promised_4 14 rfl rfl)
theorem dX6_promised_112 : decode cX6_promised 112 = .ok (.goto (-91), 3) := dk_167 255 165 (dk_at dksX6_promised_4 17 rfl rfl)
theorem dX6_promised_115 : decode cX6_promised 115 = .ok (.bipush (-2), 2) := dk_16 254 (dk_at dksX6_promised_4 20 rfl rfl)
theorem dX6_promised_117 : decode cX6_promised 117 = .ok (.ireturn, 1) := dk_172 (dk_at dksX6_promised_4 22 rfl rfl)
abbrev cX6_foretell : ByteArray := prog_33_method_80_code
def dkwX6_foretell_1 : List UInt8 := [182, 1, 50, 42, 182, 1, 53, 42, 27, 16, 6, 182, 0, 83, 61, 42, 182, 1, 56, 28, 184, 0, 217, 172]
abbrev dktX6_foretell_1 : List UInt8 := dkwX6_foretell_1 ++ []
def dkwX6_foretell_0 : List UInt8 := [42, 27, 182, 0, 200, 154, 0, 5, 2, 172, 42, 27, 182, 0, 211, 154, 0, 6, 16, 251, 172, 42]
abbrev dktX6_foretell_0 : List UInt8 := dkwX6_foretell_0 ++ dktX6_foretell_1
theorem dksX6_foretell_0 : cX6_foretell.data.toList.drop 0 = dktX6_foretell_0 := by decide +kernel
theorem dksX6_foretell_1 : cX6_foretell.data.toList.drop 22 = dktX6_foretell_1 := dk_seg dksX6_foretell_0 22 rfl rfl
theorem dX6_foretell_0 : decode cX6_foretell 0 = .ok (.aload_n 0, 1) := dk_42 (dk_at dksX6_foretell_0 0 rfl rfl)
theorem dX6_foretell_1 : decode cX6_foretell 1 = .ok (.iload_n 1, 1) := dk_27 (dk_at dksX6_foretell_0 1 rfl rfl)
theorem dX6_foretell_2 : decode cX6_foretell 2 = .ok (.invokevirtual 200, 3) := dk_182 0 200 (dk_at dksX6_foretell_0 2 rfl rfl)
theorem dX6_foretell_5 : decode cX6_foretell 5 = .ok (.ifCond .ne 5, 3) := dk_154 0 5 (dk_at dksX6_foretell_0 5 rfl rfl)
theorem dX6_foretell_8 : decode cX6_foretell 8 = .ok (.iconst (-1), 1) := dk_2 (dk_at dksX6_foretell_0 8 rfl rfl)
theorem dX6_foretell_9 : decode cX6_foretell 9 = .ok (.ireturn, 1) := dk_172 (dk_at dksX6_foretell_0 9 rfl rfl)
theorem dX6_foretell_10 : decode cX6_foretell 10 = .ok (.aload_n 0, 1) := dk_42 (dk_at dksX6_foretell_0 10 rfl rfl)
theorem dX6_foretell_11 : decode cX6_foretell 11 = .ok (.iload_n 1, 1) := dk_27 (dk_at dksX6_foretell_0 11 rfl rfl)
theorem dX6_foretell_12 : decode cX6_foretell 12 = .ok (.invokevirtual 211, 3) := dk_182 0 211 (dk_at dksX6_foretell_0 12 rfl rfl)
theorem dX6_foretell_15 : decode cX6_foretell 15 = .ok (.ifCond .ne 6, 3) := dk_154 0 6 (dk_at dksX6_foretell_0 15 rfl rfl)
theorem dX6_foretell_18 : decode cX6_foretell 18 = .ok (.bipush (-5), 2) := dk_16 251 (dk_at dksX6_foretell_0 18 rfl rfl)
theorem dX6_foretell_20 : decode cX6_foretell 20 = .ok (.ireturn, 1) := dk_172 (dk_at dksX6_foretell_0 20 rfl rfl)
theorem dX6_foretell_21 : decode cX6_foretell 21 = .ok (.aload_n 0, 1) := dk_42 (dk_at dksX6_foretell_0 21 rfl rfl)
theorem dX6_foretell_22 : decode cX6_foretell 22 = .ok (.invokevirtual 306, 3) := dk_182 1 50 (dk_at dksX6_foretell_1 0 rfl rfl)
theorem dX6_foretell_25 : decode cX6_foretell 25 = .ok (.aload_n 0, 1) := dk_42 (dk_at dksX6_foretell_1 3 rfl rfl)
theorem dX6_foretell_26 : decode cX6_foretell 26 = .ok (.invokevirtual 309, 3) := dk_182 1 53 (dk_at dksX6_foretell_1 4 rfl rfl)
theorem dX6_foretell_29 : decode cX6_foretell 29 = .ok (.aload_n 0, 1) := dk_42 (dk_at dksX6_foretell_1 7 rfl rfl)
theorem dX6_foretell_30 : decode cX6_foretell 30 = .ok (.iload_n 1, 1) := dk_27 (dk_at dksX6_foretell_1 8 rfl rfl)
theorem dX6_foretell_31 : decode cX6_foretell 31 = .ok (.bipush 6, 2) := dk_16 6 (dk_at dksX6_foretell_1 9 rfl rfl)
theorem dX6_foretell_33 : decode cX6_foretell 33 = .ok (.invokevirtual 83, 3) := dk_182 0 83 (dk_at dksX6_foretell_1 11 rfl rfl)
theorem dX6_foretell_36 : decode cX6_foretell 36 = .ok (.istore_n 2, 1) := dk_61 (dk_at dksX6_foretell_1 14 rfl rfl)
theorem dX6_foretell_37 : decode cX6_foretell 37 = .ok (.aload_n 0, 1) := dk_42 (dk_at dksX6_foretell_1 15 rfl rfl)
theorem dX6_foretell_38 : decode cX6_foretell 38 = .ok (.invokevirtual 312, 3) := dk_182 1 56 (dk_at dksX6_foretell_1 16 rfl rfl)
theorem dX6_foretell_41 : decode cX6_foretell 41 = .ok (.iload_n 2, 1) := dk_28 (dk_at dksX6_foretell_1 19 rfl rfl)
theorem dX6_foretell_42 : decode cX6_foretell 42 = .ok (.invokestatic 217, 3) := dk_184 0 217 (dk_at dksX6_foretell_1 20 rfl rfl)
theorem dX6_foretell_45 : decode cX6_foretell 45 = .ok (.ireturn, 1) := dk_172 (dk_at dksX6_foretell_1 23 rfl rfl)
abbrev cX6_plan : ByteArray := prog_33_method_81_code
def dkwX6_plan_3 : List UInt8 := [172]
abbrev dktX6_plan_3 : List UInt8 := dkwX6_plan_3 ++ []
def dkwX6_plan_2 : List UInt8 := [180, 0, 9, 17, 10, 96, 28, 96, 27, 96, 46, 167, 0, 5, 16, 254, 54, 4, 42, 182, 1, 56, 21, 4]
abbrev dktX6_plan_2 : List UInt8 := dkwX6_plan_2 ++ dktX6_plan_3
def dkwX6_plan_1 : List UInt8 := [180, 0, 9, 16, 6, 46, 28, 100, 62, 27, 156, 0, 7, 29, 167, 0, 25, 27, 29, 162, 0, 18, 42]
abbrev dktX6_plan_1 : List UInt8 := dkwX6_plan_1 ++ dktX6_plan_2
def dkwX6_plan_0 : List UInt8 := [27, 2, 162, 0, 5, 2, 172, 42, 180, 0, 9, 16, 6, 46, 61, 42, 182, 1, 50, 42, 182, 1, 53, 42]
abbrev dktX6_plan_0 : List UInt8 := dkwX6_plan_0 ++ dktX6_plan_1
theorem dksX6_plan_0 : cX6_plan.data.toList.drop 0 = dktX6_plan_0 := by decide +kernel
theorem dksX6_plan_1 : cX6_plan.data.toList.drop 24 = dktX6_plan_1 := dk_seg dksX6_plan_0 24 rfl rfl
theorem dksX6_plan_2 : cX6_plan.data.toList.drop 47 = dktX6_plan_2 := dk_seg dksX6_plan_1 23 rfl rfl
theorem dksX6_plan_3 : cX6_plan.data.toList.drop 71 = dktX6_plan_3 := dk_seg dksX6_plan_2 24 rfl rfl
theorem dX6_plan_0 : decode cX6_plan 0 = .ok (.iload_n 1, 1) := dk_27 (dk_at dksX6_plan_0 0 rfl rfl)
theorem dX6_plan_1 : decode cX6_plan 1 = .ok (.iconst (-1), 1) := dk_2 (dk_at dksX6_plan_0 1 rfl rfl)
theorem dX6_plan_2 : decode cX6_plan 2 = .ok (.if_icmp .ge 5, 3) := dk_162 0 5 (dk_at dksX6_plan_0 2 rfl rfl)
theorem dX6_plan_5 : decode cX6_plan 5 = .ok (.iconst (-1), 1) := dk_2 (dk_at dksX6_plan_0 5 rfl rfl)
theorem dX6_plan_6 : decode cX6_plan 6 = .ok (.ireturn, 1) := dk_172 (dk_at dksX6_plan_0 6 rfl rfl)
theorem dX6_plan_7 : decode cX6_plan 7 = .ok (.aload_n 0, 1) := dk_42 (dk_at dksX6_plan_0 7 rfl rfl)
theorem dX6_plan_8 : decode cX6_plan 8 = .ok (.getfield 9, 3) := dk_180 0 9 (dk_at dksX6_plan_0 8 rfl rfl)
theorem dX6_plan_11 : decode cX6_plan 11 = .ok (.bipush 6, 2) := dk_16 6 (dk_at dksX6_plan_0 11 rfl rfl)
theorem dX6_plan_13 : decode cX6_plan 13 = .ok (.iaload, 1) := dk_46 (dk_at dksX6_plan_0 13 rfl rfl)
theorem dX6_plan_14 : decode cX6_plan 14 = .ok (.istore_n 2, 1) := dk_61 (dk_at dksX6_plan_0 14 rfl rfl)
theorem dX6_plan_15 : decode cX6_plan 15 = .ok (.aload_n 0, 1) := dk_42 (dk_at dksX6_plan_0 15 rfl rfl)
theorem dX6_plan_16 : decode cX6_plan 16 = .ok (.invokevirtual 306, 3) := dk_182 1 50 (dk_at dksX6_plan_0 16 rfl rfl)
theorem dX6_plan_19 : decode cX6_plan 19 = .ok (.aload_n 0, 1) := dk_42 (dk_at dksX6_plan_0 19 rfl rfl)
theorem dX6_plan_20 : decode cX6_plan 20 = .ok (.invokevirtual 309, 3) := dk_182 1 53 (dk_at dksX6_plan_0 20 rfl rfl)
theorem dX6_plan_23 : decode cX6_plan 23 = .ok (.aload_n 0, 1) := dk_42 (dk_at dksX6_plan_0 23 rfl rfl)
theorem dX6_plan_24 : decode cX6_plan 24 = .ok (.getfield 9, 3) := dk_180 0 9 (dk_at dksX6_plan_1 0 rfl rfl)
theorem dX6_plan_27 : decode cX6_plan 27 = .ok (.bipush 6, 2) := dk_16 6 (dk_at dksX6_plan_1 3 rfl rfl)
theorem dX6_plan_29 : decode cX6_plan 29 = .ok (.iaload, 1) := dk_46 (dk_at dksX6_plan_1 5 rfl rfl)
theorem dX6_plan_30 : decode cX6_plan 30 = .ok (.iload_n 2, 1) := dk_28 (dk_at dksX6_plan_1 6 rfl rfl)
theorem dX6_plan_31 : decode cX6_plan 31 = .ok (.isub, 1) := dk_100 (dk_at dksX6_plan_1 7 rfl rfl)
theorem dX6_plan_32 : decode cX6_plan 32 = .ok (.istore_n 3, 1) := dk_62 (dk_at dksX6_plan_1 8 rfl rfl)
theorem dX6_plan_33 : decode cX6_plan 33 = .ok (.iload_n 1, 1) := dk_27 (dk_at dksX6_plan_1 9 rfl rfl)
theorem dX6_plan_34 : decode cX6_plan 34 = .ok (.ifCond .ge 7, 3) := dk_156 0 7 (dk_at dksX6_plan_1 10 rfl rfl)
theorem dX6_plan_37 : decode cX6_plan 37 = .ok (.iload_n 3, 1) := dk_29 (dk_at dksX6_plan_1 13 rfl rfl)
theorem dX6_plan_38 : decode cX6_plan 38 = .ok (.goto 25, 3) := dk_167 0 25 (dk_at dksX6_plan_1 14 rfl rfl)
theorem dX6_plan_41 : decode cX6_plan 41 = .ok (.iload_n 1, 1) := dk_27 (dk_at dksX6_plan_1 17 rfl rfl)
theorem dX6_plan_42 : decode cX6_plan 42 = .ok (.iload_n 3, 1) := dk_29 (dk_at dksX6_plan_1 18 rfl rfl)
theorem dX6_plan_43 : decode cX6_plan 43 = .ok (.if_icmp .ge 18, 3) := dk_162 0 18 (dk_at dksX6_plan_1 19 rfl rfl)
theorem dX6_plan_46 : decode cX6_plan 46 = .ok (.aload_n 0, 1) := dk_42 (dk_at dksX6_plan_1 22 rfl rfl)
theorem dX6_plan_47 : decode cX6_plan 47 = .ok (.getfield 9, 3) := dk_180 0 9 (dk_at dksX6_plan_2 0 rfl rfl)
theorem dX6_plan_50 : decode cX6_plan 50 = .ok (.sipush 2656, 3) := dk_17 10 96 (dk_at dksX6_plan_2 3 rfl rfl)
theorem dX6_plan_53 : decode cX6_plan 53 = .ok (.iload_n 2, 1) := dk_28 (dk_at dksX6_plan_2 6 rfl rfl)
theorem dX6_plan_54 : decode cX6_plan 54 = .ok (.iadd, 1) := dk_96 (dk_at dksX6_plan_2 7 rfl rfl)
theorem dX6_plan_55 : decode cX6_plan 55 = .ok (.iload_n 1, 1) := dk_27 (dk_at dksX6_plan_2 8 rfl rfl)
theorem dX6_plan_56 : decode cX6_plan 56 = .ok (.iadd, 1) := dk_96 (dk_at dksX6_plan_2 9 rfl rfl)
theorem dX6_plan_57 : decode cX6_plan 57 = .ok (.iaload, 1) := dk_46 (dk_at dksX6_plan_2 10 rfl rfl)
theorem dX6_plan_58 : decode cX6_plan 58 = .ok (.goto 5, 3) := dk_167 0 5 (dk_at dksX6_plan_2 11 rfl rfl)
theorem dX6_plan_61 : decode cX6_plan 61 = .ok (.bipush (-2), 2) := dk_16 254 (dk_at dksX6_plan_2 14 rfl rfl)
theorem dX6_plan_63 : decode cX6_plan 63 = .ok (.istore 4, 2) := dk_54 4 (dk_at dksX6_plan_2 16 rfl rfl)
theorem dX6_plan_65 : decode cX6_plan 65 = .ok (.aload_n 0, 1) := dk_42 (dk_at dksX6_plan_2 18 rfl rfl)
theorem dX6_plan_66 : decode cX6_plan 66 = .ok (.invokevirtual 312, 3) := dk_182 1 56 (dk_at dksX6_plan_2 19 rfl rfl)
theorem dX6_plan_69 : decode cX6_plan 69 = .ok (.iload 4, 2) := dk_21 4 (dk_at dksX6_plan_2 22 rfl rfl)
theorem dX6_plan_71 : decode cX6_plan 71 = .ok (.ireturn, 1) := dk_172 (dk_at dksX6_plan_3 0 rfl rfl)
abbrev cX6_byRule : ByteArray := prog_33_method_82_code
def dkwX6_byRule_6 : List UInt8 := [167, 0, 15, 29, 4, 160, 0, 8, 21, 7, 167, 0, 5, 21, 8, 172]
abbrev dktX6_byRule_6 : List UInt8 := dkwX6_byRule_6 ++ []
def dkwX6_byRule_5 : List UInt8 := [21, 10, 184, 0, 87, 54, 8, 132, 9, 1, 167, 255, 205, 42, 182, 1, 56, 29, 154, 0, 8, 21, 6]
abbrev dktX6_byRule_5 : List UInt8 := dkwX6_byRule_5 ++ dktX6_byRule_6
def dkwX6_byRule_4 : List UInt8 := [96, 21, 9, 96, 46, 16, 6, 182, 0, 83, 21, 5, 100, 54, 10, 21, 7, 21, 10, 96, 54, 7, 21, 8]
abbrev dktX6_byRule_4 : List UInt8 := dkwX6_byRule_4 ++ dktX6_byRule_5
def dkwX6_byRule_3 : List UInt8 := [16, 254, 54, 8, 3, 54, 9, 21, 9, 21, 6, 162, 0, 50, 42, 42, 180, 0, 9, 17, 10, 96, 21, 4]
abbrev dktX6_byRule_3 : List UInt8 := dkwX6_byRule_3 ++ dktX6_byRule_4
def dkwX6_byRule_2 : List UInt8 := [5, 27, 96, 28, 79, 42, 182, 1, 53, 42, 180, 0, 9, 16, 6, 46, 21, 4, 100, 54, 6, 3, 54, 7]
abbrev dktX6_byRule_2 : List UInt8 := dkwX6_byRule_2 ++ dktX6_byRule_3
def dkwX6_byRule_1 : List UInt8 := [180, 0, 9, 16, 6, 46, 54, 4, 42, 180, 0, 9, 3, 46, 54, 5, 42, 182, 1, 50, 42, 180, 0, 9]
abbrev dktX6_byRule_1 : List UInt8 := dkwX6_byRule_1 ++ dktX6_byRule_2
def dkwX6_byRule_0 : List UInt8 := [27, 28, 184, 0, 159, 153, 0, 15, 29, 133, 9, 20, 1, 37, 184, 0, 79, 154, 0, 5, 2, 172, 42]
abbrev dktX6_byRule_0 : List UInt8 := dkwX6_byRule_0 ++ dktX6_byRule_1
theorem dksX6_byRule_0 : cX6_byRule.data.toList.drop 0 = dktX6_byRule_0 := by decide +kernel
theorem dksX6_byRule_1 : cX6_byRule.data.toList.drop 23 = dktX6_byRule_1 := dk_seg dksX6_byRule_0 23 rfl rfl
theorem dksX6_byRule_2 : cX6_byRule.data.toList.drop 47 = dktX6_byRule_2 := dk_seg dksX6_byRule_1 24 rfl rfl
theorem dksX6_byRule_3 : cX6_byRule.data.toList.drop 71 = dktX6_byRule_3 := dk_seg dksX6_byRule_2 24 rfl rfl
theorem dksX6_byRule_4 : cX6_byRule.data.toList.drop 95 = dktX6_byRule_4 := dk_seg dksX6_byRule_3 24 rfl rfl
theorem dksX6_byRule_5 : cX6_byRule.data.toList.drop 119 = dktX6_byRule_5 := dk_seg dksX6_byRule_4 24 rfl rfl
theorem dksX6_byRule_6 : cX6_byRule.data.toList.drop 142 = dktX6_byRule_6 := dk_seg dksX6_byRule_5 23 rfl rfl
theorem dX6_byRule_0 : decode cX6_byRule 0 = .ok (.iload_n 1, 1) := dk_27 (dk_at dksX6_byRule_0 0 rfl rfl)
theorem dX6_byRule_1 : decode cX6_byRule 1 = .ok (.iload_n 2, 1) := dk_28 (dk_at dksX6_byRule_0 1 rfl rfl)
theorem dX6_byRule_2 : decode cX6_byRule 2 = .ok (.invokestatic 159, 3) := dk_184 0 159 (dk_at dksX6_byRule_0 2 rfl rfl)
theorem dX6_byRule_5 : decode cX6_byRule 5 = .ok (.ifCond .eq 15, 3) := dk_153 0 15 (dk_at dksX6_byRule_0 5 rfl rfl)
theorem dX6_byRule_8 : decode cX6_byRule 8 = .ok (.iload_n 3, 1) := dk_29 (dk_at dksX6_byRule_0 8 rfl rfl)
theorem dX6_byRule_9 : decode cX6_byRule 9 = .ok (.i2l, 1) := dk_133 (dk_at dksX6_byRule_0 9 rfl rfl)
theorem dX6_byRule_10 : decode cX6_byRule 10 = .ok (.lconst 0, 1) := dk_9 (dk_at dksX6_byRule_0 10 rfl rfl)
theorem dX6_byRule_11 : decode cX6_byRule 11 = .ok (.ldc2_w 293, 3) := dk_20 1 37 (dk_at dksX6_byRule_0 11 rfl rfl)
theorem dX6_byRule_14 : decode cX6_byRule 14 = .ok (.invokestatic 79, 3) := dk_184 0 79 (dk_at dksX6_byRule_0 14 rfl rfl)
theorem dX6_byRule_17 : decode cX6_byRule 17 = .ok (.ifCond .ne 5, 3) := dk_154 0 5 (dk_at dksX6_byRule_0 17 rfl rfl)
theorem dX6_byRule_20 : decode cX6_byRule 20 = .ok (.iconst (-1), 1) := dk_2 (dk_at dksX6_byRule_0 20 rfl rfl)
theorem dX6_byRule_21 : decode cX6_byRule 21 = .ok (.ireturn, 1) := dk_172 (dk_at dksX6_byRule_0 21 rfl rfl)
theorem dX6_byRule_22 : decode cX6_byRule 22 = .ok (.aload_n 0, 1) := dk_42 (dk_at dksX6_byRule_0 22 rfl rfl)
theorem dX6_byRule_23 : decode cX6_byRule 23 = .ok (.getfield 9, 3) := dk_180 0 9 (dk_at dksX6_byRule_1 0 rfl rfl)
theorem dX6_byRule_26 : decode cX6_byRule 26 = .ok (.bipush 6, 2) := dk_16 6 (dk_at dksX6_byRule_1 3 rfl rfl)
theorem dX6_byRule_28 : decode cX6_byRule 28 = .ok (.iaload, 1) := dk_46 (dk_at dksX6_byRule_1 5 rfl rfl)
theorem dX6_byRule_29 : decode cX6_byRule 29 = .ok (.istore 4, 2) := dk_54 4 (dk_at dksX6_byRule_1 6 rfl rfl)
theorem dX6_byRule_31 : decode cX6_byRule 31 = .ok (.aload_n 0, 1) := dk_42 (dk_at dksX6_byRule_1 8 rfl rfl)
theorem dX6_byRule_32 : decode cX6_byRule 32 = .ok (.getfield 9, 3) := dk_180 0 9 (dk_at dksX6_byRule_1 9 rfl rfl)
theorem dX6_byRule_35 : decode cX6_byRule 35 = .ok (.iconst 0, 1) := dk_3 (dk_at dksX6_byRule_1 12 rfl rfl)
theorem dX6_byRule_36 : decode cX6_byRule 36 = .ok (.iaload, 1) := dk_46 (dk_at dksX6_byRule_1 13 rfl rfl)
theorem dX6_byRule_37 : decode cX6_byRule 37 = .ok (.istore 5, 2) := dk_54 5 (dk_at dksX6_byRule_1 14 rfl rfl)
theorem dX6_byRule_39 : decode cX6_byRule 39 = .ok (.aload_n 0, 1) := dk_42 (dk_at dksX6_byRule_1 16 rfl rfl)
theorem dX6_byRule_40 : decode cX6_byRule 40 = .ok (.invokevirtual 306, 3) := dk_182 1 50 (dk_at dksX6_byRule_1 17 rfl rfl)
theorem dX6_byRule_43 : decode cX6_byRule 43 = .ok (.aload_n 0, 1) := dk_42 (dk_at dksX6_byRule_1 20 rfl rfl)
theorem dX6_byRule_44 : decode cX6_byRule 44 = .ok (.getfield 9, 3) := dk_180 0 9 (dk_at dksX6_byRule_1 21 rfl rfl)
theorem dX6_byRule_47 : decode cX6_byRule 47 = .ok (.iconst 2, 1) := dk_5 (dk_at dksX6_byRule_2 0 rfl rfl)
theorem dX6_byRule_48 : decode cX6_byRule 48 = .ok (.iload_n 1, 1) := dk_27 (dk_at dksX6_byRule_2 1 rfl rfl)
theorem dX6_byRule_49 : decode cX6_byRule 49 = .ok (.iadd, 1) := dk_96 (dk_at dksX6_byRule_2 2 rfl rfl)
theorem dX6_byRule_50 : decode cX6_byRule 50 = .ok (.iload_n 2, 1) := dk_28 (dk_at dksX6_byRule_2 3 rfl rfl)
theorem dX6_byRule_51 : decode cX6_byRule 51 = .ok (.iastore, 1) := dk_79 (dk_at dksX6_byRule_2 4 rfl rfl)
theorem dX6_byRule_52 : decode cX6_byRule 52 = .ok (.aload_n 0, 1) := dk_42 (dk_at dksX6_byRule_2 5 rfl rfl)
theorem dX6_byRule_53 : decode cX6_byRule 53 = .ok (.invokevirtual 309, 3) := dk_182 1 53 (dk_at dksX6_byRule_2 6 rfl rfl)
theorem dX6_byRule_56 : decode cX6_byRule 56 = .ok (.aload_n 0, 1) := dk_42 (dk_at dksX6_byRule_2 9 rfl rfl)
theorem dX6_byRule_57 : decode cX6_byRule 57 = .ok (.getfield 9, 3) := dk_180 0 9 (dk_at dksX6_byRule_2 10 rfl rfl)
theorem dX6_byRule_60 : decode cX6_byRule 60 = .ok (.bipush 6, 2) := dk_16 6 (dk_at dksX6_byRule_2 13 rfl rfl)
theorem dX6_byRule_62 : decode cX6_byRule 62 = .ok (.iaload, 1) := dk_46 (dk_at dksX6_byRule_2 15 rfl rfl)
theorem dX6_byRule_63 : decode cX6_byRule 63 = .ok (.iload 4, 2) := dk_21 4 (dk_at dksX6_byRule_2 16 rfl rfl)
theorem dX6_byRule_65 : decode cX6_byRule 65 = .ok (.isub, 1) := dk_100 (dk_at dksX6_byRule_2 18 rfl rfl)
theorem dX6_byRule_66 : decode cX6_byRule 66 = .ok (.istore 6, 2) := dk_54 6 (dk_at dksX6_byRule_2 19 rfl rfl)
theorem dX6_byRule_68 : decode cX6_byRule 68 = .ok (.iconst 0, 1) := dk_3 (dk_at dksX6_byRule_2 21 rfl rfl)
theorem dX6_byRule_69 : decode cX6_byRule 69 = .ok (.istore 7, 2) := dk_54 7 (dk_at dksX6_byRule_2 22 rfl rfl)
theorem dX6_byRule_71 : decode cX6_byRule 71 = .ok (.bipush (-2), 2) := dk_16 254 (dk_at dksX6_byRule_3 0 rfl rfl)
theorem dX6_byRule_73 : decode cX6_byRule 73 = .ok (.istore 8, 2) := dk_54 8 (dk_at dksX6_byRule_3 2 rfl rfl)
theorem dX6_byRule_75 : decode cX6_byRule 75 = .ok (.iconst 0, 1) := dk_3 (dk_at dksX6_byRule_3 4 rfl rfl)
theorem dX6_byRule_76 : decode cX6_byRule 76 = .ok (.istore 9, 2) := dk_54 9 (dk_at dksX6_byRule_3 5 rfl rfl)
theorem dX6_byRule_78 : decode cX6_byRule 78 = .ok (.iload 9, 2) := dk_21 9 (dk_at dksX6_byRule_3 7 rfl rfl)
theorem dX6_byRule_80 : decode cX6_byRule 80 = .ok (.iload 6, 2) := dk_21 6 (dk_at dksX6_byRule_3 9 rfl rfl)
theorem dX6_byRule_82 : decode cX6_byRule 82 = .ok (.if_icmp .ge 50, 3) := dk_162 0 50 (dk_at dksX6_byRule_3 11 rfl rfl)
theorem dX6_byRule_85 : decode cX6_byRule 85 = .ok (.aload_n 0, 1) := dk_42 (dk_at dksX6_byRule_3 14 rfl rfl)
theorem dX6_byRule_86 : decode cX6_byRule 86 = .ok (.aload_n 0, 1) := dk_42 (dk_at dksX6_byRule_3 15 rfl rfl)
theorem dX6_byRule_87 : decode cX6_byRule 87 = .ok (.getfield 9, 3) := dk_180 0 9 (dk_at dksX6_byRule_3 16 rfl rfl)
theorem dX6_byRule_90 : decode cX6_byRule 90 = .ok (.sipush 2656, 3) := dk_17 10 96 (dk_at dksX6_byRule_3 19 rfl rfl)
theorem dX6_byRule_93 : decode cX6_byRule 93 = .ok (.iload 4, 2) := dk_21 4 (dk_at dksX6_byRule_3 22 rfl rfl)
theorem dX6_byRule_95 : decode cX6_byRule 95 = .ok (.iadd, 1) := dk_96 (dk_at dksX6_byRule_4 0 rfl rfl)
theorem dX6_byRule_96 : decode cX6_byRule 96 = .ok (.iload 9, 2) := dk_21 9 (dk_at dksX6_byRule_4 1 rfl rfl)
theorem dX6_byRule_98 : decode cX6_byRule 98 = .ok (.iadd, 1) := dk_96 (dk_at dksX6_byRule_4 3 rfl rfl)
theorem dX6_byRule_99 : decode cX6_byRule 99 = .ok (.iaload, 1) := dk_46 (dk_at dksX6_byRule_4 4 rfl rfl)
theorem dX6_byRule_100 : decode cX6_byRule 100 = .ok (.bipush 6, 2) := dk_16 6 (dk_at dksX6_byRule_4 5 rfl rfl)
theorem dX6_byRule_102 : decode cX6_byRule 102 = .ok (.invokevirtual 83, 3) := dk_182 0 83 (dk_at dksX6_byRule_4 7 rfl rfl)
theorem dX6_byRule_105 : decode cX6_byRule 105 = .ok (.iload 5, 2) := dk_21 5 (dk_at dksX6_byRule_4 10 rfl rfl)
theorem dX6_byRule_107 : decode cX6_byRule 107 = .ok (.isub, 1) := dk_100 (dk_at dksX6_byRule_4 12 rfl rfl)
theorem dX6_byRule_108 : decode cX6_byRule 108 = .ok (.istore 10, 2) := dk_54 10 (dk_at dksX6_byRule_4 13 rfl rfl)
theorem dX6_byRule_110 : decode cX6_byRule 110 = .ok (.iload 7, 2) := dk_21 7 (dk_at dksX6_byRule_4 15 rfl rfl)
theorem dX6_byRule_112 : decode cX6_byRule 112 = .ok (.iload 10, 2) := dk_21 10 (dk_at dksX6_byRule_4 17 rfl rfl)
theorem dX6_byRule_114 : decode cX6_byRule 114 = .ok (.iadd, 1) := dk_96 (dk_at dksX6_byRule_4 19 rfl rfl)
theorem dX6_byRule_115 : decode cX6_byRule 115 = .ok (.istore 7, 2) := dk_54 7 (dk_at dksX6_byRule_4 20 rfl rfl)
theorem dX6_byRule_117 : decode cX6_byRule 117 = .ok (.iload 8, 2) := dk_21 8 (dk_at dksX6_byRule_4 22 rfl rfl)
theorem dX6_byRule_119 : decode cX6_byRule 119 = .ok (.iload 10, 2) := dk_21 10 (dk_at dksX6_byRule_5 0 rfl rfl)
theorem dX6_byRule_121 : decode cX6_byRule 121 = .ok (.invokestatic 87, 3) := dk_184 0 87 (dk_at dksX6_byRule_5 2 rfl rfl)
theorem dX6_byRule_124 : decode cX6_byRule 124 = .ok (.istore 8, 2) := dk_54 8 (dk_at dksX6_byRule_5 5 rfl rfl)
theorem dX6_byRule_126 : decode cX6_byRule 126 = .ok (.iinc 9 1, 3) := dk_132 9 1 (dk_at dksX6_byRule_5 7 rfl rfl)
theorem dX6_byRule_129 : decode cX6_byRule 129 = .ok (.goto (-51), 3) := dk_167 255 205 (dk_at dksX6_byRule_5 10 rfl rfl)
theorem dX6_byRule_132 : decode cX6_byRule 132 = .ok (.aload_n 0, 1) := dk_42 (dk_at dksX6_byRule_5 13 rfl rfl)
theorem dX6_byRule_133 : decode cX6_byRule 133 = .ok (.invokevirtual 312, 3) := dk_182 1 56 (dk_at dksX6_byRule_5 14 rfl rfl)
theorem dX6_byRule_136 : decode cX6_byRule 136 = .ok (.iload_n 3, 1) := dk_29 (dk_at dksX6_byRule_5 17 rfl rfl)
theorem dX6_byRule_137 : decode cX6_byRule 137 = .ok (.ifCond .ne 8, 3) := dk_154 0 8 (dk_at dksX6_byRule_5 18 rfl rfl)
theorem dX6_byRule_140 : decode cX6_byRule 140 = .ok (.iload 6, 2) := dk_21 6 (dk_at dksX6_byRule_5 21 rfl rfl)
theorem dX6_byRule_142 : decode cX6_byRule 142 = .ok (.goto 15, 3) := dk_167 0 15 (dk_at dksX6_byRule_6 0 rfl rfl)
theorem dX6_byRule_145 : decode cX6_byRule 145 = .ok (.iload_n 3, 1) := dk_29 (dk_at dksX6_byRule_6 3 rfl rfl)
theorem dX6_byRule_146 : decode cX6_byRule 146 = .ok (.iconst 1, 1) := dk_4 (dk_at dksX6_byRule_6 4 rfl rfl)
theorem dX6_byRule_147 : decode cX6_byRule 147 = .ok (.if_icmp .ne 8, 3) := dk_160 0 8 (dk_at dksX6_byRule_6 5 rfl rfl)
theorem dX6_byRule_150 : decode cX6_byRule 150 = .ok (.iload 7, 2) := dk_21 7 (dk_at dksX6_byRule_6 8 rfl rfl)
theorem dX6_byRule_152 : decode cX6_byRule 152 = .ok (.goto 5, 3) := dk_167 0 5 (dk_at dksX6_byRule_6 10 rfl rfl)
theorem dX6_byRule_155 : decode cX6_byRule 155 = .ok (.iload 8, 2) := dk_21 8 (dk_at dksX6_byRule_6 13 rfl rfl)
theorem dX6_byRule_157 : decode cX6_byRule 157 = .ok (.ireturn, 1) := dk_172 (dk_at dksX6_byRule_6 15 rfl rfl)
abbrev cX6_shrunk : ByteArray := prog_33_method_84_code
def dkwX6_shrunk_4 : List UInt8 := [167, 0, 5, 16, 254, 61, 132, 3, 255, 167, 255, 178, 42, 2, 181, 0, 42, 28, 172]
abbrev dktX6_shrunk_4 : List UInt8 := dkwX6_shrunk_4 ++ []
def dkwX6_shrunk_3 : List UInt8 := [184, 0, 87, 79, 132, 4, 1, 167, 255, 221, 42, 42, 180, 0, 9, 3, 46, 182, 0, 139, 153, 0, 7, 29]
abbrev dktX6_shrunk_3 : List UInt8 := dkwX6_shrunk_3 ++ dktX6_shrunk_4
def dkwX6_shrunk_2 : List UInt8 := [162, 0, 32, 42, 180, 0, 36, 21, 4, 4, 42, 180, 0, 36, 21, 4, 46, 29, 104, 16, 100, 108]
abbrev dktX6_shrunk_2 : List UInt8 := dkwX6_shrunk_2 ++ dktX6_shrunk_3
def dkwX6_shrunk_1 : List UInt8 := [62, 29, 4, 161, 0, 79, 28, 156, 0, 75, 42, 27, 182, 1, 19, 3, 54, 4, 21, 4, 42, 180, 0, 122]
abbrev dktX6_shrunk_1 : List UInt8 := dkwX6_shrunk_1 ++ dktX6_shrunk_2
def dkwX6_shrunk_0 : List UInt8 := [42, 27, 182, 1, 59, 156, 0, 9, 42, 27, 182, 1, 59, 172, 42, 27, 181, 0, 42, 16, 254, 61, 16, 100]
abbrev dktX6_shrunk_0 : List UInt8 := dkwX6_shrunk_0 ++ dktX6_shrunk_1
theorem dksX6_shrunk_0 : cX6_shrunk.data.toList.drop 0 = dktX6_shrunk_0 := by decide +kernel
theorem dksX6_shrunk_1 : cX6_shrunk.data.toList.drop 24 = dktX6_shrunk_1 := dk_seg dksX6_shrunk_0 24 rfl rfl
theorem dksX6_shrunk_2 : cX6_shrunk.data.toList.drop 48 = dktX6_shrunk_2 := dk_seg dksX6_shrunk_1 24 rfl rfl
theorem dksX6_shrunk_3 : cX6_shrunk.data.toList.drop 70 = dktX6_shrunk_3 := dk_seg dksX6_shrunk_2 22 rfl rfl
theorem dksX6_shrunk_4 : cX6_shrunk.data.toList.drop 94 = dktX6_shrunk_4 := dk_seg dksX6_shrunk_3 24 rfl rfl
theorem dX6_shrunk_0 : decode cX6_shrunk 0 = .ok (.aload_n 0, 1) := dk_42 (dk_at dksX6_shrunk_0 0 rfl rfl)
theorem dX6_shrunk_1 : decode cX6_shrunk 1 = .ok (.iload_n 1, 1) := dk_27 (dk_at dksX6_shrunk_0 1 rfl rfl)
theorem dX6_shrunk_2 : decode cX6_shrunk 2 = .ok (.invokevirtual 315, 3) := dk_182 1 59 (dk_at dksX6_shrunk_0 2 rfl rfl)
theorem dX6_shrunk_5 : decode cX6_shrunk 5 = .ok (.ifCond .ge 9, 3) := dk_156 0 9 (dk_at dksX6_shrunk_0 5 rfl rfl)
theorem dX6_shrunk_8 : decode cX6_shrunk 8 = .ok (.aload_n 0, 1) := dk_42 (dk_at dksX6_shrunk_0 8 rfl rfl)
theorem dX6_shrunk_9 : decode cX6_shrunk 9 = .ok (.iload_n 1, 1) := dk_27 (dk_at dksX6_shrunk_0 9 rfl rfl)
theorem dX6_shrunk_10 : decode cX6_shrunk 10 = .ok (.invokevirtual 315, 3) := dk_182 1 59 (dk_at dksX6_shrunk_0 10 rfl rfl)
theorem dX6_shrunk_13 : decode cX6_shrunk 13 = .ok (.ireturn, 1) := dk_172 (dk_at dksX6_shrunk_0 13 rfl rfl)
theorem dX6_shrunk_14 : decode cX6_shrunk 14 = .ok (.aload_n 0, 1) := dk_42 (dk_at dksX6_shrunk_0 14 rfl rfl)
theorem dX6_shrunk_15 : decode cX6_shrunk 15 = .ok (.iload_n 1, 1) := dk_27 (dk_at dksX6_shrunk_0 15 rfl rfl)
theorem dX6_shrunk_16 : decode cX6_shrunk 16 = .ok (.putfield 42, 3) := dk_181 0 42 (dk_at dksX6_shrunk_0 16 rfl rfl)
theorem dX6_shrunk_19 : decode cX6_shrunk 19 = .ok (.bipush (-2), 2) := dk_16 254 (dk_at dksX6_shrunk_0 19 rfl rfl)
theorem dX6_shrunk_21 : decode cX6_shrunk 21 = .ok (.istore_n 2, 1) := dk_61 (dk_at dksX6_shrunk_0 21 rfl rfl)
theorem dX6_shrunk_22 : decode cX6_shrunk 22 = .ok (.bipush 100, 2) := dk_16 100 (dk_at dksX6_shrunk_0 22 rfl rfl)
theorem dX6_shrunk_24 : decode cX6_shrunk 24 = .ok (.istore_n 3, 1) := dk_62 (dk_at dksX6_shrunk_1 0 rfl rfl)
theorem dX6_shrunk_25 : decode cX6_shrunk 25 = .ok (.iload_n 3, 1) := dk_29 (dk_at dksX6_shrunk_1 1 rfl rfl)
theorem dX6_shrunk_26 : decode cX6_shrunk 26 = .ok (.iconst 1, 1) := dk_4 (dk_at dksX6_shrunk_1 2 rfl rfl)
theorem dX6_shrunk_27 : decode cX6_shrunk 27 = .ok (.if_icmp .lt 79, 3) := dk_161 0 79 (dk_at dksX6_shrunk_1 3 rfl rfl)
theorem dX6_shrunk_30 : decode cX6_shrunk 30 = .ok (.iload_n 2, 1) := dk_28 (dk_at dksX6_shrunk_1 6 rfl rfl)
theorem dX6_shrunk_31 : decode cX6_shrunk 31 = .ok (.ifCond .ge 75, 3) := dk_156 0 75 (dk_at dksX6_shrunk_1 7 rfl rfl)
theorem dX6_shrunk_34 : decode cX6_shrunk 34 = .ok (.aload_n 0, 1) := dk_42 (dk_at dksX6_shrunk_1 10 rfl rfl)
theorem dX6_shrunk_35 : decode cX6_shrunk 35 = .ok (.iload_n 1, 1) := dk_27 (dk_at dksX6_shrunk_1 11 rfl rfl)
theorem dX6_shrunk_36 : decode cX6_shrunk 36 = .ok (.invokevirtual 275, 3) := dk_182 1 19 (dk_at dksX6_shrunk_1 12 rfl rfl)
theorem dX6_shrunk_39 : decode cX6_shrunk 39 = .ok (.iconst 0, 1) := dk_3 (dk_at dksX6_shrunk_1 15 rfl rfl)
theorem dX6_shrunk_40 : decode cX6_shrunk 40 = .ok (.istore 4, 2) := dk_54 4 (dk_at dksX6_shrunk_1 16 rfl rfl)
theorem dX6_shrunk_42 : decode cX6_shrunk 42 = .ok (.iload 4, 2) := dk_21 4 (dk_at dksX6_shrunk_1 18 rfl rfl)
theorem dX6_shrunk_44 : decode cX6_shrunk 44 = .ok (.aload_n 0, 1) := dk_42 (dk_at dksX6_shrunk_1 20 rfl rfl)
theorem dX6_shrunk_45 : decode cX6_shrunk 45 = .ok (.getfield 122, 3) := dk_180 0 122 (dk_at dksX6_shrunk_1 21 rfl rfl)
theorem dX6_shrunk_48 : decode cX6_shrunk 48 = .ok (.if_icmp .ge 32, 3) := dk_162 0 32 (dk_at dksX6_shrunk_2 0 rfl rfl)
theorem dX6_shrunk_51 : decode cX6_shrunk 51 = .ok (.aload_n 0, 1) := dk_42 (dk_at dksX6_shrunk_2 3 rfl rfl)
theorem dX6_shrunk_52 : decode cX6_shrunk 52 = .ok (.getfield 36, 3) := dk_180 0 36 (dk_at dksX6_shrunk_2 4 rfl rfl)
theorem dX6_shrunk_55 : decode cX6_shrunk 55 = .ok (.iload 4, 2) := dk_21 4 (dk_at dksX6_shrunk_2 7 rfl rfl)
theorem dX6_shrunk_57 : decode cX6_shrunk 57 = .ok (.iconst 1, 1) := dk_4 (dk_at dksX6_shrunk_2 9 rfl rfl)
theorem dX6_shrunk_58 : decode cX6_shrunk 58 = .ok (.aload_n 0, 1) := dk_42 (dk_at dksX6_shrunk_2 10 rfl rfl)
theorem dX6_shrunk_59 : decode cX6_shrunk 59 = .ok (.getfield 36, 3) := dk_180 0 36 (dk_at dksX6_shrunk_2 11 rfl rfl)
theorem dX6_shrunk_62 : decode cX6_shrunk 62 = .ok (.iload 4, 2) := dk_21 4 (dk_at dksX6_shrunk_2 14 rfl rfl)
theorem dX6_shrunk_64 : decode cX6_shrunk 64 = .ok (.iaload, 1) := dk_46 (dk_at dksX6_shrunk_2 16 rfl rfl)
theorem dX6_shrunk_65 : decode cX6_shrunk 65 = .ok (.iload_n 3, 1) := dk_29 (dk_at dksX6_shrunk_2 17 rfl rfl)
theorem dX6_shrunk_66 : decode cX6_shrunk 66 = .ok (.imul, 1) := dk_104 (dk_at dksX6_shrunk_2 18 rfl rfl)
theorem dX6_shrunk_67 : decode cX6_shrunk 67 = .ok (.bipush 100, 2) := dk_16 100 (dk_at dksX6_shrunk_2 19 rfl rfl)
theorem dX6_shrunk_69 : decode cX6_shrunk 69 = .ok (.idiv, 1) := dk_108 (dk_at dksX6_shrunk_2 21 rfl rfl)
theorem dX6_shrunk_70 : decode cX6_shrunk 70 = .ok (.invokestatic 87, 3) := dk_184 0 87 (dk_at dksX6_shrunk_3 0 rfl rfl)
theorem dX6_shrunk_73 : decode cX6_shrunk 73 = .ok (.iastore, 1) := dk_79 (dk_at dksX6_shrunk_3 3 rfl rfl)
theorem dX6_shrunk_74 : decode cX6_shrunk 74 = .ok (.iinc 4 1, 3) := dk_132 4 1 (dk_at dksX6_shrunk_3 4 rfl rfl)
theorem dX6_shrunk_77 : decode cX6_shrunk 77 = .ok (.goto (-35), 3) := dk_167 255 221 (dk_at dksX6_shrunk_3 7 rfl rfl)
theorem dX6_shrunk_80 : decode cX6_shrunk 80 = .ok (.aload_n 0, 1) := dk_42 (dk_at dksX6_shrunk_3 10 rfl rfl)
theorem dX6_shrunk_81 : decode cX6_shrunk 81 = .ok (.aload_n 0, 1) := dk_42 (dk_at dksX6_shrunk_3 11 rfl rfl)
theorem dX6_shrunk_82 : decode cX6_shrunk 82 = .ok (.getfield 9, 3) := dk_180 0 9 (dk_at dksX6_shrunk_3 12 rfl rfl)
theorem dX6_shrunk_85 : decode cX6_shrunk 85 = .ok (.iconst 0, 1) := dk_3 (dk_at dksX6_shrunk_3 15 rfl rfl)
theorem dX6_shrunk_86 : decode cX6_shrunk 86 = .ok (.iaload, 1) := dk_46 (dk_at dksX6_shrunk_3 16 rfl rfl)
theorem dX6_shrunk_87 : decode cX6_shrunk 87 = .ok (.invokevirtual 139, 3) := dk_182 0 139 (dk_at dksX6_shrunk_3 17 rfl rfl)
theorem dX6_shrunk_90 : decode cX6_shrunk 90 = .ok (.ifCond .eq 7, 3) := dk_153 0 7 (dk_at dksX6_shrunk_3 20 rfl rfl)
theorem dX6_shrunk_93 : decode cX6_shrunk 93 = .ok (.iload_n 3, 1) := dk_29 (dk_at dksX6_shrunk_3 23 rfl rfl)
theorem dX6_shrunk_94 : decode cX6_shrunk 94 = .ok (.goto 5, 3) := dk_167 0 5 (dk_at dksX6_shrunk_4 0 rfl rfl)
theorem dX6_shrunk_97 : decode cX6_shrunk 97 = .ok (.bipush (-2), 2) := dk_16 254 (dk_at dksX6_shrunk_4 3 rfl rfl)
theorem dX6_shrunk_99 : decode cX6_shrunk 99 = .ok (.istore_n 2, 1) := dk_61 (dk_at dksX6_shrunk_4 5 rfl rfl)
theorem dX6_shrunk_100 : decode cX6_shrunk 100 = .ok (.iinc 3 (-1), 3) := dk_132 3 255 (dk_at dksX6_shrunk_4 6 rfl rfl)
theorem dX6_shrunk_103 : decode cX6_shrunk 103 = .ok (.goto (-78), 3) := dk_167 255 178 (dk_at dksX6_shrunk_4 9 rfl rfl)
theorem dX6_shrunk_106 : decode cX6_shrunk 106 = .ok (.aload_n 0, 1) := dk_42 (dk_at dksX6_shrunk_4 12 rfl rfl)
theorem dX6_shrunk_107 : decode cX6_shrunk 107 = .ok (.iconst (-1), 1) := dk_2 (dk_at dksX6_shrunk_4 13 rfl rfl)
theorem dX6_shrunk_108 : decode cX6_shrunk 108 = .ok (.putfield 42, 3) := dk_181 0 42 (dk_at dksX6_shrunk_4 14 rfl rfl)
theorem dX6_shrunk_111 : decode cX6_shrunk 111 = .ok (.iload_n 2, 1) := dk_28 (dk_at dksX6_shrunk_4 17 rfl rfl)
theorem dX6_shrunk_112 : decode cX6_shrunk 112 = .ok (.ireturn, 1) := dk_172 (dk_at dksX6_shrunk_4 18 rfl rfl)
abbrev cX6_moves : ByteArray := prog_33_method_90_code
def dkwX6_moves_1 : List UInt8 := [42, 182, 1, 77, 61, 42, 2, 181, 0, 42, 28, 172]
abbrev dktX6_moves_1 : List UInt8 := dkwX6_moves_1 ++ []
def dkwX6_moves_0 : List UInt8 := [42, 27, 182, 1, 59, 156, 0, 9, 42, 27, 182, 1, 59, 172, 42, 27, 181, 0, 42, 42, 27, 182, 1, 19]
abbrev dktX6_moves_0 : List UInt8 := dkwX6_moves_0 ++ dktX6_moves_1
theorem dksX6_moves_0 : cX6_moves.data.toList.drop 0 = dktX6_moves_0 := by decide +kernel
theorem dksX6_moves_1 : cX6_moves.data.toList.drop 24 = dktX6_moves_1 := dk_seg dksX6_moves_0 24 rfl rfl
theorem dX6_moves_0 : decode cX6_moves 0 = .ok (.aload_n 0, 1) := dk_42 (dk_at dksX6_moves_0 0 rfl rfl)
theorem dX6_moves_1 : decode cX6_moves 1 = .ok (.iload_n 1, 1) := dk_27 (dk_at dksX6_moves_0 1 rfl rfl)
theorem dX6_moves_2 : decode cX6_moves 2 = .ok (.invokevirtual 315, 3) := dk_182 1 59 (dk_at dksX6_moves_0 2 rfl rfl)
theorem dX6_moves_5 : decode cX6_moves 5 = .ok (.ifCond .ge 9, 3) := dk_156 0 9 (dk_at dksX6_moves_0 5 rfl rfl)
theorem dX6_moves_8 : decode cX6_moves 8 = .ok (.aload_n 0, 1) := dk_42 (dk_at dksX6_moves_0 8 rfl rfl)
theorem dX6_moves_9 : decode cX6_moves 9 = .ok (.iload_n 1, 1) := dk_27 (dk_at dksX6_moves_0 9 rfl rfl)
theorem dX6_moves_10 : decode cX6_moves 10 = .ok (.invokevirtual 315, 3) := dk_182 1 59 (dk_at dksX6_moves_0 10 rfl rfl)
theorem dX6_moves_13 : decode cX6_moves 13 = .ok (.ireturn, 1) := dk_172 (dk_at dksX6_moves_0 13 rfl rfl)
theorem dX6_moves_14 : decode cX6_moves 14 = .ok (.aload_n 0, 1) := dk_42 (dk_at dksX6_moves_0 14 rfl rfl)
theorem dX6_moves_15 : decode cX6_moves 15 = .ok (.iload_n 1, 1) := dk_27 (dk_at dksX6_moves_0 15 rfl rfl)
theorem dX6_moves_16 : decode cX6_moves 16 = .ok (.putfield 42, 3) := dk_181 0 42 (dk_at dksX6_moves_0 16 rfl rfl)
theorem dX6_moves_19 : decode cX6_moves 19 = .ok (.aload_n 0, 1) := dk_42 (dk_at dksX6_moves_0 19 rfl rfl)
theorem dX6_moves_20 : decode cX6_moves 20 = .ok (.iload_n 1, 1) := dk_27 (dk_at dksX6_moves_0 20 rfl rfl)
theorem dX6_moves_21 : decode cX6_moves 21 = .ok (.invokevirtual 275, 3) := dk_182 1 19 (dk_at dksX6_moves_0 21 rfl rfl)
theorem dX6_moves_24 : decode cX6_moves 24 = .ok (.aload_n 0, 1) := dk_42 (dk_at dksX6_moves_1 0 rfl rfl)
theorem dX6_moves_25 : decode cX6_moves 25 = .ok (.invokevirtual 333, 3) := dk_182 1 77 (dk_at dksX6_moves_1 1 rfl rfl)
theorem dX6_moves_28 : decode cX6_moves 28 = .ok (.istore_n 2, 1) := dk_61 (dk_at dksX6_moves_1 4 rfl rfl)
theorem dX6_moves_29 : decode cX6_moves 29 = .ok (.aload_n 0, 1) := dk_42 (dk_at dksX6_moves_1 5 rfl rfl)
theorem dX6_moves_30 : decode cX6_moves 30 = .ok (.iconst (-1), 1) := dk_2 (dk_at dksX6_moves_1 6 rfl rfl)
theorem dX6_moves_31 : decode cX6_moves 31 = .ok (.putfield 42, 3) := dk_181 0 42 (dk_at dksX6_moves_1 7 rfl rfl)
theorem dX6_moves_34 : decode cX6_moves 34 = .ok (.iload_n 2, 1) := dk_28 (dk_at dksX6_moves_1 10 rfl rfl)
theorem dX6_moves_35 : decode cX6_moves 35 = .ok (.ireturn, 1) := dk_172 (dk_at dksX6_moves_1 11 rfl rfl)
abbrev cX6_together : ByteArray := prog_33_method_92_code
def dkwX6_together_3 : List UInt8 := [153, 0, 7, 5, 167, 0, 4, 3, 96, 62, 42, 2, 181, 0, 42, 42, 2, 181, 0, 46, 29, 172]
abbrev dktX6_together_3 : List UInt8 := dkwX6_together_3 ++ []
def dkwX6_together_2 : List UInt8 := [28, 181, 0, 46, 42, 27, 28, 182, 1, 80, 153, 0, 7, 4, 167, 0, 4, 3, 42, 28, 27, 182, 1, 80]
abbrev dktX6_together_2 : List UInt8 := dkwX6_together_2 ++ dktX6_together_3
def dkwX6_together_1 : List UInt8 := [27, 182, 0, 211, 153, 0, 11, 42, 28, 182, 0, 211, 154, 0, 6, 16, 251, 172, 42, 27, 181, 0, 42, 42]
abbrev dktX6_together_1 : List UInt8 := dkwX6_together_1 ++ dktX6_together_2
def dkwX6_together_0 : List UInt8 := [42, 27, 182, 0, 200, 153, 0, 16, 42, 28, 182, 0, 200, 153, 0, 8, 27, 28, 160, 0, 5, 2, 172, 42]
abbrev dktX6_together_0 : List UInt8 := dkwX6_together_0 ++ dktX6_together_1
theorem dksX6_together_0 : cX6_together.data.toList.drop 0 = dktX6_together_0 := by decide +kernel
theorem dksX6_together_1 : cX6_together.data.toList.drop 24 = dktX6_together_1 := dk_seg dksX6_together_0 24 rfl rfl
theorem dksX6_together_2 : cX6_together.data.toList.drop 48 = dktX6_together_2 := dk_seg dksX6_together_1 24 rfl rfl
theorem dksX6_together_3 : cX6_together.data.toList.drop 72 = dktX6_together_3 := dk_seg dksX6_together_2 24 rfl rfl
theorem dX6_together_0 : decode cX6_together 0 = .ok (.aload_n 0, 1) := dk_42 (dk_at dksX6_together_0 0 rfl rfl)
theorem dX6_together_1 : decode cX6_together 1 = .ok (.iload_n 1, 1) := dk_27 (dk_at dksX6_together_0 1 rfl rfl)
theorem dX6_together_2 : decode cX6_together 2 = .ok (.invokevirtual 200, 3) := dk_182 0 200 (dk_at dksX6_together_0 2 rfl rfl)
theorem dX6_together_5 : decode cX6_together 5 = .ok (.ifCond .eq 16, 3) := dk_153 0 16 (dk_at dksX6_together_0 5 rfl rfl)
theorem dX6_together_8 : decode cX6_together 8 = .ok (.aload_n 0, 1) := dk_42 (dk_at dksX6_together_0 8 rfl rfl)
theorem dX6_together_9 : decode cX6_together 9 = .ok (.iload_n 2, 1) := dk_28 (dk_at dksX6_together_0 9 rfl rfl)
theorem dX6_together_10 : decode cX6_together 10 = .ok (.invokevirtual 200, 3) := dk_182 0 200 (dk_at dksX6_together_0 10 rfl rfl)
theorem dX6_together_13 : decode cX6_together 13 = .ok (.ifCond .eq 8, 3) := dk_153 0 8 (dk_at dksX6_together_0 13 rfl rfl)
theorem dX6_together_16 : decode cX6_together 16 = .ok (.iload_n 1, 1) := dk_27 (dk_at dksX6_together_0 16 rfl rfl)
theorem dX6_together_17 : decode cX6_together 17 = .ok (.iload_n 2, 1) := dk_28 (dk_at dksX6_together_0 17 rfl rfl)
theorem dX6_together_18 : decode cX6_together 18 = .ok (.if_icmp .ne 5, 3) := dk_160 0 5 (dk_at dksX6_together_0 18 rfl rfl)
theorem dX6_together_21 : decode cX6_together 21 = .ok (.iconst (-1), 1) := dk_2 (dk_at dksX6_together_0 21 rfl rfl)
theorem dX6_together_22 : decode cX6_together 22 = .ok (.ireturn, 1) := dk_172 (dk_at dksX6_together_0 22 rfl rfl)
theorem dX6_together_23 : decode cX6_together 23 = .ok (.aload_n 0, 1) := dk_42 (dk_at dksX6_together_0 23 rfl rfl)
theorem dX6_together_24 : decode cX6_together 24 = .ok (.iload_n 1, 1) := dk_27 (dk_at dksX6_together_1 0 rfl rfl)
theorem dX6_together_25 : decode cX6_together 25 = .ok (.invokevirtual 211, 3) := dk_182 0 211 (dk_at dksX6_together_1 1 rfl rfl)
theorem dX6_together_28 : decode cX6_together 28 = .ok (.ifCond .eq 11, 3) := dk_153 0 11 (dk_at dksX6_together_1 4 rfl rfl)
theorem dX6_together_31 : decode cX6_together 31 = .ok (.aload_n 0, 1) := dk_42 (dk_at dksX6_together_1 7 rfl rfl)
theorem dX6_together_32 : decode cX6_together 32 = .ok (.iload_n 2, 1) := dk_28 (dk_at dksX6_together_1 8 rfl rfl)
theorem dX6_together_33 : decode cX6_together 33 = .ok (.invokevirtual 211, 3) := dk_182 0 211 (dk_at dksX6_together_1 9 rfl rfl)
theorem dX6_together_36 : decode cX6_together 36 = .ok (.ifCond .ne 6, 3) := dk_154 0 6 (dk_at dksX6_together_1 12 rfl rfl)
theorem dX6_together_39 : decode cX6_together 39 = .ok (.bipush (-5), 2) := dk_16 251 (dk_at dksX6_together_1 15 rfl rfl)
theorem dX6_together_41 : decode cX6_together 41 = .ok (.ireturn, 1) := dk_172 (dk_at dksX6_together_1 17 rfl rfl)
theorem dX6_together_42 : decode cX6_together 42 = .ok (.aload_n 0, 1) := dk_42 (dk_at dksX6_together_1 18 rfl rfl)
theorem dX6_together_43 : decode cX6_together 43 = .ok (.iload_n 1, 1) := dk_27 (dk_at dksX6_together_1 19 rfl rfl)
theorem dX6_together_44 : decode cX6_together 44 = .ok (.putfield 42, 3) := dk_181 0 42 (dk_at dksX6_together_1 20 rfl rfl)
theorem dX6_together_47 : decode cX6_together 47 = .ok (.aload_n 0, 1) := dk_42 (dk_at dksX6_together_1 23 rfl rfl)
theorem dX6_together_48 : decode cX6_together 48 = .ok (.iload_n 2, 1) := dk_28 (dk_at dksX6_together_2 0 rfl rfl)
theorem dX6_together_49 : decode cX6_together 49 = .ok (.putfield 46, 3) := dk_181 0 46 (dk_at dksX6_together_2 1 rfl rfl)
theorem dX6_together_52 : decode cX6_together 52 = .ok (.aload_n 0, 1) := dk_42 (dk_at dksX6_together_2 4 rfl rfl)
theorem dX6_together_53 : decode cX6_together 53 = .ok (.iload_n 1, 1) := dk_27 (dk_at dksX6_together_2 5 rfl rfl)
theorem dX6_together_54 : decode cX6_together 54 = .ok (.iload_n 2, 1) := dk_28 (dk_at dksX6_together_2 6 rfl rfl)
theorem dX6_together_55 : decode cX6_together 55 = .ok (.invokevirtual 336, 3) := dk_182 1 80 (dk_at dksX6_together_2 7 rfl rfl)
theorem dX6_together_58 : decode cX6_together 58 = .ok (.ifCond .eq 7, 3) := dk_153 0 7 (dk_at dksX6_together_2 10 rfl rfl)
theorem dX6_together_61 : decode cX6_together 61 = .ok (.iconst 1, 1) := dk_4 (dk_at dksX6_together_2 13 rfl rfl)
theorem dX6_together_62 : decode cX6_together 62 = .ok (.goto 4, 3) := dk_167 0 4 (dk_at dksX6_together_2 14 rfl rfl)
theorem dX6_together_65 : decode cX6_together 65 = .ok (.iconst 0, 1) := dk_3 (dk_at dksX6_together_2 17 rfl rfl)
theorem dX6_together_66 : decode cX6_together 66 = .ok (.aload_n 0, 1) := dk_42 (dk_at dksX6_together_2 18 rfl rfl)
theorem dX6_together_67 : decode cX6_together 67 = .ok (.iload_n 2, 1) := dk_28 (dk_at dksX6_together_2 19 rfl rfl)
theorem dX6_together_68 : decode cX6_together 68 = .ok (.iload_n 1, 1) := dk_27 (dk_at dksX6_together_2 20 rfl rfl)
theorem dX6_together_69 : decode cX6_together 69 = .ok (.invokevirtual 336, 3) := dk_182 1 80 (dk_at dksX6_together_2 21 rfl rfl)
theorem dX6_together_72 : decode cX6_together 72 = .ok (.ifCond .eq 7, 3) := dk_153 0 7 (dk_at dksX6_together_3 0 rfl rfl)
theorem dX6_together_75 : decode cX6_together 75 = .ok (.iconst 2, 1) := dk_5 (dk_at dksX6_together_3 3 rfl rfl)
theorem dX6_together_76 : decode cX6_together 76 = .ok (.goto 4, 3) := dk_167 0 4 (dk_at dksX6_together_3 4 rfl rfl)
theorem dX6_together_79 : decode cX6_together 79 = .ok (.iconst 0, 1) := dk_3 (dk_at dksX6_together_3 7 rfl rfl)
theorem dX6_together_80 : decode cX6_together 80 = .ok (.iadd, 1) := dk_96 (dk_at dksX6_together_3 8 rfl rfl)
theorem dX6_together_81 : decode cX6_together 81 = .ok (.istore_n 3, 1) := dk_62 (dk_at dksX6_together_3 9 rfl rfl)
theorem dX6_together_82 : decode cX6_together 82 = .ok (.aload_n 0, 1) := dk_42 (dk_at dksX6_together_3 10 rfl rfl)
theorem dX6_together_83 : decode cX6_together 83 = .ok (.iconst (-1), 1) := dk_2 (dk_at dksX6_together_3 11 rfl rfl)
theorem dX6_together_84 : decode cX6_together 84 = .ok (.putfield 42, 3) := dk_181 0 42 (dk_at dksX6_together_3 12 rfl rfl)
theorem dX6_together_87 : decode cX6_together 87 = .ok (.aload_n 0, 1) := dk_42 (dk_at dksX6_together_3 15 rfl rfl)
theorem dX6_together_88 : decode cX6_together 88 = .ok (.iconst (-1), 1) := dk_2 (dk_at dksX6_together_3 16 rfl rfl)
theorem dX6_together_89 : decode cX6_together 89 = .ok (.putfield 46, 3) := dk_181 0 46 (dk_at dksX6_together_3 17 rfl rfl)
theorem dX6_together_92 : decode cX6_together 92 = .ok (.iload_n 3, 1) := dk_29 (dk_at dksX6_together_3 20 rfl rfl)
theorem dX6_together_93 : decode cX6_together 93 = .ok (.ireturn, 1) := dk_172 (dk_at dksX6_together_3 21 rfl rfl)
abbrev cX6_gap : ByteArray := prog_33_method_95_code
def dkwX6_gap_5 : List UInt8 := [132, 5, 255, 167, 255, 170]
abbrev dktX6_gap_5 : List UInt8 := dkwX6_gap_5 ++ []
def dkwX6_gap_4 : List UInt8 := [16, 254, 167, 0, 8, 21, 7, 21, 4, 100, 172, 21, 7, 156, 0, 6, 16, 254, 172, 21, 7, 54, 4]
abbrev dktX6_gap_4 : List UInt8 := dkwX6_gap_4 ++ dktX6_gap_5
def dkwX6_gap_3 : List UInt8 := [182, 1, 86, 54, 7, 21, 5, 154, 0, 28, 29, 154, 0, 8, 21, 4, 167, 0, 18, 21, 7, 156, 0, 8]
abbrev dktX6_gap_3 : List UInt8 := dkwX6_gap_3 ++ dktX6_gap_4
def dkwX6_gap_2 : List UInt8 := [164, 0, 19, 21, 6, 54, 4, 42, 27, 21, 4, 182, 1, 83, 54, 6, 167, 255, 236, 42, 27, 21, 4]
abbrev dktX6_gap_2 : List UInt8 := dkwX6_gap_2 ++ dktX6_gap_3
def dkwX6_gap_1 : List UInt8 := [180, 0, 9, 3, 46, 54, 4, 28, 54, 5, 42, 27, 21, 4, 182, 1, 83, 54, 6, 21, 6, 21, 4]
abbrev dktX6_gap_1 : List UInt8 := dkwX6_gap_1 ++ dktX6_gap_2
def dkwX6_gap_0 : List UInt8 := [27, 184, 1, 43, 153, 0, 17, 28, 155, 0, 13, 29, 133, 9, 10, 184, 0, 79, 154, 0, 5, 2, 172, 42]
abbrev dktX6_gap_0 : List UInt8 := dkwX6_gap_0 ++ dktX6_gap_1
theorem dksX6_gap_0 : cX6_gap.data.toList.drop 0 = dktX6_gap_0 := by decide +kernel
theorem dksX6_gap_1 : cX6_gap.data.toList.drop 24 = dktX6_gap_1 := dk_seg dksX6_gap_0 24 rfl rfl
theorem dksX6_gap_2 : cX6_gap.data.toList.drop 47 = dktX6_gap_2 := dk_seg dksX6_gap_1 23 rfl rfl
theorem dksX6_gap_3 : cX6_gap.data.toList.drop 70 = dktX6_gap_3 := dk_seg dksX6_gap_2 23 rfl rfl
theorem dksX6_gap_4 : cX6_gap.data.toList.drop 94 = dktX6_gap_4 := dk_seg dksX6_gap_3 24 rfl rfl
theorem dksX6_gap_5 : cX6_gap.data.toList.drop 117 = dktX6_gap_5 := dk_seg dksX6_gap_4 23 rfl rfl
theorem dX6_gap_0 : decode cX6_gap 0 = .ok (.iload_n 1, 1) := dk_27 (dk_at dksX6_gap_0 0 rfl rfl)
theorem dX6_gap_1 : decode cX6_gap 1 = .ok (.invokestatic 299, 3) := dk_184 1 43 (dk_at dksX6_gap_0 1 rfl rfl)
theorem dX6_gap_4 : decode cX6_gap 4 = .ok (.ifCond .eq 17, 3) := dk_153 0 17 (dk_at dksX6_gap_0 4 rfl rfl)
theorem dX6_gap_7 : decode cX6_gap 7 = .ok (.iload_n 2, 1) := dk_28 (dk_at dksX6_gap_0 7 rfl rfl)
theorem dX6_gap_8 : decode cX6_gap 8 = .ok (.ifCond .lt 13, 3) := dk_155 0 13 (dk_at dksX6_gap_0 8 rfl rfl)
theorem dX6_gap_11 : decode cX6_gap 11 = .ok (.iload_n 3, 1) := dk_29 (dk_at dksX6_gap_0 11 rfl rfl)
theorem dX6_gap_12 : decode cX6_gap 12 = .ok (.i2l, 1) := dk_133 (dk_at dksX6_gap_0 12 rfl rfl)
theorem dX6_gap_13 : decode cX6_gap 13 = .ok (.lconst 0, 1) := dk_9 (dk_at dksX6_gap_0 13 rfl rfl)
theorem dX6_gap_14 : decode cX6_gap 14 = .ok (.lconst 1, 1) := dk_10 (dk_at dksX6_gap_0 14 rfl rfl)
theorem dX6_gap_15 : decode cX6_gap 15 = .ok (.invokestatic 79, 3) := dk_184 0 79 (dk_at dksX6_gap_0 15 rfl rfl)
theorem dX6_gap_18 : decode cX6_gap 18 = .ok (.ifCond .ne 5, 3) := dk_154 0 5 (dk_at dksX6_gap_0 18 rfl rfl)
theorem dX6_gap_21 : decode cX6_gap 21 = .ok (.iconst (-1), 1) := dk_2 (dk_at dksX6_gap_0 21 rfl rfl)
theorem dX6_gap_22 : decode cX6_gap 22 = .ok (.ireturn, 1) := dk_172 (dk_at dksX6_gap_0 22 rfl rfl)
theorem dX6_gap_23 : decode cX6_gap 23 = .ok (.aload_n 0, 1) := dk_42 (dk_at dksX6_gap_0 23 rfl rfl)
theorem dX6_gap_24 : decode cX6_gap 24 = .ok (.getfield 9, 3) := dk_180 0 9 (dk_at dksX6_gap_1 0 rfl rfl)
theorem dX6_gap_27 : decode cX6_gap 27 = .ok (.iconst 0, 1) := dk_3 (dk_at dksX6_gap_1 3 rfl rfl)
theorem dX6_gap_28 : decode cX6_gap 28 = .ok (.iaload, 1) := dk_46 (dk_at dksX6_gap_1 4 rfl rfl)
theorem dX6_gap_29 : decode cX6_gap 29 = .ok (.istore 4, 2) := dk_54 4 (dk_at dksX6_gap_1 5 rfl rfl)
theorem dX6_gap_31 : decode cX6_gap 31 = .ok (.iload_n 2, 1) := dk_28 (dk_at dksX6_gap_1 7 rfl rfl)
theorem dX6_gap_32 : decode cX6_gap 32 = .ok (.istore 5, 2) := dk_54 5 (dk_at dksX6_gap_1 8 rfl rfl)
theorem dX6_gap_34 : decode cX6_gap 34 = .ok (.aload_n 0, 1) := dk_42 (dk_at dksX6_gap_1 10 rfl rfl)
theorem dX6_gap_35 : decode cX6_gap 35 = .ok (.iload_n 1, 1) := dk_27 (dk_at dksX6_gap_1 11 rfl rfl)
theorem dX6_gap_36 : decode cX6_gap 36 = .ok (.iload 4, 2) := dk_21 4 (dk_at dksX6_gap_1 12 rfl rfl)
theorem dX6_gap_38 : decode cX6_gap 38 = .ok (.invokevirtual 339, 3) := dk_182 1 83 (dk_at dksX6_gap_1 14 rfl rfl)
theorem dX6_gap_41 : decode cX6_gap 41 = .ok (.istore 6, 2) := dk_54 6 (dk_at dksX6_gap_1 17 rfl rfl)
theorem dX6_gap_43 : decode cX6_gap 43 = .ok (.iload 6, 2) := dk_21 6 (dk_at dksX6_gap_1 19 rfl rfl)
theorem dX6_gap_45 : decode cX6_gap 45 = .ok (.iload 4, 2) := dk_21 4 (dk_at dksX6_gap_1 21 rfl rfl)
theorem dX6_gap_47 : decode cX6_gap 47 = .ok (.if_icmp .le 19, 3) := dk_164 0 19 (dk_at dksX6_gap_2 0 rfl rfl)
theorem dX6_gap_50 : decode cX6_gap 50 = .ok (.iload 6, 2) := dk_21 6 (dk_at dksX6_gap_2 3 rfl rfl)
theorem dX6_gap_52 : decode cX6_gap 52 = .ok (.istore 4, 2) := dk_54 4 (dk_at dksX6_gap_2 5 rfl rfl)
theorem dX6_gap_54 : decode cX6_gap 54 = .ok (.aload_n 0, 1) := dk_42 (dk_at dksX6_gap_2 7 rfl rfl)
theorem dX6_gap_55 : decode cX6_gap 55 = .ok (.iload_n 1, 1) := dk_27 (dk_at dksX6_gap_2 8 rfl rfl)
theorem dX6_gap_56 : decode cX6_gap 56 = .ok (.iload 4, 2) := dk_21 4 (dk_at dksX6_gap_2 9 rfl rfl)
theorem dX6_gap_58 : decode cX6_gap 58 = .ok (.invokevirtual 339, 3) := dk_182 1 83 (dk_at dksX6_gap_2 11 rfl rfl)
theorem dX6_gap_61 : decode cX6_gap 61 = .ok (.istore 6, 2) := dk_54 6 (dk_at dksX6_gap_2 14 rfl rfl)
theorem dX6_gap_63 : decode cX6_gap 63 = .ok (.goto (-20), 3) := dk_167 255 236 (dk_at dksX6_gap_2 16 rfl rfl)
theorem dX6_gap_66 : decode cX6_gap 66 = .ok (.aload_n 0, 1) := dk_42 (dk_at dksX6_gap_2 19 rfl rfl)
theorem dX6_gap_67 : decode cX6_gap 67 = .ok (.iload_n 1, 1) := dk_27 (dk_at dksX6_gap_2 20 rfl rfl)
theorem dX6_gap_68 : decode cX6_gap 68 = .ok (.iload 4, 2) := dk_21 4 (dk_at dksX6_gap_2 21 rfl rfl)
theorem dX6_gap_70 : decode cX6_gap 70 = .ok (.invokevirtual 342, 3) := dk_182 1 86 (dk_at dksX6_gap_3 0 rfl rfl)
theorem dX6_gap_73 : decode cX6_gap 73 = .ok (.istore 7, 2) := dk_54 7 (dk_at dksX6_gap_3 3 rfl rfl)
theorem dX6_gap_75 : decode cX6_gap 75 = .ok (.iload 5, 2) := dk_21 5 (dk_at dksX6_gap_3 5 rfl rfl)
theorem dX6_gap_77 : decode cX6_gap 77 = .ok (.ifCond .ne 28, 3) := dk_154 0 28 (dk_at dksX6_gap_3 7 rfl rfl)
theorem dX6_gap_80 : decode cX6_gap 80 = .ok (.iload_n 3, 1) := dk_29 (dk_at dksX6_gap_3 10 rfl rfl)
theorem dX6_gap_81 : decode cX6_gap 81 = .ok (.ifCond .ne 8, 3) := dk_154 0 8 (dk_at dksX6_gap_3 11 rfl rfl)
theorem dX6_gap_84 : decode cX6_gap 84 = .ok (.iload 4, 2) := dk_21 4 (dk_at dksX6_gap_3 14 rfl rfl)
theorem dX6_gap_86 : decode cX6_gap 86 = .ok (.goto 18, 3) := dk_167 0 18 (dk_at dksX6_gap_3 16 rfl rfl)
theorem dX6_gap_89 : decode cX6_gap 89 = .ok (.iload 7, 2) := dk_21 7 (dk_at dksX6_gap_3 19 rfl rfl)
theorem dX6_gap_91 : decode cX6_gap 91 = .ok (.ifCond .ge 8, 3) := dk_156 0 8 (dk_at dksX6_gap_3 21 rfl rfl)
theorem dX6_gap_94 : decode cX6_gap 94 = .ok (.bipush (-2), 2) := dk_16 254 (dk_at dksX6_gap_4 0 rfl rfl)
theorem dX6_gap_96 : decode cX6_gap 96 = .ok (.goto 8, 3) := dk_167 0 8 (dk_at dksX6_gap_4 2 rfl rfl)
theorem dX6_gap_99 : decode cX6_gap 99 = .ok (.iload 7, 2) := dk_21 7 (dk_at dksX6_gap_4 5 rfl rfl)
theorem dX6_gap_101 : decode cX6_gap 101 = .ok (.iload 4, 2) := dk_21 4 (dk_at dksX6_gap_4 7 rfl rfl)
theorem dX6_gap_103 : decode cX6_gap 103 = .ok (.isub, 1) := dk_100 (dk_at dksX6_gap_4 9 rfl rfl)
theorem dX6_gap_104 : decode cX6_gap 104 = .ok (.ireturn, 1) := dk_172 (dk_at dksX6_gap_4 10 rfl rfl)
theorem dX6_gap_105 : decode cX6_gap 105 = .ok (.iload 7, 2) := dk_21 7 (dk_at dksX6_gap_4 11 rfl rfl)
theorem dX6_gap_107 : decode cX6_gap 107 = .ok (.ifCond .ge 6, 3) := dk_156 0 6 (dk_at dksX6_gap_4 13 rfl rfl)
theorem dX6_gap_110 : decode cX6_gap 110 = .ok (.bipush (-2), 2) := dk_16 254 (dk_at dksX6_gap_4 16 rfl rfl)
theorem dX6_gap_112 : decode cX6_gap 112 = .ok (.ireturn, 1) := dk_172 (dk_at dksX6_gap_4 18 rfl rfl)
theorem dX6_gap_113 : decode cX6_gap 113 = .ok (.iload 7, 2) := dk_21 7 (dk_at dksX6_gap_4 19 rfl rfl)
theorem dX6_gap_115 : decode cX6_gap 115 = .ok (.istore 4, 2) := dk_54 4 (dk_at dksX6_gap_4 21 rfl rfl)
theorem dX6_gap_117 : decode cX6_gap 117 = .ok (.iinc 5 (-1), 3) := dk_132 5 255 (dk_at dksX6_gap_5 0 rfl rfl)
theorem dX6_gap_120 : decode cX6_gap 120 = .ok (.goto (-86), 3) := dk_167 255 170 (dk_at dksX6_gap_5 3 rfl rfl)
abbrev cX6_orders : ByteArray := prog_33_method_97_code
def dkwX6_orders_3 : List UInt8 := [172]
abbrev dktX6_orders_3 : List UInt8 := dkwX6_orders_3 ++ []
def dkwX6_orders_2 : List UInt8 := [42, 27, 181, 0, 42, 42, 27, 182, 1, 19, 42, 28, 3, 3, 182, 1, 89, 62, 42, 2, 181, 0, 42, 29]
abbrev dktX6_orders_2 : List UInt8 := dkwX6_orders_2 ++ dktX6_orders_3
def dkwX6_orders_1 : List UInt8 := [17, 78, 32, 96, 133, 184, 0, 79, 154, 0, 5, 2, 172, 42, 27, 182, 0, 211, 154, 0, 6, 16, 251, 172]
abbrev dktX6_orders_1 : List UInt8 := dkwX6_orders_1 ++ dktX6_orders_2
def dkwX6_orders_0 : List UInt8 := [42, 27, 182, 0, 200, 153, 0, 29, 28, 133, 42, 180, 0, 9, 3, 46, 133, 42, 180, 0, 9, 3, 46]
abbrev dktX6_orders_0 : List UInt8 := dkwX6_orders_0 ++ dktX6_orders_1
theorem dksX6_orders_0 : cX6_orders.data.toList.drop 0 = dktX6_orders_0 := by decide +kernel
theorem dksX6_orders_1 : cX6_orders.data.toList.drop 23 = dktX6_orders_1 := dk_seg dksX6_orders_0 23 rfl rfl
theorem dksX6_orders_2 : cX6_orders.data.toList.drop 47 = dktX6_orders_2 := dk_seg dksX6_orders_1 24 rfl rfl
theorem dksX6_orders_3 : cX6_orders.data.toList.drop 71 = dktX6_orders_3 := dk_seg dksX6_orders_2 24 rfl rfl
theorem dX6_orders_0 : decode cX6_orders 0 = .ok (.aload_n 0, 1) := dk_42 (dk_at dksX6_orders_0 0 rfl rfl)
theorem dX6_orders_1 : decode cX6_orders 1 = .ok (.iload_n 1, 1) := dk_27 (dk_at dksX6_orders_0 1 rfl rfl)
theorem dX6_orders_2 : decode cX6_orders 2 = .ok (.invokevirtual 200, 3) := dk_182 0 200 (dk_at dksX6_orders_0 2 rfl rfl)
theorem dX6_orders_5 : decode cX6_orders 5 = .ok (.ifCond .eq 29, 3) := dk_153 0 29 (dk_at dksX6_orders_0 5 rfl rfl)
theorem dX6_orders_8 : decode cX6_orders 8 = .ok (.iload_n 2, 1) := dk_28 (dk_at dksX6_orders_0 8 rfl rfl)
theorem dX6_orders_9 : decode cX6_orders 9 = .ok (.i2l, 1) := dk_133 (dk_at dksX6_orders_0 9 rfl rfl)
theorem dX6_orders_10 : decode cX6_orders 10 = .ok (.aload_n 0, 1) := dk_42 (dk_at dksX6_orders_0 10 rfl rfl)
theorem dX6_orders_11 : decode cX6_orders 11 = .ok (.getfield 9, 3) := dk_180 0 9 (dk_at dksX6_orders_0 11 rfl rfl)
theorem dX6_orders_14 : decode cX6_orders 14 = .ok (.iconst 0, 1) := dk_3 (dk_at dksX6_orders_0 14 rfl rfl)
theorem dX6_orders_15 : decode cX6_orders 15 = .ok (.iaload, 1) := dk_46 (dk_at dksX6_orders_0 15 rfl rfl)
theorem dX6_orders_16 : decode cX6_orders 16 = .ok (.i2l, 1) := dk_133 (dk_at dksX6_orders_0 16 rfl rfl)
theorem dX6_orders_17 : decode cX6_orders 17 = .ok (.aload_n 0, 1) := dk_42 (dk_at dksX6_orders_0 17 rfl rfl)
theorem dX6_orders_18 : decode cX6_orders 18 = .ok (.getfield 9, 3) := dk_180 0 9 (dk_at dksX6_orders_0 18 rfl rfl)
theorem dX6_orders_21 : decode cX6_orders 21 = .ok (.iconst 0, 1) := dk_3 (dk_at dksX6_orders_0 21 rfl rfl)
theorem dX6_orders_22 : decode cX6_orders 22 = .ok (.iaload, 1) := dk_46 (dk_at dksX6_orders_0 22 rfl rfl)
theorem dX6_orders_23 : decode cX6_orders 23 = .ok (.sipush 20000, 3) := dk_17 78 32 (dk_at dksX6_orders_1 0 rfl rfl)
theorem dX6_orders_26 : decode cX6_orders 26 = .ok (.iadd, 1) := dk_96 (dk_at dksX6_orders_1 3 rfl rfl)
theorem dX6_orders_27 : decode cX6_orders 27 = .ok (.i2l, 1) := dk_133 (dk_at dksX6_orders_1 4 rfl rfl)
theorem dX6_orders_28 : decode cX6_orders 28 = .ok (.invokestatic 79, 3) := dk_184 0 79 (dk_at dksX6_orders_1 5 rfl rfl)
theorem dX6_orders_31 : decode cX6_orders 31 = .ok (.ifCond .ne 5, 3) := dk_154 0 5 (dk_at dksX6_orders_1 8 rfl rfl)
theorem dX6_orders_34 : decode cX6_orders 34 = .ok (.iconst (-1), 1) := dk_2 (dk_at dksX6_orders_1 11 rfl rfl)
theorem dX6_orders_35 : decode cX6_orders 35 = .ok (.ireturn, 1) := dk_172 (dk_at dksX6_orders_1 12 rfl rfl)
theorem dX6_orders_36 : decode cX6_orders 36 = .ok (.aload_n 0, 1) := dk_42 (dk_at dksX6_orders_1 13 rfl rfl)
theorem dX6_orders_37 : decode cX6_orders 37 = .ok (.iload_n 1, 1) := dk_27 (dk_at dksX6_orders_1 14 rfl rfl)
theorem dX6_orders_38 : decode cX6_orders 38 = .ok (.invokevirtual 211, 3) := dk_182 0 211 (dk_at dksX6_orders_1 15 rfl rfl)
theorem dX6_orders_41 : decode cX6_orders 41 = .ok (.ifCond .ne 6, 3) := dk_154 0 6 (dk_at dksX6_orders_1 18 rfl rfl)
theorem dX6_orders_44 : decode cX6_orders 44 = .ok (.bipush (-5), 2) := dk_16 251 (dk_at dksX6_orders_1 21 rfl rfl)
theorem dX6_orders_46 : decode cX6_orders 46 = .ok (.ireturn, 1) := dk_172 (dk_at dksX6_orders_1 23 rfl rfl)
theorem dX6_orders_47 : decode cX6_orders 47 = .ok (.aload_n 0, 1) := dk_42 (dk_at dksX6_orders_2 0 rfl rfl)
theorem dX6_orders_48 : decode cX6_orders 48 = .ok (.iload_n 1, 1) := dk_27 (dk_at dksX6_orders_2 1 rfl rfl)
theorem dX6_orders_49 : decode cX6_orders 49 = .ok (.putfield 42, 3) := dk_181 0 42 (dk_at dksX6_orders_2 2 rfl rfl)
theorem dX6_orders_52 : decode cX6_orders 52 = .ok (.aload_n 0, 1) := dk_42 (dk_at dksX6_orders_2 5 rfl rfl)
theorem dX6_orders_53 : decode cX6_orders 53 = .ok (.iload_n 1, 1) := dk_27 (dk_at dksX6_orders_2 6 rfl rfl)
theorem dX6_orders_54 : decode cX6_orders 54 = .ok (.invokevirtual 275, 3) := dk_182 1 19 (dk_at dksX6_orders_2 7 rfl rfl)
theorem dX6_orders_57 : decode cX6_orders 57 = .ok (.aload_n 0, 1) := dk_42 (dk_at dksX6_orders_2 10 rfl rfl)
theorem dX6_orders_58 : decode cX6_orders 58 = .ok (.iload_n 2, 1) := dk_28 (dk_at dksX6_orders_2 11 rfl rfl)
theorem dX6_orders_59 : decode cX6_orders 59 = .ok (.iconst 0, 1) := dk_3 (dk_at dksX6_orders_2 12 rfl rfl)
theorem dX6_orders_60 : decode cX6_orders 60 = .ok (.iconst 0, 1) := dk_3 (dk_at dksX6_orders_2 13 rfl rfl)
theorem dX6_orders_61 : decode cX6_orders 61 = .ok (.invokevirtual 345, 3) := dk_182 1 89 (dk_at dksX6_orders_2 14 rfl rfl)
theorem dX6_orders_64 : decode cX6_orders 64 = .ok (.istore_n 3, 1) := dk_62 (dk_at dksX6_orders_2 17 rfl rfl)
theorem dX6_orders_65 : decode cX6_orders 65 = .ok (.aload_n 0, 1) := dk_42 (dk_at dksX6_orders_2 18 rfl rfl)
theorem dX6_orders_66 : decode cX6_orders 66 = .ok (.iconst (-1), 1) := dk_2 (dk_at dksX6_orders_2 19 rfl rfl)
theorem dX6_orders_67 : decode cX6_orders 67 = .ok (.putfield 42, 3) := dk_181 0 42 (dk_at dksX6_orders_2 20 rfl rfl)
theorem dX6_orders_70 : decode cX6_orders 70 = .ok (.iload_n 3, 1) := dk_29 (dk_at dksX6_orders_2 23 rfl rfl)
theorem dX6_orders_71 : decode cX6_orders 71 = .ok (.ireturn, 1) := dk_172 (dk_at dksX6_orders_3 0 rfl rfl)
abbrev cX6_costs : ByteArray := prog_33_method_98_code
def dkwX6_costs_9 : List UInt8 := [54, 8, 132, 9, 1, 167, 255, 200, 42, 182, 1, 56, 21, 8, 172]
abbrev dktX6_costs_9 : List UInt8 := dkwX6_costs_9 ++ []
def dkwX6_costs_8 : List UInt8 := [164, 0, 21, 21, 10, 155, 0, 16, 42, 180, 0, 67, 21, 9, 46, 21, 10, 100, 167, 0, 4, 3, 96]
abbrev dktX6_costs_8 : List UInt8 := dkwX6_costs_8 ++ dktX6_costs_9
def dkwX6_costs_7 : List UInt8 := [162, 0, 55, 42, 21, 9, 16, 6, 182, 0, 83, 54, 10, 21, 8, 42, 180, 0, 67, 21, 9, 46, 21, 10]
abbrev dktX6_costs_7 : List UInt8 := dkwX6_costs_7 ++ dktX6_costs_8
def dkwX6_costs_6 : List UInt8 := [184, 0, 217, 172, 42, 182, 1, 50, 42, 182, 1, 53, 3, 54, 8, 3, 54, 9, 21, 9, 21, 5]
abbrev dktX6_costs_6 : List UInt8 := dkwX6_costs_6 ++ dktX6_costs_7
def dkwX6_costs_5 : List UInt8 := [16, 6, 182, 0, 83, 79, 132, 8, 1, 167, 255, 231, 42, 182, 1, 56, 29, 154, 0, 9, 21, 7]
abbrev dktX6_costs_5 : List UInt8 := dkwX6_costs_5 ++ dktX6_costs_6
def dkwX6_costs_4 : List UInt8 := [182, 0, 83, 54, 7, 3, 54, 8, 21, 8, 21, 5, 162, 0, 24, 42, 180, 0, 67, 21, 8, 42, 21, 8]
abbrev dktX6_costs_4 : List UInt8 := dkwX6_costs_4 ++ dktX6_costs_5
def dkwX6_costs_3 : List UInt8 := [42, 182, 1, 50, 42, 27, 28, 16, 100, 2, 182, 0, 207, 54, 6, 42, 182, 1, 53, 42, 21, 6, 16, 6]
abbrev dktX6_costs_3 : List UInt8 := dkwX6_costs_3 ++ dktX6_costs_4
def dkwX6_costs_2 : List UInt8 := [182, 0, 203, 54, 4, 21, 4, 155, 0, 9, 16, 156, 21, 4, 100, 172, 42, 180, 0, 9, 4, 46, 54, 5]
abbrev dktX6_costs_2 : List UInt8 := dkwX6_costs_2 ++ dktX6_costs_3
def dkwX6_costs_1 : List UInt8 := [184, 0, 79, 154, 0, 5, 2, 172, 42, 180, 0, 9, 4, 46, 16, 80, 160, 0, 6, 16, 253, 172, 42]
abbrev dktX6_costs_1 : List UInt8 := dkwX6_costs_1 ++ dktX6_costs_2
def dkwX6_costs_0 : List UInt8 := [27, 184, 0, 145, 153, 0, 25, 28, 133, 9, 20, 0, 196, 184, 0, 79, 153, 0, 13, 29, 133, 9, 10]
abbrev dktX6_costs_0 : List UInt8 := dkwX6_costs_0 ++ dktX6_costs_1
theorem dksX6_costs_0 : cX6_costs.data.toList.drop 0 = dktX6_costs_0 := by decide +kernel
theorem dksX6_costs_1 : cX6_costs.data.toList.drop 23 = dktX6_costs_1 := dk_seg dksX6_costs_0 23 rfl rfl
theorem dksX6_costs_2 : cX6_costs.data.toList.drop 46 = dktX6_costs_2 := dk_seg dksX6_costs_1 23 rfl rfl
theorem dksX6_costs_3 : cX6_costs.data.toList.drop 70 = dktX6_costs_3 := dk_seg dksX6_costs_2 24 rfl rfl
theorem dksX6_costs_4 : cX6_costs.data.toList.drop 94 = dktX6_costs_4 := dk_seg dksX6_costs_3 24 rfl rfl
theorem dksX6_costs_5 : cX6_costs.data.toList.drop 118 = dktX6_costs_5 := dk_seg dksX6_costs_4 24 rfl rfl
theorem dksX6_costs_6 : cX6_costs.data.toList.drop 140 = dktX6_costs_6 := dk_seg dksX6_costs_5 22 rfl rfl
theorem dksX6_costs_7 : cX6_costs.data.toList.drop 162 = dktX6_costs_7 := dk_seg dksX6_costs_6 22 rfl rfl
theorem dksX6_costs_8 : cX6_costs.data.toList.drop 186 = dktX6_costs_8 := dk_seg dksX6_costs_7 24 rfl rfl
theorem dksX6_costs_9 : cX6_costs.data.toList.drop 209 = dktX6_costs_9 := dk_seg dksX6_costs_8 23 rfl rfl
theorem dX6_costs_0 : decode cX6_costs 0 = .ok (.iload_n 1, 1) := dk_27 (dk_at dksX6_costs_0 0 rfl rfl)
theorem dX6_costs_1 : decode cX6_costs 1 = .ok (.invokestatic 145, 3) := dk_184 0 145 (dk_at dksX6_costs_0 1 rfl rfl)
theorem dX6_costs_4 : decode cX6_costs 4 = .ok (.ifCond .eq 25, 3) := dk_153 0 25 (dk_at dksX6_costs_0 4 rfl rfl)
theorem dX6_costs_7 : decode cX6_costs 7 = .ok (.iload_n 2, 1) := dk_28 (dk_at dksX6_costs_0 7 rfl rfl)
theorem dX6_costs_8 : decode cX6_costs 8 = .ok (.i2l, 1) := dk_133 (dk_at dksX6_costs_0 8 rfl rfl)
theorem dX6_costs_9 : decode cX6_costs 9 = .ok (.lconst 0, 1) := dk_9 (dk_at dksX6_costs_0 9 rfl rfl)
theorem dX6_costs_10 : decode cX6_costs 10 = .ok (.ldc2_w 196, 3) := dk_20 0 196 (dk_at dksX6_costs_0 10 rfl rfl)
theorem dX6_costs_13 : decode cX6_costs 13 = .ok (.invokestatic 79, 3) := dk_184 0 79 (dk_at dksX6_costs_0 13 rfl rfl)
theorem dX6_costs_16 : decode cX6_costs 16 = .ok (.ifCond .eq 13, 3) := dk_153 0 13 (dk_at dksX6_costs_0 16 rfl rfl)
theorem dX6_costs_19 : decode cX6_costs 19 = .ok (.iload_n 3, 1) := dk_29 (dk_at dksX6_costs_0 19 rfl rfl)
theorem dX6_costs_20 : decode cX6_costs 20 = .ok (.i2l, 1) := dk_133 (dk_at dksX6_costs_0 20 rfl rfl)
theorem dX6_costs_21 : decode cX6_costs 21 = .ok (.lconst 0, 1) := dk_9 (dk_at dksX6_costs_0 21 rfl rfl)
theorem dX6_costs_22 : decode cX6_costs 22 = .ok (.lconst 1, 1) := dk_10 (dk_at dksX6_costs_0 22 rfl rfl)
theorem dX6_costs_23 : decode cX6_costs 23 = .ok (.invokestatic 79, 3) := dk_184 0 79 (dk_at dksX6_costs_1 0 rfl rfl)
theorem dX6_costs_26 : decode cX6_costs 26 = .ok (.ifCond .ne 5, 3) := dk_154 0 5 (dk_at dksX6_costs_1 3 rfl rfl)
theorem dX6_costs_29 : decode cX6_costs 29 = .ok (.iconst (-1), 1) := dk_2 (dk_at dksX6_costs_1 6 rfl rfl)
theorem dX6_costs_30 : decode cX6_costs 30 = .ok (.ireturn, 1) := dk_172 (dk_at dksX6_costs_1 7 rfl rfl)
theorem dX6_costs_31 : decode cX6_costs 31 = .ok (.aload_n 0, 1) := dk_42 (dk_at dksX6_costs_1 8 rfl rfl)
theorem dX6_costs_32 : decode cX6_costs 32 = .ok (.getfield 9, 3) := dk_180 0 9 (dk_at dksX6_costs_1 9 rfl rfl)
theorem dX6_costs_35 : decode cX6_costs 35 = .ok (.iconst 1, 1) := dk_4 (dk_at dksX6_costs_1 12 rfl rfl)
theorem dX6_costs_36 : decode cX6_costs 36 = .ok (.iaload, 1) := dk_46 (dk_at dksX6_costs_1 13 rfl rfl)
theorem dX6_costs_37 : decode cX6_costs 37 = .ok (.bipush 80, 2) := dk_16 80 (dk_at dksX6_costs_1 14 rfl rfl)
theorem dX6_costs_39 : decode cX6_costs 39 = .ok (.if_icmp .ne 6, 3) := dk_160 0 6 (dk_at dksX6_costs_1 16 rfl rfl)
theorem dX6_costs_42 : decode cX6_costs 42 = .ok (.bipush (-3), 2) := dk_16 253 (dk_at dksX6_costs_1 19 rfl rfl)
theorem dX6_costs_44 : decode cX6_costs 44 = .ok (.ireturn, 1) := dk_172 (dk_at dksX6_costs_1 21 rfl rfl)
theorem dX6_costs_45 : decode cX6_costs 45 = .ok (.aload_n 0, 1) := dk_42 (dk_at dksX6_costs_1 22 rfl rfl)
theorem dX6_costs_46 : decode cX6_costs 46 = .ok (.invokevirtual 203, 3) := dk_182 0 203 (dk_at dksX6_costs_2 0 rfl rfl)
theorem dX6_costs_49 : decode cX6_costs 49 = .ok (.istore 4, 2) := dk_54 4 (dk_at dksX6_costs_2 3 rfl rfl)
theorem dX6_costs_51 : decode cX6_costs 51 = .ok (.iload 4, 2) := dk_21 4 (dk_at dksX6_costs_2 5 rfl rfl)
theorem dX6_costs_53 : decode cX6_costs 53 = .ok (.ifCond .lt 9, 3) := dk_155 0 9 (dk_at dksX6_costs_2 7 rfl rfl)
theorem dX6_costs_56 : decode cX6_costs 56 = .ok (.bipush (-100), 2) := dk_16 156 (dk_at dksX6_costs_2 10 rfl rfl)
theorem dX6_costs_58 : decode cX6_costs 58 = .ok (.iload 4, 2) := dk_21 4 (dk_at dksX6_costs_2 12 rfl rfl)
theorem dX6_costs_60 : decode cX6_costs 60 = .ok (.isub, 1) := dk_100 (dk_at dksX6_costs_2 14 rfl rfl)
theorem dX6_costs_61 : decode cX6_costs 61 = .ok (.ireturn, 1) := dk_172 (dk_at dksX6_costs_2 15 rfl rfl)
theorem dX6_costs_62 : decode cX6_costs 62 = .ok (.aload_n 0, 1) := dk_42 (dk_at dksX6_costs_2 16 rfl rfl)
theorem dX6_costs_63 : decode cX6_costs 63 = .ok (.getfield 9, 3) := dk_180 0 9 (dk_at dksX6_costs_2 17 rfl rfl)
theorem dX6_costs_66 : decode cX6_costs 66 = .ok (.iconst 1, 1) := dk_4 (dk_at dksX6_costs_2 20 rfl rfl)
theorem dX6_costs_67 : decode cX6_costs 67 = .ok (.iaload, 1) := dk_46 (dk_at dksX6_costs_2 21 rfl rfl)
theorem dX6_costs_68 : decode cX6_costs 68 = .ok (.istore 5, 2) := dk_54 5 (dk_at dksX6_costs_2 22 rfl rfl)
theorem dX6_costs_70 : decode cX6_costs 70 = .ok (.aload_n 0, 1) := dk_42 (dk_at dksX6_costs_3 0 rfl rfl)
theorem dX6_costs_71 : decode cX6_costs 71 = .ok (.invokevirtual 306, 3) := dk_182 1 50 (dk_at dksX6_costs_3 1 rfl rfl)
theorem dX6_costs_74 : decode cX6_costs 74 = .ok (.aload_n 0, 1) := dk_42 (dk_at dksX6_costs_3 4 rfl rfl)
theorem dX6_costs_75 : decode cX6_costs 75 = .ok (.iload_n 1, 1) := dk_27 (dk_at dksX6_costs_3 5 rfl rfl)
theorem dX6_costs_76 : decode cX6_costs 76 = .ok (.iload_n 2, 1) := dk_28 (dk_at dksX6_costs_3 6 rfl rfl)
theorem dX6_costs_77 : decode cX6_costs 77 = .ok (.bipush 100, 2) := dk_16 100 (dk_at dksX6_costs_3 7 rfl rfl)
theorem dX6_costs_79 : decode cX6_costs 79 = .ok (.iconst (-1), 1) := dk_2 (dk_at dksX6_costs_3 9 rfl rfl)
theorem dX6_costs_80 : decode cX6_costs 80 = .ok (.invokevirtual 207, 3) := dk_182 0 207 (dk_at dksX6_costs_3 10 rfl rfl)
theorem dX6_costs_83 : decode cX6_costs 83 = .ok (.istore 6, 2) := dk_54 6 (dk_at dksX6_costs_3 13 rfl rfl)
theorem dX6_costs_85 : decode cX6_costs 85 = .ok (.aload_n 0, 1) := dk_42 (dk_at dksX6_costs_3 15 rfl rfl)
theorem dX6_costs_86 : decode cX6_costs 86 = .ok (.invokevirtual 309, 3) := dk_182 1 53 (dk_at dksX6_costs_3 16 rfl rfl)
theorem dX6_costs_89 : decode cX6_costs 89 = .ok (.aload_n 0, 1) := dk_42 (dk_at dksX6_costs_3 19 rfl rfl)
theorem dX6_costs_90 : decode cX6_costs 90 = .ok (.iload 6, 2) := dk_21 6 (dk_at dksX6_costs_3 20 rfl rfl)
theorem dX6_costs_92 : decode cX6_costs 92 = .ok (.bipush 6, 2) := dk_16 6 (dk_at dksX6_costs_3 22 rfl rfl)
theorem dX6_costs_94 : decode cX6_costs 94 = .ok (.invokevirtual 83, 3) := dk_182 0 83 (dk_at dksX6_costs_4 0 rfl rfl)
theorem dX6_costs_97 : decode cX6_costs 97 = .ok (.istore 7, 2) := dk_54 7 (dk_at dksX6_costs_4 3 rfl rfl)
theorem dX6_costs_99 : decode cX6_costs 99 = .ok (.iconst 0, 1) := dk_3 (dk_at dksX6_costs_4 5 rfl rfl)
theorem dX6_costs_100 : decode cX6_costs 100 = .ok (.istore 8, 2) := dk_54 8 (dk_at dksX6_costs_4 6 rfl rfl)
theorem dX6_costs_102 : decode cX6_costs 102 = .ok (.iload 8, 2) := dk_21 8 (dk_at dksX6_costs_4 8 rfl rfl)
theorem dX6_costs_104 : decode cX6_costs 104 = .ok (.iload 5, 2) := dk_21 5 (dk_at dksX6_costs_4 10 rfl rfl)
theorem dX6_costs_106 : decode cX6_costs 106 = .ok (.if_icmp .ge 24, 3) := dk_162 0 24 (dk_at dksX6_costs_4 12 rfl rfl)
theorem dX6_costs_109 : decode cX6_costs 109 = .ok (.aload_n 0, 1) := dk_42 (dk_at dksX6_costs_4 15 rfl rfl)
theorem dX6_costs_110 : decode cX6_costs 110 = .ok (.getfield 67, 3) := dk_180 0 67 (dk_at dksX6_costs_4 16 rfl rfl)
theorem dX6_costs_113 : decode cX6_costs 113 = .ok (.iload 8, 2) := dk_21 8 (dk_at dksX6_costs_4 19 rfl rfl)
theorem dX6_costs_115 : decode cX6_costs 115 = .ok (.aload_n 0, 1) := dk_42 (dk_at dksX6_costs_4 21 rfl rfl)
theorem dX6_costs_116 : decode cX6_costs 116 = .ok (.iload 8, 2) := dk_21 8 (dk_at dksX6_costs_4 22 rfl rfl)
theorem dX6_costs_118 : decode cX6_costs 118 = .ok (.bipush 6, 2) := dk_16 6 (dk_at dksX6_costs_5 0 rfl rfl)
theorem dX6_costs_120 : decode cX6_costs 120 = .ok (.invokevirtual 83, 3) := dk_182 0 83 (dk_at dksX6_costs_5 2 rfl rfl)
theorem dX6_costs_123 : decode cX6_costs 123 = .ok (.iastore, 1) := dk_79 (dk_at dksX6_costs_5 5 rfl rfl)
theorem dX6_costs_124 : decode cX6_costs 124 = .ok (.iinc 8 1, 3) := dk_132 8 1 (dk_at dksX6_costs_5 6 rfl rfl)
theorem dX6_costs_127 : decode cX6_costs 127 = .ok (.goto (-25), 3) := dk_167 255 231 (dk_at dksX6_costs_5 9 rfl rfl)
theorem dX6_costs_130 : decode cX6_costs 130 = .ok (.aload_n 0, 1) := dk_42 (dk_at dksX6_costs_5 12 rfl rfl)
theorem dX6_costs_131 : decode cX6_costs 131 = .ok (.invokevirtual 312, 3) := dk_182 1 56 (dk_at dksX6_costs_5 13 rfl rfl)
theorem dX6_costs_134 : decode cX6_costs 134 = .ok (.iload_n 3, 1) := dk_29 (dk_at dksX6_costs_5 16 rfl rfl)
theorem dX6_costs_135 : decode cX6_costs 135 = .ok (.ifCond .ne 9, 3) := dk_154 0 9 (dk_at dksX6_costs_5 17 rfl rfl)
theorem dX6_costs_138 : decode cX6_costs 138 = .ok (.iload 7, 2) := dk_21 7 (dk_at dksX6_costs_5 20 rfl rfl)
theorem dX6_costs_140 : decode cX6_costs 140 = .ok (.invokestatic 217, 3) := dk_184 0 217 (dk_at dksX6_costs_6 0 rfl rfl)
theorem dX6_costs_143 : decode cX6_costs 143 = .ok (.ireturn, 1) := dk_172 (dk_at dksX6_costs_6 3 rfl rfl)
theorem dX6_costs_144 : decode cX6_costs 144 = .ok (.aload_n 0, 1) := dk_42 (dk_at dksX6_costs_6 4 rfl rfl)
theorem dX6_costs_145 : decode cX6_costs 145 = .ok (.invokevirtual 306, 3) := dk_182 1 50 (dk_at dksX6_costs_6 5 rfl rfl)
theorem dX6_costs_148 : decode cX6_costs 148 = .ok (.aload_n 0, 1) := dk_42 (dk_at dksX6_costs_6 8 rfl rfl)
theorem dX6_costs_149 : decode cX6_costs 149 = .ok (.invokevirtual 309, 3) := dk_182 1 53 (dk_at dksX6_costs_6 9 rfl rfl)
theorem dX6_costs_152 : decode cX6_costs 152 = .ok (.iconst 0, 1) := dk_3 (dk_at dksX6_costs_6 12 rfl rfl)
theorem dX6_costs_153 : decode cX6_costs 153 = .ok (.istore 8, 2) := dk_54 8 (dk_at dksX6_costs_6 13 rfl rfl)
theorem dX6_costs_155 : decode cX6_costs 155 = .ok (.iconst 0, 1) := dk_3 (dk_at dksX6_costs_6 15 rfl rfl)
theorem dX6_costs_156 : decode cX6_costs 156 = .ok (.istore 9, 2) := dk_54 9 (dk_at dksX6_costs_6 16 rfl rfl)
theorem dX6_costs_158 : decode cX6_costs 158 = .ok (.iload 9, 2) := dk_21 9 (dk_at dksX6_costs_6 18 rfl rfl)
theorem dX6_costs_160 : decode cX6_costs 160 = .ok (.iload 5, 2) := dk_21 5 (dk_at dksX6_costs_6 20 rfl rfl)
theorem dX6_costs_162 : decode cX6_costs 162 = .ok (.if_icmp .ge 55, 3) := dk_162 0 55 (dk_at dksX6_costs_7 0 rfl rfl)
theorem dX6_costs_165 : decode cX6_costs 165 = .ok (.aload_n 0, 1) := dk_42 (dk_at dksX6_costs_7 3 rfl rfl)
theorem dX6_costs_166 : decode cX6_costs 166 = .ok (.iload 9, 2) := dk_21 9 (dk_at dksX6_costs_7 4 rfl rfl)
theorem dX6_costs_168 : decode cX6_costs 168 = .ok (.bipush 6, 2) := dk_16 6 (dk_at dksX6_costs_7 6 rfl rfl)
theorem dX6_costs_170 : decode cX6_costs 170 = .ok (.invokevirtual 83, 3) := dk_182 0 83 (dk_at dksX6_costs_7 8 rfl rfl)
theorem dX6_costs_173 : decode cX6_costs 173 = .ok (.istore 10, 2) := dk_54 10 (dk_at dksX6_costs_7 11 rfl rfl)
theorem dX6_costs_175 : decode cX6_costs 175 = .ok (.iload 8, 2) := dk_21 8 (dk_at dksX6_costs_7 13 rfl rfl)
theorem dX6_costs_177 : decode cX6_costs 177 = .ok (.aload_n 0, 1) := dk_42 (dk_at dksX6_costs_7 15 rfl rfl)
theorem dX6_costs_178 : decode cX6_costs 178 = .ok (.getfield 67, 3) := dk_180 0 67 (dk_at dksX6_costs_7 16 rfl rfl)
theorem dX6_costs_181 : decode cX6_costs 181 = .ok (.iload 9, 2) := dk_21 9 (dk_at dksX6_costs_7 19 rfl rfl)
theorem dX6_costs_183 : decode cX6_costs 183 = .ok (.iaload, 1) := dk_46 (dk_at dksX6_costs_7 21 rfl rfl)
theorem dX6_costs_184 : decode cX6_costs 184 = .ok (.iload 10, 2) := dk_21 10 (dk_at dksX6_costs_7 22 rfl rfl)
theorem dX6_costs_186 : decode cX6_costs 186 = .ok (.if_icmp .le 21, 3) := dk_164 0 21 (dk_at dksX6_costs_8 0 rfl rfl)
theorem dX6_costs_189 : decode cX6_costs 189 = .ok (.iload 10, 2) := dk_21 10 (dk_at dksX6_costs_8 3 rfl rfl)
theorem dX6_costs_191 : decode cX6_costs 191 = .ok (.ifCond .lt 16, 3) := dk_155 0 16 (dk_at dksX6_costs_8 5 rfl rfl)
theorem dX6_costs_194 : decode cX6_costs 194 = .ok (.aload_n 0, 1) := dk_42 (dk_at dksX6_costs_8 8 rfl rfl)
theorem dX6_costs_195 : decode cX6_costs 195 = .ok (.getfield 67, 3) := dk_180 0 67 (dk_at dksX6_costs_8 9 rfl rfl)
theorem dX6_costs_198 : decode cX6_costs 198 = .ok (.iload 9, 2) := dk_21 9 (dk_at dksX6_costs_8 12 rfl rfl)
theorem dX6_costs_200 : decode cX6_costs 200 = .ok (.iaload, 1) := dk_46 (dk_at dksX6_costs_8 14 rfl rfl)
theorem dX6_costs_201 : decode cX6_costs 201 = .ok (.iload 10, 2) := dk_21 10 (dk_at dksX6_costs_8 15 rfl rfl)
theorem dX6_costs_203 : decode cX6_costs 203 = .ok (.isub, 1) := dk_100 (dk_at dksX6_costs_8 17 rfl rfl)
theorem dX6_costs_204 : decode cX6_costs 204 = .ok (.goto 4, 3) := dk_167 0 4 (dk_at dksX6_costs_8 18 rfl rfl)
theorem dX6_costs_207 : decode cX6_costs 207 = .ok (.iconst 0, 1) := dk_3 (dk_at dksX6_costs_8 21 rfl rfl)
theorem dX6_costs_208 : decode cX6_costs 208 = .ok (.iadd, 1) := dk_96 (dk_at dksX6_costs_8 22 rfl rfl)
theorem dX6_costs_209 : decode cX6_costs 209 = .ok (.istore 8, 2) := dk_54 8 (dk_at dksX6_costs_9 0 rfl rfl)
theorem dX6_costs_211 : decode cX6_costs 211 = .ok (.iinc 9 1, 3) := dk_132 9 1 (dk_at dksX6_costs_9 2 rfl rfl)
theorem dX6_costs_214 : decode cX6_costs 214 = .ok (.goto (-56), 3) := dk_167 255 200 (dk_at dksX6_costs_9 5 rfl rfl)
theorem dX6_costs_217 : decode cX6_costs 217 = .ok (.aload_n 0, 1) := dk_42 (dk_at dksX6_costs_9 8 rfl rfl)
theorem dX6_costs_218 : decode cX6_costs 218 = .ok (.invokevirtual 312, 3) := dk_182 1 56 (dk_at dksX6_costs_9 9 rfl rfl)
theorem dX6_costs_221 : decode cX6_costs 221 = .ok (.iload 8, 2) := dk_21 8 (dk_at dksX6_costs_9 12 rfl rfl)
theorem dX6_costs_223 : decode cX6_costs 223 = .ok (.ireturn, 1) := dk_172 (dk_at dksX6_costs_9 14 rfl rfl)
abbrev cX6_earliest : ByteArray := prog_33_method_99_code
def dkwX6_earliest_1 : List UInt8 := [27, 181, 0, 125, 42, 42, 180, 0, 9, 3, 46, 182, 1, 13, 184, 0, 217, 172]
abbrev dktX6_earliest_1 : List UInt8 := dkwX6_earliest_1 ++ []
def dkwX6_earliest_0 : List UInt8 := [27, 184, 0, 145, 154, 0, 5, 2, 172, 42, 182, 0, 203, 61, 28, 155, 0, 8, 16, 156, 28, 100, 172, 42]
abbrev dktX6_earliest_0 : List UInt8 := dkwX6_earliest_0 ++ dktX6_earliest_1
theorem dksX6_earliest_0 : cX6_earliest.data.toList.drop 0 = dktX6_earliest_0 := by decide +kernel
theorem dksX6_earliest_1 : cX6_earliest.data.toList.drop 24 = dktX6_earliest_1 := dk_seg dksX6_earliest_0 24 rfl rfl
theorem dX6_earliest_0 : decode cX6_earliest 0 = .ok (.iload_n 1, 1) := dk_27 (dk_at dksX6_earliest_0 0 rfl rfl)
theorem dX6_earliest_1 : decode cX6_earliest 1 = .ok (.invokestatic 145, 3) := dk_184 0 145 (dk_at dksX6_earliest_0 1 rfl rfl)
theorem dX6_earliest_4 : decode cX6_earliest 4 = .ok (.ifCond .ne 5, 3) := dk_154 0 5 (dk_at dksX6_earliest_0 4 rfl rfl)
theorem dX6_earliest_7 : decode cX6_earliest 7 = .ok (.iconst (-1), 1) := dk_2 (dk_at dksX6_earliest_0 7 rfl rfl)
theorem dX6_earliest_8 : decode cX6_earliest 8 = .ok (.ireturn, 1) := dk_172 (dk_at dksX6_earliest_0 8 rfl rfl)
theorem dX6_earliest_9 : decode cX6_earliest 9 = .ok (.aload_n 0, 1) := dk_42 (dk_at dksX6_earliest_0 9 rfl rfl)
theorem dX6_earliest_10 : decode cX6_earliest 10 = .ok (.invokevirtual 203, 3) := dk_182 0 203 (dk_at dksX6_earliest_0 10 rfl rfl)
theorem dX6_earliest_13 : decode cX6_earliest 13 = .ok (.istore_n 2, 1) := dk_61 (dk_at dksX6_earliest_0 13 rfl rfl)
theorem dX6_earliest_14 : decode cX6_earliest 14 = .ok (.iload_n 2, 1) := dk_28 (dk_at dksX6_earliest_0 14 rfl rfl)
theorem dX6_earliest_15 : decode cX6_earliest 15 = .ok (.ifCond .lt 8, 3) := dk_155 0 8 (dk_at dksX6_earliest_0 15 rfl rfl)
theorem dX6_earliest_18 : decode cX6_earliest 18 = .ok (.bipush (-100), 2) := dk_16 156 (dk_at dksX6_earliest_0 18 rfl rfl)
theorem dX6_earliest_20 : decode cX6_earliest 20 = .ok (.iload_n 2, 1) := dk_28 (dk_at dksX6_earliest_0 20 rfl rfl)
theorem dX6_earliest_21 : decode cX6_earliest 21 = .ok (.isub, 1) := dk_100 (dk_at dksX6_earliest_0 21 rfl rfl)
theorem dX6_earliest_22 : decode cX6_earliest 22 = .ok (.ireturn, 1) := dk_172 (dk_at dksX6_earliest_0 22 rfl rfl)
theorem dX6_earliest_23 : decode cX6_earliest 23 = .ok (.aload_n 0, 1) := dk_42 (dk_at dksX6_earliest_0 23 rfl rfl)
theorem dX6_earliest_24 : decode cX6_earliest 24 = .ok (.iload_n 1, 1) := dk_27 (dk_at dksX6_earliest_1 0 rfl rfl)
theorem dX6_earliest_25 : decode cX6_earliest 25 = .ok (.putfield 125, 3) := dk_181 0 125 (dk_at dksX6_earliest_1 1 rfl rfl)
theorem dX6_earliest_28 : decode cX6_earliest 28 = .ok (.aload_n 0, 1) := dk_42 (dk_at dksX6_earliest_1 4 rfl rfl)
theorem dX6_earliest_29 : decode cX6_earliest 29 = .ok (.aload_n 0, 1) := dk_42 (dk_at dksX6_earliest_1 5 rfl rfl)
theorem dX6_earliest_30 : decode cX6_earliest 30 = .ok (.getfield 9, 3) := dk_180 0 9 (dk_at dksX6_earliest_1 6 rfl rfl)
theorem dX6_earliest_33 : decode cX6_earliest 33 = .ok (.iconst 0, 1) := dk_3 (dk_at dksX6_earliest_1 9 rfl rfl)
theorem dX6_earliest_34 : decode cX6_earliest 34 = .ok (.iaload, 1) := dk_46 (dk_at dksX6_earliest_1 10 rfl rfl)
theorem dX6_earliest_35 : decode cX6_earliest 35 = .ok (.invokevirtual 269, 3) := dk_182 1 13 (dk_at dksX6_earliest_1 11 rfl rfl)
theorem dX6_earliest_38 : decode cX6_earliest 38 = .ok (.invokestatic 217, 3) := dk_184 0 217 (dk_at dksX6_earliest_1 14 rfl rfl)
theorem dX6_earliest_41 : decode cX6_earliest 41 = .ok (.ireturn, 1) := dk_172 (dk_at dksX6_earliest_1 17 rfl rfl)
abbrev cX6_holes : ByteArray := prog_33_method_100_code
def dkwX6_holes_6 : List UInt8 := [172]
abbrev dktX6_holes_6 : List UInt8 := dkwX6_holes_6 ++ []
def dkwX6_holes_5 : List UInt8 := [21, 6, 184, 0, 87, 54, 7, 132, 8, 1, 167, 255, 190, 29, 154, 0, 8, 21, 5, 167, 0, 5, 21, 7]
abbrev dktX6_holes_5 : List UInt8 := dkwX6_holes_5 ++ dktX6_holes_6
def dkwX6_holes_4 : List UInt8 := [167, 0, 4, 3, 96, 54, 5, 21, 9, 153, 0, 10, 21, 6, 4, 96, 167, 0, 4, 3, 54, 6, 21, 7]
abbrev dktX6_holes_4 : List UInt8 := dkwX6_holes_4 ++ dktX6_holes_5
def dkwX6_holes_3 : List UInt8 := [21, 8, 122, 4, 126, 154, 0, 7, 4, 167, 0, 4, 3, 54, 9, 21, 5, 21, 9, 153, 0, 7, 4]
abbrev dktX6_holes_3 : List UInt8 := dkwX6_holes_3 ++ dktX6_holes_4
def dkwX6_holes_2 : List UInt8 := [54, 4, 3, 54, 5, 3, 54, 6, 3, 54, 7, 3, 54, 8, 21, 8, 16, 16, 162, 0, 65, 21, 4]
abbrev dktX6_holes_2 : List UInt8 := dkwX6_holes_2 ++ dktX6_holes_3
def dkwX6_holes_1 : List UInt8 := [9, 10, 184, 0, 79, 154, 0, 5, 2, 172, 42, 27, 133, 27, 133, 28, 133, 97, 16, 254, 182, 0, 128]
abbrev dktX6_holes_1 : List UInt8 := dkwX6_holes_1 ++ dktX6_holes_2
def dkwX6_holes_0 : List UInt8 := [27, 42, 180, 0, 9, 3, 46, 161, 0, 25, 28, 133, 10, 20, 1, 92, 184, 0, 79, 153, 0, 13, 29, 133]
abbrev dktX6_holes_0 : List UInt8 := dkwX6_holes_0 ++ dktX6_holes_1
theorem dksX6_holes_0 : cX6_holes.data.toList.drop 0 = dktX6_holes_0 := by decide +kernel
theorem dksX6_holes_1 : cX6_holes.data.toList.drop 24 = dktX6_holes_1 := dk_seg dksX6_holes_0 24 rfl rfl
theorem dksX6_holes_2 : cX6_holes.data.toList.drop 47 = dktX6_holes_2 := dk_seg dksX6_holes_1 23 rfl rfl
theorem dksX6_holes_3 : cX6_holes.data.toList.drop 70 = dktX6_holes_3 := dk_seg dksX6_holes_2 23 rfl rfl
theorem dksX6_holes_4 : cX6_holes.data.toList.drop 93 = dktX6_holes_4 := dk_seg dksX6_holes_3 23 rfl rfl
theorem dksX6_holes_5 : cX6_holes.data.toList.drop 117 = dktX6_holes_5 := dk_seg dksX6_holes_4 24 rfl rfl
theorem dksX6_holes_6 : cX6_holes.data.toList.drop 141 = dktX6_holes_6 := dk_seg dksX6_holes_5 24 rfl rfl
theorem dX6_holes_0 : decode cX6_holes 0 = .ok (.iload_n 1, 1) := dk_27 (dk_at dksX6_holes_0 0 rfl rfl)
theorem dX6_holes_1 : decode cX6_holes 1 = .ok (.aload_n 0, 1) := dk_42 (dk_at dksX6_holes_0 1 rfl rfl)
theorem dX6_holes_2 : decode cX6_holes 2 = .ok (.getfield 9, 3) := dk_180 0 9 (dk_at dksX6_holes_0 2 rfl rfl)
theorem dX6_holes_5 : decode cX6_holes 5 = .ok (.iconst 0, 1) := dk_3 (dk_at dksX6_holes_0 5 rfl rfl)
theorem dX6_holes_6 : decode cX6_holes 6 = .ok (.iaload, 1) := dk_46 (dk_at dksX6_holes_0 6 rfl rfl)
theorem dX6_holes_7 : decode cX6_holes 7 = .ok (.if_icmp .lt 25, 3) := dk_161 0 25 (dk_at dksX6_holes_0 7 rfl rfl)
theorem dX6_holes_10 : decode cX6_holes 10 = .ok (.iload_n 2, 1) := dk_28 (dk_at dksX6_holes_0 10 rfl rfl)
theorem dX6_holes_11 : decode cX6_holes 11 = .ok (.i2l, 1) := dk_133 (dk_at dksX6_holes_0 11 rfl rfl)
theorem dX6_holes_12 : decode cX6_holes 12 = .ok (.lconst 1, 1) := dk_10 (dk_at dksX6_holes_0 12 rfl rfl)
theorem dX6_holes_13 : decode cX6_holes 13 = .ok (.ldc2_w 348, 3) := dk_20 1 92 (dk_at dksX6_holes_0 13 rfl rfl)
theorem dX6_holes_16 : decode cX6_holes 16 = .ok (.invokestatic 79, 3) := dk_184 0 79 (dk_at dksX6_holes_0 16 rfl rfl)
theorem dX6_holes_19 : decode cX6_holes 19 = .ok (.ifCond .eq 13, 3) := dk_153 0 13 (dk_at dksX6_holes_0 19 rfl rfl)
theorem dX6_holes_22 : decode cX6_holes 22 = .ok (.iload_n 3, 1) := dk_29 (dk_at dksX6_holes_0 22 rfl rfl)
theorem dX6_holes_23 : decode cX6_holes 23 = .ok (.i2l, 1) := dk_133 (dk_at dksX6_holes_0 23 rfl rfl)
theorem dX6_holes_24 : decode cX6_holes 24 = .ok (.lconst 0, 1) := dk_9 (dk_at dksX6_holes_1 0 rfl rfl)
theorem dX6_holes_25 : decode cX6_holes 25 = .ok (.lconst 1, 1) := dk_10 (dk_at dksX6_holes_1 1 rfl rfl)
theorem dX6_holes_26 : decode cX6_holes 26 = .ok (.invokestatic 79, 3) := dk_184 0 79 (dk_at dksX6_holes_1 2 rfl rfl)
theorem dX6_holes_29 : decode cX6_holes 29 = .ok (.ifCond .ne 5, 3) := dk_154 0 5 (dk_at dksX6_holes_1 5 rfl rfl)
theorem dX6_holes_32 : decode cX6_holes 32 = .ok (.iconst (-1), 1) := dk_2 (dk_at dksX6_holes_1 8 rfl rfl)
theorem dX6_holes_33 : decode cX6_holes 33 = .ok (.ireturn, 1) := dk_172 (dk_at dksX6_holes_1 9 rfl rfl)
theorem dX6_holes_34 : decode cX6_holes 34 = .ok (.aload_n 0, 1) := dk_42 (dk_at dksX6_holes_1 10 rfl rfl)
theorem dX6_holes_35 : decode cX6_holes 35 = .ok (.iload_n 1, 1) := dk_27 (dk_at dksX6_holes_1 11 rfl rfl)
theorem dX6_holes_36 : decode cX6_holes 36 = .ok (.i2l, 1) := dk_133 (dk_at dksX6_holes_1 12 rfl rfl)
theorem dX6_holes_37 : decode cX6_holes 37 = .ok (.iload_n 1, 1) := dk_27 (dk_at dksX6_holes_1 13 rfl rfl)
theorem dX6_holes_38 : decode cX6_holes 38 = .ok (.i2l, 1) := dk_133 (dk_at dksX6_holes_1 14 rfl rfl)
theorem dX6_holes_39 : decode cX6_holes 39 = .ok (.iload_n 2, 1) := dk_28 (dk_at dksX6_holes_1 15 rfl rfl)
theorem dX6_holes_40 : decode cX6_holes 40 = .ok (.i2l, 1) := dk_133 (dk_at dksX6_holes_1 16 rfl rfl)
theorem dX6_holes_41 : decode cX6_holes 41 = .ok (.ladd, 1) := dk_97 (dk_at dksX6_holes_1 17 rfl rfl)
theorem dX6_holes_42 : decode cX6_holes 42 = .ok (.bipush (-2), 2) := dk_16 254 (dk_at dksX6_holes_1 18 rfl rfl)
theorem dX6_holes_44 : decode cX6_holes 44 = .ok (.invokevirtual 128, 3) := dk_182 0 128 (dk_at dksX6_holes_1 20 rfl rfl)
theorem dX6_holes_47 : decode cX6_holes 47 = .ok (.istore 4, 2) := dk_54 4 (dk_at dksX6_holes_2 0 rfl rfl)
theorem dX6_holes_49 : decode cX6_holes 49 = .ok (.iconst 0, 1) := dk_3 (dk_at dksX6_holes_2 2 rfl rfl)
theorem dX6_holes_50 : decode cX6_holes 50 = .ok (.istore 5, 2) := dk_54 5 (dk_at dksX6_holes_2 3 rfl rfl)
theorem dX6_holes_52 : decode cX6_holes 52 = .ok (.iconst 0, 1) := dk_3 (dk_at dksX6_holes_2 5 rfl rfl)
theorem dX6_holes_53 : decode cX6_holes 53 = .ok (.istore 6, 2) := dk_54 6 (dk_at dksX6_holes_2 6 rfl rfl)
theorem dX6_holes_55 : decode cX6_holes 55 = .ok (.iconst 0, 1) := dk_3 (dk_at dksX6_holes_2 8 rfl rfl)
theorem dX6_holes_56 : decode cX6_holes 56 = .ok (.istore 7, 2) := dk_54 7 (dk_at dksX6_holes_2 9 rfl rfl)
theorem dX6_holes_58 : decode cX6_holes 58 = .ok (.iconst 0, 1) := dk_3 (dk_at dksX6_holes_2 11 rfl rfl)
theorem dX6_holes_59 : decode cX6_holes 59 = .ok (.istore 8, 2) := dk_54 8 (dk_at dksX6_holes_2 12 rfl rfl)
theorem dX6_holes_61 : decode cX6_holes 61 = .ok (.iload 8, 2) := dk_21 8 (dk_at dksX6_holes_2 14 rfl rfl)
theorem dX6_holes_63 : decode cX6_holes 63 = .ok (.bipush 16, 2) := dk_16 16 (dk_at dksX6_holes_2 16 rfl rfl)
theorem dX6_holes_65 : decode cX6_holes 65 = .ok (.if_icmp .ge 65, 3) := dk_162 0 65 (dk_at dksX6_holes_2 18 rfl rfl)
theorem dX6_holes_68 : decode cX6_holes 68 = .ok (.iload 4, 2) := dk_21 4 (dk_at dksX6_holes_2 21 rfl rfl)
theorem dX6_holes_70 : decode cX6_holes 70 = .ok (.iload 8, 2) := dk_21 8 (dk_at dksX6_holes_3 0 rfl rfl)
theorem dX6_holes_72 : decode cX6_holes 72 = .ok (.ishr, 1) := dk_122 (dk_at dksX6_holes_3 2 rfl rfl)
theorem dX6_holes_73 : decode cX6_holes 73 = .ok (.iconst 1, 1) := dk_4 (dk_at dksX6_holes_3 3 rfl rfl)
theorem dX6_holes_74 : decode cX6_holes 74 = .ok (.iand, 1) := dk_126 (dk_at dksX6_holes_3 4 rfl rfl)
theorem dX6_holes_75 : decode cX6_holes 75 = .ok (.ifCond .ne 7, 3) := dk_154 0 7 (dk_at dksX6_holes_3 5 rfl rfl)
theorem dX6_holes_78 : decode cX6_holes 78 = .ok (.iconst 1, 1) := dk_4 (dk_at dksX6_holes_3 8 rfl rfl)
theorem dX6_holes_79 : decode cX6_holes 79 = .ok (.goto 4, 3) := dk_167 0 4 (dk_at dksX6_holes_3 9 rfl rfl)
theorem dX6_holes_82 : decode cX6_holes 82 = .ok (.iconst 0, 1) := dk_3 (dk_at dksX6_holes_3 12 rfl rfl)
theorem dX6_holes_83 : decode cX6_holes 83 = .ok (.istore 9, 2) := dk_54 9 (dk_at dksX6_holes_3 13 rfl rfl)
theorem dX6_holes_85 : decode cX6_holes 85 = .ok (.iload 5, 2) := dk_21 5 (dk_at dksX6_holes_3 15 rfl rfl)
theorem dX6_holes_87 : decode cX6_holes 87 = .ok (.iload 9, 2) := dk_21 9 (dk_at dksX6_holes_3 17 rfl rfl)
theorem dX6_holes_89 : decode cX6_holes 89 = .ok (.ifCond .eq 7, 3) := dk_153 0 7 (dk_at dksX6_holes_3 19 rfl rfl)
theorem dX6_holes_92 : decode cX6_holes 92 = .ok (.iconst 1, 1) := dk_4 (dk_at dksX6_holes_3 22 rfl rfl)
theorem dX6_holes_93 : decode cX6_holes 93 = .ok (.goto 4, 3) := dk_167 0 4 (dk_at dksX6_holes_4 0 rfl rfl)
theorem dX6_holes_96 : decode cX6_holes 96 = .ok (.iconst 0, 1) := dk_3 (dk_at dksX6_holes_4 3 rfl rfl)
theorem dX6_holes_97 : decode cX6_holes 97 = .ok (.iadd, 1) := dk_96 (dk_at dksX6_holes_4 4 rfl rfl)
theorem dX6_holes_98 : decode cX6_holes 98 = .ok (.istore 5, 2) := dk_54 5 (dk_at dksX6_holes_4 5 rfl rfl)
theorem dX6_holes_100 : decode cX6_holes 100 = .ok (.iload 9, 2) := dk_21 9 (dk_at dksX6_holes_4 7 rfl rfl)
theorem dX6_holes_102 : decode cX6_holes 102 = .ok (.ifCond .eq 10, 3) := dk_153 0 10 (dk_at dksX6_holes_4 9 rfl rfl)
theorem dX6_holes_105 : decode cX6_holes 105 = .ok (.iload 6, 2) := dk_21 6 (dk_at dksX6_holes_4 12 rfl rfl)
theorem dX6_holes_107 : decode cX6_holes 107 = .ok (.iconst 1, 1) := dk_4 (dk_at dksX6_holes_4 14 rfl rfl)
theorem dX6_holes_108 : decode cX6_holes 108 = .ok (.iadd, 1) := dk_96 (dk_at dksX6_holes_4 15 rfl rfl)
theorem dX6_holes_109 : decode cX6_holes 109 = .ok (.goto 4, 3) := dk_167 0 4 (dk_at dksX6_holes_4 16 rfl rfl)
theorem dX6_holes_112 : decode cX6_holes 112 = .ok (.iconst 0, 1) := dk_3 (dk_at dksX6_holes_4 19 rfl rfl)
theorem dX6_holes_113 : decode cX6_holes 113 = .ok (.istore 6, 2) := dk_54 6 (dk_at dksX6_holes_4 20 rfl rfl)
theorem dX6_holes_115 : decode cX6_holes 115 = .ok (.iload 7, 2) := dk_21 7 (dk_at dksX6_holes_4 22 rfl rfl)
theorem dX6_holes_117 : decode cX6_holes 117 = .ok (.iload 6, 2) := dk_21 6 (dk_at dksX6_holes_5 0 rfl rfl)
theorem dX6_holes_119 : decode cX6_holes 119 = .ok (.invokestatic 87, 3) := dk_184 0 87 (dk_at dksX6_holes_5 2 rfl rfl)
theorem dX6_holes_122 : decode cX6_holes 122 = .ok (.istore 7, 2) := dk_54 7 (dk_at dksX6_holes_5 5 rfl rfl)
theorem dX6_holes_124 : decode cX6_holes 124 = .ok (.iinc 8 1, 3) := dk_132 8 1 (dk_at dksX6_holes_5 7 rfl rfl)
theorem dX6_holes_127 : decode cX6_holes 127 = .ok (.goto (-66), 3) := dk_167 255 190 (dk_at dksX6_holes_5 10 rfl rfl)
theorem dX6_holes_130 : decode cX6_holes 130 = .ok (.iload_n 3, 1) := dk_29 (dk_at dksX6_holes_5 13 rfl rfl)
theorem dX6_holes_131 : decode cX6_holes 131 = .ok (.ifCond .ne 8, 3) := dk_154 0 8 (dk_at dksX6_holes_5 14 rfl rfl)
theorem dX6_holes_134 : decode cX6_holes 134 = .ok (.iload 5, 2) := dk_21 5 (dk_at dksX6_holes_5 17 rfl rfl)
theorem dX6_holes_136 : decode cX6_holes 136 = .ok (.goto 5, 3) := dk_167 0 5 (dk_at dksX6_holes_5 19 rfl rfl)
theorem dX6_holes_139 : decode cX6_holes 139 = .ok (.iload 7, 2) := dk_21 7 (dk_at dksX6_holes_5 22 rfl rfl)
theorem dX6_holes_141 : decode cX6_holes 141 = .ok (.ireturn, 1) := dk_172 (dk_at dksX6_holes_6 0 rfl rfl)
abbrev cX6_led : ByteArray := prog_33_method_101_code
def dkwX6_led_1 : List UInt8 := [20, 0, 162, 173]
abbrev dktX6_led_1 : List UInt8 := dkwX6_led_1 ++ []
def dkwX6_led_0 : List UInt8 := [27, 133, 9, 20, 0, 77, 184, 0, 79, 153, 0, 15, 42, 180, 0, 19, 16, 8, 27, 96, 47, 167, 0, 6]
abbrev dktX6_led_0 : List UInt8 := dkwX6_led_0 ++ dktX6_led_1
theorem dksX6_led_0 : cX6_led.data.toList.drop 0 = dktX6_led_0 := by decide +kernel
theorem dksX6_led_1 : cX6_led.data.toList.drop 24 = dktX6_led_1 := dk_seg dksX6_led_0 24 rfl rfl
theorem dX6_led_0 : decode cX6_led 0 = .ok (.iload_n 1, 1) := dk_27 (dk_at dksX6_led_0 0 rfl rfl)
theorem dX6_led_1 : decode cX6_led 1 = .ok (.i2l, 1) := dk_133 (dk_at dksX6_led_0 1 rfl rfl)
theorem dX6_led_2 : decode cX6_led 2 = .ok (.lconst 0, 1) := dk_9 (dk_at dksX6_led_0 2 rfl rfl)
theorem dX6_led_3 : decode cX6_led 3 = .ok (.ldc2_w 77, 3) := dk_20 0 77 (dk_at dksX6_led_0 3 rfl rfl)
theorem dX6_led_6 : decode cX6_led 6 = .ok (.invokestatic 79, 3) := dk_184 0 79 (dk_at dksX6_led_0 6 rfl rfl)
theorem dX6_led_9 : decode cX6_led 9 = .ok (.ifCond .eq 15, 3) := dk_153 0 15 (dk_at dksX6_led_0 9 rfl rfl)
theorem dX6_led_12 : decode cX6_led 12 = .ok (.aload_n 0, 1) := dk_42 (dk_at dksX6_led_0 12 rfl rfl)
theorem dX6_led_13 : decode cX6_led 13 = .ok (.getfield 19, 3) := dk_180 0 19 (dk_at dksX6_led_0 13 rfl rfl)
theorem dX6_led_16 : decode cX6_led 16 = .ok (.bipush 8, 2) := dk_16 8 (dk_at dksX6_led_0 16 rfl rfl)
theorem dX6_led_18 : decode cX6_led 18 = .ok (.iload_n 1, 1) := dk_27 (dk_at dksX6_led_0 18 rfl rfl)
theorem dX6_led_19 : decode cX6_led 19 = .ok (.iadd, 1) := dk_96 (dk_at dksX6_led_0 19 rfl rfl)
theorem dX6_led_20 : decode cX6_led 20 = .ok (.laload, 1) := dk_47 (dk_at dksX6_led_0 20 rfl rfl)
theorem dX6_led_21 : decode cX6_led 21 = .ok (.goto 6, 3) := dk_167 0 6 (dk_at dksX6_led_0 21 rfl rfl)
theorem dX6_led_24 : decode cX6_led 24 = .ok (.ldc2_w 162, 3) := dk_20 0 162 (dk_at dksX6_led_1 0 rfl rfl)
theorem dX6_led_27 : decode cX6_led 27 = .ok (.lreturn, 1) := dk_173 (dk_at dksX6_led_1 3 rfl rfl)
abbrev cX6_chart : ByteArray := prog_33_method_102_code
def dkwX6_chart_2 : List UInt8 := [29, 16, 64, 112, 16, 16, 104, 96, 27, 96, 46, 184, 0, 217, 172]
abbrev dktX6_chart_2 : List UInt8 := dkwX6_chart_2 ++ []
def dkwX6_chart_1 : List UInt8 := [180, 0, 9, 3, 46, 28, 100, 62, 29, 156, 0, 8, 16, 254, 167, 0, 24, 42, 180, 0, 9, 17, 11, 100]
abbrev dktX6_chart_1 : List UInt8 := dkwX6_chart_1 ++ dktX6_chart_2
def dkwX6_chart_0 : List UInt8 := [27, 184, 1, 43, 153, 0, 15, 28, 133, 10, 20, 1, 94, 184, 0, 79, 154, 0, 5, 2, 172, 42]
abbrev dktX6_chart_0 : List UInt8 := dkwX6_chart_0 ++ dktX6_chart_1
theorem dksX6_chart_0 : cX6_chart.data.toList.drop 0 = dktX6_chart_0 := by decide +kernel
theorem dksX6_chart_1 : cX6_chart.data.toList.drop 22 = dktX6_chart_1 := dk_seg dksX6_chart_0 22 rfl rfl
theorem dksX6_chart_2 : cX6_chart.data.toList.drop 46 = dktX6_chart_2 := dk_seg dksX6_chart_1 24 rfl rfl
theorem dX6_chart_0 : decode cX6_chart 0 = .ok (.iload_n 1, 1) := dk_27 (dk_at dksX6_chart_0 0 rfl rfl)
theorem dX6_chart_1 : decode cX6_chart 1 = .ok (.invokestatic 299, 3) := dk_184 1 43 (dk_at dksX6_chart_0 1 rfl rfl)
theorem dX6_chart_4 : decode cX6_chart 4 = .ok (.ifCond .eq 15, 3) := dk_153 0 15 (dk_at dksX6_chart_0 4 rfl rfl)
theorem dX6_chart_7 : decode cX6_chart 7 = .ok (.iload_n 2, 1) := dk_28 (dk_at dksX6_chart_0 7 rfl rfl)
theorem dX6_chart_8 : decode cX6_chart 8 = .ok (.i2l, 1) := dk_133 (dk_at dksX6_chart_0 8 rfl rfl)
theorem dX6_chart_9 : decode cX6_chart 9 = .ok (.lconst 1, 1) := dk_10 (dk_at dksX6_chart_0 9 rfl rfl)
theorem dX6_chart_10 : decode cX6_chart 10 = .ok (.ldc2_w 350, 3) := dk_20 1 94 (dk_at dksX6_chart_0 10 rfl rfl)
theorem dX6_chart_13 : decode cX6_chart 13 = .ok (.invokestatic 79, 3) := dk_184 0 79 (dk_at dksX6_chart_0 13 rfl rfl)
theorem dX6_chart_16 : decode cX6_chart 16 = .ok (.ifCond .ne 5, 3) := dk_154 0 5 (dk_at dksX6_chart_0 16 rfl rfl)
theorem dX6_chart_19 : decode cX6_chart 19 = .ok (.iconst (-1), 1) := dk_2 (dk_at dksX6_chart_0 19 rfl rfl)
theorem dX6_chart_20 : decode cX6_chart 20 = .ok (.ireturn, 1) := dk_172 (dk_at dksX6_chart_0 20 rfl rfl)
theorem dX6_chart_21 : decode cX6_chart 21 = .ok (.aload_n 0, 1) := dk_42 (dk_at dksX6_chart_0 21 rfl rfl)
theorem dX6_chart_22 : decode cX6_chart 22 = .ok (.getfield 9, 3) := dk_180 0 9 (dk_at dksX6_chart_1 0 rfl rfl)
theorem dX6_chart_25 : decode cX6_chart 25 = .ok (.iconst 0, 1) := dk_3 (dk_at dksX6_chart_1 3 rfl rfl)
theorem dX6_chart_26 : decode cX6_chart 26 = .ok (.iaload, 1) := dk_46 (dk_at dksX6_chart_1 4 rfl rfl)
theorem dX6_chart_27 : decode cX6_chart 27 = .ok (.iload_n 2, 1) := dk_28 (dk_at dksX6_chart_1 5 rfl rfl)
theorem dX6_chart_28 : decode cX6_chart 28 = .ok (.isub, 1) := dk_100 (dk_at dksX6_chart_1 6 rfl rfl)
theorem dX6_chart_29 : decode cX6_chart 29 = .ok (.istore_n 3, 1) := dk_62 (dk_at dksX6_chart_1 7 rfl rfl)
theorem dX6_chart_30 : decode cX6_chart 30 = .ok (.iload_n 3, 1) := dk_29 (dk_at dksX6_chart_1 8 rfl rfl)
theorem dX6_chart_31 : decode cX6_chart 31 = .ok (.ifCond .ge 8, 3) := dk_156 0 8 (dk_at dksX6_chart_1 9 rfl rfl)
theorem dX6_chart_34 : decode cX6_chart 34 = .ok (.bipush (-2), 2) := dk_16 254 (dk_at dksX6_chart_1 12 rfl rfl)
theorem dX6_chart_36 : decode cX6_chart 36 = .ok (.goto 24, 3) := dk_167 0 24 (dk_at dksX6_chart_1 14 rfl rfl)
theorem dX6_chart_39 : decode cX6_chart 39 = .ok (.aload_n 0, 1) := dk_42 (dk_at dksX6_chart_1 17 rfl rfl)
theorem dX6_chart_40 : decode cX6_chart 40 = .ok (.getfield 9, 3) := dk_180 0 9 (dk_at dksX6_chart_1 18 rfl rfl)
theorem dX6_chart_43 : decode cX6_chart 43 = .ok (.sipush 2916, 3) := dk_17 11 100 (dk_at dksX6_chart_1 21 rfl rfl)
theorem dX6_chart_46 : decode cX6_chart 46 = .ok (.iload_n 3, 1) := dk_29 (dk_at dksX6_chart_2 0 rfl rfl)
theorem dX6_chart_47 : decode cX6_chart 47 = .ok (.bipush 64, 2) := dk_16 64 (dk_at dksX6_chart_2 1 rfl rfl)
theorem dX6_chart_49 : decode cX6_chart 49 = .ok (.irem, 1) := dk_112 (dk_at dksX6_chart_2 3 rfl rfl)
theorem dX6_chart_50 : decode cX6_chart 50 = .ok (.bipush 16, 2) := dk_16 16 (dk_at dksX6_chart_2 4 rfl rfl)
theorem dX6_chart_52 : decode cX6_chart 52 = .ok (.imul, 1) := dk_104 (dk_at dksX6_chart_2 6 rfl rfl)
theorem dX6_chart_53 : decode cX6_chart 53 = .ok (.iadd, 1) := dk_96 (dk_at dksX6_chart_2 7 rfl rfl)
theorem dX6_chart_54 : decode cX6_chart 54 = .ok (.iload_n 1, 1) := dk_27 (dk_at dksX6_chart_2 8 rfl rfl)
theorem dX6_chart_55 : decode cX6_chart 55 = .ok (.iadd, 1) := dk_96 (dk_at dksX6_chart_2 9 rfl rfl)
theorem dX6_chart_56 : decode cX6_chart 56 = .ok (.iaload, 1) := dk_46 (dk_at dksX6_chart_2 10 rfl rfl)
theorem dX6_chart_57 : decode cX6_chart 57 = .ok (.invokestatic 217, 3) := dk_184 0 217 (dk_at dksX6_chart_2 11 rfl rfl)
theorem dX6_chart_60 : decode cX6_chart 60 = .ok (.ireturn, 1) := dk_172 (dk_at dksX6_chart_2 14 rfl rfl)
abbrev cX6_event : ByteArray := prog_33_method_103_code
def dkwX6_event_2 : List UInt8 := [16, 254, 172]
abbrev dktX6_event_2 : List UInt8 := dkwX6_event_2 ++ []
def dkwX6_event_1 : List UInt8 := [16, 7, 46, 162, 0, 20, 42, 180, 0, 9, 17, 10, 176, 6, 27, 104, 96, 28, 96, 46, 167, 0, 5]
abbrev dktX6_event_1 : List UInt8 := dkwX6_event_1 ++ dktX6_event_2
def dkwX6_event_0 : List UInt8 := [27, 155, 0, 15, 28, 133, 9, 20, 1, 37, 184, 0, 79, 154, 0, 5, 2, 172, 27, 42, 180, 0, 9]
abbrev dktX6_event_0 : List UInt8 := dkwX6_event_0 ++ dktX6_event_1
theorem dksX6_event_0 : cX6_event.data.toList.drop 0 = dktX6_event_0 := by decide +kernel
theorem dksX6_event_1 : cX6_event.data.toList.drop 23 = dktX6_event_1 := dk_seg dksX6_event_0 23 rfl rfl
theorem dksX6_event_2 : cX6_event.data.toList.drop 46 = dktX6_event_2 := dk_seg dksX6_event_1 23 rfl rfl
theorem dX6_event_0 : decode cX6_event 0 = .ok (.iload_n 1, 1) := dk_27 (dk_at dksX6_event_0 0 rfl rfl)
theorem dX6_event_1 : decode cX6_event 1 = .ok (.ifCond .lt 15, 3) := dk_155 0 15 (dk_at dksX6_event_0 1 rfl rfl)
theorem dX6_event_4 : decode cX6_event 4 = .ok (.iload_n 2, 1) := dk_28 (dk_at dksX6_event_0 4 rfl rfl)
theorem dX6_event_5 : decode cX6_event 5 = .ok (.i2l, 1) := dk_133 (dk_at dksX6_event_0 5 rfl rfl)
theorem dX6_event_6 : decode cX6_event 6 = .ok (.lconst 0, 1) := dk_9 (dk_at dksX6_event_0 6 rfl rfl)
theorem dX6_event_7 : decode cX6_event 7 = .ok (.ldc2_w 293, 3) := dk_20 1 37 (dk_at dksX6_event_0 7 rfl rfl)
theorem dX6_event_10 : decode cX6_event 10 = .ok (.invokestatic 79, 3) := dk_184 0 79 (dk_at dksX6_event_0 10 rfl rfl)
theorem dX6_event_13 : decode cX6_event 13 = .ok (.ifCond .ne 5, 3) := dk_154 0 5 (dk_at dksX6_event_0 13 rfl rfl)
theorem dX6_event_16 : decode cX6_event 16 = .ok (.iconst (-1), 1) := dk_2 (dk_at dksX6_event_0 16 rfl rfl)
theorem dX6_event_17 : decode cX6_event 17 = .ok (.ireturn, 1) := dk_172 (dk_at dksX6_event_0 17 rfl rfl)
theorem dX6_event_18 : decode cX6_event 18 = .ok (.iload_n 1, 1) := dk_27 (dk_at dksX6_event_0 18 rfl rfl)
theorem dX6_event_19 : decode cX6_event 19 = .ok (.aload_n 0, 1) := dk_42 (dk_at dksX6_event_0 19 rfl rfl)
theorem dX6_event_20 : decode cX6_event 20 = .ok (.getfield 9, 3) := dk_180 0 9 (dk_at dksX6_event_0 20 rfl rfl)
theorem dX6_event_23 : decode cX6_event 23 = .ok (.bipush 7, 2) := dk_16 7 (dk_at dksX6_event_1 0 rfl rfl)
theorem dX6_event_25 : decode cX6_event 25 = .ok (.iaload, 1) := dk_46 (dk_at dksX6_event_1 2 rfl rfl)
theorem dX6_event_26 : decode cX6_event 26 = .ok (.if_icmp .ge 20, 3) := dk_162 0 20 (dk_at dksX6_event_1 3 rfl rfl)
theorem dX6_event_29 : decode cX6_event 29 = .ok (.aload_n 0, 1) := dk_42 (dk_at dksX6_event_1 6 rfl rfl)
theorem dX6_event_30 : decode cX6_event 30 = .ok (.getfield 9, 3) := dk_180 0 9 (dk_at dksX6_event_1 7 rfl rfl)
theorem dX6_event_33 : decode cX6_event 33 = .ok (.sipush 2736, 3) := dk_17 10 176 (dk_at dksX6_event_1 10 rfl rfl)
theorem dX6_event_36 : decode cX6_event 36 = .ok (.iconst 3, 1) := dk_6 (dk_at dksX6_event_1 13 rfl rfl)
theorem dX6_event_37 : decode cX6_event 37 = .ok (.iload_n 1, 1) := dk_27 (dk_at dksX6_event_1 14 rfl rfl)
theorem dX6_event_38 : decode cX6_event 38 = .ok (.imul, 1) := dk_104 (dk_at dksX6_event_1 15 rfl rfl)
theorem dX6_event_39 : decode cX6_event 39 = .ok (.iadd, 1) := dk_96 (dk_at dksX6_event_1 16 rfl rfl)
theorem dX6_event_40 : decode cX6_event 40 = .ok (.iload_n 2, 1) := dk_28 (dk_at dksX6_event_1 17 rfl rfl)
theorem dX6_event_41 : decode cX6_event 41 = .ok (.iadd, 1) := dk_96 (dk_at dksX6_event_1 18 rfl rfl)
theorem dX6_event_42 : decode cX6_event 42 = .ok (.iaload, 1) := dk_46 (dk_at dksX6_event_1 19 rfl rfl)
theorem dX6_event_43 : decode cX6_event 43 = .ok (.goto 5, 3) := dk_167 0 5 (dk_at dksX6_event_1 20 rfl rfl)
theorem dX6_event_46 : decode cX6_event 46 = .ok (.bipush (-2), 2) := dk_16 254 (dk_at dksX6_event_2 0 rfl rfl)
theorem dX6_event_48 : decode cX6_event 48 = .ok (.ireturn, 1) := dk_172 (dk_at dksX6_event_2 2 rfl rfl)
abbrev cX6_started : ByteArray := prog_33_method_104_code
def dkwX6_started_1 : List UInt8 := [17, 10, 96, 27, 96, 46, 167, 0, 5, 16, 254, 172]
abbrev dktX6_started_1 : List UInt8 := dkwX6_started_1 ++ []
def dkwX6_started_0 : List UInt8 := [27, 156, 0, 7, 2, 167, 0, 29, 27, 42, 180, 0, 9, 16, 6, 46, 162, 0, 16, 42, 180, 0, 9]
abbrev dktX6_started_0 : List UInt8 := dkwX6_started_0 ++ dktX6_started_1
theorem dksX6_started_0 : cX6_started.data.toList.drop 0 = dktX6_started_0 := by decide +kernel
theorem dksX6_started_1 : cX6_started.data.toList.drop 23 = dktX6_started_1 := dk_seg dksX6_started_0 23 rfl rfl
theorem dX6_started_0 : decode cX6_started 0 = .ok (.iload_n 1, 1) := dk_27 (dk_at dksX6_started_0 0 rfl rfl)
theorem dX6_started_1 : decode cX6_started 1 = .ok (.ifCond .ge 7, 3) := dk_156 0 7 (dk_at dksX6_started_0 1 rfl rfl)
theorem dX6_started_4 : decode cX6_started 4 = .ok (.iconst (-1), 1) := dk_2 (dk_at dksX6_started_0 4 rfl rfl)
theorem dX6_started_5 : decode cX6_started 5 = .ok (.goto 29, 3) := dk_167 0 29 (dk_at dksX6_started_0 5 rfl rfl)
theorem dX6_started_8 : decode cX6_started 8 = .ok (.iload_n 1, 1) := dk_27 (dk_at dksX6_started_0 8 rfl rfl)
theorem dX6_started_9 : decode cX6_started 9 = .ok (.aload_n 0, 1) := dk_42 (dk_at dksX6_started_0 9 rfl rfl)
theorem dX6_started_10 : decode cX6_started 10 = .ok (.getfield 9, 3) := dk_180 0 9 (dk_at dksX6_started_0 10 rfl rfl)
theorem dX6_started_13 : decode cX6_started 13 = .ok (.bipush 6, 2) := dk_16 6 (dk_at dksX6_started_0 13 rfl rfl)
theorem dX6_started_15 : decode cX6_started 15 = .ok (.iaload, 1) := dk_46 (dk_at dksX6_started_0 15 rfl rfl)
theorem dX6_started_16 : decode cX6_started 16 = .ok (.if_icmp .ge 16, 3) := dk_162 0 16 (dk_at dksX6_started_0 16 rfl rfl)
theorem dX6_started_19 : decode cX6_started 19 = .ok (.aload_n 0, 1) := dk_42 (dk_at dksX6_started_0 19 rfl rfl)
theorem dX6_started_20 : decode cX6_started 20 = .ok (.getfield 9, 3) := dk_180 0 9 (dk_at dksX6_started_0 20 rfl rfl)
theorem dX6_started_23 : decode cX6_started 23 = .ok (.sipush 2656, 3) := dk_17 10 96 (dk_at dksX6_started_1 0 rfl rfl)
theorem dX6_started_26 : decode cX6_started 26 = .ok (.iload_n 1, 1) := dk_27 (dk_at dksX6_started_1 3 rfl rfl)
theorem dX6_started_27 : decode cX6_started 27 = .ok (.iadd, 1) := dk_96 (dk_at dksX6_started_1 4 rfl rfl)
theorem dX6_started_28 : decode cX6_started 28 = .ok (.iaload, 1) := dk_46 (dk_at dksX6_started_1 5 rfl rfl)
theorem dX6_started_29 : decode cX6_started 29 = .ok (.goto 5, 3) := dk_167 0 5 (dk_at dksX6_started_1 6 rfl rfl)
theorem dX6_started_32 : decode cX6_started 32 = .ok (.bipush (-2), 2) := dk_16 254 (dk_at dksX6_started_1 9 rfl rfl)
theorem dX6_started_34 : decode cX6_started 34 = .ok (.ireturn, 1) := dk_172 (dk_at dksX6_started_1 11 rfl rfl)
abbrev cX6_image : ByteArray := prog_33_method_105_code
def dkwX6_image_1 : List UInt8 := [180, 0, 9, 3, 46, 172]
abbrev dktX6_image_1 : List UInt8 := dkwX6_image_1 ++ []
def dkwX6_image_0 : List UInt8 := [42, 180, 0, 9, 42, 180, 0, 16, 184, 0, 73, 42, 180, 0, 19, 42, 180, 0, 26, 184, 1, 46, 42]
abbrev dktX6_image_0 : List UInt8 := dkwX6_image_0 ++ dktX6_image_1
theorem dksX6_image_0 : cX6_image.data.toList.drop 0 = dktX6_image_0 := by decide +kernel
theorem dksX6_image_1 : cX6_image.data.toList.drop 23 = dktX6_image_1 := dk_seg dksX6_image_0 23 rfl rfl
theorem dX6_image_0 : decode cX6_image 0 = .ok (.aload_n 0, 1) := dk_42 (dk_at dksX6_image_0 0 rfl rfl)
theorem dX6_image_1 : decode cX6_image 1 = .ok (.getfield 9, 3) := dk_180 0 9 (dk_at dksX6_image_0 1 rfl rfl)
theorem dX6_image_4 : decode cX6_image 4 = .ok (.aload_n 0, 1) := dk_42 (dk_at dksX6_image_0 4 rfl rfl)
theorem dX6_image_5 : decode cX6_image 5 = .ok (.getfield 16, 3) := dk_180 0 16 (dk_at dksX6_image_0 5 rfl rfl)
theorem dX6_image_8 : decode cX6_image 8 = .ok (.invokestatic 73, 3) := dk_184 0 73 (dk_at dksX6_image_0 8 rfl rfl)
theorem dX6_image_11 : decode cX6_image 11 = .ok (.aload_n 0, 1) := dk_42 (dk_at dksX6_image_0 11 rfl rfl)
theorem dX6_image_12 : decode cX6_image 12 = .ok (.getfield 19, 3) := dk_180 0 19 (dk_at dksX6_image_0 12 rfl rfl)
theorem dX6_image_15 : decode cX6_image 15 = .ok (.aload_n 0, 1) := dk_42 (dk_at dksX6_image_0 15 rfl rfl)
theorem dX6_image_16 : decode cX6_image 16 = .ok (.getfield 26, 3) := dk_180 0 26 (dk_at dksX6_image_0 16 rfl rfl)
theorem dX6_image_19 : decode cX6_image 19 = .ok (.invokestatic 302, 3) := dk_184 1 46 (dk_at dksX6_image_0 19 rfl rfl)
theorem dX6_image_22 : decode cX6_image 22 = .ok (.aload_n 0, 1) := dk_42 (dk_at dksX6_image_0 22 rfl rfl)
theorem dX6_image_23 : decode cX6_image 23 = .ok (.getfield 9, 3) := dk_180 0 9 (dk_at dksX6_image_1 0 rfl rfl)
theorem dX6_image_26 : decode cX6_image 26 = .ok (.iconst 0, 1) := dk_3 (dk_at dksX6_image_1 3 rfl rfl)
theorem dX6_image_27 : decode cX6_image 27 = .ok (.iaload, 1) := dk_46 (dk_at dksX6_image_1 4 rfl rfl)
theorem dX6_image_28 : decode cX6_image 28 = .ok (.ireturn, 1) := dk_172 (dk_at dksX6_image_1 5 rfl rfl)
abbrev cX6_back : ByteArray := prog_33_method_106_code
def dkwX6_back_1 : List UInt8 := [180, 0, 9, 3, 46, 172]
abbrev dktX6_back_1 : List UInt8 := dkwX6_back_1 ++ []
def dkwX6_back_0 : List UInt8 := [42, 180, 0, 16, 42, 180, 0, 9, 184, 0, 73, 42, 180, 0, 26, 42, 180, 0, 19, 184, 1, 46, 42]
abbrev dktX6_back_0 : List UInt8 := dkwX6_back_0 ++ dktX6_back_1
theorem dksX6_back_0 : cX6_back.data.toList.drop 0 = dktX6_back_0 := by decide +kernel
theorem dksX6_back_1 : cX6_back.data.toList.drop 23 = dktX6_back_1 := dk_seg dksX6_back_0 23 rfl rfl
theorem dX6_back_0 : decode cX6_back 0 = .ok (.aload_n 0, 1) := dk_42 (dk_at dksX6_back_0 0 rfl rfl)
theorem dX6_back_1 : decode cX6_back 1 = .ok (.getfield 16, 3) := dk_180 0 16 (dk_at dksX6_back_0 1 rfl rfl)
theorem dX6_back_4 : decode cX6_back 4 = .ok (.aload_n 0, 1) := dk_42 (dk_at dksX6_back_0 4 rfl rfl)
theorem dX6_back_5 : decode cX6_back 5 = .ok (.getfield 9, 3) := dk_180 0 9 (dk_at dksX6_back_0 5 rfl rfl)
theorem dX6_back_8 : decode cX6_back 8 = .ok (.invokestatic 73, 3) := dk_184 0 73 (dk_at dksX6_back_0 8 rfl rfl)
theorem dX6_back_11 : decode cX6_back 11 = .ok (.aload_n 0, 1) := dk_42 (dk_at dksX6_back_0 11 rfl rfl)
theorem dX6_back_12 : decode cX6_back 12 = .ok (.getfield 26, 3) := dk_180 0 26 (dk_at dksX6_back_0 12 rfl rfl)
theorem dX6_back_15 : decode cX6_back 15 = .ok (.aload_n 0, 1) := dk_42 (dk_at dksX6_back_0 15 rfl rfl)
theorem dX6_back_16 : decode cX6_back 16 = .ok (.getfield 19, 3) := dk_180 0 19 (dk_at dksX6_back_0 16 rfl rfl)
theorem dX6_back_19 : decode cX6_back 19 = .ok (.invokestatic 302, 3) := dk_184 1 46 (dk_at dksX6_back_0 19 rfl rfl)
theorem dX6_back_22 : decode cX6_back 22 = .ok (.aload_n 0, 1) := dk_42 (dk_at dksX6_back_0 22 rfl rfl)
theorem dX6_back_23 : decode cX6_back 23 = .ok (.getfield 9, 3) := dk_180 0 9 (dk_at dksX6_back_1 0 rfl rfl)
theorem dX6_back_26 : decode cX6_back 26 = .ok (.iconst 0, 1) := dk_3 (dk_at dksX6_back_1 3 rfl rfl)
theorem dX6_back_27 : decode cX6_back 27 = .ok (.iaload, 1) := dk_46 (dk_at dksX6_back_1 4 rfl rfl)
theorem dX6_back_28 : decode cX6_back 28 = .ok (.ireturn, 1) := dk_172 (dk_at dksX6_back_1 5 rfl rfl)
abbrev cX6_count : ByteArray := prog_33_method_108_code
def dkwX6_count_6 : List UInt8 := [180, 0, 9, 3, 46, 172, 2, 172]
abbrev dktX6_count_6 : List UInt8 := dkwX6_count_6 ++ []
def dkwX6_count_5 : List UInt8 := [182, 0, 83, 155, 0, 7, 4, 167, 0, 4, 3, 96, 61, 132, 3, 1, 167, 255, 225, 28, 172, 42]
abbrev dktX6_count_5 : List UInt8 := dkwX6_count_5 ++ dktX6_count_6
def dkwX6_count_4 : List UInt8 := [42, 180, 0, 168, 172, 3, 62, 29, 42, 180, 0, 9, 4, 46, 162, 0, 27, 28, 42, 29, 16, 9]
abbrev dktX6_count_4 : List UInt8 := dkwX6_count_4 ++ dktX6_count_5
def dkwX6_count_3 : List UInt8 := [3, 62, 29, 16, 8, 162, 0, 17, 28, 42, 29, 182, 1, 16, 96, 61, 132, 3, 1, 167, 255, 239, 28, 172]
abbrev dktX6_count_3 : List UInt8 := dkwX6_count_3 ++ dktX6_count_4
def dkwX6_count_2 : List UInt8 := [42, 180, 0, 9, 4, 46, 172, 42, 3, 182, 1, 96, 172, 42, 4, 182, 1, 96, 172, 42, 182, 0, 254, 172]
abbrev dktX6_count_2 : List UInt8 := dkwX6_count_2 ++ dktX6_count_3
def dkwX6_count_1 : List UInt8 := [170, 0, 0, 0, 143, 0, 0, 0, 0, 0, 0, 0, 7, 0, 0, 0, 45, 0, 0, 0, 52, 0, 0, 0, 58, 0, 0, 0, 64, 0, 0, 0, 69, 0, 0, 0, 93, 0, 0, 0, 98, 0, 0, 0, 136]
abbrev dktX6_count_1 : List UInt8 := dkwX6_count_1 ++ dktX6_count_2
def dkwX6_count_0 : List UInt8 := [3, 61, 27]
abbrev dktX6_count_0 : List UInt8 := dkwX6_count_0 ++ dktX6_count_1
theorem dksX6_count_0 : cX6_count.data.toList.drop 0 = dktX6_count_0 := by decide +kernel
theorem dksX6_count_1 : cX6_count.data.toList.drop 3 = dktX6_count_1 := dk_seg dksX6_count_0 3 rfl rfl
theorem dksX6_count_2 : cX6_count.data.toList.drop 48 = dktX6_count_2 := dk_seg dksX6_count_1 45 rfl rfl
theorem dksX6_count_3 : cX6_count.data.toList.drop 72 = dktX6_count_3 := dk_seg dksX6_count_2 24 rfl rfl
theorem dksX6_count_4 : cX6_count.data.toList.drop 96 = dktX6_count_4 := dk_seg dksX6_count_3 24 rfl rfl
theorem dksX6_count_5 : cX6_count.data.toList.drop 118 = dktX6_count_5 := dk_seg dksX6_count_4 22 rfl rfl
theorem dksX6_count_6 : cX6_count.data.toList.drop 140 = dktX6_count_6 := dk_seg dksX6_count_5 22 rfl rfl
theorem dX6_count_0 : decode cX6_count 0 = .ok (.iconst 0, 1) := dk_3 (dk_at dksX6_count_0 0 rfl rfl)
theorem dX6_count_1 : decode cX6_count 1 = .ok (.istore_n 2, 1) := dk_61 (dk_at dksX6_count_0 1 rfl rfl)
theorem dX6_count_2 : decode cX6_count 2 = .ok (.iload_n 1, 1) := dk_27 (dk_at dksX6_count_0 2 rfl rfl)
theorem dX6_count_3 : decode cX6_count 3 = .ok (.tableswitch 143 0 7 #[45, 52, 58, 64, 69, 93, 98, 136], 45) := by decide +kernel
theorem dX6_count_48 : decode cX6_count 48 = .ok (.aload_n 0, 1) := dk_42 (dk_at dksX6_count_2 0 rfl rfl)
theorem dX6_count_49 : decode cX6_count 49 = .ok (.getfield 9, 3) := dk_180 0 9 (dk_at dksX6_count_2 1 rfl rfl)
theorem dX6_count_52 : decode cX6_count 52 = .ok (.iconst 1, 1) := dk_4 (dk_at dksX6_count_2 4 rfl rfl)
theorem dX6_count_53 : decode cX6_count 53 = .ok (.iaload, 1) := dk_46 (dk_at dksX6_count_2 5 rfl rfl)
theorem dX6_count_54 : decode cX6_count 54 = .ok (.ireturn, 1) := dk_172 (dk_at dksX6_count_2 6 rfl rfl)
theorem dX6_count_55 : decode cX6_count 55 = .ok (.aload_n 0, 1) := dk_42 (dk_at dksX6_count_2 7 rfl rfl)
theorem dX6_count_56 : decode cX6_count 56 = .ok (.iconst 0, 1) := dk_3 (dk_at dksX6_count_2 8 rfl rfl)
theorem dX6_count_57 : decode cX6_count 57 = .ok (.invokevirtual 352, 3) := dk_182 1 96 (dk_at dksX6_count_2 9 rfl rfl)
theorem dX6_count_60 : decode cX6_count 60 = .ok (.ireturn, 1) := dk_172 (dk_at dksX6_count_2 12 rfl rfl)
theorem dX6_count_61 : decode cX6_count 61 = .ok (.aload_n 0, 1) := dk_42 (dk_at dksX6_count_2 13 rfl rfl)
theorem dX6_count_62 : decode cX6_count 62 = .ok (.iconst 1, 1) := dk_4 (dk_at dksX6_count_2 14 rfl rfl)
theorem dX6_count_63 : decode cX6_count 63 = .ok (.invokevirtual 352, 3) := dk_182 1 96 (dk_at dksX6_count_2 15 rfl rfl)
theorem dX6_count_66 : decode cX6_count 66 = .ok (.ireturn, 1) := dk_172 (dk_at dksX6_count_2 18 rfl rfl)
theorem dX6_count_67 : decode cX6_count 67 = .ok (.aload_n 0, 1) := dk_42 (dk_at dksX6_count_2 19 rfl rfl)
theorem dX6_count_68 : decode cX6_count 68 = .ok (.invokevirtual 254, 3) := dk_182 0 254 (dk_at dksX6_count_2 20 rfl rfl)
theorem dX6_count_71 : decode cX6_count 71 = .ok (.ireturn, 1) := dk_172 (dk_at dksX6_count_2 23 rfl rfl)
theorem dX6_count_72 : decode cX6_count 72 = .ok (.iconst 0, 1) := dk_3 (dk_at dksX6_count_3 0 rfl rfl)
theorem dX6_count_73 : decode cX6_count 73 = .ok (.istore_n 3, 1) := dk_62 (dk_at dksX6_count_3 1 rfl rfl)
theorem dX6_count_74 : decode cX6_count 74 = .ok (.iload_n 3, 1) := dk_29 (dk_at dksX6_count_3 2 rfl rfl)
theorem dX6_count_75 : decode cX6_count 75 = .ok (.bipush 8, 2) := dk_16 8 (dk_at dksX6_count_3 3 rfl rfl)
theorem dX6_count_77 : decode cX6_count 77 = .ok (.if_icmp .ge 17, 3) := dk_162 0 17 (dk_at dksX6_count_3 5 rfl rfl)
theorem dX6_count_80 : decode cX6_count 80 = .ok (.iload_n 2, 1) := dk_28 (dk_at dksX6_count_3 8 rfl rfl)
theorem dX6_count_81 : decode cX6_count 81 = .ok (.aload_n 0, 1) := dk_42 (dk_at dksX6_count_3 9 rfl rfl)
theorem dX6_count_82 : decode cX6_count 82 = .ok (.iload_n 3, 1) := dk_29 (dk_at dksX6_count_3 10 rfl rfl)
theorem dX6_count_83 : decode cX6_count 83 = .ok (.invokevirtual 272, 3) := dk_182 1 16 (dk_at dksX6_count_3 11 rfl rfl)
theorem dX6_count_86 : decode cX6_count 86 = .ok (.iadd, 1) := dk_96 (dk_at dksX6_count_3 14 rfl rfl)
theorem dX6_count_87 : decode cX6_count 87 = .ok (.istore_n 2, 1) := dk_61 (dk_at dksX6_count_3 15 rfl rfl)
theorem dX6_count_88 : decode cX6_count 88 = .ok (.iinc 3 1, 3) := dk_132 3 1 (dk_at dksX6_count_3 16 rfl rfl)
theorem dX6_count_91 : decode cX6_count 91 = .ok (.goto (-17), 3) := dk_167 255 239 (dk_at dksX6_count_3 19 rfl rfl)
theorem dX6_count_94 : decode cX6_count 94 = .ok (.iload_n 2, 1) := dk_28 (dk_at dksX6_count_3 22 rfl rfl)
theorem dX6_count_95 : decode cX6_count 95 = .ok (.ireturn, 1) := dk_172 (dk_at dksX6_count_3 23 rfl rfl)
theorem dX6_count_96 : decode cX6_count 96 = .ok (.aload_n 0, 1) := dk_42 (dk_at dksX6_count_4 0 rfl rfl)
theorem dX6_count_97 : decode cX6_count 97 = .ok (.getfield 168, 3) := dk_180 0 168 (dk_at dksX6_count_4 1 rfl rfl)
theorem dX6_count_100 : decode cX6_count 100 = .ok (.ireturn, 1) := dk_172 (dk_at dksX6_count_4 4 rfl rfl)
theorem dX6_count_101 : decode cX6_count 101 = .ok (.iconst 0, 1) := dk_3 (dk_at dksX6_count_4 5 rfl rfl)
theorem dX6_count_102 : decode cX6_count 102 = .ok (.istore_n 3, 1) := dk_62 (dk_at dksX6_count_4 6 rfl rfl)
theorem dX6_count_103 : decode cX6_count 103 = .ok (.iload_n 3, 1) := dk_29 (dk_at dksX6_count_4 7 rfl rfl)
theorem dX6_count_104 : decode cX6_count 104 = .ok (.aload_n 0, 1) := dk_42 (dk_at dksX6_count_4 8 rfl rfl)
theorem dX6_count_105 : decode cX6_count 105 = .ok (.getfield 9, 3) := dk_180 0 9 (dk_at dksX6_count_4 9 rfl rfl)
theorem dX6_count_108 : decode cX6_count 108 = .ok (.iconst 1, 1) := dk_4 (dk_at dksX6_count_4 12 rfl rfl)
theorem dX6_count_109 : decode cX6_count 109 = .ok (.iaload, 1) := dk_46 (dk_at dksX6_count_4 13 rfl rfl)
theorem dX6_count_110 : decode cX6_count 110 = .ok (.if_icmp .ge 27, 3) := dk_162 0 27 (dk_at dksX6_count_4 14 rfl rfl)
theorem dX6_count_113 : decode cX6_count 113 = .ok (.iload_n 2, 1) := dk_28 (dk_at dksX6_count_4 17 rfl rfl)
theorem dX6_count_114 : decode cX6_count 114 = .ok (.aload_n 0, 1) := dk_42 (dk_at dksX6_count_4 18 rfl rfl)
theorem dX6_count_115 : decode cX6_count 115 = .ok (.iload_n 3, 1) := dk_29 (dk_at dksX6_count_4 19 rfl rfl)
theorem dX6_count_116 : decode cX6_count 116 = .ok (.bipush 9, 2) := dk_16 9 (dk_at dksX6_count_4 20 rfl rfl)
theorem dX6_count_118 : decode cX6_count 118 = .ok (.invokevirtual 83, 3) := dk_182 0 83 (dk_at dksX6_count_5 0 rfl rfl)
theorem dX6_count_121 : decode cX6_count 121 = .ok (.ifCond .lt 7, 3) := dk_155 0 7 (dk_at dksX6_count_5 3 rfl rfl)
theorem dX6_count_124 : decode cX6_count 124 = .ok (.iconst 1, 1) := dk_4 (dk_at dksX6_count_5 6 rfl rfl)
theorem dX6_count_125 : decode cX6_count 125 = .ok (.goto 4, 3) := dk_167 0 4 (dk_at dksX6_count_5 7 rfl rfl)
theorem dX6_count_128 : decode cX6_count 128 = .ok (.iconst 0, 1) := dk_3 (dk_at dksX6_count_5 10 rfl rfl)
theorem dX6_count_129 : decode cX6_count 129 = .ok (.iadd, 1) := dk_96 (dk_at dksX6_count_5 11 rfl rfl)
theorem dX6_count_130 : decode cX6_count 130 = .ok (.istore_n 2, 1) := dk_61 (dk_at dksX6_count_5 12 rfl rfl)
theorem dX6_count_131 : decode cX6_count 131 = .ok (.iinc 3 1, 3) := dk_132 3 1 (dk_at dksX6_count_5 13 rfl rfl)
theorem dX6_count_134 : decode cX6_count 134 = .ok (.goto (-31), 3) := dk_167 255 225 (dk_at dksX6_count_5 16 rfl rfl)
theorem dX6_count_137 : decode cX6_count 137 = .ok (.iload_n 2, 1) := dk_28 (dk_at dksX6_count_5 19 rfl rfl)
theorem dX6_count_138 : decode cX6_count 138 = .ok (.ireturn, 1) := dk_172 (dk_at dksX6_count_5 20 rfl rfl)
theorem dX6_count_139 : decode cX6_count 139 = .ok (.aload_n 0, 1) := dk_42 (dk_at dksX6_count_5 21 rfl rfl)
theorem dX6_count_140 : decode cX6_count 140 = .ok (.getfield 9, 3) := dk_180 0 9 (dk_at dksX6_count_6 0 rfl rfl)
theorem dX6_count_143 : decode cX6_count 143 = .ok (.iconst 0, 1) := dk_3 (dk_at dksX6_count_6 3 rfl rfl)
theorem dX6_count_144 : decode cX6_count 144 = .ok (.iaload, 1) := dk_46 (dk_at dksX6_count_6 4 rfl rfl)
theorem dX6_count_145 : decode cX6_count 145 = .ok (.ireturn, 1) := dk_172 (dk_at dksX6_count_6 5 rfl rfl)
theorem dX6_count_146 : decode cX6_count 146 = .ok (.iconst (-1), 1) := dk_2 (dk_at dksX6_count_6 6 rfl rfl)
theorem dX6_count_147 : decode cX6_count 147 = .ok (.ireturn, 1) := dk_172 (dk_at dksX6_count_6 7 rfl rfl)
abbrev cX6_lays : ByteArray := prog_33_method_3_code
def dkwX6_lays_0 : List UInt8 := [3, 61, 28, 17, 15, 100, 162, 0, 15, 43, 28, 42, 28, 46, 79, 132, 2, 1, 167, 255, 240, 177]
abbrev dktX6_lays_0 : List UInt8 := dkwX6_lays_0 ++ []
theorem dksX6_lays_0 : cX6_lays.data.toList.drop 0 = dktX6_lays_0 := by decide +kernel
theorem dX6_lays_0 : decode cX6_lays 0 = .ok (.iconst 0, 1) := dk_3 (dk_at dksX6_lays_0 0 rfl rfl)
theorem dX6_lays_1 : decode cX6_lays 1 = .ok (.istore_n 2, 1) := dk_61 (dk_at dksX6_lays_0 1 rfl rfl)
theorem dX6_lays_2 : decode cX6_lays 2 = .ok (.iload_n 2, 1) := dk_28 (dk_at dksX6_lays_0 2 rfl rfl)
theorem dX6_lays_3 : decode cX6_lays 3 = .ok (.sipush 3940, 3) := dk_17 15 100 (dk_at dksX6_lays_0 3 rfl rfl)
theorem dX6_lays_6 : decode cX6_lays 6 = .ok (.if_icmp .ge 15, 3) := dk_162 0 15 (dk_at dksX6_lays_0 6 rfl rfl)
theorem dX6_lays_9 : decode cX6_lays 9 = .ok (.aload_n 1, 1) := dk_43 (dk_at dksX6_lays_0 9 rfl rfl)
theorem dX6_lays_10 : decode cX6_lays 10 = .ok (.iload_n 2, 1) := dk_28 (dk_at dksX6_lays_0 10 rfl rfl)
theorem dX6_lays_11 : decode cX6_lays 11 = .ok (.aload_n 0, 1) := dk_42 (dk_at dksX6_lays_0 11 rfl rfl)
theorem dX6_lays_12 : decode cX6_lays 12 = .ok (.iload_n 2, 1) := dk_28 (dk_at dksX6_lays_0 12 rfl rfl)
theorem dX6_lays_13 : decode cX6_lays 13 = .ok (.iaload, 1) := dk_46 (dk_at dksX6_lays_0 13 rfl rfl)
theorem dX6_lays_14 : decode cX6_lays 14 = .ok (.iastore, 1) := dk_79 (dk_at dksX6_lays_0 14 rfl rfl)
theorem dX6_lays_15 : decode cX6_lays 15 = .ok (.iinc 2 1, 3) := dk_132 2 1 (dk_at dksX6_lays_0 15 rfl rfl)
theorem dX6_lays_18 : decode cX6_lays 18 = .ok (.goto (-16), 3) := dk_167 255 240 (dk_at dksX6_lays_0 18 rfl rfl)
theorem dX6_lays_21 : decode cX6_lays 21 = .ok (.return_, 1) := dk_177 (dk_at dksX6_lays_0 21 rfl rfl)
abbrev cX6_isAccount : ByteArray := prog_33_method_5_code
def dkwX6_isAccount_0 : List UInt8 := [26, 133, 9, 20, 0, 77, 184, 0, 79, 172]
abbrev dktX6_isAccount_0 : List UInt8 := dkwX6_isAccount_0 ++ []
theorem dksX6_isAccount_0 : cX6_isAccount.data.toList.drop 0 = dktX6_isAccount_0 := by decide +kernel
theorem dX6_isAccount_0 : decode cX6_isAccount 0 = .ok (.iload_n 0, 1) := dk_26 (dk_at dksX6_isAccount_0 0 rfl rfl)
theorem dX6_isAccount_1 : decode cX6_isAccount 1 = .ok (.i2l, 1) := dk_133 (dk_at dksX6_isAccount_0 1 rfl rfl)
theorem dX6_isAccount_2 : decode cX6_isAccount 2 = .ok (.lconst 0, 1) := dk_9 (dk_at dksX6_isAccount_0 2 rfl rfl)
theorem dX6_isAccount_3 : decode cX6_isAccount 3 = .ok (.ldc2_w 77, 3) := dk_20 0 77 (dk_at dksX6_isAccount_0 3 rfl rfl)
theorem dX6_isAccount_6 : decode cX6_isAccount 6 = .ok (.invokestatic 79, 3) := dk_184 0 79 (dk_at dksX6_isAccount_0 6 rfl rfl)
theorem dX6_isAccount_9 : decode cX6_isAccount 9 = .ok (.ireturn, 1) := dk_172 (dk_at dksX6_isAccount_0 9 rfl rfl)
abbrev cX6_in : ByteArray := prog_33_method_2_code
def dkwX6_in_0 : List UInt8 := [30, 32, 148, 155, 0, 14, 30, 22, 4, 148, 157, 0, 7, 4, 167, 0, 4, 3, 172]
abbrev dktX6_in_0 : List UInt8 := dkwX6_in_0 ++ []
theorem dksX6_in_0 : cX6_in.data.toList.drop 0 = dktX6_in_0 := by decide +kernel
theorem dX6_in_0 : decode cX6_in 0 = .ok (.lload_n 0, 1) := dk_30 (dk_at dksX6_in_0 0 rfl rfl)
theorem dX6_in_1 : decode cX6_in 1 = .ok (.lload_n 2, 1) := dk_32 (dk_at dksX6_in_0 1 rfl rfl)
theorem dX6_in_2 : decode cX6_in 2 = .ok (.lcmp, 1) := dk_148 (dk_at dksX6_in_0 2 rfl rfl)
theorem dX6_in_3 : decode cX6_in 3 = .ok (.ifCond .lt 14, 3) := dk_155 0 14 (dk_at dksX6_in_0 3 rfl rfl)
theorem dX6_in_6 : decode cX6_in 6 = .ok (.lload_n 0, 1) := dk_30 (dk_at dksX6_in_0 6 rfl rfl)
theorem dX6_in_7 : decode cX6_in 7 = .ok (.lload 4, 2) := dk_22 4 (dk_at dksX6_in_0 7 rfl rfl)
theorem dX6_in_9 : decode cX6_in 9 = .ok (.lcmp, 1) := dk_148 (dk_at dksX6_in_0 9 rfl rfl)
theorem dX6_in_10 : decode cX6_in 10 = .ok (.ifCond .gt 7, 3) := dk_157 0 7 (dk_at dksX6_in_0 10 rfl rfl)
theorem dX6_in_13 : decode cX6_in 13 = .ok (.iconst 1, 1) := dk_4 (dk_at dksX6_in_0 13 rfl rfl)
theorem dX6_in_14 : decode cX6_in 14 = .ok (.goto 4, 3) := dk_167 0 4 (dk_at dksX6_in_0 14 rfl rfl)
theorem dX6_in_17 : decode cX6_in 17 = .ok (.iconst 0, 1) := dk_3 (dk_at dksX6_in_0 17 rfl rfl)
theorem dX6_in_18 : decode cX6_in 18 = .ok (.ireturn, 1) := dk_172 (dk_at dksX6_in_0 18 rfl rfl)
abbrev cX6_byShare : ByteArray := prog_33_method_30_code
def dkwX6_byShare_2 : List UInt8 := [2, 167, 0, 15, 33, 22, 5, 148, 158, 0, 7, 4, 167, 0, 4, 3, 172]
abbrev dktX6_byShare_2 : List UInt8 := dkwX6_byShare_2 ++ []
def dkwX6_byShare_1 : List UInt8 := [3, 28, 96, 47, 42, 180, 0, 9, 16, 8, 27, 96, 46, 133, 105, 55, 5, 33, 22, 5, 148, 156, 0, 7]
abbrev dktX6_byShare_1 : List UInt8 := dkwX6_byShare_1 ++ dktX6_byShare_2
def dkwX6_byShare_0 : List UInt8 := [42, 180, 0, 19, 3, 27, 96, 47, 42, 180, 0, 9, 16, 8, 28, 96, 46, 133, 105, 66, 42, 180, 0, 19]
abbrev dktX6_byShare_0 : List UInt8 := dkwX6_byShare_0 ++ dktX6_byShare_1
theorem dksX6_byShare_0 : cX6_byShare.data.toList.drop 0 = dktX6_byShare_0 := by decide +kernel
theorem dksX6_byShare_1 : cX6_byShare.data.toList.drop 24 = dktX6_byShare_1 := dk_seg dksX6_byShare_0 24 rfl rfl
theorem dksX6_byShare_2 : cX6_byShare.data.toList.drop 48 = dktX6_byShare_2 := dk_seg dksX6_byShare_1 24 rfl rfl
theorem dX6_byShare_0 : decode cX6_byShare 0 = .ok (.aload_n 0, 1) := dk_42 (dk_at dksX6_byShare_0 0 rfl rfl)
theorem dX6_byShare_1 : decode cX6_byShare 1 = .ok (.getfield 19, 3) := dk_180 0 19 (dk_at dksX6_byShare_0 1 rfl rfl)
theorem dX6_byShare_4 : decode cX6_byShare 4 = .ok (.iconst 0, 1) := dk_3 (dk_at dksX6_byShare_0 4 rfl rfl)
theorem dX6_byShare_5 : decode cX6_byShare 5 = .ok (.iload_n 1, 1) := dk_27 (dk_at dksX6_byShare_0 5 rfl rfl)
theorem dX6_byShare_6 : decode cX6_byShare 6 = .ok (.iadd, 1) := dk_96 (dk_at dksX6_byShare_0 6 rfl rfl)
theorem dX6_byShare_7 : decode cX6_byShare 7 = .ok (.laload, 1) := dk_47 (dk_at dksX6_byShare_0 7 rfl rfl)
theorem dX6_byShare_8 : decode cX6_byShare 8 = .ok (.aload_n 0, 1) := dk_42 (dk_at dksX6_byShare_0 8 rfl rfl)
theorem dX6_byShare_9 : decode cX6_byShare 9 = .ok (.getfield 9, 3) := dk_180 0 9 (dk_at dksX6_byShare_0 9 rfl rfl)
theorem dX6_byShare_12 : decode cX6_byShare 12 = .ok (.bipush 8, 2) := dk_16 8 (dk_at dksX6_byShare_0 12 rfl rfl)
theorem dX6_byShare_14 : decode cX6_byShare 14 = .ok (.iload_n 2, 1) := dk_28 (dk_at dksX6_byShare_0 14 rfl rfl)
theorem dX6_byShare_15 : decode cX6_byShare 15 = .ok (.iadd, 1) := dk_96 (dk_at dksX6_byShare_0 15 rfl rfl)
theorem dX6_byShare_16 : decode cX6_byShare 16 = .ok (.iaload, 1) := dk_46 (dk_at dksX6_byShare_0 16 rfl rfl)
theorem dX6_byShare_17 : decode cX6_byShare 17 = .ok (.i2l, 1) := dk_133 (dk_at dksX6_byShare_0 17 rfl rfl)
theorem dX6_byShare_18 : decode cX6_byShare 18 = .ok (.lmul, 1) := dk_105 (dk_at dksX6_byShare_0 18 rfl rfl)
theorem dX6_byShare_19 : decode cX6_byShare 19 = .ok (.lstore_n 3, 1) := dk_66 (dk_at dksX6_byShare_0 19 rfl rfl)
theorem dX6_byShare_20 : decode cX6_byShare 20 = .ok (.aload_n 0, 1) := dk_42 (dk_at dksX6_byShare_0 20 rfl rfl)
theorem dX6_byShare_21 : decode cX6_byShare 21 = .ok (.getfield 19, 3) := dk_180 0 19 (dk_at dksX6_byShare_0 21 rfl rfl)
theorem dX6_byShare_24 : decode cX6_byShare 24 = .ok (.iconst 0, 1) := dk_3 (dk_at dksX6_byShare_1 0 rfl rfl)
theorem dX6_byShare_25 : decode cX6_byShare 25 = .ok (.iload_n 2, 1) := dk_28 (dk_at dksX6_byShare_1 1 rfl rfl)
theorem dX6_byShare_26 : decode cX6_byShare 26 = .ok (.iadd, 1) := dk_96 (dk_at dksX6_byShare_1 2 rfl rfl)
theorem dX6_byShare_27 : decode cX6_byShare 27 = .ok (.laload, 1) := dk_47 (dk_at dksX6_byShare_1 3 rfl rfl)
theorem dX6_byShare_28 : decode cX6_byShare 28 = .ok (.aload_n 0, 1) := dk_42 (dk_at dksX6_byShare_1 4 rfl rfl)
theorem dX6_byShare_29 : decode cX6_byShare 29 = .ok (.getfield 9, 3) := dk_180 0 9 (dk_at dksX6_byShare_1 5 rfl rfl)
theorem dX6_byShare_32 : decode cX6_byShare 32 = .ok (.bipush 8, 2) := dk_16 8 (dk_at dksX6_byShare_1 8 rfl rfl)
theorem dX6_byShare_34 : decode cX6_byShare 34 = .ok (.iload_n 1, 1) := dk_27 (dk_at dksX6_byShare_1 10 rfl rfl)
theorem dX6_byShare_35 : decode cX6_byShare 35 = .ok (.iadd, 1) := dk_96 (dk_at dksX6_byShare_1 11 rfl rfl)
theorem dX6_byShare_36 : decode cX6_byShare 36 = .ok (.iaload, 1) := dk_46 (dk_at dksX6_byShare_1 12 rfl rfl)
theorem dX6_byShare_37 : decode cX6_byShare 37 = .ok (.i2l, 1) := dk_133 (dk_at dksX6_byShare_1 13 rfl rfl)
theorem dX6_byShare_38 : decode cX6_byShare 38 = .ok (.lmul, 1) := dk_105 (dk_at dksX6_byShare_1 14 rfl rfl)
theorem dX6_byShare_39 : decode cX6_byShare 39 = .ok (.lstore 5, 2) := dk_55 5 (dk_at dksX6_byShare_1 15 rfl rfl)
theorem dX6_byShare_41 : decode cX6_byShare 41 = .ok (.lload_n 3, 1) := dk_33 (dk_at dksX6_byShare_1 17 rfl rfl)
theorem dX6_byShare_42 : decode cX6_byShare 42 = .ok (.lload 5, 2) := dk_22 5 (dk_at dksX6_byShare_1 18 rfl rfl)
theorem dX6_byShare_44 : decode cX6_byShare 44 = .ok (.lcmp, 1) := dk_148 (dk_at dksX6_byShare_1 20 rfl rfl)
theorem dX6_byShare_45 : decode cX6_byShare 45 = .ok (.ifCond .ge 7, 3) := dk_156 0 7 (dk_at dksX6_byShare_1 21 rfl rfl)
theorem dX6_byShare_48 : decode cX6_byShare 48 = .ok (.iconst (-1), 1) := dk_2 (dk_at dksX6_byShare_2 0 rfl rfl)
theorem dX6_byShare_49 : decode cX6_byShare 49 = .ok (.goto 15, 3) := dk_167 0 15 (dk_at dksX6_byShare_2 1 rfl rfl)
theorem dX6_byShare_52 : decode cX6_byShare 52 = .ok (.lload_n 3, 1) := dk_33 (dk_at dksX6_byShare_2 4 rfl rfl)
theorem dX6_byShare_53 : decode cX6_byShare 53 = .ok (.lload 5, 2) := dk_22 5 (dk_at dksX6_byShare_2 5 rfl rfl)
theorem dX6_byShare_55 : decode cX6_byShare 55 = .ok (.lcmp, 1) := dk_148 (dk_at dksX6_byShare_2 7 rfl rfl)
theorem dX6_byShare_56 : decode cX6_byShare 56 = .ok (.ifCond .le 7, 3) := dk_158 0 7 (dk_at dksX6_byShare_2 8 rfl rfl)
theorem dX6_byShare_59 : decode cX6_byShare 59 = .ok (.iconst 1, 1) := dk_4 (dk_at dksX6_byShare_2 11 rfl rfl)
theorem dX6_byShare_60 : decode cX6_byShare 60 = .ok (.goto 4, 3) := dk_167 0 4 (dk_at dksX6_byShare_2 12 rfl rfl)
theorem dX6_byShare_63 : decode cX6_byShare 63 = .ok (.iconst 0, 1) := dk_3 (dk_at dksX6_byShare_2 15 rfl rfl)
theorem dX6_byShare_64 : decode cX6_byShare 64 = .ok (.ireturn, 1) := dk_172 (dk_at dksX6_byShare_2 16 rfl rfl)
abbrev cX6_isRule : ByteArray := prog_33_method_32_code
def dkwX6_isRule_2 : List UInt8 := [153, 0, 7, 4, 167, 0, 4, 3, 172]
abbrev dktX6_isRule_2 : List UInt8 := dkwX6_isRule_2 ++ []
def dkwX6_isRule_1 : List UInt8 := [20, 0, 157, 184, 0, 79, 167, 0, 25, 26, 5, 160, 0, 19, 27, 133, 9, 20, 0, 148, 184, 0, 79]
abbrev dktX6_isRule_1 : List UInt8 := dkwX6_isRule_1 ++ dktX6_isRule_2
def dkwX6_isRule_0 : List UInt8 := [26, 154, 0, 15, 27, 133, 9, 20, 0, 155, 184, 0, 79, 167, 0, 42, 26, 4, 160, 0, 15, 27, 133, 9]
abbrev dktX6_isRule_0 : List UInt8 := dkwX6_isRule_0 ++ dktX6_isRule_1
theorem dksX6_isRule_0 : cX6_isRule.data.toList.drop 0 = dktX6_isRule_0 := by decide +kernel
theorem dksX6_isRule_1 : cX6_isRule.data.toList.drop 24 = dktX6_isRule_1 := dk_seg dksX6_isRule_0 24 rfl rfl
theorem dksX6_isRule_2 : cX6_isRule.data.toList.drop 47 = dktX6_isRule_2 := dk_seg dksX6_isRule_1 23 rfl rfl
theorem dX6_isRule_0 : decode cX6_isRule 0 = .ok (.iload_n 0, 1) := dk_26 (dk_at dksX6_isRule_0 0 rfl rfl)
theorem dX6_isRule_1 : decode cX6_isRule 1 = .ok (.ifCond .ne 15, 3) := dk_154 0 15 (dk_at dksX6_isRule_0 1 rfl rfl)
theorem dX6_isRule_4 : decode cX6_isRule 4 = .ok (.iload_n 1, 1) := dk_27 (dk_at dksX6_isRule_0 4 rfl rfl)
theorem dX6_isRule_5 : decode cX6_isRule 5 = .ok (.i2l, 1) := dk_133 (dk_at dksX6_isRule_0 5 rfl rfl)
theorem dX6_isRule_6 : decode cX6_isRule 6 = .ok (.lconst 0, 1) := dk_9 (dk_at dksX6_isRule_0 6 rfl rfl)
theorem dX6_isRule_7 : decode cX6_isRule 7 = .ok (.ldc2_w 155, 3) := dk_20 0 155 (dk_at dksX6_isRule_0 7 rfl rfl)
theorem dX6_isRule_10 : decode cX6_isRule 10 = .ok (.invokestatic 79, 3) := dk_184 0 79 (dk_at dksX6_isRule_0 10 rfl rfl)
theorem dX6_isRule_13 : decode cX6_isRule 13 = .ok (.goto 42, 3) := dk_167 0 42 (dk_at dksX6_isRule_0 13 rfl rfl)
theorem dX6_isRule_16 : decode cX6_isRule 16 = .ok (.iload_n 0, 1) := dk_26 (dk_at dksX6_isRule_0 16 rfl rfl)
theorem dX6_isRule_17 : decode cX6_isRule 17 = .ok (.iconst 1, 1) := dk_4 (dk_at dksX6_isRule_0 17 rfl rfl)
theorem dX6_isRule_18 : decode cX6_isRule 18 = .ok (.if_icmp .ne 15, 3) := dk_160 0 15 (dk_at dksX6_isRule_0 18 rfl rfl)
theorem dX6_isRule_21 : decode cX6_isRule 21 = .ok (.iload_n 1, 1) := dk_27 (dk_at dksX6_isRule_0 21 rfl rfl)
theorem dX6_isRule_22 : decode cX6_isRule 22 = .ok (.i2l, 1) := dk_133 (dk_at dksX6_isRule_0 22 rfl rfl)
theorem dX6_isRule_23 : decode cX6_isRule 23 = .ok (.lconst 0, 1) := dk_9 (dk_at dksX6_isRule_0 23 rfl rfl)
theorem dX6_isRule_24 : decode cX6_isRule 24 = .ok (.ldc2_w 157, 3) := dk_20 0 157 (dk_at dksX6_isRule_1 0 rfl rfl)
theorem dX6_isRule_27 : decode cX6_isRule 27 = .ok (.invokestatic 79, 3) := dk_184 0 79 (dk_at dksX6_isRule_1 3 rfl rfl)
theorem dX6_isRule_30 : decode cX6_isRule 30 = .ok (.goto 25, 3) := dk_167 0 25 (dk_at dksX6_isRule_1 6 rfl rfl)
theorem dX6_isRule_33 : decode cX6_isRule 33 = .ok (.iload_n 0, 1) := dk_26 (dk_at dksX6_isRule_1 9 rfl rfl)
theorem dX6_isRule_34 : decode cX6_isRule 34 = .ok (.iconst 2, 1) := dk_5 (dk_at dksX6_isRule_1 10 rfl rfl)
theorem dX6_isRule_35 : decode cX6_isRule 35 = .ok (.if_icmp .ne 19, 3) := dk_160 0 19 (dk_at dksX6_isRule_1 11 rfl rfl)
theorem dX6_isRule_38 : decode cX6_isRule 38 = .ok (.iload_n 1, 1) := dk_27 (dk_at dksX6_isRule_1 14 rfl rfl)
theorem dX6_isRule_39 : decode cX6_isRule 39 = .ok (.i2l, 1) := dk_133 (dk_at dksX6_isRule_1 15 rfl rfl)
theorem dX6_isRule_40 : decode cX6_isRule 40 = .ok (.lconst 0, 1) := dk_9 (dk_at dksX6_isRule_1 16 rfl rfl)
theorem dX6_isRule_41 : decode cX6_isRule 41 = .ok (.ldc2_w 148, 3) := dk_20 0 148 (dk_at dksX6_isRule_1 17 rfl rfl)
theorem dX6_isRule_44 : decode cX6_isRule 44 = .ok (.invokestatic 79, 3) := dk_184 0 79 (dk_at dksX6_isRule_1 20 rfl rfl)
theorem dX6_isRule_47 : decode cX6_isRule 47 = .ok (.ifCond .eq 7, 3) := dk_153 0 7 (dk_at dksX6_isRule_2 0 rfl rfl)
theorem dX6_isRule_50 : decode cX6_isRule 50 = .ok (.iconst 1, 1) := dk_4 (dk_at dksX6_isRule_2 3 rfl rfl)
theorem dX6_isRule_51 : decode cX6_isRule 51 = .ok (.goto 4, 3) := dk_167 0 4 (dk_at dksX6_isRule_2 4 rfl rfl)
theorem dX6_isRule_54 : decode cX6_isRule 54 = .ok (.iconst 0, 1) := dk_3 (dk_at dksX6_isRule_2 7 rfl rfl)
theorem dX6_isRule_55 : decode cX6_isRule 55 = .ok (.ireturn, 1) := dk_172 (dk_at dksX6_isRule_2 8 rfl rfl)
abbrev cX6_isJob : ByteArray := prog_33_method_6_code
def dkwX6_isJob_0 : List UInt8 := [27, 133, 9, 42, 180, 0, 9, 4, 46, 4, 100, 133, 184, 0, 79, 172]
abbrev dktX6_isJob_0 : List UInt8 := dkwX6_isJob_0 ++ []
theorem dksX6_isJob_0 : cX6_isJob.data.toList.drop 0 = dktX6_isJob_0 := by decide +kernel
theorem dX6_isJob_0 : decode cX6_isJob 0 = .ok (.iload_n 1, 1) := dk_27 (dk_at dksX6_isJob_0 0 rfl rfl)
theorem dX6_isJob_1 : decode cX6_isJob 1 = .ok (.i2l, 1) := dk_133 (dk_at dksX6_isJob_0 1 rfl rfl)
theorem dX6_isJob_2 : decode cX6_isJob 2 = .ok (.lconst 0, 1) := dk_9 (dk_at dksX6_isJob_0 2 rfl rfl)
theorem dX6_isJob_3 : decode cX6_isJob 3 = .ok (.aload_n 0, 1) := dk_42 (dk_at dksX6_isJob_0 3 rfl rfl)
theorem dX6_isJob_4 : decode cX6_isJob 4 = .ok (.getfield 9, 3) := dk_180 0 9 (dk_at dksX6_isJob_0 4 rfl rfl)
theorem dX6_isJob_7 : decode cX6_isJob 7 = .ok (.iconst 1, 1) := dk_4 (dk_at dksX6_isJob_0 7 rfl rfl)
theorem dX6_isJob_8 : decode cX6_isJob 8 = .ok (.iaload, 1) := dk_46 (dk_at dksX6_isJob_0 8 rfl rfl)
theorem dX6_isJob_9 : decode cX6_isJob 9 = .ok (.iconst 1, 1) := dk_4 (dk_at dksX6_isJob_0 9 rfl rfl)
theorem dX6_isJob_10 : decode cX6_isJob 10 = .ok (.isub, 1) := dk_100 (dk_at dksX6_isJob_0 10 rfl rfl)
theorem dX6_isJob_11 : decode cX6_isJob 11 = .ok (.i2l, 1) := dk_133 (dk_at dksX6_isJob_0 11 rfl rfl)
theorem dX6_isJob_12 : decode cX6_isJob 12 = .ok (.invokestatic 79, 3) := dk_184 0 79 (dk_at dksX6_isJob_0 12 rfl rfl)
theorem dX6_isJob_15 : decode cX6_isJob 15 = .ok (.ireturn, 1) := dk_172 (dk_at dksX6_isJob_0 15 rfl rfl)
abbrev cX6_at : ByteArray := prog_33_method_7_code
def dkwX6_at_0 : List UInt8 := [42, 180, 0, 9, 16, 96, 27, 16, 32, 104, 96, 28, 96, 46, 172]
abbrev dktX6_at_0 : List UInt8 := dkwX6_at_0 ++ []
theorem dksX6_at_0 : cX6_at.data.toList.drop 0 = dktX6_at_0 := by decide +kernel
theorem dX6_at_0 : decode cX6_at 0 = .ok (.aload_n 0, 1) := dk_42 (dk_at dksX6_at_0 0 rfl rfl)
theorem dX6_at_1 : decode cX6_at 1 = .ok (.getfield 9, 3) := dk_180 0 9 (dk_at dksX6_at_0 1 rfl rfl)
theorem dX6_at_4 : decode cX6_at 4 = .ok (.bipush 96, 2) := dk_16 96 (dk_at dksX6_at_0 4 rfl rfl)
theorem dX6_at_6 : decode cX6_at 6 = .ok (.iload_n 1, 1) := dk_27 (dk_at dksX6_at_0 6 rfl rfl)
theorem dX6_at_7 : decode cX6_at 7 = .ok (.bipush 32, 2) := dk_16 32 (dk_at dksX6_at_0 7 rfl rfl)
theorem dX6_at_9 : decode cX6_at 9 = .ok (.imul, 1) := dk_104 (dk_at dksX6_at_0 9 rfl rfl)
theorem dX6_at_10 : decode cX6_at 10 = .ok (.iadd, 1) := dk_96 (dk_at dksX6_at_0 10 rfl rfl)
theorem dX6_at_11 : decode cX6_at 11 = .ok (.iload_n 2, 1) := dk_28 (dk_at dksX6_at_0 11 rfl rfl)
theorem dX6_at_12 : decode cX6_at 12 = .ok (.iadd, 1) := dk_96 (dk_at dksX6_at_0 12 rfl rfl)
theorem dX6_at_13 : decode cX6_at 13 = .ok (.iaload, 1) := dk_46 (dk_at dksX6_at_0 13 rfl rfl)
theorem dX6_at_14 : decode cX6_at 14 = .ok (.ireturn, 1) := dk_172 (dk_at dksX6_at_0 14 rfl rfl)
abbrev cX6_readArms : ByteArray := prog_33_method_39_code
def dkwX6_readArms_7 : List UInt8 := [153, 0, 7, 2, 167, 0, 7, 42, 180, 0, 171, 62, 42, 3, 181, 0, 168, 29, 172]
abbrev dktX6_readArms_7 : List UInt8 := dkwX6_readArms_7 ++ []
def dkwX6_readArms_6 : List UInt8 := [162, 0, 16, 42, 16, 44, 182, 0, 185, 153, 0, 7, 4, 167, 0, 4, 3, 60, 167, 255, 111, 27]
abbrev dktX6_readArms_6 : List UInt8 := dkwX6_readArms_6 ++ dktX6_readArms_7
def dkwX6_readArms_5 : List UInt8 := [42, 180, 0, 168, 162, 0, 7, 4, 167, 0, 4, 3, 61, 28, 153, 0, 20, 42, 180, 0, 122, 7]
abbrev dktX6_readArms_5 : List UInt8 := dkwX6_readArms_5 ++ dktX6_readArms_6
def dkwX6_readArms_4 : List UInt8 := [180, 0, 36, 42, 180, 0, 122, 21, 4, 79, 42, 89, 180, 0, 122, 4, 96, 181, 0, 122, 42, 180, 0, 171]
abbrev dktX6_readArms_4 : List UInt8 := dkwX6_readArms_4 ++ dktX6_readArms_5
def dkwX6_readArms_3 : List UInt8 := [158, 0, 7, 4, 167, 0, 4, 3, 60, 27, 153, 0, 78, 42, 180, 0, 33, 42, 180, 0, 122, 29, 79, 42]
abbrev dktX6_readArms_3 : List UInt8 := dkwX6_readArms_3 ++ dktX6_readArms_4
def dkwX6_readArms_2 : List UInt8 := [60, 27, 153, 0, 13, 42, 17, 0, 200, 182, 0, 182, 167, 0, 4, 2, 54, 4, 27, 153, 0, 12, 21, 4]
abbrev dktX6_readArms_2 : List UInt8 := dkwX6_readArms_2 ++ dktX6_readArms_3
def dkwX6_readArms_1 : List UInt8 := [16, 16, 182, 0, 182, 62, 29, 158, 0, 16, 42, 16, 120, 182, 0, 185, 153, 0, 7, 4, 167, 0, 4, 3]
abbrev dktX6_readArms_1 : List UInt8 := dkwX6_readArms_1 ++ dktX6_readArms_2
def dkwX6_readArms_0 : List UInt8 := [42, 3, 181, 0, 171, 42, 3, 181, 0, 122, 4, 60, 4, 61, 27, 153, 0, 147, 28, 153, 0, 143, 42]
abbrev dktX6_readArms_0 : List UInt8 := dkwX6_readArms_0 ++ dktX6_readArms_1
theorem dksX6_readArms_0 : cX6_readArms.data.toList.drop 0 = dktX6_readArms_0 := by decide +kernel
theorem dksX6_readArms_1 : cX6_readArms.data.toList.drop 23 = dktX6_readArms_1 := dk_seg dksX6_readArms_0 23 rfl rfl
theorem dksX6_readArms_2 : cX6_readArms.data.toList.drop 47 = dktX6_readArms_2 := dk_seg dksX6_readArms_1 24 rfl rfl
theorem dksX6_readArms_3 : cX6_readArms.data.toList.drop 71 = dktX6_readArms_3 := dk_seg dksX6_readArms_2 24 rfl rfl
theorem dksX6_readArms_4 : cX6_readArms.data.toList.drop 95 = dktX6_readArms_4 := dk_seg dksX6_readArms_3 24 rfl rfl
theorem dksX6_readArms_5 : cX6_readArms.data.toList.drop 119 = dktX6_readArms_5 := dk_seg dksX6_readArms_4 24 rfl rfl
theorem dksX6_readArms_6 : cX6_readArms.data.toList.drop 141 = dktX6_readArms_6 := dk_seg dksX6_readArms_5 22 rfl rfl
theorem dksX6_readArms_7 : cX6_readArms.data.toList.drop 163 = dktX6_readArms_7 := dk_seg dksX6_readArms_6 22 rfl rfl
theorem dX6_readArms_0 : decode cX6_readArms 0 = .ok (.aload_n 0, 1) := dk_42 (dk_at dksX6_readArms_0 0 rfl rfl)
theorem dX6_readArms_1 : decode cX6_readArms 1 = .ok (.iconst 0, 1) := dk_3 (dk_at dksX6_readArms_0 1 rfl rfl)
theorem dX6_readArms_2 : decode cX6_readArms 2 = .ok (.putfield 171, 3) := dk_181 0 171 (dk_at dksX6_readArms_0 2 rfl rfl)
theorem dX6_readArms_5 : decode cX6_readArms 5 = .ok (.aload_n 0, 1) := dk_42 (dk_at dksX6_readArms_0 5 rfl rfl)
theorem dX6_readArms_6 : decode cX6_readArms 6 = .ok (.iconst 0, 1) := dk_3 (dk_at dksX6_readArms_0 6 rfl rfl)
theorem dX6_readArms_7 : decode cX6_readArms 7 = .ok (.putfield 122, 3) := dk_181 0 122 (dk_at dksX6_readArms_0 7 rfl rfl)
theorem dX6_readArms_10 : decode cX6_readArms 10 = .ok (.iconst 1, 1) := dk_4 (dk_at dksX6_readArms_0 10 rfl rfl)
theorem dX6_readArms_11 : decode cX6_readArms 11 = .ok (.istore_n 1, 1) := dk_60 (dk_at dksX6_readArms_0 11 rfl rfl)
theorem dX6_readArms_12 : decode cX6_readArms 12 = .ok (.iconst 1, 1) := dk_4 (dk_at dksX6_readArms_0 12 rfl rfl)
theorem dX6_readArms_13 : decode cX6_readArms 13 = .ok (.istore_n 2, 1) := dk_61 (dk_at dksX6_readArms_0 13 rfl rfl)
theorem dX6_readArms_14 : decode cX6_readArms 14 = .ok (.iload_n 1, 1) := dk_27 (dk_at dksX6_readArms_0 14 rfl rfl)
theorem dX6_readArms_15 : decode cX6_readArms 15 = .ok (.ifCond .eq 147, 3) := dk_153 0 147 (dk_at dksX6_readArms_0 15 rfl rfl)
theorem dX6_readArms_18 : decode cX6_readArms 18 = .ok (.iload_n 2, 1) := dk_28 (dk_at dksX6_readArms_0 18 rfl rfl)
theorem dX6_readArms_19 : decode cX6_readArms 19 = .ok (.ifCond .eq 143, 3) := dk_153 0 143 (dk_at dksX6_readArms_0 19 rfl rfl)
theorem dX6_readArms_22 : decode cX6_readArms 22 = .ok (.aload_n 0, 1) := dk_42 (dk_at dksX6_readArms_0 22 rfl rfl)
theorem dX6_readArms_23 : decode cX6_readArms 23 = .ok (.bipush 16, 2) := dk_16 16 (dk_at dksX6_readArms_1 0 rfl rfl)
theorem dX6_readArms_25 : decode cX6_readArms 25 = .ok (.invokevirtual 182, 3) := dk_182 0 182 (dk_at dksX6_readArms_1 2 rfl rfl)
theorem dX6_readArms_28 : decode cX6_readArms 28 = .ok (.istore_n 3, 1) := dk_62 (dk_at dksX6_readArms_1 5 rfl rfl)
theorem dX6_readArms_29 : decode cX6_readArms 29 = .ok (.iload_n 3, 1) := dk_29 (dk_at dksX6_readArms_1 6 rfl rfl)
theorem dX6_readArms_30 : decode cX6_readArms 30 = .ok (.ifCond .le 16, 3) := dk_158 0 16 (dk_at dksX6_readArms_1 7 rfl rfl)
theorem dX6_readArms_33 : decode cX6_readArms 33 = .ok (.aload_n 0, 1) := dk_42 (dk_at dksX6_readArms_1 10 rfl rfl)
theorem dX6_readArms_34 : decode cX6_readArms 34 = .ok (.bipush 120, 2) := dk_16 120 (dk_at dksX6_readArms_1 11 rfl rfl)
theorem dX6_readArms_36 : decode cX6_readArms 36 = .ok (.invokevirtual 185, 3) := dk_182 0 185 (dk_at dksX6_readArms_1 13 rfl rfl)
theorem dX6_readArms_39 : decode cX6_readArms 39 = .ok (.ifCond .eq 7, 3) := dk_153 0 7 (dk_at dksX6_readArms_1 16 rfl rfl)
theorem dX6_readArms_42 : decode cX6_readArms 42 = .ok (.iconst 1, 1) := dk_4 (dk_at dksX6_readArms_1 19 rfl rfl)
theorem dX6_readArms_43 : decode cX6_readArms 43 = .ok (.goto 4, 3) := dk_167 0 4 (dk_at dksX6_readArms_1 20 rfl rfl)
theorem dX6_readArms_46 : decode cX6_readArms 46 = .ok (.iconst 0, 1) := dk_3 (dk_at dksX6_readArms_1 23 rfl rfl)
theorem dX6_readArms_47 : decode cX6_readArms 47 = .ok (.istore_n 1, 1) := dk_60 (dk_at dksX6_readArms_2 0 rfl rfl)
theorem dX6_readArms_48 : decode cX6_readArms 48 = .ok (.iload_n 1, 1) := dk_27 (dk_at dksX6_readArms_2 1 rfl rfl)
theorem dX6_readArms_49 : decode cX6_readArms 49 = .ok (.ifCond .eq 13, 3) := dk_153 0 13 (dk_at dksX6_readArms_2 2 rfl rfl)
theorem dX6_readArms_52 : decode cX6_readArms 52 = .ok (.aload_n 0, 1) := dk_42 (dk_at dksX6_readArms_2 5 rfl rfl)
theorem dX6_readArms_53 : decode cX6_readArms 53 = .ok (.sipush 200, 3) := dk_17 0 200 (dk_at dksX6_readArms_2 6 rfl rfl)
theorem dX6_readArms_56 : decode cX6_readArms 56 = .ok (.invokevirtual 182, 3) := dk_182 0 182 (dk_at dksX6_readArms_2 9 rfl rfl)
theorem dX6_readArms_59 : decode cX6_readArms 59 = .ok (.goto 4, 3) := dk_167 0 4 (dk_at dksX6_readArms_2 12 rfl rfl)
theorem dX6_readArms_62 : decode cX6_readArms 62 = .ok (.iconst (-1), 1) := dk_2 (dk_at dksX6_readArms_2 15 rfl rfl)
theorem dX6_readArms_63 : decode cX6_readArms 63 = .ok (.istore 4, 2) := dk_54 4 (dk_at dksX6_readArms_2 16 rfl rfl)
theorem dX6_readArms_65 : decode cX6_readArms 65 = .ok (.iload_n 1, 1) := dk_27 (dk_at dksX6_readArms_2 18 rfl rfl)
theorem dX6_readArms_66 : decode cX6_readArms 66 = .ok (.ifCond .eq 12, 3) := dk_153 0 12 (dk_at dksX6_readArms_2 19 rfl rfl)
theorem dX6_readArms_69 : decode cX6_readArms 69 = .ok (.iload 4, 2) := dk_21 4 (dk_at dksX6_readArms_2 22 rfl rfl)
theorem dX6_readArms_71 : decode cX6_readArms 71 = .ok (.ifCond .le 7, 3) := dk_158 0 7 (dk_at dksX6_readArms_3 0 rfl rfl)
theorem dX6_readArms_74 : decode cX6_readArms 74 = .ok (.iconst 1, 1) := dk_4 (dk_at dksX6_readArms_3 3 rfl rfl)
theorem dX6_readArms_75 : decode cX6_readArms 75 = .ok (.goto 4, 3) := dk_167 0 4 (dk_at dksX6_readArms_3 4 rfl rfl)
theorem dX6_readArms_78 : decode cX6_readArms 78 = .ok (.iconst 0, 1) := dk_3 (dk_at dksX6_readArms_3 7 rfl rfl)
theorem dX6_readArms_79 : decode cX6_readArms 79 = .ok (.istore_n 1, 1) := dk_60 (dk_at dksX6_readArms_3 8 rfl rfl)
theorem dX6_readArms_80 : decode cX6_readArms 80 = .ok (.iload_n 1, 1) := dk_27 (dk_at dksX6_readArms_3 9 rfl rfl)
theorem dX6_readArms_81 : decode cX6_readArms 81 = .ok (.ifCond .eq 78, 3) := dk_153 0 78 (dk_at dksX6_readArms_3 10 rfl rfl)
theorem dX6_readArms_84 : decode cX6_readArms 84 = .ok (.aload_n 0, 1) := dk_42 (dk_at dksX6_readArms_3 13 rfl rfl)
theorem dX6_readArms_85 : decode cX6_readArms 85 = .ok (.getfield 33, 3) := dk_180 0 33 (dk_at dksX6_readArms_3 14 rfl rfl)
theorem dX6_readArms_88 : decode cX6_readArms 88 = .ok (.aload_n 0, 1) := dk_42 (dk_at dksX6_readArms_3 17 rfl rfl)
theorem dX6_readArms_89 : decode cX6_readArms 89 = .ok (.getfield 122, 3) := dk_180 0 122 (dk_at dksX6_readArms_3 18 rfl rfl)
theorem dX6_readArms_92 : decode cX6_readArms 92 = .ok (.iload_n 3, 1) := dk_29 (dk_at dksX6_readArms_3 21 rfl rfl)
theorem dX6_readArms_93 : decode cX6_readArms 93 = .ok (.iastore, 1) := dk_79 (dk_at dksX6_readArms_3 22 rfl rfl)
theorem dX6_readArms_94 : decode cX6_readArms 94 = .ok (.aload_n 0, 1) := dk_42 (dk_at dksX6_readArms_3 23 rfl rfl)
theorem dX6_readArms_95 : decode cX6_readArms 95 = .ok (.getfield 36, 3) := dk_180 0 36 (dk_at dksX6_readArms_4 0 rfl rfl)
theorem dX6_readArms_98 : decode cX6_readArms 98 = .ok (.aload_n 0, 1) := dk_42 (dk_at dksX6_readArms_4 3 rfl rfl)
theorem dX6_readArms_99 : decode cX6_readArms 99 = .ok (.getfield 122, 3) := dk_180 0 122 (dk_at dksX6_readArms_4 4 rfl rfl)
theorem dX6_readArms_102 : decode cX6_readArms 102 = .ok (.iload 4, 2) := dk_21 4 (dk_at dksX6_readArms_4 7 rfl rfl)
theorem dX6_readArms_104 : decode cX6_readArms 104 = .ok (.iastore, 1) := dk_79 (dk_at dksX6_readArms_4 9 rfl rfl)
theorem dX6_readArms_105 : decode cX6_readArms 105 = .ok (.aload_n 0, 1) := dk_42 (dk_at dksX6_readArms_4 10 rfl rfl)
theorem dX6_readArms_106 : decode cX6_readArms 106 = .ok (.dup, 1) := dk_89 (dk_at dksX6_readArms_4 11 rfl rfl)
theorem dX6_readArms_107 : decode cX6_readArms 107 = .ok (.getfield 122, 3) := dk_180 0 122 (dk_at dksX6_readArms_4 12 rfl rfl)
theorem dX6_readArms_110 : decode cX6_readArms 110 = .ok (.iconst 1, 1) := dk_4 (dk_at dksX6_readArms_4 15 rfl rfl)
theorem dX6_readArms_111 : decode cX6_readArms 111 = .ok (.iadd, 1) := dk_96 (dk_at dksX6_readArms_4 16 rfl rfl)
theorem dX6_readArms_112 : decode cX6_readArms 112 = .ok (.putfield 122, 3) := dk_181 0 122 (dk_at dksX6_readArms_4 17 rfl rfl)
theorem dX6_readArms_115 : decode cX6_readArms 115 = .ok (.aload_n 0, 1) := dk_42 (dk_at dksX6_readArms_4 20 rfl rfl)
theorem dX6_readArms_116 : decode cX6_readArms 116 = .ok (.getfield 171, 3) := dk_180 0 171 (dk_at dksX6_readArms_4 21 rfl rfl)
theorem dX6_readArms_119 : decode cX6_readArms 119 = .ok (.aload_n 0, 1) := dk_42 (dk_at dksX6_readArms_5 0 rfl rfl)
theorem dX6_readArms_120 : decode cX6_readArms 120 = .ok (.getfield 168, 3) := dk_180 0 168 (dk_at dksX6_readArms_5 1 rfl rfl)
theorem dX6_readArms_123 : decode cX6_readArms 123 = .ok (.if_icmp .ge 7, 3) := dk_162 0 7 (dk_at dksX6_readArms_5 4 rfl rfl)
theorem dX6_readArms_126 : decode cX6_readArms 126 = .ok (.iconst 1, 1) := dk_4 (dk_at dksX6_readArms_5 7 rfl rfl)
theorem dX6_readArms_127 : decode cX6_readArms 127 = .ok (.goto 4, 3) := dk_167 0 4 (dk_at dksX6_readArms_5 8 rfl rfl)
theorem dX6_readArms_130 : decode cX6_readArms 130 = .ok (.iconst 0, 1) := dk_3 (dk_at dksX6_readArms_5 11 rfl rfl)
theorem dX6_readArms_131 : decode cX6_readArms 131 = .ok (.istore_n 2, 1) := dk_61 (dk_at dksX6_readArms_5 12 rfl rfl)
theorem dX6_readArms_132 : decode cX6_readArms 132 = .ok (.iload_n 2, 1) := dk_28 (dk_at dksX6_readArms_5 13 rfl rfl)
theorem dX6_readArms_133 : decode cX6_readArms 133 = .ok (.ifCond .eq 20, 3) := dk_153 0 20 (dk_at dksX6_readArms_5 14 rfl rfl)
theorem dX6_readArms_136 : decode cX6_readArms 136 = .ok (.aload_n 0, 1) := dk_42 (dk_at dksX6_readArms_5 17 rfl rfl)
theorem dX6_readArms_137 : decode cX6_readArms 137 = .ok (.getfield 122, 3) := dk_180 0 122 (dk_at dksX6_readArms_5 18 rfl rfl)
theorem dX6_readArms_140 : decode cX6_readArms 140 = .ok (.iconst 4, 1) := dk_7 (dk_at dksX6_readArms_5 21 rfl rfl)
theorem dX6_readArms_141 : decode cX6_readArms 141 = .ok (.if_icmp .ge 16, 3) := dk_162 0 16 (dk_at dksX6_readArms_6 0 rfl rfl)
theorem dX6_readArms_144 : decode cX6_readArms 144 = .ok (.aload_n 0, 1) := dk_42 (dk_at dksX6_readArms_6 3 rfl rfl)
theorem dX6_readArms_145 : decode cX6_readArms 145 = .ok (.bipush 44, 2) := dk_16 44 (dk_at dksX6_readArms_6 4 rfl rfl)
theorem dX6_readArms_147 : decode cX6_readArms 147 = .ok (.invokevirtual 185, 3) := dk_182 0 185 (dk_at dksX6_readArms_6 6 rfl rfl)
theorem dX6_readArms_150 : decode cX6_readArms 150 = .ok (.ifCond .eq 7, 3) := dk_153 0 7 (dk_at dksX6_readArms_6 9 rfl rfl)
theorem dX6_readArms_153 : decode cX6_readArms 153 = .ok (.iconst 1, 1) := dk_4 (dk_at dksX6_readArms_6 12 rfl rfl)
theorem dX6_readArms_154 : decode cX6_readArms 154 = .ok (.goto 4, 3) := dk_167 0 4 (dk_at dksX6_readArms_6 13 rfl rfl)
theorem dX6_readArms_157 : decode cX6_readArms 157 = .ok (.iconst 0, 1) := dk_3 (dk_at dksX6_readArms_6 16 rfl rfl)
theorem dX6_readArms_158 : decode cX6_readArms 158 = .ok (.istore_n 1, 1) := dk_60 (dk_at dksX6_readArms_6 17 rfl rfl)
theorem dX6_readArms_159 : decode cX6_readArms 159 = .ok (.goto (-145), 3) := dk_167 255 111 (dk_at dksX6_readArms_6 18 rfl rfl)
theorem dX6_readArms_162 : decode cX6_readArms 162 = .ok (.iload_n 1, 1) := dk_27 (dk_at dksX6_readArms_6 21 rfl rfl)
theorem dX6_readArms_163 : decode cX6_readArms 163 = .ok (.ifCond .eq 7, 3) := dk_153 0 7 (dk_at dksX6_readArms_7 0 rfl rfl)
theorem dX6_readArms_166 : decode cX6_readArms 166 = .ok (.iconst (-1), 1) := dk_2 (dk_at dksX6_readArms_7 3 rfl rfl)
theorem dX6_readArms_167 : decode cX6_readArms 167 = .ok (.goto 7, 3) := dk_167 0 7 (dk_at dksX6_readArms_7 4 rfl rfl)
theorem dX6_readArms_170 : decode cX6_readArms 170 = .ok (.aload_n 0, 1) := dk_42 (dk_at dksX6_readArms_7 7 rfl rfl)
theorem dX6_readArms_171 : decode cX6_readArms 171 = .ok (.getfield 171, 3) := dk_180 0 171 (dk_at dksX6_readArms_7 8 rfl rfl)
theorem dX6_readArms_174 : decode cX6_readArms 174 = .ok (.istore_n 3, 1) := dk_62 (dk_at dksX6_readArms_7 11 rfl rfl)
theorem dX6_readArms_175 : decode cX6_readArms 175 = .ok (.aload_n 0, 1) := dk_42 (dk_at dksX6_readArms_7 12 rfl rfl)
theorem dX6_readArms_176 : decode cX6_readArms 176 = .ok (.iconst 0, 1) := dk_3 (dk_at dksX6_readArms_7 13 rfl rfl)
theorem dX6_readArms_177 : decode cX6_readArms 177 = .ok (.putfield 168, 3) := dk_181 0 168 (dk_at dksX6_readArms_7 14 rfl rfl)
theorem dX6_readArms_180 : decode cX6_readArms 180 = .ok (.iload_n 3, 1) := dk_29 (dk_at dksX6_readArms_7 17 rfl rfl)
theorem dX6_readArms_181 : decode cX6_readArms 181 = .ok (.ireturn, 1) := dk_172 (dk_at dksX6_readArms_7 18 rfl rfl)
abbrev cX6_comes : ByteArray := prog_33_method_41_code
def dkwX6_comes_9 : List UInt8 := [21, 5, 172]
abbrev dktX6_comes_9 : List UInt8 := dkwX6_comes_9 ++ []
def dkwX6_comes_8 : List UInt8 := [21, 5, 16, 24, 21, 6, 96, 2, 182, 0, 188, 132, 6, 1, 167, 255, 184, 42, 3, 21, 5, 182, 0, 192]
abbrev dktX6_comes_8 : List UInt8 := dkwX6_comes_8 ++ dktX6_comes_9
def dkwX6_comes_7 : List UInt8 := [96, 42, 180, 0, 36, 21, 6, 46, 182, 0, 188, 42, 21, 5, 16, 20, 21, 6, 96, 2, 182, 0, 188, 42]
abbrev dktX6_comes_7 : List UInt8 := dkwX6_comes_7 ++ dktX6_comes_8
def dkwX6_comes_6 : List UInt8 := [21, 5, 16, 12, 21, 6, 96, 42, 180, 0, 33, 21, 6, 46, 182, 0, 188, 42, 21, 5, 16, 16, 21, 6]
abbrev dktX6_comes_6 : List UInt8 := dkwX6_comes_6 ++ dktX6_comes_7
def dkwX6_comes_5 : List UInt8 := [16, 11, 42, 180, 0, 9, 3, 46, 182, 0, 188, 3, 54, 6, 21, 6, 42, 180, 0, 122, 162, 0, 69, 42]
abbrev dktX6_comes_5 : List UInt8 := dkwX6_comes_5 ++ dktX6_comes_6
def dkwX6_comes_4 : List UInt8 := [182, 0, 188, 42, 21, 5, 16, 9, 2, 182, 0, 188, 42, 21, 5, 16, 10, 3, 182, 0, 188, 42, 21, 5]
abbrev dktX6_comes_4 : List UInt8 := dkwX6_comes_4 ++ dktX6_comes_5
def dkwX6_comes_3 : List UInt8 := [42, 21, 5, 16, 6, 2, 182, 0, 188, 42, 21, 5, 16, 7, 2, 182, 0, 188, 42, 21, 5, 16, 8, 2]
abbrev dktX6_comes_3 : List UInt8 := dkwX6_comes_3 ++ dktX6_comes_4
def dkwX6_comes_2 : List UInt8 := [21, 4, 182, 0, 188, 42, 21, 5, 7, 42, 180, 0, 122, 182, 0, 188, 42, 21, 5, 8, 3, 182, 0, 188]
abbrev dktX6_comes_2 : List UInt8 := dkwX6_comes_2 ++ dktX6_comes_3
def dkwX6_comes_1 : List UInt8 := [182, 0, 188, 42, 21, 5, 4, 28, 182, 0, 188, 42, 21, 5, 5, 29, 182, 0, 188, 42, 21, 5, 6]
abbrev dktX6_comes_1 : List UInt8 := dkwX6_comes_1 ++ dktX6_comes_2
def dkwX6_comes_0 : List UInt8 := [42, 180, 0, 9, 4, 46, 54, 5, 42, 180, 0, 9, 4, 92, 46, 4, 96, 79, 42, 21, 5, 3, 27]
abbrev dktX6_comes_0 : List UInt8 := dkwX6_comes_0 ++ dktX6_comes_1
theorem dksX6_comes_0 : cX6_comes.data.toList.drop 0 = dktX6_comes_0 := by decide +kernel
theorem dksX6_comes_1 : cX6_comes.data.toList.drop 23 = dktX6_comes_1 := dk_seg dksX6_comes_0 23 rfl rfl
theorem dksX6_comes_2 : cX6_comes.data.toList.drop 46 = dktX6_comes_2 := dk_seg dksX6_comes_1 23 rfl rfl
theorem dksX6_comes_3 : cX6_comes.data.toList.drop 70 = dktX6_comes_3 := dk_seg dksX6_comes_2 24 rfl rfl
theorem dksX6_comes_4 : cX6_comes.data.toList.drop 94 = dktX6_comes_4 := dk_seg dksX6_comes_3 24 rfl rfl
theorem dksX6_comes_5 : cX6_comes.data.toList.drop 118 = dktX6_comes_5 := dk_seg dksX6_comes_4 24 rfl rfl
theorem dksX6_comes_6 : cX6_comes.data.toList.drop 142 = dktX6_comes_6 := dk_seg dksX6_comes_5 24 rfl rfl
theorem dksX6_comes_7 : cX6_comes.data.toList.drop 166 = dktX6_comes_7 := dk_seg dksX6_comes_6 24 rfl rfl
theorem dksX6_comes_8 : cX6_comes.data.toList.drop 190 = dktX6_comes_8 := dk_seg dksX6_comes_7 24 rfl rfl
theorem dksX6_comes_9 : cX6_comes.data.toList.drop 214 = dktX6_comes_9 := dk_seg dksX6_comes_8 24 rfl rfl
theorem dX6_comes_0 : decode cX6_comes 0 = .ok (.aload_n 0, 1) := dk_42 (dk_at dksX6_comes_0 0 rfl rfl)
theorem dX6_comes_1 : decode cX6_comes 1 = .ok (.getfield 9, 3) := dk_180 0 9 (dk_at dksX6_comes_0 1 rfl rfl)
theorem dX6_comes_4 : decode cX6_comes 4 = .ok (.iconst 1, 1) := dk_4 (dk_at dksX6_comes_0 4 rfl rfl)
theorem dX6_comes_5 : decode cX6_comes 5 = .ok (.iaload, 1) := dk_46 (dk_at dksX6_comes_0 5 rfl rfl)
theorem dX6_comes_6 : decode cX6_comes 6 = .ok (.istore 5, 2) := dk_54 5 (dk_at dksX6_comes_0 6 rfl rfl)
theorem dX6_comes_8 : decode cX6_comes 8 = .ok (.aload_n 0, 1) := dk_42 (dk_at dksX6_comes_0 8 rfl rfl)
theorem dX6_comes_9 : decode cX6_comes 9 = .ok (.getfield 9, 3) := dk_180 0 9 (dk_at dksX6_comes_0 9 rfl rfl)
theorem dX6_comes_12 : decode cX6_comes 12 = .ok (.iconst 1, 1) := dk_4 (dk_at dksX6_comes_0 12 rfl rfl)
theorem dX6_comes_13 : decode cX6_comes 13 = .ok (.dup2, 1) := dk_92 (dk_at dksX6_comes_0 13 rfl rfl)
theorem dX6_comes_14 : decode cX6_comes 14 = .ok (.iaload, 1) := dk_46 (dk_at dksX6_comes_0 14 rfl rfl)
theorem dX6_comes_15 : decode cX6_comes 15 = .ok (.iconst 1, 1) := dk_4 (dk_at dksX6_comes_0 15 rfl rfl)
theorem dX6_comes_16 : decode cX6_comes 16 = .ok (.iadd, 1) := dk_96 (dk_at dksX6_comes_0 16 rfl rfl)
theorem dX6_comes_17 : decode cX6_comes 17 = .ok (.iastore, 1) := dk_79 (dk_at dksX6_comes_0 17 rfl rfl)
theorem dX6_comes_18 : decode cX6_comes 18 = .ok (.aload_n 0, 1) := dk_42 (dk_at dksX6_comes_0 18 rfl rfl)
theorem dX6_comes_19 : decode cX6_comes 19 = .ok (.iload 5, 2) := dk_21 5 (dk_at dksX6_comes_0 19 rfl rfl)
theorem dX6_comes_21 : decode cX6_comes 21 = .ok (.iconst 0, 1) := dk_3 (dk_at dksX6_comes_0 21 rfl rfl)
theorem dX6_comes_22 : decode cX6_comes 22 = .ok (.iload_n 1, 1) := dk_27 (dk_at dksX6_comes_0 22 rfl rfl)
theorem dX6_comes_23 : decode cX6_comes 23 = .ok (.invokevirtual 188, 3) := dk_182 0 188 (dk_at dksX6_comes_1 0 rfl rfl)
theorem dX6_comes_26 : decode cX6_comes 26 = .ok (.aload_n 0, 1) := dk_42 (dk_at dksX6_comes_1 3 rfl rfl)
theorem dX6_comes_27 : decode cX6_comes 27 = .ok (.iload 5, 2) := dk_21 5 (dk_at dksX6_comes_1 4 rfl rfl)
theorem dX6_comes_29 : decode cX6_comes 29 = .ok (.iconst 1, 1) := dk_4 (dk_at dksX6_comes_1 6 rfl rfl)
theorem dX6_comes_30 : decode cX6_comes 30 = .ok (.iload_n 2, 1) := dk_28 (dk_at dksX6_comes_1 7 rfl rfl)
theorem dX6_comes_31 : decode cX6_comes 31 = .ok (.invokevirtual 188, 3) := dk_182 0 188 (dk_at dksX6_comes_1 8 rfl rfl)
theorem dX6_comes_34 : decode cX6_comes 34 = .ok (.aload_n 0, 1) := dk_42 (dk_at dksX6_comes_1 11 rfl rfl)
theorem dX6_comes_35 : decode cX6_comes 35 = .ok (.iload 5, 2) := dk_21 5 (dk_at dksX6_comes_1 12 rfl rfl)
theorem dX6_comes_37 : decode cX6_comes 37 = .ok (.iconst 2, 1) := dk_5 (dk_at dksX6_comes_1 14 rfl rfl)
theorem dX6_comes_38 : decode cX6_comes 38 = .ok (.iload_n 3, 1) := dk_29 (dk_at dksX6_comes_1 15 rfl rfl)
theorem dX6_comes_39 : decode cX6_comes 39 = .ok (.invokevirtual 188, 3) := dk_182 0 188 (dk_at dksX6_comes_1 16 rfl rfl)
theorem dX6_comes_42 : decode cX6_comes 42 = .ok (.aload_n 0, 1) := dk_42 (dk_at dksX6_comes_1 19 rfl rfl)
theorem dX6_comes_43 : decode cX6_comes 43 = .ok (.iload 5, 2) := dk_21 5 (dk_at dksX6_comes_1 20 rfl rfl)
theorem dX6_comes_45 : decode cX6_comes 45 = .ok (.iconst 3, 1) := dk_6 (dk_at dksX6_comes_1 22 rfl rfl)
theorem dX6_comes_46 : decode cX6_comes 46 = .ok (.iload 4, 2) := dk_21 4 (dk_at dksX6_comes_2 0 rfl rfl)
theorem dX6_comes_48 : decode cX6_comes 48 = .ok (.invokevirtual 188, 3) := dk_182 0 188 (dk_at dksX6_comes_2 2 rfl rfl)
theorem dX6_comes_51 : decode cX6_comes 51 = .ok (.aload_n 0, 1) := dk_42 (dk_at dksX6_comes_2 5 rfl rfl)
theorem dX6_comes_52 : decode cX6_comes 52 = .ok (.iload 5, 2) := dk_21 5 (dk_at dksX6_comes_2 6 rfl rfl)
theorem dX6_comes_54 : decode cX6_comes 54 = .ok (.iconst 4, 1) := dk_7 (dk_at dksX6_comes_2 8 rfl rfl)
theorem dX6_comes_55 : decode cX6_comes 55 = .ok (.aload_n 0, 1) := dk_42 (dk_at dksX6_comes_2 9 rfl rfl)
theorem dX6_comes_56 : decode cX6_comes 56 = .ok (.getfield 122, 3) := dk_180 0 122 (dk_at dksX6_comes_2 10 rfl rfl)
theorem dX6_comes_59 : decode cX6_comes 59 = .ok (.invokevirtual 188, 3) := dk_182 0 188 (dk_at dksX6_comes_2 13 rfl rfl)
theorem dX6_comes_62 : decode cX6_comes 62 = .ok (.aload_n 0, 1) := dk_42 (dk_at dksX6_comes_2 16 rfl rfl)
theorem dX6_comes_63 : decode cX6_comes 63 = .ok (.iload 5, 2) := dk_21 5 (dk_at dksX6_comes_2 17 rfl rfl)
theorem dX6_comes_65 : decode cX6_comes 65 = .ok (.iconst 5, 1) := dk_8 (dk_at dksX6_comes_2 19 rfl rfl)
theorem dX6_comes_66 : decode cX6_comes 66 = .ok (.iconst 0, 1) := dk_3 (dk_at dksX6_comes_2 20 rfl rfl)
theorem dX6_comes_67 : decode cX6_comes 67 = .ok (.invokevirtual 188, 3) := dk_182 0 188 (dk_at dksX6_comes_2 21 rfl rfl)
theorem dX6_comes_70 : decode cX6_comes 70 = .ok (.aload_n 0, 1) := dk_42 (dk_at dksX6_comes_3 0 rfl rfl)
theorem dX6_comes_71 : decode cX6_comes 71 = .ok (.iload 5, 2) := dk_21 5 (dk_at dksX6_comes_3 1 rfl rfl)
theorem dX6_comes_73 : decode cX6_comes 73 = .ok (.bipush 6, 2) := dk_16 6 (dk_at dksX6_comes_3 3 rfl rfl)
theorem dX6_comes_75 : decode cX6_comes 75 = .ok (.iconst (-1), 1) := dk_2 (dk_at dksX6_comes_3 5 rfl rfl)
theorem dX6_comes_76 : decode cX6_comes 76 = .ok (.invokevirtual 188, 3) := dk_182 0 188 (dk_at dksX6_comes_3 6 rfl rfl)
theorem dX6_comes_79 : decode cX6_comes 79 = .ok (.aload_n 0, 1) := dk_42 (dk_at dksX6_comes_3 9 rfl rfl)
theorem dX6_comes_80 : decode cX6_comes 80 = .ok (.iload 5, 2) := dk_21 5 (dk_at dksX6_comes_3 10 rfl rfl)
theorem dX6_comes_82 : decode cX6_comes 82 = .ok (.bipush 7, 2) := dk_16 7 (dk_at dksX6_comes_3 12 rfl rfl)
theorem dX6_comes_84 : decode cX6_comes 84 = .ok (.iconst (-1), 1) := dk_2 (dk_at dksX6_comes_3 14 rfl rfl)
theorem dX6_comes_85 : decode cX6_comes 85 = .ok (.invokevirtual 188, 3) := dk_182 0 188 (dk_at dksX6_comes_3 15 rfl rfl)
theorem dX6_comes_88 : decode cX6_comes 88 = .ok (.aload_n 0, 1) := dk_42 (dk_at dksX6_comes_3 18 rfl rfl)
theorem dX6_comes_89 : decode cX6_comes 89 = .ok (.iload 5, 2) := dk_21 5 (dk_at dksX6_comes_3 19 rfl rfl)
theorem dX6_comes_91 : decode cX6_comes 91 = .ok (.bipush 8, 2) := dk_16 8 (dk_at dksX6_comes_3 21 rfl rfl)
theorem dX6_comes_93 : decode cX6_comes 93 = .ok (.iconst (-1), 1) := dk_2 (dk_at dksX6_comes_3 23 rfl rfl)
theorem dX6_comes_94 : decode cX6_comes 94 = .ok (.invokevirtual 188, 3) := dk_182 0 188 (dk_at dksX6_comes_4 0 rfl rfl)
theorem dX6_comes_97 : decode cX6_comes 97 = .ok (.aload_n 0, 1) := dk_42 (dk_at dksX6_comes_4 3 rfl rfl)
theorem dX6_comes_98 : decode cX6_comes 98 = .ok (.iload 5, 2) := dk_21 5 (dk_at dksX6_comes_4 4 rfl rfl)
theorem dX6_comes_100 : decode cX6_comes 100 = .ok (.bipush 9, 2) := dk_16 9 (dk_at dksX6_comes_4 6 rfl rfl)
theorem dX6_comes_102 : decode cX6_comes 102 = .ok (.iconst (-1), 1) := dk_2 (dk_at dksX6_comes_4 8 rfl rfl)
theorem dX6_comes_103 : decode cX6_comes 103 = .ok (.invokevirtual 188, 3) := dk_182 0 188 (dk_at dksX6_comes_4 9 rfl rfl)
theorem dX6_comes_106 : decode cX6_comes 106 = .ok (.aload_n 0, 1) := dk_42 (dk_at dksX6_comes_4 12 rfl rfl)
theorem dX6_comes_107 : decode cX6_comes 107 = .ok (.iload 5, 2) := dk_21 5 (dk_at dksX6_comes_4 13 rfl rfl)
theorem dX6_comes_109 : decode cX6_comes 109 = .ok (.bipush 10, 2) := dk_16 10 (dk_at dksX6_comes_4 15 rfl rfl)
theorem dX6_comes_111 : decode cX6_comes 111 = .ok (.iconst 0, 1) := dk_3 (dk_at dksX6_comes_4 17 rfl rfl)
theorem dX6_comes_112 : decode cX6_comes 112 = .ok (.invokevirtual 188, 3) := dk_182 0 188 (dk_at dksX6_comes_4 18 rfl rfl)
theorem dX6_comes_115 : decode cX6_comes 115 = .ok (.aload_n 0, 1) := dk_42 (dk_at dksX6_comes_4 21 rfl rfl)
theorem dX6_comes_116 : decode cX6_comes 116 = .ok (.iload 5, 2) := dk_21 5 (dk_at dksX6_comes_4 22 rfl rfl)
theorem dX6_comes_118 : decode cX6_comes 118 = .ok (.bipush 11, 2) := dk_16 11 (dk_at dksX6_comes_5 0 rfl rfl)
theorem dX6_comes_120 : decode cX6_comes 120 = .ok (.aload_n 0, 1) := dk_42 (dk_at dksX6_comes_5 2 rfl rfl)
theorem dX6_comes_121 : decode cX6_comes 121 = .ok (.getfield 9, 3) := dk_180 0 9 (dk_at dksX6_comes_5 3 rfl rfl)
theorem dX6_comes_124 : decode cX6_comes 124 = .ok (.iconst 0, 1) := dk_3 (dk_at dksX6_comes_5 6 rfl rfl)
theorem dX6_comes_125 : decode cX6_comes 125 = .ok (.iaload, 1) := dk_46 (dk_at dksX6_comes_5 7 rfl rfl)
theorem dX6_comes_126 : decode cX6_comes 126 = .ok (.invokevirtual 188, 3) := dk_182 0 188 (dk_at dksX6_comes_5 8 rfl rfl)
theorem dX6_comes_129 : decode cX6_comes 129 = .ok (.iconst 0, 1) := dk_3 (dk_at dksX6_comes_5 11 rfl rfl)
theorem dX6_comes_130 : decode cX6_comes 130 = .ok (.istore 6, 2) := dk_54 6 (dk_at dksX6_comes_5 12 rfl rfl)
theorem dX6_comes_132 : decode cX6_comes 132 = .ok (.iload 6, 2) := dk_21 6 (dk_at dksX6_comes_5 14 rfl rfl)
theorem dX6_comes_134 : decode cX6_comes 134 = .ok (.aload_n 0, 1) := dk_42 (dk_at dksX6_comes_5 16 rfl rfl)
theorem dX6_comes_135 : decode cX6_comes 135 = .ok (.getfield 122, 3) := dk_180 0 122 (dk_at dksX6_comes_5 17 rfl rfl)
theorem dX6_comes_138 : decode cX6_comes 138 = .ok (.if_icmp .ge 69, 3) := dk_162 0 69 (dk_at dksX6_comes_5 20 rfl rfl)
theorem dX6_comes_141 : decode cX6_comes 141 = .ok (.aload_n 0, 1) := dk_42 (dk_at dksX6_comes_5 23 rfl rfl)
theorem dX6_comes_142 : decode cX6_comes 142 = .ok (.iload 5, 2) := dk_21 5 (dk_at dksX6_comes_6 0 rfl rfl)
theorem dX6_comes_144 : decode cX6_comes 144 = .ok (.bipush 12, 2) := dk_16 12 (dk_at dksX6_comes_6 2 rfl rfl)
theorem dX6_comes_146 : decode cX6_comes 146 = .ok (.iload 6, 2) := dk_21 6 (dk_at dksX6_comes_6 4 rfl rfl)
theorem dX6_comes_148 : decode cX6_comes 148 = .ok (.iadd, 1) := dk_96 (dk_at dksX6_comes_6 6 rfl rfl)
theorem dX6_comes_149 : decode cX6_comes 149 = .ok (.aload_n 0, 1) := dk_42 (dk_at dksX6_comes_6 7 rfl rfl)
theorem dX6_comes_150 : decode cX6_comes 150 = .ok (.getfield 33, 3) := dk_180 0 33 (dk_at dksX6_comes_6 8 rfl rfl)
theorem dX6_comes_153 : decode cX6_comes 153 = .ok (.iload 6, 2) := dk_21 6 (dk_at dksX6_comes_6 11 rfl rfl)
theorem dX6_comes_155 : decode cX6_comes 155 = .ok (.iaload, 1) := dk_46 (dk_at dksX6_comes_6 13 rfl rfl)
theorem dX6_comes_156 : decode cX6_comes 156 = .ok (.invokevirtual 188, 3) := dk_182 0 188 (dk_at dksX6_comes_6 14 rfl rfl)
theorem dX6_comes_159 : decode cX6_comes 159 = .ok (.aload_n 0, 1) := dk_42 (dk_at dksX6_comes_6 17 rfl rfl)
theorem dX6_comes_160 : decode cX6_comes 160 = .ok (.iload 5, 2) := dk_21 5 (dk_at dksX6_comes_6 18 rfl rfl)
theorem dX6_comes_162 : decode cX6_comes 162 = .ok (.bipush 16, 2) := dk_16 16 (dk_at dksX6_comes_6 20 rfl rfl)
theorem dX6_comes_164 : decode cX6_comes 164 = .ok (.iload 6, 2) := dk_21 6 (dk_at dksX6_comes_6 22 rfl rfl)
theorem dX6_comes_166 : decode cX6_comes 166 = .ok (.iadd, 1) := dk_96 (dk_at dksX6_comes_7 0 rfl rfl)
theorem dX6_comes_167 : decode cX6_comes 167 = .ok (.aload_n 0, 1) := dk_42 (dk_at dksX6_comes_7 1 rfl rfl)
theorem dX6_comes_168 : decode cX6_comes 168 = .ok (.getfield 36, 3) := dk_180 0 36 (dk_at dksX6_comes_7 2 rfl rfl)
theorem dX6_comes_171 : decode cX6_comes 171 = .ok (.iload 6, 2) := dk_21 6 (dk_at dksX6_comes_7 5 rfl rfl)
theorem dX6_comes_173 : decode cX6_comes 173 = .ok (.iaload, 1) := dk_46 (dk_at dksX6_comes_7 7 rfl rfl)
theorem dX6_comes_174 : decode cX6_comes 174 = .ok (.invokevirtual 188, 3) := dk_182 0 188 (dk_at dksX6_comes_7 8 rfl rfl)
theorem dX6_comes_177 : decode cX6_comes 177 = .ok (.aload_n 0, 1) := dk_42 (dk_at dksX6_comes_7 11 rfl rfl)
theorem dX6_comes_178 : decode cX6_comes 178 = .ok (.iload 5, 2) := dk_21 5 (dk_at dksX6_comes_7 12 rfl rfl)
theorem dX6_comes_180 : decode cX6_comes 180 = .ok (.bipush 20, 2) := dk_16 20 (dk_at dksX6_comes_7 14 rfl rfl)
theorem dX6_comes_182 : decode cX6_comes 182 = .ok (.iload 6, 2) := dk_21 6 (dk_at dksX6_comes_7 16 rfl rfl)
theorem dX6_comes_184 : decode cX6_comes 184 = .ok (.iadd, 1) := dk_96 (dk_at dksX6_comes_7 18 rfl rfl)
theorem dX6_comes_185 : decode cX6_comes 185 = .ok (.iconst (-1), 1) := dk_2 (dk_at dksX6_comes_7 19 rfl rfl)
theorem dX6_comes_186 : decode cX6_comes 186 = .ok (.invokevirtual 188, 3) := dk_182 0 188 (dk_at dksX6_comes_7 20 rfl rfl)
theorem dX6_comes_189 : decode cX6_comes 189 = .ok (.aload_n 0, 1) := dk_42 (dk_at dksX6_comes_7 23 rfl rfl)
theorem dX6_comes_190 : decode cX6_comes 190 = .ok (.iload 5, 2) := dk_21 5 (dk_at dksX6_comes_8 0 rfl rfl)
theorem dX6_comes_192 : decode cX6_comes 192 = .ok (.bipush 24, 2) := dk_16 24 (dk_at dksX6_comes_8 2 rfl rfl)
theorem dX6_comes_194 : decode cX6_comes 194 = .ok (.iload 6, 2) := dk_21 6 (dk_at dksX6_comes_8 4 rfl rfl)
theorem dX6_comes_196 : decode cX6_comes 196 = .ok (.iadd, 1) := dk_96 (dk_at dksX6_comes_8 6 rfl rfl)
theorem dX6_comes_197 : decode cX6_comes 197 = .ok (.iconst (-1), 1) := dk_2 (dk_at dksX6_comes_8 7 rfl rfl)
theorem dX6_comes_198 : decode cX6_comes 198 = .ok (.invokevirtual 188, 3) := dk_182 0 188 (dk_at dksX6_comes_8 8 rfl rfl)
theorem dX6_comes_201 : decode cX6_comes 201 = .ok (.iinc 6 1, 3) := dk_132 6 1 (dk_at dksX6_comes_8 11 rfl rfl)
theorem dX6_comes_204 : decode cX6_comes 204 = .ok (.goto (-72), 3) := dk_167 255 184 (dk_at dksX6_comes_8 14 rfl rfl)
theorem dX6_comes_207 : decode cX6_comes 207 = .ok (.aload_n 0, 1) := dk_42 (dk_at dksX6_comes_8 17 rfl rfl)
theorem dX6_comes_208 : decode cX6_comes 208 = .ok (.iconst 0, 1) := dk_3 (dk_at dksX6_comes_8 18 rfl rfl)
theorem dX6_comes_209 : decode cX6_comes 209 = .ok (.iload 5, 2) := dk_21 5 (dk_at dksX6_comes_8 19 rfl rfl)
theorem dX6_comes_211 : decode cX6_comes 211 = .ok (.invokevirtual 192, 3) := dk_182 0 192 (dk_at dksX6_comes_8 21 rfl rfl)
theorem dX6_comes_214 : decode cX6_comes 214 = .ok (.iload 5, 2) := dk_21 5 (dk_at dksX6_comes_9 0 rfl rfl)
theorem dX6_comes_216 : decode cX6_comes 216 = .ok (.ireturn, 1) := dk_172 (dk_at dksX6_comes_9 2 rfl rfl)
abbrev cX6_offs : ByteArray := prog_33_method_43_code
def dkwX6_offs_5 : List UInt8 := [27, 160, 0, 11, 42, 29, 182, 0, 214, 167, 0, 4, 3, 96, 61, 132, 3, 1, 167, 255, 213, 28, 172]
abbrev dktX6_offs_5 : List UInt8 := dkwX6_offs_5 ++ []
def dkwX6_offs_4 : List UInt8 := [42, 180, 0, 9, 4, 46, 162, 0, 39, 28, 42, 29, 182, 0, 211, 153, 0, 21, 42, 29, 6, 182, 0, 83]
abbrev dktX6_offs_4 : List UInt8 := dkwX6_offs_4 ++ dktX6_offs_5
def dkwX6_offs_3 : List UInt8 := [42, 7, 27, 182, 0, 192, 42, 180, 0, 19, 16, 11, 92, 47, 10, 97, 80, 4, 61, 27, 4, 96, 62, 29]
abbrev dktX6_offs_3 : List UInt8 := dkwX6_offs_3 ++ dktX6_offs_4
def dkwX6_offs_2 : List UInt8 := [182, 0, 188, 42, 27, 16, 7, 42, 180, 0, 9, 3, 46, 182, 0, 188, 42, 27, 16, 9, 2, 182, 0, 188]
abbrev dktX6_offs_2 : List UInt8 := dkwX6_offs_2 ++ dktX6_offs_3
def dkwX6_offs_1 : List UInt8 := [16, 24, 28, 96, 42, 180, 0, 9, 3, 46, 182, 0, 188, 132, 2, 1, 167, 255, 219, 42, 27, 8, 7]
abbrev dktX6_offs_1 : List UInt8 := dkwX6_offs_1 ++ dktX6_offs_2
def dkwX6_offs_0 : List UInt8 := [3, 61, 28, 42, 27, 7, 182, 0, 83, 162, 0, 33, 42, 27, 28, 182, 0, 98, 153, 0, 18, 42, 27]
abbrev dktX6_offs_0 : List UInt8 := dkwX6_offs_0 ++ dktX6_offs_1
theorem dksX6_offs_0 : cX6_offs.data.toList.drop 0 = dktX6_offs_0 := by decide +kernel
theorem dksX6_offs_1 : cX6_offs.data.toList.drop 23 = dktX6_offs_1 := dk_seg dksX6_offs_0 23 rfl rfl
theorem dksX6_offs_2 : cX6_offs.data.toList.drop 46 = dktX6_offs_2 := dk_seg dksX6_offs_1 23 rfl rfl
theorem dksX6_offs_3 : cX6_offs.data.toList.drop 70 = dktX6_offs_3 := dk_seg dksX6_offs_2 24 rfl rfl
theorem dksX6_offs_4 : cX6_offs.data.toList.drop 94 = dktX6_offs_4 := dk_seg dksX6_offs_3 24 rfl rfl
theorem dksX6_offs_5 : cX6_offs.data.toList.drop 118 = dktX6_offs_5 := dk_seg dksX6_offs_4 24 rfl rfl
theorem dX6_offs_0 : decode cX6_offs 0 = .ok (.iconst 0, 1) := dk_3 (dk_at dksX6_offs_0 0 rfl rfl)
theorem dX6_offs_1 : decode cX6_offs 1 = .ok (.istore_n 2, 1) := dk_61 (dk_at dksX6_offs_0 1 rfl rfl)
theorem dX6_offs_2 : decode cX6_offs 2 = .ok (.iload_n 2, 1) := dk_28 (dk_at dksX6_offs_0 2 rfl rfl)
theorem dX6_offs_3 : decode cX6_offs 3 = .ok (.aload_n 0, 1) := dk_42 (dk_at dksX6_offs_0 3 rfl rfl)
theorem dX6_offs_4 : decode cX6_offs 4 = .ok (.iload_n 1, 1) := dk_27 (dk_at dksX6_offs_0 4 rfl rfl)
theorem dX6_offs_5 : decode cX6_offs 5 = .ok (.iconst 4, 1) := dk_7 (dk_at dksX6_offs_0 5 rfl rfl)
theorem dX6_offs_6 : decode cX6_offs 6 = .ok (.invokevirtual 83, 3) := dk_182 0 83 (dk_at dksX6_offs_0 6 rfl rfl)
theorem dX6_offs_9 : decode cX6_offs 9 = .ok (.if_icmp .ge 33, 3) := dk_162 0 33 (dk_at dksX6_offs_0 9 rfl rfl)
theorem dX6_offs_12 : decode cX6_offs 12 = .ok (.aload_n 0, 1) := dk_42 (dk_at dksX6_offs_0 12 rfl rfl)
theorem dX6_offs_13 : decode cX6_offs 13 = .ok (.iload_n 1, 1) := dk_27 (dk_at dksX6_offs_0 13 rfl rfl)
theorem dX6_offs_14 : decode cX6_offs 14 = .ok (.iload_n 2, 1) := dk_28 (dk_at dksX6_offs_0 14 rfl rfl)
theorem dX6_offs_15 : decode cX6_offs 15 = .ok (.invokevirtual 98, 3) := dk_182 0 98 (dk_at dksX6_offs_0 15 rfl rfl)
theorem dX6_offs_18 : decode cX6_offs 18 = .ok (.ifCond .eq 18, 3) := dk_153 0 18 (dk_at dksX6_offs_0 18 rfl rfl)
theorem dX6_offs_21 : decode cX6_offs 21 = .ok (.aload_n 0, 1) := dk_42 (dk_at dksX6_offs_0 21 rfl rfl)
theorem dX6_offs_22 : decode cX6_offs 22 = .ok (.iload_n 1, 1) := dk_27 (dk_at dksX6_offs_0 22 rfl rfl)
theorem dX6_offs_23 : decode cX6_offs 23 = .ok (.bipush 24, 2) := dk_16 24 (dk_at dksX6_offs_1 0 rfl rfl)
theorem dX6_offs_25 : decode cX6_offs 25 = .ok (.iload_n 2, 1) := dk_28 (dk_at dksX6_offs_1 2 rfl rfl)
theorem dX6_offs_26 : decode cX6_offs 26 = .ok (.iadd, 1) := dk_96 (dk_at dksX6_offs_1 3 rfl rfl)
theorem dX6_offs_27 : decode cX6_offs 27 = .ok (.aload_n 0, 1) := dk_42 (dk_at dksX6_offs_1 4 rfl rfl)
theorem dX6_offs_28 : decode cX6_offs 28 = .ok (.getfield 9, 3) := dk_180 0 9 (dk_at dksX6_offs_1 5 rfl rfl)
theorem dX6_offs_31 : decode cX6_offs 31 = .ok (.iconst 0, 1) := dk_3 (dk_at dksX6_offs_1 8 rfl rfl)
theorem dX6_offs_32 : decode cX6_offs 32 = .ok (.iaload, 1) := dk_46 (dk_at dksX6_offs_1 9 rfl rfl)
theorem dX6_offs_33 : decode cX6_offs 33 = .ok (.invokevirtual 188, 3) := dk_182 0 188 (dk_at dksX6_offs_1 10 rfl rfl)
theorem dX6_offs_36 : decode cX6_offs 36 = .ok (.iinc 2 1, 3) := dk_132 2 1 (dk_at dksX6_offs_1 13 rfl rfl)
theorem dX6_offs_39 : decode cX6_offs 39 = .ok (.goto (-37), 3) := dk_167 255 219 (dk_at dksX6_offs_1 16 rfl rfl)
theorem dX6_offs_42 : decode cX6_offs 42 = .ok (.aload_n 0, 1) := dk_42 (dk_at dksX6_offs_1 19 rfl rfl)
theorem dX6_offs_43 : decode cX6_offs 43 = .ok (.iload_n 1, 1) := dk_27 (dk_at dksX6_offs_1 20 rfl rfl)
theorem dX6_offs_44 : decode cX6_offs 44 = .ok (.iconst 5, 1) := dk_8 (dk_at dksX6_offs_1 21 rfl rfl)
theorem dX6_offs_45 : decode cX6_offs 45 = .ok (.iconst 4, 1) := dk_7 (dk_at dksX6_offs_1 22 rfl rfl)
theorem dX6_offs_46 : decode cX6_offs 46 = .ok (.invokevirtual 188, 3) := dk_182 0 188 (dk_at dksX6_offs_2 0 rfl rfl)
theorem dX6_offs_49 : decode cX6_offs 49 = .ok (.aload_n 0, 1) := dk_42 (dk_at dksX6_offs_2 3 rfl rfl)
theorem dX6_offs_50 : decode cX6_offs 50 = .ok (.iload_n 1, 1) := dk_27 (dk_at dksX6_offs_2 4 rfl rfl)
theorem dX6_offs_51 : decode cX6_offs 51 = .ok (.bipush 7, 2) := dk_16 7 (dk_at dksX6_offs_2 5 rfl rfl)
theorem dX6_offs_53 : decode cX6_offs 53 = .ok (.aload_n 0, 1) := dk_42 (dk_at dksX6_offs_2 7 rfl rfl)
theorem dX6_offs_54 : decode cX6_offs 54 = .ok (.getfield 9, 3) := dk_180 0 9 (dk_at dksX6_offs_2 8 rfl rfl)
theorem dX6_offs_57 : decode cX6_offs 57 = .ok (.iconst 0, 1) := dk_3 (dk_at dksX6_offs_2 11 rfl rfl)
theorem dX6_offs_58 : decode cX6_offs 58 = .ok (.iaload, 1) := dk_46 (dk_at dksX6_offs_2 12 rfl rfl)
theorem dX6_offs_59 : decode cX6_offs 59 = .ok (.invokevirtual 188, 3) := dk_182 0 188 (dk_at dksX6_offs_2 13 rfl rfl)
theorem dX6_offs_62 : decode cX6_offs 62 = .ok (.aload_n 0, 1) := dk_42 (dk_at dksX6_offs_2 16 rfl rfl)
theorem dX6_offs_63 : decode cX6_offs 63 = .ok (.iload_n 1, 1) := dk_27 (dk_at dksX6_offs_2 17 rfl rfl)
theorem dX6_offs_64 : decode cX6_offs 64 = .ok (.bipush 9, 2) := dk_16 9 (dk_at dksX6_offs_2 18 rfl rfl)
theorem dX6_offs_66 : decode cX6_offs 66 = .ok (.iconst (-1), 1) := dk_2 (dk_at dksX6_offs_2 20 rfl rfl)
theorem dX6_offs_67 : decode cX6_offs 67 = .ok (.invokevirtual 188, 3) := dk_182 0 188 (dk_at dksX6_offs_2 21 rfl rfl)
theorem dX6_offs_70 : decode cX6_offs 70 = .ok (.aload_n 0, 1) := dk_42 (dk_at dksX6_offs_3 0 rfl rfl)
theorem dX6_offs_71 : decode cX6_offs 71 = .ok (.iconst 4, 1) := dk_7 (dk_at dksX6_offs_3 1 rfl rfl)
theorem dX6_offs_72 : decode cX6_offs 72 = .ok (.iload_n 1, 1) := dk_27 (dk_at dksX6_offs_3 2 rfl rfl)
theorem dX6_offs_73 : decode cX6_offs 73 = .ok (.invokevirtual 192, 3) := dk_182 0 192 (dk_at dksX6_offs_3 3 rfl rfl)
theorem dX6_offs_76 : decode cX6_offs 76 = .ok (.aload_n 0, 1) := dk_42 (dk_at dksX6_offs_3 6 rfl rfl)
theorem dX6_offs_77 : decode cX6_offs 77 = .ok (.getfield 19, 3) := dk_180 0 19 (dk_at dksX6_offs_3 7 rfl rfl)
theorem dX6_offs_80 : decode cX6_offs 80 = .ok (.bipush 11, 2) := dk_16 11 (dk_at dksX6_offs_3 10 rfl rfl)
theorem dX6_offs_82 : decode cX6_offs 82 = .ok (.dup2, 1) := dk_92 (dk_at dksX6_offs_3 12 rfl rfl)
theorem dX6_offs_83 : decode cX6_offs 83 = .ok (.laload, 1) := dk_47 (dk_at dksX6_offs_3 13 rfl rfl)
theorem dX6_offs_84 : decode cX6_offs 84 = .ok (.lconst 1, 1) := dk_10 (dk_at dksX6_offs_3 14 rfl rfl)
theorem dX6_offs_85 : decode cX6_offs 85 = .ok (.ladd, 1) := dk_97 (dk_at dksX6_offs_3 15 rfl rfl)
theorem dX6_offs_86 : decode cX6_offs 86 = .ok (.lastore, 1) := dk_80 (dk_at dksX6_offs_3 16 rfl rfl)
theorem dX6_offs_87 : decode cX6_offs 87 = .ok (.iconst 1, 1) := dk_4 (dk_at dksX6_offs_3 17 rfl rfl)
theorem dX6_offs_88 : decode cX6_offs 88 = .ok (.istore_n 2, 1) := dk_61 (dk_at dksX6_offs_3 18 rfl rfl)
theorem dX6_offs_89 : decode cX6_offs 89 = .ok (.iload_n 1, 1) := dk_27 (dk_at dksX6_offs_3 19 rfl rfl)
theorem dX6_offs_90 : decode cX6_offs 90 = .ok (.iconst 1, 1) := dk_4 (dk_at dksX6_offs_3 20 rfl rfl)
theorem dX6_offs_91 : decode cX6_offs 91 = .ok (.iadd, 1) := dk_96 (dk_at dksX6_offs_3 21 rfl rfl)
theorem dX6_offs_92 : decode cX6_offs 92 = .ok (.istore_n 3, 1) := dk_62 (dk_at dksX6_offs_3 22 rfl rfl)
theorem dX6_offs_93 : decode cX6_offs 93 = .ok (.iload_n 3, 1) := dk_29 (dk_at dksX6_offs_3 23 rfl rfl)
theorem dX6_offs_94 : decode cX6_offs 94 = .ok (.aload_n 0, 1) := dk_42 (dk_at dksX6_offs_4 0 rfl rfl)
theorem dX6_offs_95 : decode cX6_offs 95 = .ok (.getfield 9, 3) := dk_180 0 9 (dk_at dksX6_offs_4 1 rfl rfl)
theorem dX6_offs_98 : decode cX6_offs 98 = .ok (.iconst 1, 1) := dk_4 (dk_at dksX6_offs_4 4 rfl rfl)
theorem dX6_offs_99 : decode cX6_offs 99 = .ok (.iaload, 1) := dk_46 (dk_at dksX6_offs_4 5 rfl rfl)
theorem dX6_offs_100 : decode cX6_offs 100 = .ok (.if_icmp .ge 39, 3) := dk_162 0 39 (dk_at dksX6_offs_4 6 rfl rfl)
theorem dX6_offs_103 : decode cX6_offs 103 = .ok (.iload_n 2, 1) := dk_28 (dk_at dksX6_offs_4 9 rfl rfl)
theorem dX6_offs_104 : decode cX6_offs 104 = .ok (.aload_n 0, 1) := dk_42 (dk_at dksX6_offs_4 10 rfl rfl)
theorem dX6_offs_105 : decode cX6_offs 105 = .ok (.iload_n 3, 1) := dk_29 (dk_at dksX6_offs_4 11 rfl rfl)
theorem dX6_offs_106 : decode cX6_offs 106 = .ok (.invokevirtual 211, 3) := dk_182 0 211 (dk_at dksX6_offs_4 12 rfl rfl)
theorem dX6_offs_109 : decode cX6_offs 109 = .ok (.ifCond .eq 21, 3) := dk_153 0 21 (dk_at dksX6_offs_4 15 rfl rfl)
theorem dX6_offs_112 : decode cX6_offs 112 = .ok (.aload_n 0, 1) := dk_42 (dk_at dksX6_offs_4 18 rfl rfl)
theorem dX6_offs_113 : decode cX6_offs 113 = .ok (.iload_n 3, 1) := dk_29 (dk_at dksX6_offs_4 19 rfl rfl)
theorem dX6_offs_114 : decode cX6_offs 114 = .ok (.iconst 3, 1) := dk_6 (dk_at dksX6_offs_4 20 rfl rfl)
theorem dX6_offs_115 : decode cX6_offs 115 = .ok (.invokevirtual 83, 3) := dk_182 0 83 (dk_at dksX6_offs_4 21 rfl rfl)
theorem dX6_offs_118 : decode cX6_offs 118 = .ok (.iload_n 1, 1) := dk_27 (dk_at dksX6_offs_5 0 rfl rfl)
theorem dX6_offs_119 : decode cX6_offs 119 = .ok (.if_icmp .ne 11, 3) := dk_160 0 11 (dk_at dksX6_offs_5 1 rfl rfl)
theorem dX6_offs_122 : decode cX6_offs 122 = .ok (.aload_n 0, 1) := dk_42 (dk_at dksX6_offs_5 4 rfl rfl)
theorem dX6_offs_123 : decode cX6_offs 123 = .ok (.iload_n 3, 1) := dk_29 (dk_at dksX6_offs_5 5 rfl rfl)
theorem dX6_offs_124 : decode cX6_offs 124 = .ok (.invokevirtual 214, 3) := dk_182 0 214 (dk_at dksX6_offs_5 6 rfl rfl)
theorem dX6_offs_127 : decode cX6_offs 127 = .ok (.goto 4, 3) := dk_167 0 4 (dk_at dksX6_offs_5 9 rfl rfl)
theorem dX6_offs_130 : decode cX6_offs 130 = .ok (.iconst 0, 1) := dk_3 (dk_at dksX6_offs_5 12 rfl rfl)
theorem dX6_offs_131 : decode cX6_offs 131 = .ok (.iadd, 1) := dk_96 (dk_at dksX6_offs_5 13 rfl rfl)
theorem dX6_offs_132 : decode cX6_offs 132 = .ok (.istore_n 2, 1) := dk_61 (dk_at dksX6_offs_5 14 rfl rfl)
theorem dX6_offs_133 : decode cX6_offs 133 = .ok (.iinc 3 1, 3) := dk_132 3 1 (dk_at dksX6_offs_5 15 rfl rfl)
theorem dX6_offs_136 : decode cX6_offs 136 = .ok (.goto (-43), 3) := dk_167 255 213 (dk_at dksX6_offs_5 18 rfl rfl)
theorem dX6_offs_139 : decode cX6_offs 139 = .ok (.iload_n 2, 1) := dk_28 (dk_at dksX6_offs_5 21 rfl rfl)
theorem dX6_offs_140 : decode cX6_offs 140 = .ok (.ireturn, 1) := dk_172 (dk_at dksX6_offs_5 22 rfl rfl)
abbrev cX6_told : ByteArray := prog_33_method_10_code
def dkwX6_told_0 : List UInt8 := [26, 156, 0, 8, 16, 254, 167, 0, 4, 26, 172]
abbrev dktX6_told_0 : List UInt8 := dkwX6_told_0 ++ []
theorem dksX6_told_0 : cX6_told.data.toList.drop 0 = dktX6_told_0 := by decide +kernel
theorem dX6_told_0 : decode cX6_told 0 = .ok (.iload_n 0, 1) := dk_26 (dk_at dksX6_told_0 0 rfl rfl)
theorem dX6_told_1 : decode cX6_told 1 = .ok (.ifCond .ge 8, 3) := dk_156 0 8 (dk_at dksX6_told_0 1 rfl rfl)
theorem dX6_told_4 : decode cX6_told 4 = .ok (.bipush (-2), 2) := dk_16 254 (dk_at dksX6_told_0 4 rfl rfl)
theorem dX6_told_6 : decode cX6_told 6 = .ok (.goto 4, 3) := dk_167 0 4 (dk_at dksX6_told_0 6 rfl rfl)
theorem dX6_told_9 : decode cX6_told 9 = .ok (.iload_n 0, 1) := dk_26 (dk_at dksX6_told_0 9 rfl rfl)
theorem dX6_told_10 : decode cX6_told 10 = .ok (.ireturn, 1) := dk_172 (dk_at dksX6_told_0 10 rfl rfl)
abbrev cX6_columnsOf : ByteArray := prog_33_method_45_code
def dkwX6_columnsOf_1 : List UInt8 := [96, 61, 132, 3, 1, 167, 255, 231, 28, 172]
abbrev dktX6_columnsOf_1 : List UInt8 := dkwX6_columnsOf_1 ++ []
def dkwX6_columnsOf_0 : List UInt8 := [3, 61, 3, 62, 29, 42, 27, 7, 182, 0, 83, 162, 0, 21, 28, 42, 27, 16, 12, 29, 96, 182, 0, 83]
abbrev dktX6_columnsOf_0 : List UInt8 := dkwX6_columnsOf_0 ++ dktX6_columnsOf_1
theorem dksX6_columnsOf_0 : cX6_columnsOf.data.toList.drop 0 = dktX6_columnsOf_0 := by decide +kernel
theorem dksX6_columnsOf_1 : cX6_columnsOf.data.toList.drop 24 = dktX6_columnsOf_1 := dk_seg dksX6_columnsOf_0 24 rfl rfl
theorem dX6_columnsOf_0 : decode cX6_columnsOf 0 = .ok (.iconst 0, 1) := dk_3 (dk_at dksX6_columnsOf_0 0 rfl rfl)
theorem dX6_columnsOf_1 : decode cX6_columnsOf 1 = .ok (.istore_n 2, 1) := dk_61 (dk_at dksX6_columnsOf_0 1 rfl rfl)
theorem dX6_columnsOf_2 : decode cX6_columnsOf 2 = .ok (.iconst 0, 1) := dk_3 (dk_at dksX6_columnsOf_0 2 rfl rfl)
theorem dX6_columnsOf_3 : decode cX6_columnsOf 3 = .ok (.istore_n 3, 1) := dk_62 (dk_at dksX6_columnsOf_0 3 rfl rfl)
theorem dX6_columnsOf_4 : decode cX6_columnsOf 4 = .ok (.iload_n 3, 1) := dk_29 (dk_at dksX6_columnsOf_0 4 rfl rfl)
theorem dX6_columnsOf_5 : decode cX6_columnsOf 5 = .ok (.aload_n 0, 1) := dk_42 (dk_at dksX6_columnsOf_0 5 rfl rfl)
theorem dX6_columnsOf_6 : decode cX6_columnsOf 6 = .ok (.iload_n 1, 1) := dk_27 (dk_at dksX6_columnsOf_0 6 rfl rfl)
theorem dX6_columnsOf_7 : decode cX6_columnsOf 7 = .ok (.iconst 4, 1) := dk_7 (dk_at dksX6_columnsOf_0 7 rfl rfl)
theorem dX6_columnsOf_8 : decode cX6_columnsOf 8 = .ok (.invokevirtual 83, 3) := dk_182 0 83 (dk_at dksX6_columnsOf_0 8 rfl rfl)
theorem dX6_columnsOf_11 : decode cX6_columnsOf 11 = .ok (.if_icmp .ge 21, 3) := dk_162 0 21 (dk_at dksX6_columnsOf_0 11 rfl rfl)
theorem dX6_columnsOf_14 : decode cX6_columnsOf 14 = .ok (.iload_n 2, 1) := dk_28 (dk_at dksX6_columnsOf_0 14 rfl rfl)
theorem dX6_columnsOf_15 : decode cX6_columnsOf 15 = .ok (.aload_n 0, 1) := dk_42 (dk_at dksX6_columnsOf_0 15 rfl rfl)
theorem dX6_columnsOf_16 : decode cX6_columnsOf 16 = .ok (.iload_n 1, 1) := dk_27 (dk_at dksX6_columnsOf_0 16 rfl rfl)
theorem dX6_columnsOf_17 : decode cX6_columnsOf 17 = .ok (.bipush 12, 2) := dk_16 12 (dk_at dksX6_columnsOf_0 17 rfl rfl)
theorem dX6_columnsOf_19 : decode cX6_columnsOf 19 = .ok (.iload_n 3, 1) := dk_29 (dk_at dksX6_columnsOf_0 19 rfl rfl)
theorem dX6_columnsOf_20 : decode cX6_columnsOf 20 = .ok (.iadd, 1) := dk_96 (dk_at dksX6_columnsOf_0 20 rfl rfl)
theorem dX6_columnsOf_21 : decode cX6_columnsOf 21 = .ok (.invokevirtual 83, 3) := dk_182 0 83 (dk_at dksX6_columnsOf_0 21 rfl rfl)
theorem dX6_columnsOf_24 : decode cX6_columnsOf 24 = .ok (.iadd, 1) := dk_96 (dk_at dksX6_columnsOf_1 0 rfl rfl)
theorem dX6_columnsOf_25 : decode cX6_columnsOf 25 = .ok (.istore_n 2, 1) := dk_61 (dk_at dksX6_columnsOf_1 1 rfl rfl)
theorem dX6_columnsOf_26 : decode cX6_columnsOf 26 = .ok (.iinc 3 1, 3) := dk_132 3 1 (dk_at dksX6_columnsOf_1 2 rfl rfl)
theorem dX6_columnsOf_29 : decode cX6_columnsOf 29 = .ok (.goto (-25), 3) := dk_167 255 231 (dk_at dksX6_columnsOf_1 5 rfl rfl)
theorem dX6_columnsOf_32 : decode cX6_columnsOf 32 = .ok (.iload_n 2, 1) := dk_28 (dk_at dksX6_columnsOf_1 8 rfl rfl)
theorem dX6_columnsOf_33 : decode cX6_columnsOf 33 = .ok (.ireturn, 1) := dk_172 (dk_at dksX6_columnsOf_1 9 rfl rfl)
abbrev cX6_lasts : ByteArray := prog_33_method_11_code
def dkwX6_lasts_0 : List UInt8 := [4, 42, 27, 16, 16, 28, 96, 182, 0, 83, 42, 27, 5, 182, 0, 83, 104, 16, 100, 108, 184, 0, 87, 172]
abbrev dktX6_lasts_0 : List UInt8 := dkwX6_lasts_0 ++ []
theorem dksX6_lasts_0 : cX6_lasts.data.toList.drop 0 = dktX6_lasts_0 := by decide +kernel
theorem dX6_lasts_0 : decode cX6_lasts 0 = .ok (.iconst 1, 1) := dk_4 (dk_at dksX6_lasts_0 0 rfl rfl)
theorem dX6_lasts_1 : decode cX6_lasts 1 = .ok (.aload_n 0, 1) := dk_42 (dk_at dksX6_lasts_0 1 rfl rfl)
theorem dX6_lasts_2 : decode cX6_lasts 2 = .ok (.iload_n 1, 1) := dk_27 (dk_at dksX6_lasts_0 2 rfl rfl)
theorem dX6_lasts_3 : decode cX6_lasts 3 = .ok (.bipush 16, 2) := dk_16 16 (dk_at dksX6_lasts_0 3 rfl rfl)
theorem dX6_lasts_5 : decode cX6_lasts 5 = .ok (.iload_n 2, 1) := dk_28 (dk_at dksX6_lasts_0 5 rfl rfl)
theorem dX6_lasts_6 : decode cX6_lasts 6 = .ok (.iadd, 1) := dk_96 (dk_at dksX6_lasts_0 6 rfl rfl)
theorem dX6_lasts_7 : decode cX6_lasts 7 = .ok (.invokevirtual 83, 3) := dk_182 0 83 (dk_at dksX6_lasts_0 7 rfl rfl)
theorem dX6_lasts_10 : decode cX6_lasts 10 = .ok (.aload_n 0, 1) := dk_42 (dk_at dksX6_lasts_0 10 rfl rfl)
theorem dX6_lasts_11 : decode cX6_lasts 11 = .ok (.iload_n 1, 1) := dk_27 (dk_at dksX6_lasts_0 11 rfl rfl)
theorem dX6_lasts_12 : decode cX6_lasts 12 = .ok (.iconst 2, 1) := dk_5 (dk_at dksX6_lasts_0 12 rfl rfl)
theorem dX6_lasts_13 : decode cX6_lasts 13 = .ok (.invokevirtual 83, 3) := dk_182 0 83 (dk_at dksX6_lasts_0 13 rfl rfl)
theorem dX6_lasts_16 : decode cX6_lasts 16 = .ok (.imul, 1) := dk_104 (dk_at dksX6_lasts_0 16 rfl rfl)
theorem dX6_lasts_17 : decode cX6_lasts 17 = .ok (.bipush 100, 2) := dk_16 100 (dk_at dksX6_lasts_0 17 rfl rfl)
theorem dX6_lasts_19 : decode cX6_lasts 19 = .ok (.idiv, 1) := dk_108 (dk_at dksX6_lasts_0 19 rfl rfl)
theorem dX6_lasts_20 : decode cX6_lasts 20 = .ok (.invokestatic 87, 3) := dk_184 0 87 (dk_at dksX6_lasts_0 20 rfl rfl)
theorem dX6_lasts_23 : decode cX6_lasts 23 = .ok (.ireturn, 1) := dk_172 (dk_at dksX6_lasts_0 23 rfl rfl)
abbrev cX6_linesUp : ByteArray := prog_33_method_50_code
def dkwX6_linesUp_3 : List UInt8 := [132, 1, 1, 132, 2, 1, 167, 255, 183, 27, 172]
abbrev dktX6_linesUp_3 : List UInt8 := dkwX6_linesUp_3 ++ []
def dkwX6_linesUp_2 : List UInt8 := [29, 42, 180, 0, 61, 29, 4, 100, 46, 79, 132, 3, 255, 167, 255, 219, 42, 180, 0, 61, 29, 28, 79]
abbrev dktX6_linesUp_2 : List UInt8 := dkwX6_linesUp_2 ++ dktX6_linesUp_3
def dkwX6_linesUp_1 : List UInt8 := [29, 158, 0, 39, 42, 28, 42, 180, 0, 61, 29, 4, 100, 46, 182, 0, 229, 153, 0, 23, 42, 180, 0, 61]
abbrev dktX6_linesUp_1 : List UInt8 := dkwX6_linesUp_1 ++ dktX6_linesUp_2
def dkwX6_linesUp_0 : List UInt8 := [3, 60, 3, 61, 28, 42, 180, 0, 9, 4, 46, 162, 0, 69, 42, 28, 182, 0, 226, 153, 0, 55, 27, 62]
abbrev dktX6_linesUp_0 : List UInt8 := dkwX6_linesUp_0 ++ dktX6_linesUp_1
theorem dksX6_linesUp_0 : cX6_linesUp.data.toList.drop 0 = dktX6_linesUp_0 := by decide +kernel
theorem dksX6_linesUp_1 : cX6_linesUp.data.toList.drop 24 = dktX6_linesUp_1 := dk_seg dksX6_linesUp_0 24 rfl rfl
theorem dksX6_linesUp_2 : cX6_linesUp.data.toList.drop 48 = dktX6_linesUp_2 := dk_seg dksX6_linesUp_1 24 rfl rfl
theorem dksX6_linesUp_3 : cX6_linesUp.data.toList.drop 71 = dktX6_linesUp_3 := dk_seg dksX6_linesUp_2 23 rfl rfl
theorem dX6_linesUp_0 : decode cX6_linesUp 0 = .ok (.iconst 0, 1) := dk_3 (dk_at dksX6_linesUp_0 0 rfl rfl)
theorem dX6_linesUp_1 : decode cX6_linesUp 1 = .ok (.istore_n 1, 1) := dk_60 (dk_at dksX6_linesUp_0 1 rfl rfl)
theorem dX6_linesUp_2 : decode cX6_linesUp 2 = .ok (.iconst 0, 1) := dk_3 (dk_at dksX6_linesUp_0 2 rfl rfl)
theorem dX6_linesUp_3 : decode cX6_linesUp 3 = .ok (.istore_n 2, 1) := dk_61 (dk_at dksX6_linesUp_0 3 rfl rfl)
theorem dX6_linesUp_4 : decode cX6_linesUp 4 = .ok (.iload_n 2, 1) := dk_28 (dk_at dksX6_linesUp_0 4 rfl rfl)
theorem dX6_linesUp_5 : decode cX6_linesUp 5 = .ok (.aload_n 0, 1) := dk_42 (dk_at dksX6_linesUp_0 5 rfl rfl)
theorem dX6_linesUp_6 : decode cX6_linesUp 6 = .ok (.getfield 9, 3) := dk_180 0 9 (dk_at dksX6_linesUp_0 6 rfl rfl)
theorem dX6_linesUp_9 : decode cX6_linesUp 9 = .ok (.iconst 1, 1) := dk_4 (dk_at dksX6_linesUp_0 9 rfl rfl)
theorem dX6_linesUp_10 : decode cX6_linesUp 10 = .ok (.iaload, 1) := dk_46 (dk_at dksX6_linesUp_0 10 rfl rfl)
theorem dX6_linesUp_11 : decode cX6_linesUp 11 = .ok (.if_icmp .ge 69, 3) := dk_162 0 69 (dk_at dksX6_linesUp_0 11 rfl rfl)
theorem dX6_linesUp_14 : decode cX6_linesUp 14 = .ok (.aload_n 0, 1) := dk_42 (dk_at dksX6_linesUp_0 14 rfl rfl)
theorem dX6_linesUp_15 : decode cX6_linesUp 15 = .ok (.iload_n 2, 1) := dk_28 (dk_at dksX6_linesUp_0 15 rfl rfl)
theorem dX6_linesUp_16 : decode cX6_linesUp 16 = .ok (.invokevirtual 226, 3) := dk_182 0 226 (dk_at dksX6_linesUp_0 16 rfl rfl)
theorem dX6_linesUp_19 : decode cX6_linesUp 19 = .ok (.ifCond .eq 55, 3) := dk_153 0 55 (dk_at dksX6_linesUp_0 19 rfl rfl)
theorem dX6_linesUp_22 : decode cX6_linesUp 22 = .ok (.iload_n 1, 1) := dk_27 (dk_at dksX6_linesUp_0 22 rfl rfl)
theorem dX6_linesUp_23 : decode cX6_linesUp 23 = .ok (.istore_n 3, 1) := dk_62 (dk_at dksX6_linesUp_0 23 rfl rfl)
theorem dX6_linesUp_24 : decode cX6_linesUp 24 = .ok (.iload_n 3, 1) := dk_29 (dk_at dksX6_linesUp_1 0 rfl rfl)
theorem dX6_linesUp_25 : decode cX6_linesUp 25 = .ok (.ifCond .le 39, 3) := dk_158 0 39 (dk_at dksX6_linesUp_1 1 rfl rfl)
theorem dX6_linesUp_28 : decode cX6_linesUp 28 = .ok (.aload_n 0, 1) := dk_42 (dk_at dksX6_linesUp_1 4 rfl rfl)
theorem dX6_linesUp_29 : decode cX6_linesUp 29 = .ok (.iload_n 2, 1) := dk_28 (dk_at dksX6_linesUp_1 5 rfl rfl)
theorem dX6_linesUp_30 : decode cX6_linesUp 30 = .ok (.aload_n 0, 1) := dk_42 (dk_at dksX6_linesUp_1 6 rfl rfl)
theorem dX6_linesUp_31 : decode cX6_linesUp 31 = .ok (.getfield 61, 3) := dk_180 0 61 (dk_at dksX6_linesUp_1 7 rfl rfl)
theorem dX6_linesUp_34 : decode cX6_linesUp 34 = .ok (.iload_n 3, 1) := dk_29 (dk_at dksX6_linesUp_1 10 rfl rfl)
theorem dX6_linesUp_35 : decode cX6_linesUp 35 = .ok (.iconst 1, 1) := dk_4 (dk_at dksX6_linesUp_1 11 rfl rfl)
theorem dX6_linesUp_36 : decode cX6_linesUp 36 = .ok (.isub, 1) := dk_100 (dk_at dksX6_linesUp_1 12 rfl rfl)
theorem dX6_linesUp_37 : decode cX6_linesUp 37 = .ok (.iaload, 1) := dk_46 (dk_at dksX6_linesUp_1 13 rfl rfl)
theorem dX6_linesUp_38 : decode cX6_linesUp 38 = .ok (.invokevirtual 229, 3) := dk_182 0 229 (dk_at dksX6_linesUp_1 14 rfl rfl)
theorem dX6_linesUp_41 : decode cX6_linesUp 41 = .ok (.ifCond .eq 23, 3) := dk_153 0 23 (dk_at dksX6_linesUp_1 17 rfl rfl)
theorem dX6_linesUp_44 : decode cX6_linesUp 44 = .ok (.aload_n 0, 1) := dk_42 (dk_at dksX6_linesUp_1 20 rfl rfl)
theorem dX6_linesUp_45 : decode cX6_linesUp 45 = .ok (.getfield 61, 3) := dk_180 0 61 (dk_at dksX6_linesUp_1 21 rfl rfl)
theorem dX6_linesUp_48 : decode cX6_linesUp 48 = .ok (.iload_n 3, 1) := dk_29 (dk_at dksX6_linesUp_2 0 rfl rfl)
theorem dX6_linesUp_49 : decode cX6_linesUp 49 = .ok (.aload_n 0, 1) := dk_42 (dk_at dksX6_linesUp_2 1 rfl rfl)
theorem dX6_linesUp_50 : decode cX6_linesUp 50 = .ok (.getfield 61, 3) := dk_180 0 61 (dk_at dksX6_linesUp_2 2 rfl rfl)
theorem dX6_linesUp_53 : decode cX6_linesUp 53 = .ok (.iload_n 3, 1) := dk_29 (dk_at dksX6_linesUp_2 5 rfl rfl)
theorem dX6_linesUp_54 : decode cX6_linesUp 54 = .ok (.iconst 1, 1) := dk_4 (dk_at dksX6_linesUp_2 6 rfl rfl)
theorem dX6_linesUp_55 : decode cX6_linesUp 55 = .ok (.isub, 1) := dk_100 (dk_at dksX6_linesUp_2 7 rfl rfl)
theorem dX6_linesUp_56 : decode cX6_linesUp 56 = .ok (.iaload, 1) := dk_46 (dk_at dksX6_linesUp_2 8 rfl rfl)
theorem dX6_linesUp_57 : decode cX6_linesUp 57 = .ok (.iastore, 1) := dk_79 (dk_at dksX6_linesUp_2 9 rfl rfl)
theorem dX6_linesUp_58 : decode cX6_linesUp 58 = .ok (.iinc 3 (-1), 3) := dk_132 3 255 (dk_at dksX6_linesUp_2 10 rfl rfl)
theorem dX6_linesUp_61 : decode cX6_linesUp 61 = .ok (.goto (-37), 3) := dk_167 255 219 (dk_at dksX6_linesUp_2 13 rfl rfl)
theorem dX6_linesUp_64 : decode cX6_linesUp 64 = .ok (.aload_n 0, 1) := dk_42 (dk_at dksX6_linesUp_2 16 rfl rfl)
theorem dX6_linesUp_65 : decode cX6_linesUp 65 = .ok (.getfield 61, 3) := dk_180 0 61 (dk_at dksX6_linesUp_2 17 rfl rfl)
theorem dX6_linesUp_68 : decode cX6_linesUp 68 = .ok (.iload_n 3, 1) := dk_29 (dk_at dksX6_linesUp_2 20 rfl rfl)
theorem dX6_linesUp_69 : decode cX6_linesUp 69 = .ok (.iload_n 2, 1) := dk_28 (dk_at dksX6_linesUp_2 21 rfl rfl)
theorem dX6_linesUp_70 : decode cX6_linesUp 70 = .ok (.iastore, 1) := dk_79 (dk_at dksX6_linesUp_2 22 rfl rfl)
theorem dX6_linesUp_71 : decode cX6_linesUp 71 = .ok (.iinc 1 1, 3) := dk_132 1 1 (dk_at dksX6_linesUp_3 0 rfl rfl)
theorem dX6_linesUp_74 : decode cX6_linesUp 74 = .ok (.iinc 2 1, 3) := dk_132 2 1 (dk_at dksX6_linesUp_3 3 rfl rfl)
theorem dX6_linesUp_77 : decode cX6_linesUp 77 = .ok (.goto (-73), 3) := dk_167 255 183 (dk_at dksX6_linesUp_3 6 rfl rfl)
theorem dX6_linesUp_80 : decode cX6_linesUp 80 = .ok (.iload_n 1, 1) := dk_27 (dk_at dksX6_linesUp_3 9 rfl rfl)
theorem dX6_linesUp_81 : decode cX6_linesUp 81 = .ok (.ireturn, 1) := dk_172 (dk_at dksX6_linesUp_3 10 rfl rfl)
abbrev cX6_isWaiting : ByteArray := prog_33_method_9_code
def dkwX6_isWaiting_0 : List UInt8 := [42, 27, 8, 182, 0, 83, 154, 0, 7, 4, 167, 0, 4, 3, 172]
abbrev dktX6_isWaiting_0 : List UInt8 := dkwX6_isWaiting_0 ++ []
theorem dksX6_isWaiting_0 : cX6_isWaiting.data.toList.drop 0 = dktX6_isWaiting_0 := by decide +kernel
theorem dX6_isWaiting_0 : decode cX6_isWaiting 0 = .ok (.aload_n 0, 1) := dk_42 (dk_at dksX6_isWaiting_0 0 rfl rfl)
theorem dX6_isWaiting_1 : decode cX6_isWaiting 1 = .ok (.iload_n 1, 1) := dk_27 (dk_at dksX6_isWaiting_0 1 rfl rfl)
theorem dX6_isWaiting_2 : decode cX6_isWaiting 2 = .ok (.iconst 5, 1) := dk_8 (dk_at dksX6_isWaiting_0 2 rfl rfl)
theorem dX6_isWaiting_3 : decode cX6_isWaiting 3 = .ok (.invokevirtual 83, 3) := dk_182 0 83 (dk_at dksX6_isWaiting_0 3 rfl rfl)
theorem dX6_isWaiting_6 : decode cX6_isWaiting 6 = .ok (.ifCond .ne 7, 3) := dk_154 0 7 (dk_at dksX6_isWaiting_0 6 rfl rfl)
theorem dX6_isWaiting_9 : decode cX6_isWaiting 9 = .ok (.iconst 1, 1) := dk_4 (dk_at dksX6_isWaiting_0 9 rfl rfl)
theorem dX6_isWaiting_10 : decode cX6_isWaiting 10 = .ok (.goto 4, 3) := dk_167 0 4 (dk_at dksX6_isWaiting_0 10 rfl rfl)
theorem dX6_isWaiting_13 : decode cX6_isWaiting 13 = .ok (.iconst 0, 1) := dk_3 (dk_at dksX6_isWaiting_0 13 rfl rfl)
theorem dX6_isWaiting_14 : decode cX6_isWaiting 14 = .ok (.ireturn, 1) := dk_172 (dk_at dksX6_isWaiting_0 14 rfl rfl)
abbrev cX6_sets : ByteArray := prog_33_method_8_code
def dkwX6_sets_0 : List UInt8 := [42, 180, 0, 9, 16, 96, 27, 16, 32, 104, 96, 28, 96, 29, 79, 177]
abbrev dktX6_sets_0 : List UInt8 := dkwX6_sets_0 ++ []
theorem dksX6_sets_0 : cX6_sets.data.toList.drop 0 = dktX6_sets_0 := by decide +kernel
theorem dX6_sets_0 : decode cX6_sets 0 = .ok (.aload_n 0, 1) := dk_42 (dk_at dksX6_sets_0 0 rfl rfl)
theorem dX6_sets_1 : decode cX6_sets 1 = .ok (.getfield 9, 3) := dk_180 0 9 (dk_at dksX6_sets_0 1 rfl rfl)
theorem dX6_sets_4 : decode cX6_sets 4 = .ok (.bipush 96, 2) := dk_16 96 (dk_at dksX6_sets_0 4 rfl rfl)
theorem dX6_sets_6 : decode cX6_sets 6 = .ok (.iload_n 1, 1) := dk_27 (dk_at dksX6_sets_0 6 rfl rfl)
theorem dX6_sets_7 : decode cX6_sets 7 = .ok (.bipush 32, 2) := dk_16 32 (dk_at dksX6_sets_0 7 rfl rfl)
theorem dX6_sets_9 : decode cX6_sets 9 = .ok (.imul, 1) := dk_104 (dk_at dksX6_sets_0 9 rfl rfl)
theorem dX6_sets_10 : decode cX6_sets 10 = .ok (.iadd, 1) := dk_96 (dk_at dksX6_sets_0 10 rfl rfl)
theorem dX6_sets_11 : decode cX6_sets 11 = .ok (.iload_n 2, 1) := dk_28 (dk_at dksX6_sets_0 11 rfl rfl)
theorem dX6_sets_12 : decode cX6_sets 12 = .ok (.iadd, 1) := dk_96 (dk_at dksX6_sets_0 12 rfl rfl)
theorem dX6_sets_13 : decode cX6_sets 13 = .ok (.iload_n 3, 1) := dk_29 (dk_at dksX6_sets_0 13 rfl rfl)
theorem dX6_sets_14 : decode cX6_sets 14 = .ok (.iastore, 1) := dk_79 (dk_at dksX6_sets_0 14 rfl rfl)
theorem dX6_sets_15 : decode cX6_sets 15 = .ok (.return_, 1) := dk_177 (dk_at dksX6_sets_0 15 rfl rfl)
abbrev cX6_writesNumber : ByteArray := prog_33_method_55_code
def dkwX6_writesNumber_1 : List UInt8 := [16, 48, 27, 28, 108, 16, 10, 112, 96, 182, 0, 238, 28, 16, 10, 108, 61, 167, 255, 234, 177]
abbrev dktX6_writesNumber_1 : List UInt8 := dkwX6_writesNumber_1 ++ []
def dkwX6_writesNumber_0 : List UInt8 := [4, 61, 27, 28, 108, 16, 10, 161, 0, 11, 28, 16, 10, 104, 61, 167, 255, 243, 28, 158, 0, 24, 42]
abbrev dktX6_writesNumber_0 : List UInt8 := dkwX6_writesNumber_0 ++ dktX6_writesNumber_1
theorem dksX6_writesNumber_0 : cX6_writesNumber.data.toList.drop 0 = dktX6_writesNumber_0 := by decide +kernel
theorem dksX6_writesNumber_1 : cX6_writesNumber.data.toList.drop 23 = dktX6_writesNumber_1 := dk_seg dksX6_writesNumber_0 23 rfl rfl
theorem dX6_writesNumber_0 : decode cX6_writesNumber 0 = .ok (.iconst 1, 1) := dk_4 (dk_at dksX6_writesNumber_0 0 rfl rfl)
theorem dX6_writesNumber_1 : decode cX6_writesNumber 1 = .ok (.istore_n 2, 1) := dk_61 (dk_at dksX6_writesNumber_0 1 rfl rfl)
theorem dX6_writesNumber_2 : decode cX6_writesNumber 2 = .ok (.iload_n 1, 1) := dk_27 (dk_at dksX6_writesNumber_0 2 rfl rfl)
theorem dX6_writesNumber_3 : decode cX6_writesNumber 3 = .ok (.iload_n 2, 1) := dk_28 (dk_at dksX6_writesNumber_0 3 rfl rfl)
theorem dX6_writesNumber_4 : decode cX6_writesNumber 4 = .ok (.idiv, 1) := dk_108 (dk_at dksX6_writesNumber_0 4 rfl rfl)
theorem dX6_writesNumber_5 : decode cX6_writesNumber 5 = .ok (.bipush 10, 2) := dk_16 10 (dk_at dksX6_writesNumber_0 5 rfl rfl)
theorem dX6_writesNumber_7 : decode cX6_writesNumber 7 = .ok (.if_icmp .lt 11, 3) := dk_161 0 11 (dk_at dksX6_writesNumber_0 7 rfl rfl)
theorem dX6_writesNumber_10 : decode cX6_writesNumber 10 = .ok (.iload_n 2, 1) := dk_28 (dk_at dksX6_writesNumber_0 10 rfl rfl)
theorem dX6_writesNumber_11 : decode cX6_writesNumber 11 = .ok (.bipush 10, 2) := dk_16 10 (dk_at dksX6_writesNumber_0 11 rfl rfl)
theorem dX6_writesNumber_13 : decode cX6_writesNumber 13 = .ok (.imul, 1) := dk_104 (dk_at dksX6_writesNumber_0 13 rfl rfl)
theorem dX6_writesNumber_14 : decode cX6_writesNumber 14 = .ok (.istore_n 2, 1) := dk_61 (dk_at dksX6_writesNumber_0 14 rfl rfl)
theorem dX6_writesNumber_15 : decode cX6_writesNumber 15 = .ok (.goto (-13), 3) := dk_167 255 243 (dk_at dksX6_writesNumber_0 15 rfl rfl)
theorem dX6_writesNumber_18 : decode cX6_writesNumber 18 = .ok (.iload_n 2, 1) := dk_28 (dk_at dksX6_writesNumber_0 18 rfl rfl)
theorem dX6_writesNumber_19 : decode cX6_writesNumber 19 = .ok (.ifCond .le 24, 3) := dk_158 0 24 (dk_at dksX6_writesNumber_0 19 rfl rfl)
theorem dX6_writesNumber_22 : decode cX6_writesNumber 22 = .ok (.aload_n 0, 1) := dk_42 (dk_at dksX6_writesNumber_0 22 rfl rfl)
theorem dX6_writesNumber_23 : decode cX6_writesNumber 23 = .ok (.bipush 48, 2) := dk_16 48 (dk_at dksX6_writesNumber_1 0 rfl rfl)
theorem dX6_writesNumber_25 : decode cX6_writesNumber 25 = .ok (.iload_n 1, 1) := dk_27 (dk_at dksX6_writesNumber_1 2 rfl rfl)
theorem dX6_writesNumber_26 : decode cX6_writesNumber 26 = .ok (.iload_n 2, 1) := dk_28 (dk_at dksX6_writesNumber_1 3 rfl rfl)
theorem dX6_writesNumber_27 : decode cX6_writesNumber 27 = .ok (.idiv, 1) := dk_108 (dk_at dksX6_writesNumber_1 4 rfl rfl)
theorem dX6_writesNumber_28 : decode cX6_writesNumber 28 = .ok (.bipush 10, 2) := dk_16 10 (dk_at dksX6_writesNumber_1 5 rfl rfl)
theorem dX6_writesNumber_30 : decode cX6_writesNumber 30 = .ok (.irem, 1) := dk_112 (dk_at dksX6_writesNumber_1 7 rfl rfl)
theorem dX6_writesNumber_31 : decode cX6_writesNumber 31 = .ok (.iadd, 1) := dk_96 (dk_at dksX6_writesNumber_1 8 rfl rfl)
theorem dX6_writesNumber_32 : decode cX6_writesNumber 32 = .ok (.invokevirtual 238, 3) := dk_182 0 238 (dk_at dksX6_writesNumber_1 9 rfl rfl)
theorem dX6_writesNumber_35 : decode cX6_writesNumber 35 = .ok (.iload_n 2, 1) := dk_28 (dk_at dksX6_writesNumber_1 12 rfl rfl)
theorem dX6_writesNumber_36 : decode cX6_writesNumber 36 = .ok (.bipush 10, 2) := dk_16 10 (dk_at dksX6_writesNumber_1 13 rfl rfl)
theorem dX6_writesNumber_38 : decode cX6_writesNumber 38 = .ok (.idiv, 1) := dk_108 (dk_at dksX6_writesNumber_1 15 rfl rfl)
theorem dX6_writesNumber_39 : decode cX6_writesNumber 39 = .ok (.istore_n 2, 1) := dk_61 (dk_at dksX6_writesNumber_1 16 rfl rfl)
theorem dX6_writesNumber_40 : decode cX6_writesNumber 40 = .ok (.goto (-22), 3) := dk_167 255 234 (dk_at dksX6_writesNumber_1 17 rfl rfl)
theorem dX6_writesNumber_43 : decode cX6_writesNumber 43 = .ok (.return_, 1) := dk_177 (dk_at dksX6_writesNumber_1 20 rfl rfl)
abbrev cX6_writes : ByteArray := prog_33_method_54_code
def dkwX6_writes_0 : List UInt8 := [42, 180, 0, 70, 42, 180, 0, 235, 27, 79, 42, 89, 180, 0, 235, 4, 96, 181, 0, 235, 177]
abbrev dktX6_writes_0 : List UInt8 := dkwX6_writes_0 ++ []
theorem dksX6_writes_0 : cX6_writes.data.toList.drop 0 = dktX6_writes_0 := by decide +kernel
theorem dX6_writes_0 : decode cX6_writes 0 = .ok (.aload_n 0, 1) := dk_42 (dk_at dksX6_writes_0 0 rfl rfl)
theorem dX6_writes_1 : decode cX6_writes 1 = .ok (.getfield 70, 3) := dk_180 0 70 (dk_at dksX6_writes_0 1 rfl rfl)
theorem dX6_writes_4 : decode cX6_writes 4 = .ok (.aload_n 0, 1) := dk_42 (dk_at dksX6_writes_0 4 rfl rfl)
theorem dX6_writes_5 : decode cX6_writes 5 = .ok (.getfield 235, 3) := dk_180 0 235 (dk_at dksX6_writes_0 5 rfl rfl)
theorem dX6_writes_8 : decode cX6_writes 8 = .ok (.iload_n 1, 1) := dk_27 (dk_at dksX6_writes_0 8 rfl rfl)
theorem dX6_writes_9 : decode cX6_writes 9 = .ok (.iastore, 1) := dk_79 (dk_at dksX6_writes_0 9 rfl rfl)
theorem dX6_writes_10 : decode cX6_writes 10 = .ok (.aload_n 0, 1) := dk_42 (dk_at dksX6_writes_0 10 rfl rfl)
theorem dX6_writes_11 : decode cX6_writes 11 = .ok (.dup, 1) := dk_89 (dk_at dksX6_writes_0 11 rfl rfl)
theorem dX6_writes_12 : decode cX6_writes 12 = .ok (.getfield 235, 3) := dk_180 0 235 (dk_at dksX6_writes_0 12 rfl rfl)
theorem dX6_writes_15 : decode cX6_writes 15 = .ok (.iconst 1, 1) := dk_4 (dk_at dksX6_writes_0 15 rfl rfl)
theorem dX6_writes_16 : decode cX6_writes 16 = .ok (.iadd, 1) := dk_96 (dk_at dksX6_writes_0 16 rfl rfl)
theorem dX6_writes_17 : decode cX6_writes 17 = .ok (.putfield 235, 3) := dk_181 0 235 (dk_at dksX6_writes_0 17 rfl rfl)
theorem dX6_writes_20 : decode cX6_writes 20 = .ok (.return_, 1) := dk_177 (dk_at dksX6_writes_0 20 rfl rfl)
abbrev cX6_isSpanTold : ByteArray := prog_33_method_59_code
def dkwX6_isSpanTold_2 : List UInt8 := [20, 0, 162, 20, 0, 77, 184, 0, 79, 153, 0, 7, 4, 167, 0, 4, 3, 172]
abbrev dktX6_isSpanTold_2 : List UInt8 := dkwX6_isSpanTold_2 ++ []
def dkwX6_isSpanTold_1 : List UInt8 := [158, 0, 39, 22, 4, 42, 180, 0, 9, 3, 46, 17, 117, 48, 96, 133, 148, 157, 0, 22, 21, 6, 133]
abbrev dktX6_isSpanTold_1 : List UInt8 := dkwX6_isSpanTold_1 ++ dktX6_isSpanTold_2
def dkwX6_isSpanTold_0 : List UInt8 := [42, 27, 182, 0, 247, 153, 0, 58, 32, 42, 180, 0, 9, 3, 46, 133, 148, 155, 0, 46, 22, 4, 32, 148]
abbrev dktX6_isSpanTold_0 : List UInt8 := dkwX6_isSpanTold_0 ++ dktX6_isSpanTold_1
theorem dksX6_isSpanTold_0 : cX6_isSpanTold.data.toList.drop 0 = dktX6_isSpanTold_0 := by decide +kernel
theorem dksX6_isSpanTold_1 : cX6_isSpanTold.data.toList.drop 24 = dktX6_isSpanTold_1 := dk_seg dksX6_isSpanTold_0 24 rfl rfl
theorem dksX6_isSpanTold_2 : cX6_isSpanTold.data.toList.drop 47 = dktX6_isSpanTold_2 := dk_seg dksX6_isSpanTold_1 23 rfl rfl
theorem dX6_isSpanTold_0 : decode cX6_isSpanTold 0 = .ok (.aload_n 0, 1) := dk_42 (dk_at dksX6_isSpanTold_0 0 rfl rfl)
theorem dX6_isSpanTold_1 : decode cX6_isSpanTold 1 = .ok (.iload_n 1, 1) := dk_27 (dk_at dksX6_isSpanTold_0 1 rfl rfl)
theorem dX6_isSpanTold_2 : decode cX6_isSpanTold 2 = .ok (.invokevirtual 247, 3) := dk_182 0 247 (dk_at dksX6_isSpanTold_0 2 rfl rfl)
theorem dX6_isSpanTold_5 : decode cX6_isSpanTold 5 = .ok (.ifCond .eq 58, 3) := dk_153 0 58 (dk_at dksX6_isSpanTold_0 5 rfl rfl)
theorem dX6_isSpanTold_8 : decode cX6_isSpanTold 8 = .ok (.lload_n 2, 1) := dk_32 (dk_at dksX6_isSpanTold_0 8 rfl rfl)
theorem dX6_isSpanTold_9 : decode cX6_isSpanTold 9 = .ok (.aload_n 0, 1) := dk_42 (dk_at dksX6_isSpanTold_0 9 rfl rfl)
theorem dX6_isSpanTold_10 : decode cX6_isSpanTold 10 = .ok (.getfield 9, 3) := dk_180 0 9 (dk_at dksX6_isSpanTold_0 10 rfl rfl)
theorem dX6_isSpanTold_13 : decode cX6_isSpanTold 13 = .ok (.iconst 0, 1) := dk_3 (dk_at dksX6_isSpanTold_0 13 rfl rfl)
theorem dX6_isSpanTold_14 : decode cX6_isSpanTold 14 = .ok (.iaload, 1) := dk_46 (dk_at dksX6_isSpanTold_0 14 rfl rfl)
theorem dX6_isSpanTold_15 : decode cX6_isSpanTold 15 = .ok (.i2l, 1) := dk_133 (dk_at dksX6_isSpanTold_0 15 rfl rfl)
theorem dX6_isSpanTold_16 : decode cX6_isSpanTold 16 = .ok (.lcmp, 1) := dk_148 (dk_at dksX6_isSpanTold_0 16 rfl rfl)
theorem dX6_isSpanTold_17 : decode cX6_isSpanTold 17 = .ok (.ifCond .lt 46, 3) := dk_155 0 46 (dk_at dksX6_isSpanTold_0 17 rfl rfl)
theorem dX6_isSpanTold_20 : decode cX6_isSpanTold 20 = .ok (.lload 4, 2) := dk_22 4 (dk_at dksX6_isSpanTold_0 20 rfl rfl)
theorem dX6_isSpanTold_22 : decode cX6_isSpanTold 22 = .ok (.lload_n 2, 1) := dk_32 (dk_at dksX6_isSpanTold_0 22 rfl rfl)
theorem dX6_isSpanTold_23 : decode cX6_isSpanTold 23 = .ok (.lcmp, 1) := dk_148 (dk_at dksX6_isSpanTold_0 23 rfl rfl)
theorem dX6_isSpanTold_24 : decode cX6_isSpanTold 24 = .ok (.ifCond .le 39, 3) := dk_158 0 39 (dk_at dksX6_isSpanTold_1 0 rfl rfl)
theorem dX6_isSpanTold_27 : decode cX6_isSpanTold 27 = .ok (.lload 4, 2) := dk_22 4 (dk_at dksX6_isSpanTold_1 3 rfl rfl)
theorem dX6_isSpanTold_29 : decode cX6_isSpanTold 29 = .ok (.aload_n 0, 1) := dk_42 (dk_at dksX6_isSpanTold_1 5 rfl rfl)
theorem dX6_isSpanTold_30 : decode cX6_isSpanTold 30 = .ok (.getfield 9, 3) := dk_180 0 9 (dk_at dksX6_isSpanTold_1 6 rfl rfl)
theorem dX6_isSpanTold_33 : decode cX6_isSpanTold 33 = .ok (.iconst 0, 1) := dk_3 (dk_at dksX6_isSpanTold_1 9 rfl rfl)
theorem dX6_isSpanTold_34 : decode cX6_isSpanTold 34 = .ok (.iaload, 1) := dk_46 (dk_at dksX6_isSpanTold_1 10 rfl rfl)
theorem dX6_isSpanTold_35 : decode cX6_isSpanTold 35 = .ok (.sipush 30000, 3) := dk_17 117 48 (dk_at dksX6_isSpanTold_1 11 rfl rfl)
theorem dX6_isSpanTold_38 : decode cX6_isSpanTold 38 = .ok (.iadd, 1) := dk_96 (dk_at dksX6_isSpanTold_1 14 rfl rfl)
theorem dX6_isSpanTold_39 : decode cX6_isSpanTold 39 = .ok (.i2l, 1) := dk_133 (dk_at dksX6_isSpanTold_1 15 rfl rfl)
theorem dX6_isSpanTold_40 : decode cX6_isSpanTold 40 = .ok (.lcmp, 1) := dk_148 (dk_at dksX6_isSpanTold_1 16 rfl rfl)
theorem dX6_isSpanTold_41 : decode cX6_isSpanTold 41 = .ok (.ifCond .gt 22, 3) := dk_157 0 22 (dk_at dksX6_isSpanTold_1 17 rfl rfl)
theorem dX6_isSpanTold_44 : decode cX6_isSpanTold 44 = .ok (.iload 6, 2) := dk_21 6 (dk_at dksX6_isSpanTold_1 20 rfl rfl)
theorem dX6_isSpanTold_46 : decode cX6_isSpanTold 46 = .ok (.i2l, 1) := dk_133 (dk_at dksX6_isSpanTold_1 22 rfl rfl)
theorem dX6_isSpanTold_47 : decode cX6_isSpanTold 47 = .ok (.ldc2_w 162, 3) := dk_20 0 162 (dk_at dksX6_isSpanTold_2 0 rfl rfl)
theorem dX6_isSpanTold_50 : decode cX6_isSpanTold 50 = .ok (.ldc2_w 77, 3) := dk_20 0 77 (dk_at dksX6_isSpanTold_2 3 rfl rfl)
theorem dX6_isSpanTold_53 : decode cX6_isSpanTold 53 = .ok (.invokestatic 79, 3) := dk_184 0 79 (dk_at dksX6_isSpanTold_2 6 rfl rfl)
theorem dX6_isSpanTold_56 : decode cX6_isSpanTold 56 = .ok (.ifCond .eq 7, 3) := dk_153 0 7 (dk_at dksX6_isSpanTold_2 9 rfl rfl)
theorem dX6_isSpanTold_59 : decode cX6_isSpanTold 59 = .ok (.iconst 1, 1) := dk_4 (dk_at dksX6_isSpanTold_2 12 rfl rfl)
theorem dX6_isSpanTold_60 : decode cX6_isSpanTold 60 = .ok (.goto 4, 3) := dk_167 0 4 (dk_at dksX6_isSpanTold_2 13 rfl rfl)
theorem dX6_isSpanTold_63 : decode cX6_isSpanTold 63 = .ok (.iconst 0, 1) := dk_3 (dk_at dksX6_isSpanTold_2 16 rfl rfl)
theorem dX6_isSpanTold_64 : decode cX6_isSpanTold 64 = .ok (.ireturn, 1) := dk_172 (dk_at dksX6_isSpanTold_2 17 rfl rfl)
abbrev cX6_spans : ByteArray := prog_33_method_57_code
def dkwX6_spans_1 : List UInt8 := [96, 60, 132, 2, 1, 167, 255, 231, 27, 172]
abbrev dktX6_spans_1 : List UInt8 := dkwX6_spans_1 ++ []
def dkwX6_spans_0 : List UInt8 := [3, 60, 3, 61, 28, 16, 12, 162, 0, 25, 27, 42, 28, 182, 0, 111, 153, 0, 7, 4, 167, 0, 4, 3]
abbrev dktX6_spans_0 : List UInt8 := dkwX6_spans_0 ++ dktX6_spans_1
theorem dksX6_spans_0 : cX6_spans.data.toList.drop 0 = dktX6_spans_0 := by decide +kernel
theorem dksX6_spans_1 : cX6_spans.data.toList.drop 24 = dktX6_spans_1 := dk_seg dksX6_spans_0 24 rfl rfl
theorem dX6_spans_0 : decode cX6_spans 0 = .ok (.iconst 0, 1) := dk_3 (dk_at dksX6_spans_0 0 rfl rfl)
theorem dX6_spans_1 : decode cX6_spans 1 = .ok (.istore_n 1, 1) := dk_60 (dk_at dksX6_spans_0 1 rfl rfl)
theorem dX6_spans_2 : decode cX6_spans 2 = .ok (.iconst 0, 1) := dk_3 (dk_at dksX6_spans_0 2 rfl rfl)
theorem dX6_spans_3 : decode cX6_spans 3 = .ok (.istore_n 2, 1) := dk_61 (dk_at dksX6_spans_0 3 rfl rfl)
theorem dX6_spans_4 : decode cX6_spans 4 = .ok (.iload_n 2, 1) := dk_28 (dk_at dksX6_spans_0 4 rfl rfl)
theorem dX6_spans_5 : decode cX6_spans 5 = .ok (.bipush 12, 2) := dk_16 12 (dk_at dksX6_spans_0 5 rfl rfl)
theorem dX6_spans_7 : decode cX6_spans 7 = .ok (.if_icmp .ge 25, 3) := dk_162 0 25 (dk_at dksX6_spans_0 7 rfl rfl)
theorem dX6_spans_10 : decode cX6_spans 10 = .ok (.iload_n 1, 1) := dk_27 (dk_at dksX6_spans_0 10 rfl rfl)
theorem dX6_spans_11 : decode cX6_spans 11 = .ok (.aload_n 0, 1) := dk_42 (dk_at dksX6_spans_0 11 rfl rfl)
theorem dX6_spans_12 : decode cX6_spans 12 = .ok (.iload_n 2, 1) := dk_28 (dk_at dksX6_spans_0 12 rfl rfl)
theorem dX6_spans_13 : decode cX6_spans 13 = .ok (.invokevirtual 111, 3) := dk_182 0 111 (dk_at dksX6_spans_0 13 rfl rfl)
theorem dX6_spans_16 : decode cX6_spans 16 = .ok (.ifCond .eq 7, 3) := dk_153 0 7 (dk_at dksX6_spans_0 16 rfl rfl)
theorem dX6_spans_19 : decode cX6_spans 19 = .ok (.iconst 1, 1) := dk_4 (dk_at dksX6_spans_0 19 rfl rfl)
theorem dX6_spans_20 : decode cX6_spans 20 = .ok (.goto 4, 3) := dk_167 0 4 (dk_at dksX6_spans_0 20 rfl rfl)
theorem dX6_spans_23 : decode cX6_spans 23 = .ok (.iconst 0, 1) := dk_3 (dk_at dksX6_spans_0 23 rfl rfl)
theorem dX6_spans_24 : decode cX6_spans 24 = .ok (.iadd, 1) := dk_96 (dk_at dksX6_spans_1 0 rfl rfl)
theorem dX6_spans_25 : decode cX6_spans 25 = .ok (.istore_n 1, 1) := dk_60 (dk_at dksX6_spans_1 1 rfl rfl)
theorem dX6_spans_26 : decode cX6_spans 26 = .ok (.iinc 2 1, 3) := dk_132 2 1 (dk_at dksX6_spans_1 2 rfl rfl)
theorem dX6_spans_29 : decode cX6_spans 29 = .ok (.goto (-25), 3) := dk_167 255 231 (dk_at dksX6_spans_1 5 rfl rfl)
theorem dX6_spans_32 : decode cX6_spans 32 = .ok (.iload_n 1, 1) := dk_27 (dk_at dksX6_spans_1 8 rfl rfl)
theorem dX6_spans_33 : decode cX6_spans 33 = .ok (.ireturn, 1) := dk_172 (dk_at dksX6_spans_1 9 rfl rfl)
abbrev cX6_bits : ByteArray := prog_33_method_14_code
def dkwX6_bits_0 : List UInt8 := [4, 27, 120, 4, 100, 26, 120, 172]
abbrev dktX6_bits_0 : List UInt8 := dkwX6_bits_0 ++ []
theorem dksX6_bits_0 : cX6_bits.data.toList.drop 0 = dktX6_bits_0 := by decide +kernel
theorem dX6_bits_0 : decode cX6_bits 0 = .ok (.iconst 1, 1) := dk_4 (dk_at dksX6_bits_0 0 rfl rfl)
theorem dX6_bits_1 : decode cX6_bits 1 = .ok (.iload_n 1, 1) := dk_27 (dk_at dksX6_bits_0 1 rfl rfl)
theorem dX6_bits_2 : decode cX6_bits 2 = .ok (.ishl, 1) := dk_120 (dk_at dksX6_bits_0 2 rfl rfl)
theorem dX6_bits_3 : decode cX6_bits 3 = .ok (.iconst 1, 1) := dk_4 (dk_at dksX6_bits_0 3 rfl rfl)
theorem dX6_bits_4 : decode cX6_bits 4 = .ok (.isub, 1) := dk_100 (dk_at dksX6_bits_0 4 rfl rfl)
theorem dX6_bits_5 : decode cX6_bits 5 = .ok (.iload_n 0, 1) := dk_26 (dk_at dksX6_bits_0 5 rfl rfl)
theorem dX6_bits_6 : decode cX6_bits 6 = .ok (.ishl, 1) := dk_120 (dk_at dksX6_bits_0 6 rfl rfl)
theorem dX6_bits_7 : decode cX6_bits 7 = .ok (.ireturn, 1) := dk_172 (dk_at dksX6_bits_0 7 rfl rfl)
abbrev cX6_overlaps : ByteArray := prog_33_method_60_code
def dkwX6_overlaps_5 : List UInt8 := [21, 5, 182, 0, 102, 162, 0, 5, 4, 172, 132, 5, 1, 167, 255, 203, 132, 4, 1, 167, 255, 183, 3, 172]
abbrev dktX6_overlaps_5 : List UInt8 := dkwX6_overlaps_5 ++ []
def dkwX6_overlaps_4 : List UInt8 := [182, 0, 98, 153, 0, 30, 42, 21, 4, 21, 5, 182, 0, 105, 27, 126, 153, 0, 17, 28, 42, 21, 4]
abbrev dktX6_overlaps_4 : List UInt8 := dkwX6_overlaps_4 ++ dktX6_overlaps_5
def dkwX6_overlaps_3 : List UInt8 := [46, 162, 0, 68, 3, 54, 5, 21, 5, 42, 21, 4, 7, 182, 0, 83, 162, 0, 47, 42, 21, 4, 21, 5]
abbrev dktX6_overlaps_3 : List UInt8 := dkwX6_overlaps_3 ++ dktX6_overlaps_4
def dkwX6_overlaps_2 : List UInt8 := [182, 0, 95, 164, 0, 5, 4, 172, 132, 4, 1, 167, 255, 202, 3, 54, 4, 21, 4, 42, 180, 0, 9, 4]
abbrev dktX6_overlaps_2 : List UInt8 := dkwX6_overlaps_2 ++ dktX6_overlaps_3
def dkwX6_overlaps_1 : List UInt8 := [182, 0, 115, 27, 126, 153, 0, 27, 28, 42, 21, 4, 7, 182, 0, 95, 162, 0, 16, 29, 42, 21, 4, 6]
abbrev dktX6_overlaps_1 : List UInt8 := dkwX6_overlaps_1 ++ dktX6_overlaps_2
def dkwX6_overlaps_0 : List UInt8 := [3, 54, 4, 21, 4, 16, 12, 162, 0, 53, 42, 21, 4, 182, 0, 111, 153, 0, 38, 42, 21, 4]
abbrev dktX6_overlaps_0 : List UInt8 := dkwX6_overlaps_0 ++ dktX6_overlaps_1
theorem dksX6_overlaps_0 : cX6_overlaps.data.toList.drop 0 = dktX6_overlaps_0 := by decide +kernel
theorem dksX6_overlaps_1 : cX6_overlaps.data.toList.drop 22 = dktX6_overlaps_1 := dk_seg dksX6_overlaps_0 22 rfl rfl
theorem dksX6_overlaps_2 : cX6_overlaps.data.toList.drop 46 = dktX6_overlaps_2 := dk_seg dksX6_overlaps_1 24 rfl rfl
theorem dksX6_overlaps_3 : cX6_overlaps.data.toList.drop 70 = dktX6_overlaps_3 := dk_seg dksX6_overlaps_2 24 rfl rfl
theorem dksX6_overlaps_4 : cX6_overlaps.data.toList.drop 94 = dktX6_overlaps_4 := dk_seg dksX6_overlaps_3 24 rfl rfl
theorem dksX6_overlaps_5 : cX6_overlaps.data.toList.drop 117 = dktX6_overlaps_5 := dk_seg dksX6_overlaps_4 23 rfl rfl
theorem dX6_overlaps_0 : decode cX6_overlaps 0 = .ok (.iconst 0, 1) := dk_3 (dk_at dksX6_overlaps_0 0 rfl rfl)
theorem dX6_overlaps_1 : decode cX6_overlaps 1 = .ok (.istore 4, 2) := dk_54 4 (dk_at dksX6_overlaps_0 1 rfl rfl)
theorem dX6_overlaps_3 : decode cX6_overlaps 3 = .ok (.iload 4, 2) := dk_21 4 (dk_at dksX6_overlaps_0 3 rfl rfl)
theorem dX6_overlaps_5 : decode cX6_overlaps 5 = .ok (.bipush 12, 2) := dk_16 12 (dk_at dksX6_overlaps_0 5 rfl rfl)
theorem dX6_overlaps_7 : decode cX6_overlaps 7 = .ok (.if_icmp .ge 53, 3) := dk_162 0 53 (dk_at dksX6_overlaps_0 7 rfl rfl)
theorem dX6_overlaps_10 : decode cX6_overlaps 10 = .ok (.aload_n 0, 1) := dk_42 (dk_at dksX6_overlaps_0 10 rfl rfl)
theorem dX6_overlaps_11 : decode cX6_overlaps 11 = .ok (.iload 4, 2) := dk_21 4 (dk_at dksX6_overlaps_0 11 rfl rfl)
theorem dX6_overlaps_13 : decode cX6_overlaps 13 = .ok (.invokevirtual 111, 3) := dk_182 0 111 (dk_at dksX6_overlaps_0 13 rfl rfl)
theorem dX6_overlaps_16 : decode cX6_overlaps 16 = .ok (.ifCond .eq 38, 3) := dk_153 0 38 (dk_at dksX6_overlaps_0 16 rfl rfl)
theorem dX6_overlaps_19 : decode cX6_overlaps 19 = .ok (.aload_n 0, 1) := dk_42 (dk_at dksX6_overlaps_0 19 rfl rfl)
theorem dX6_overlaps_20 : decode cX6_overlaps 20 = .ok (.iload 4, 2) := dk_21 4 (dk_at dksX6_overlaps_0 20 rfl rfl)
theorem dX6_overlaps_22 : decode cX6_overlaps 22 = .ok (.invokevirtual 115, 3) := dk_182 0 115 (dk_at dksX6_overlaps_1 0 rfl rfl)
theorem dX6_overlaps_25 : decode cX6_overlaps 25 = .ok (.iload_n 1, 1) := dk_27 (dk_at dksX6_overlaps_1 3 rfl rfl)
theorem dX6_overlaps_26 : decode cX6_overlaps 26 = .ok (.iand, 1) := dk_126 (dk_at dksX6_overlaps_1 4 rfl rfl)
theorem dX6_overlaps_27 : decode cX6_overlaps 27 = .ok (.ifCond .eq 27, 3) := dk_153 0 27 (dk_at dksX6_overlaps_1 5 rfl rfl)
theorem dX6_overlaps_30 : decode cX6_overlaps 30 = .ok (.iload_n 2, 1) := dk_28 (dk_at dksX6_overlaps_1 8 rfl rfl)
theorem dX6_overlaps_31 : decode cX6_overlaps 31 = .ok (.aload_n 0, 1) := dk_42 (dk_at dksX6_overlaps_1 9 rfl rfl)
theorem dX6_overlaps_32 : decode cX6_overlaps 32 = .ok (.iload 4, 2) := dk_21 4 (dk_at dksX6_overlaps_1 10 rfl rfl)
theorem dX6_overlaps_34 : decode cX6_overlaps 34 = .ok (.iconst 4, 1) := dk_7 (dk_at dksX6_overlaps_1 12 rfl rfl)
theorem dX6_overlaps_35 : decode cX6_overlaps 35 = .ok (.invokevirtual 95, 3) := dk_182 0 95 (dk_at dksX6_overlaps_1 13 rfl rfl)
theorem dX6_overlaps_38 : decode cX6_overlaps 38 = .ok (.if_icmp .ge 16, 3) := dk_162 0 16 (dk_at dksX6_overlaps_1 16 rfl rfl)
theorem dX6_overlaps_41 : decode cX6_overlaps 41 = .ok (.iload_n 3, 1) := dk_29 (dk_at dksX6_overlaps_1 19 rfl rfl)
theorem dX6_overlaps_42 : decode cX6_overlaps 42 = .ok (.aload_n 0, 1) := dk_42 (dk_at dksX6_overlaps_1 20 rfl rfl)
theorem dX6_overlaps_43 : decode cX6_overlaps 43 = .ok (.iload 4, 2) := dk_21 4 (dk_at dksX6_overlaps_1 21 rfl rfl)
theorem dX6_overlaps_45 : decode cX6_overlaps 45 = .ok (.iconst 3, 1) := dk_6 (dk_at dksX6_overlaps_1 23 rfl rfl)
theorem dX6_overlaps_46 : decode cX6_overlaps 46 = .ok (.invokevirtual 95, 3) := dk_182 0 95 (dk_at dksX6_overlaps_2 0 rfl rfl)
theorem dX6_overlaps_49 : decode cX6_overlaps 49 = .ok (.if_icmp .le 5, 3) := dk_164 0 5 (dk_at dksX6_overlaps_2 3 rfl rfl)
theorem dX6_overlaps_52 : decode cX6_overlaps 52 = .ok (.iconst 1, 1) := dk_4 (dk_at dksX6_overlaps_2 6 rfl rfl)
theorem dX6_overlaps_53 : decode cX6_overlaps 53 = .ok (.ireturn, 1) := dk_172 (dk_at dksX6_overlaps_2 7 rfl rfl)
theorem dX6_overlaps_54 : decode cX6_overlaps 54 = .ok (.iinc 4 1, 3) := dk_132 4 1 (dk_at dksX6_overlaps_2 8 rfl rfl)
theorem dX6_overlaps_57 : decode cX6_overlaps 57 = .ok (.goto (-54), 3) := dk_167 255 202 (dk_at dksX6_overlaps_2 11 rfl rfl)
theorem dX6_overlaps_60 : decode cX6_overlaps 60 = .ok (.iconst 0, 1) := dk_3 (dk_at dksX6_overlaps_2 14 rfl rfl)
theorem dX6_overlaps_61 : decode cX6_overlaps 61 = .ok (.istore 4, 2) := dk_54 4 (dk_at dksX6_overlaps_2 15 rfl rfl)
theorem dX6_overlaps_63 : decode cX6_overlaps 63 = .ok (.iload 4, 2) := dk_21 4 (dk_at dksX6_overlaps_2 17 rfl rfl)
theorem dX6_overlaps_65 : decode cX6_overlaps 65 = .ok (.aload_n 0, 1) := dk_42 (dk_at dksX6_overlaps_2 19 rfl rfl)
theorem dX6_overlaps_66 : decode cX6_overlaps 66 = .ok (.getfield 9, 3) := dk_180 0 9 (dk_at dksX6_overlaps_2 20 rfl rfl)
theorem dX6_overlaps_69 : decode cX6_overlaps 69 = .ok (.iconst 1, 1) := dk_4 (dk_at dksX6_overlaps_2 23 rfl rfl)
theorem dX6_overlaps_70 : decode cX6_overlaps 70 = .ok (.iaload, 1) := dk_46 (dk_at dksX6_overlaps_3 0 rfl rfl)
theorem dX6_overlaps_71 : decode cX6_overlaps 71 = .ok (.if_icmp .ge 68, 3) := dk_162 0 68 (dk_at dksX6_overlaps_3 1 rfl rfl)
theorem dX6_overlaps_74 : decode cX6_overlaps 74 = .ok (.iconst 0, 1) := dk_3 (dk_at dksX6_overlaps_3 4 rfl rfl)
theorem dX6_overlaps_75 : decode cX6_overlaps 75 = .ok (.istore 5, 2) := dk_54 5 (dk_at dksX6_overlaps_3 5 rfl rfl)
theorem dX6_overlaps_77 : decode cX6_overlaps 77 = .ok (.iload 5, 2) := dk_21 5 (dk_at dksX6_overlaps_3 7 rfl rfl)
theorem dX6_overlaps_79 : decode cX6_overlaps 79 = .ok (.aload_n 0, 1) := dk_42 (dk_at dksX6_overlaps_3 9 rfl rfl)
theorem dX6_overlaps_80 : decode cX6_overlaps 80 = .ok (.iload 4, 2) := dk_21 4 (dk_at dksX6_overlaps_3 10 rfl rfl)
theorem dX6_overlaps_82 : decode cX6_overlaps 82 = .ok (.iconst 4, 1) := dk_7 (dk_at dksX6_overlaps_3 12 rfl rfl)
theorem dX6_overlaps_83 : decode cX6_overlaps 83 = .ok (.invokevirtual 83, 3) := dk_182 0 83 (dk_at dksX6_overlaps_3 13 rfl rfl)
theorem dX6_overlaps_86 : decode cX6_overlaps 86 = .ok (.if_icmp .ge 47, 3) := dk_162 0 47 (dk_at dksX6_overlaps_3 16 rfl rfl)
theorem dX6_overlaps_89 : decode cX6_overlaps 89 = .ok (.aload_n 0, 1) := dk_42 (dk_at dksX6_overlaps_3 19 rfl rfl)
theorem dX6_overlaps_90 : decode cX6_overlaps 90 = .ok (.iload 4, 2) := dk_21 4 (dk_at dksX6_overlaps_3 20 rfl rfl)
theorem dX6_overlaps_92 : decode cX6_overlaps 92 = .ok (.iload 5, 2) := dk_21 5 (dk_at dksX6_overlaps_3 22 rfl rfl)
theorem dX6_overlaps_94 : decode cX6_overlaps 94 = .ok (.invokevirtual 98, 3) := dk_182 0 98 (dk_at dksX6_overlaps_4 0 rfl rfl)
theorem dX6_overlaps_97 : decode cX6_overlaps 97 = .ok (.ifCond .eq 30, 3) := dk_153 0 30 (dk_at dksX6_overlaps_4 3 rfl rfl)
theorem dX6_overlaps_100 : decode cX6_overlaps 100 = .ok (.aload_n 0, 1) := dk_42 (dk_at dksX6_overlaps_4 6 rfl rfl)
theorem dX6_overlaps_101 : decode cX6_overlaps 101 = .ok (.iload 4, 2) := dk_21 4 (dk_at dksX6_overlaps_4 7 rfl rfl)
theorem dX6_overlaps_103 : decode cX6_overlaps 103 = .ok (.iload 5, 2) := dk_21 5 (dk_at dksX6_overlaps_4 9 rfl rfl)
theorem dX6_overlaps_105 : decode cX6_overlaps 105 = .ok (.invokevirtual 105, 3) := dk_182 0 105 (dk_at dksX6_overlaps_4 11 rfl rfl)
theorem dX6_overlaps_108 : decode cX6_overlaps 108 = .ok (.iload_n 1, 1) := dk_27 (dk_at dksX6_overlaps_4 14 rfl rfl)
theorem dX6_overlaps_109 : decode cX6_overlaps 109 = .ok (.iand, 1) := dk_126 (dk_at dksX6_overlaps_4 15 rfl rfl)
theorem dX6_overlaps_110 : decode cX6_overlaps 110 = .ok (.ifCond .eq 17, 3) := dk_153 0 17 (dk_at dksX6_overlaps_4 16 rfl rfl)
theorem dX6_overlaps_113 : decode cX6_overlaps 113 = .ok (.iload_n 2, 1) := dk_28 (dk_at dksX6_overlaps_4 19 rfl rfl)
theorem dX6_overlaps_114 : decode cX6_overlaps 114 = .ok (.aload_n 0, 1) := dk_42 (dk_at dksX6_overlaps_4 20 rfl rfl)
theorem dX6_overlaps_115 : decode cX6_overlaps 115 = .ok (.iload 4, 2) := dk_21 4 (dk_at dksX6_overlaps_4 21 rfl rfl)
theorem dX6_overlaps_117 : decode cX6_overlaps 117 = .ok (.iload 5, 2) := dk_21 5 (dk_at dksX6_overlaps_5 0 rfl rfl)
theorem dX6_overlaps_119 : decode cX6_overlaps 119 = .ok (.invokevirtual 102, 3) := dk_182 0 102 (dk_at dksX6_overlaps_5 2 rfl rfl)
theorem dX6_overlaps_122 : decode cX6_overlaps 122 = .ok (.if_icmp .ge 5, 3) := dk_162 0 5 (dk_at dksX6_overlaps_5 5 rfl rfl)
theorem dX6_overlaps_125 : decode cX6_overlaps 125 = .ok (.iconst 1, 1) := dk_4 (dk_at dksX6_overlaps_5 8 rfl rfl)
theorem dX6_overlaps_126 : decode cX6_overlaps 126 = .ok (.ireturn, 1) := dk_172 (dk_at dksX6_overlaps_5 9 rfl rfl)
theorem dX6_overlaps_127 : decode cX6_overlaps 127 = .ok (.iinc 5 1, 3) := dk_132 5 1 (dk_at dksX6_overlaps_5 10 rfl rfl)
theorem dX6_overlaps_130 : decode cX6_overlaps 130 = .ok (.goto (-53), 3) := dk_167 255 203 (dk_at dksX6_overlaps_5 13 rfl rfl)
theorem dX6_overlaps_133 : decode cX6_overlaps 133 = .ok (.iinc 4 1, 3) := dk_132 4 1 (dk_at dksX6_overlaps_5 16 rfl rfl)
theorem dX6_overlaps_136 : decode cX6_overlaps 136 = .ok (.goto (-73), 3) := dk_167 255 183 (dk_at dksX6_overlaps_5 19 rfl rfl)
theorem dX6_overlaps_139 : decode cX6_overlaps 139 = .ok (.iconst 0, 1) := dk_3 (dk_at dksX6_overlaps_5 22 rfl rfl)
theorem dX6_overlaps_140 : decode cX6_overlaps 140 = .ok (.ireturn, 1) := dk_172 (dk_at dksX6_overlaps_5 23 rfl rfl)
abbrev cX6_keeps : ByteArray := prog_33_method_61_code
def dkwX6_keeps_4 : List UInt8 := [21, 4, 79, 42, 180, 0, 9, 8, 92, 46, 4, 96, 79, 42, 180, 0, 9, 21, 6, 46, 172]
abbrev dktX6_keeps_4 : List UInt8 := dkwX6_keeps_4 ++ []
def dkwX6_keeps_3 : List UInt8 := [21, 6, 6, 96, 28, 79, 42, 180, 0, 9, 21, 6, 7, 96, 29, 79, 42, 180, 0, 9, 21, 6, 8, 96]
abbrev dktX6_keeps_3 : List UInt8 := dkwX6_keeps_3 ++ dktX6_keeps_4
def dkwX6_keeps_2 : List UInt8 := [96, 27, 16, 100, 108, 79, 42, 180, 0, 9, 21, 6, 5, 96, 27, 16, 100, 112, 79, 42, 180, 0, 9]
abbrev dktX6_keeps_2 : List UInt8 := dkwX6_keeps_2 ++ dktX6_keeps_3
def dkwX6_keeps_1 : List UInt8 := [104, 96, 54, 6, 42, 180, 0, 9, 21, 6, 42, 180, 0, 9, 8, 46, 79, 42, 180, 0, 9, 21, 6, 4]
abbrev dktX6_keeps_1 : List UInt8 := dkwX6_keeps_1 ++ dktX6_keeps_2
def dkwX6_keeps_0 : List UInt8 := [3, 54, 5, 42, 21, 5, 182, 0, 111, 153, 0, 9, 132, 5, 1, 167, 255, 244, 16, 24, 21, 5, 16, 6]
abbrev dktX6_keeps_0 : List UInt8 := dkwX6_keeps_0 ++ dktX6_keeps_1
theorem dksX6_keeps_0 : cX6_keeps.data.toList.drop 0 = dktX6_keeps_0 := by decide +kernel
theorem dksX6_keeps_1 : cX6_keeps.data.toList.drop 24 = dktX6_keeps_1 := dk_seg dksX6_keeps_0 24 rfl rfl
theorem dksX6_keeps_2 : cX6_keeps.data.toList.drop 48 = dktX6_keeps_2 := dk_seg dksX6_keeps_1 24 rfl rfl
theorem dksX6_keeps_3 : cX6_keeps.data.toList.drop 71 = dktX6_keeps_3 := dk_seg dksX6_keeps_2 23 rfl rfl
theorem dksX6_keeps_4 : cX6_keeps.data.toList.drop 95 = dktX6_keeps_4 := dk_seg dksX6_keeps_3 24 rfl rfl
theorem dX6_keeps_0 : decode cX6_keeps 0 = .ok (.iconst 0, 1) := dk_3 (dk_at dksX6_keeps_0 0 rfl rfl)
theorem dX6_keeps_1 : decode cX6_keeps 1 = .ok (.istore 5, 2) := dk_54 5 (dk_at dksX6_keeps_0 1 rfl rfl)
theorem dX6_keeps_3 : decode cX6_keeps 3 = .ok (.aload_n 0, 1) := dk_42 (dk_at dksX6_keeps_0 3 rfl rfl)
theorem dX6_keeps_4 : decode cX6_keeps 4 = .ok (.iload 5, 2) := dk_21 5 (dk_at dksX6_keeps_0 4 rfl rfl)
theorem dX6_keeps_6 : decode cX6_keeps 6 = .ok (.invokevirtual 111, 3) := dk_182 0 111 (dk_at dksX6_keeps_0 6 rfl rfl)
theorem dX6_keeps_9 : decode cX6_keeps 9 = .ok (.ifCond .eq 9, 3) := dk_153 0 9 (dk_at dksX6_keeps_0 9 rfl rfl)
theorem dX6_keeps_12 : decode cX6_keeps 12 = .ok (.iinc 5 1, 3) := dk_132 5 1 (dk_at dksX6_keeps_0 12 rfl rfl)
theorem dX6_keeps_15 : decode cX6_keeps 15 = .ok (.goto (-12), 3) := dk_167 255 244 (dk_at dksX6_keeps_0 15 rfl rfl)
theorem dX6_keeps_18 : decode cX6_keeps 18 = .ok (.bipush 24, 2) := dk_16 24 (dk_at dksX6_keeps_0 18 rfl rfl)
theorem dX6_keeps_20 : decode cX6_keeps 20 = .ok (.iload 5, 2) := dk_21 5 (dk_at dksX6_keeps_0 20 rfl rfl)
theorem dX6_keeps_22 : decode cX6_keeps 22 = .ok (.bipush 6, 2) := dk_16 6 (dk_at dksX6_keeps_0 22 rfl rfl)
theorem dX6_keeps_24 : decode cX6_keeps 24 = .ok (.imul, 1) := dk_104 (dk_at dksX6_keeps_1 0 rfl rfl)
theorem dX6_keeps_25 : decode cX6_keeps 25 = .ok (.iadd, 1) := dk_96 (dk_at dksX6_keeps_1 1 rfl rfl)
theorem dX6_keeps_26 : decode cX6_keeps 26 = .ok (.istore 6, 2) := dk_54 6 (dk_at dksX6_keeps_1 2 rfl rfl)
theorem dX6_keeps_28 : decode cX6_keeps 28 = .ok (.aload_n 0, 1) := dk_42 (dk_at dksX6_keeps_1 4 rfl rfl)
theorem dX6_keeps_29 : decode cX6_keeps 29 = .ok (.getfield 9, 3) := dk_180 0 9 (dk_at dksX6_keeps_1 5 rfl rfl)
theorem dX6_keeps_32 : decode cX6_keeps 32 = .ok (.iload 6, 2) := dk_21 6 (dk_at dksX6_keeps_1 8 rfl rfl)
theorem dX6_keeps_34 : decode cX6_keeps 34 = .ok (.aload_n 0, 1) := dk_42 (dk_at dksX6_keeps_1 10 rfl rfl)
theorem dX6_keeps_35 : decode cX6_keeps 35 = .ok (.getfield 9, 3) := dk_180 0 9 (dk_at dksX6_keeps_1 11 rfl rfl)
theorem dX6_keeps_38 : decode cX6_keeps 38 = .ok (.iconst 5, 1) := dk_8 (dk_at dksX6_keeps_1 14 rfl rfl)
theorem dX6_keeps_39 : decode cX6_keeps 39 = .ok (.iaload, 1) := dk_46 (dk_at dksX6_keeps_1 15 rfl rfl)
theorem dX6_keeps_40 : decode cX6_keeps 40 = .ok (.iastore, 1) := dk_79 (dk_at dksX6_keeps_1 16 rfl rfl)
theorem dX6_keeps_41 : decode cX6_keeps 41 = .ok (.aload_n 0, 1) := dk_42 (dk_at dksX6_keeps_1 17 rfl rfl)
theorem dX6_keeps_42 : decode cX6_keeps 42 = .ok (.getfield 9, 3) := dk_180 0 9 (dk_at dksX6_keeps_1 18 rfl rfl)
theorem dX6_keeps_45 : decode cX6_keeps 45 = .ok (.iload 6, 2) := dk_21 6 (dk_at dksX6_keeps_1 21 rfl rfl)
theorem dX6_keeps_47 : decode cX6_keeps 47 = .ok (.iconst 1, 1) := dk_4 (dk_at dksX6_keeps_1 23 rfl rfl)
theorem dX6_keeps_48 : decode cX6_keeps 48 = .ok (.iadd, 1) := dk_96 (dk_at dksX6_keeps_2 0 rfl rfl)
theorem dX6_keeps_49 : decode cX6_keeps 49 = .ok (.iload_n 1, 1) := dk_27 (dk_at dksX6_keeps_2 1 rfl rfl)
theorem dX6_keeps_50 : decode cX6_keeps 50 = .ok (.bipush 100, 2) := dk_16 100 (dk_at dksX6_keeps_2 2 rfl rfl)
theorem dX6_keeps_52 : decode cX6_keeps 52 = .ok (.idiv, 1) := dk_108 (dk_at dksX6_keeps_2 4 rfl rfl)
theorem dX6_keeps_53 : decode cX6_keeps 53 = .ok (.iastore, 1) := dk_79 (dk_at dksX6_keeps_2 5 rfl rfl)
theorem dX6_keeps_54 : decode cX6_keeps 54 = .ok (.aload_n 0, 1) := dk_42 (dk_at dksX6_keeps_2 6 rfl rfl)
theorem dX6_keeps_55 : decode cX6_keeps 55 = .ok (.getfield 9, 3) := dk_180 0 9 (dk_at dksX6_keeps_2 7 rfl rfl)
theorem dX6_keeps_58 : decode cX6_keeps 58 = .ok (.iload 6, 2) := dk_21 6 (dk_at dksX6_keeps_2 10 rfl rfl)
theorem dX6_keeps_60 : decode cX6_keeps 60 = .ok (.iconst 2, 1) := dk_5 (dk_at dksX6_keeps_2 12 rfl rfl)
theorem dX6_keeps_61 : decode cX6_keeps 61 = .ok (.iadd, 1) := dk_96 (dk_at dksX6_keeps_2 13 rfl rfl)
theorem dX6_keeps_62 : decode cX6_keeps 62 = .ok (.iload_n 1, 1) := dk_27 (dk_at dksX6_keeps_2 14 rfl rfl)
theorem dX6_keeps_63 : decode cX6_keeps 63 = .ok (.bipush 100, 2) := dk_16 100 (dk_at dksX6_keeps_2 15 rfl rfl)
theorem dX6_keeps_65 : decode cX6_keeps 65 = .ok (.irem, 1) := dk_112 (dk_at dksX6_keeps_2 17 rfl rfl)
theorem dX6_keeps_66 : decode cX6_keeps 66 = .ok (.iastore, 1) := dk_79 (dk_at dksX6_keeps_2 18 rfl rfl)
theorem dX6_keeps_67 : decode cX6_keeps 67 = .ok (.aload_n 0, 1) := dk_42 (dk_at dksX6_keeps_2 19 rfl rfl)
theorem dX6_keeps_68 : decode cX6_keeps 68 = .ok (.getfield 9, 3) := dk_180 0 9 (dk_at dksX6_keeps_2 20 rfl rfl)
theorem dX6_keeps_71 : decode cX6_keeps 71 = .ok (.iload 6, 2) := dk_21 6 (dk_at dksX6_keeps_3 0 rfl rfl)
theorem dX6_keeps_73 : decode cX6_keeps 73 = .ok (.iconst 3, 1) := dk_6 (dk_at dksX6_keeps_3 2 rfl rfl)
theorem dX6_keeps_74 : decode cX6_keeps 74 = .ok (.iadd, 1) := dk_96 (dk_at dksX6_keeps_3 3 rfl rfl)
theorem dX6_keeps_75 : decode cX6_keeps 75 = .ok (.iload_n 2, 1) := dk_28 (dk_at dksX6_keeps_3 4 rfl rfl)
theorem dX6_keeps_76 : decode cX6_keeps 76 = .ok (.iastore, 1) := dk_79 (dk_at dksX6_keeps_3 5 rfl rfl)
theorem dX6_keeps_77 : decode cX6_keeps 77 = .ok (.aload_n 0, 1) := dk_42 (dk_at dksX6_keeps_3 6 rfl rfl)
theorem dX6_keeps_78 : decode cX6_keeps 78 = .ok (.getfield 9, 3) := dk_180 0 9 (dk_at dksX6_keeps_3 7 rfl rfl)
theorem dX6_keeps_81 : decode cX6_keeps 81 = .ok (.iload 6, 2) := dk_21 6 (dk_at dksX6_keeps_3 10 rfl rfl)
theorem dX6_keeps_83 : decode cX6_keeps 83 = .ok (.iconst 4, 1) := dk_7 (dk_at dksX6_keeps_3 12 rfl rfl)
theorem dX6_keeps_84 : decode cX6_keeps 84 = .ok (.iadd, 1) := dk_96 (dk_at dksX6_keeps_3 13 rfl rfl)
theorem dX6_keeps_85 : decode cX6_keeps 85 = .ok (.iload_n 3, 1) := dk_29 (dk_at dksX6_keeps_3 14 rfl rfl)
theorem dX6_keeps_86 : decode cX6_keeps 86 = .ok (.iastore, 1) := dk_79 (dk_at dksX6_keeps_3 15 rfl rfl)
theorem dX6_keeps_87 : decode cX6_keeps 87 = .ok (.aload_n 0, 1) := dk_42 (dk_at dksX6_keeps_3 16 rfl rfl)
theorem dX6_keeps_88 : decode cX6_keeps 88 = .ok (.getfield 9, 3) := dk_180 0 9 (dk_at dksX6_keeps_3 17 rfl rfl)
theorem dX6_keeps_91 : decode cX6_keeps 91 = .ok (.iload 6, 2) := dk_21 6 (dk_at dksX6_keeps_3 20 rfl rfl)
theorem dX6_keeps_93 : decode cX6_keeps 93 = .ok (.iconst 5, 1) := dk_8 (dk_at dksX6_keeps_3 22 rfl rfl)
theorem dX6_keeps_94 : decode cX6_keeps 94 = .ok (.iadd, 1) := dk_96 (dk_at dksX6_keeps_3 23 rfl rfl)
theorem dX6_keeps_95 : decode cX6_keeps 95 = .ok (.iload 4, 2) := dk_21 4 (dk_at dksX6_keeps_4 0 rfl rfl)
theorem dX6_keeps_97 : decode cX6_keeps 97 = .ok (.iastore, 1) := dk_79 (dk_at dksX6_keeps_4 2 rfl rfl)
theorem dX6_keeps_98 : decode cX6_keeps 98 = .ok (.aload_n 0, 1) := dk_42 (dk_at dksX6_keeps_4 3 rfl rfl)
theorem dX6_keeps_99 : decode cX6_keeps 99 = .ok (.getfield 9, 3) := dk_180 0 9 (dk_at dksX6_keeps_4 4 rfl rfl)
theorem dX6_keeps_102 : decode cX6_keeps 102 = .ok (.iconst 5, 1) := dk_8 (dk_at dksX6_keeps_4 7 rfl rfl)
theorem dX6_keeps_103 : decode cX6_keeps 103 = .ok (.dup2, 1) := dk_92 (dk_at dksX6_keeps_4 8 rfl rfl)
theorem dX6_keeps_104 : decode cX6_keeps 104 = .ok (.iaload, 1) := dk_46 (dk_at dksX6_keeps_4 9 rfl rfl)
theorem dX6_keeps_105 : decode cX6_keeps 105 = .ok (.iconst 1, 1) := dk_4 (dk_at dksX6_keeps_4 10 rfl rfl)
theorem dX6_keeps_106 : decode cX6_keeps 106 = .ok (.iadd, 1) := dk_96 (dk_at dksX6_keeps_4 11 rfl rfl)
theorem dX6_keeps_107 : decode cX6_keeps 107 = .ok (.iastore, 1) := dk_79 (dk_at dksX6_keeps_4 12 rfl rfl)
theorem dX6_keeps_108 : decode cX6_keeps 108 = .ok (.aload_n 0, 1) := dk_42 (dk_at dksX6_keeps_4 13 rfl rfl)
theorem dX6_keeps_109 : decode cX6_keeps 109 = .ok (.getfield 9, 3) := dk_180 0 9 (dk_at dksX6_keeps_4 14 rfl rfl)
theorem dX6_keeps_112 : decode cX6_keeps 112 = .ok (.iload 6, 2) := dk_21 6 (dk_at dksX6_keeps_4 17 rfl rfl)
theorem dX6_keeps_114 : decode cX6_keeps 114 = .ok (.iaload, 1) := dk_46 (dk_at dksX6_keeps_4 19 rfl rfl)
theorem dX6_keeps_115 : decode cX6_keeps 115 = .ok (.ireturn, 1) := dk_172 (dk_at dksX6_keeps_4 20 rfl rfl)
abbrev cX6_spanAt : ByteArray := prog_33_method_17_code
def dkwX6_spanAt_0 : List UInt8 := [42, 180, 0, 9, 16, 24, 27, 16, 6, 104, 96, 28, 96, 46, 172]
abbrev dktX6_spanAt_0 : List UInt8 := dkwX6_spanAt_0 ++ []
theorem dksX6_spanAt_0 : cX6_spanAt.data.toList.drop 0 = dktX6_spanAt_0 := by decide +kernel
theorem dX6_spanAt_0 : decode cX6_spanAt 0 = .ok (.aload_n 0, 1) := dk_42 (dk_at dksX6_spanAt_0 0 rfl rfl)
theorem dX6_spanAt_1 : decode cX6_spanAt 1 = .ok (.getfield 9, 3) := dk_180 0 9 (dk_at dksX6_spanAt_0 1 rfl rfl)
theorem dX6_spanAt_4 : decode cX6_spanAt 4 = .ok (.bipush 24, 2) := dk_16 24 (dk_at dksX6_spanAt_0 4 rfl rfl)
theorem dX6_spanAt_6 : decode cX6_spanAt 6 = .ok (.iload_n 1, 1) := dk_27 (dk_at dksX6_spanAt_0 6 rfl rfl)
theorem dX6_spanAt_7 : decode cX6_spanAt 7 = .ok (.bipush 6, 2) := dk_16 6 (dk_at dksX6_spanAt_0 7 rfl rfl)
theorem dX6_spanAt_9 : decode cX6_spanAt 9 = .ok (.imul, 1) := dk_104 (dk_at dksX6_spanAt_0 9 rfl rfl)
theorem dX6_spanAt_10 : decode cX6_spanAt 10 = .ok (.iadd, 1) := dk_96 (dk_at dksX6_spanAt_0 10 rfl rfl)
theorem dX6_spanAt_11 : decode cX6_spanAt 11 = .ok (.iload_n 2, 1) := dk_28 (dk_at dksX6_spanAt_0 11 rfl rfl)
theorem dX6_spanAt_12 : decode cX6_spanAt 12 = .ok (.iadd, 1) := dk_96 (dk_at dksX6_spanAt_0 12 rfl rfl)
theorem dX6_spanAt_13 : decode cX6_spanAt 13 = .ok (.iaload, 1) := dk_46 (dk_at dksX6_spanAt_0 13 rfl rfl)
theorem dX6_spanAt_14 : decode cX6_spanAt 14 = .ok (.ireturn, 1) := dk_172 (dk_at dksX6_spanAt_0 14 rfl rfl)
abbrev cX6_ticks : ByteArray := prog_33_method_71_code
def dkwX6_ticks_9 : List UInt8 := [180, 0, 9, 16, 24, 29, 16, 6, 104, 96, 2, 79, 132, 3, 1, 167, 255, 211, 177]
abbrev dktX6_ticks_9 : List UInt8 := dkwX6_ticks_9 ++ []
def dkwX6_ticks_8 : List UInt8 := [182, 0, 111, 153, 0, 31, 42, 29, 7, 182, 0, 95, 42, 180, 0, 9, 3, 46, 163, 0, 16, 42]
abbrev dktX6_ticks_8 : List UInt8 := dkwX6_ticks_8 ++ dktX6_ticks_9
def dkwX6_ticks_7 : List UInt8 := [96, 92, 47, 20, 1, 37, 109, 80, 132, 3, 1, 167, 255, 218, 3, 62, 29, 16, 12, 162, 0, 45, 42, 29]
abbrev dktX6_ticks_7 : List UInt8 := dkwX6_ticks_7 ++ dktX6_ticks_8
def dkwX6_ticks_6 : List UInt8 := [162, 0, 38, 28, 158, 0, 34, 42, 180, 0, 9, 3, 46, 28, 112, 154, 0, 23, 42, 180, 0, 19, 3, 29]
abbrev dktX6_ticks_6 : List UInt8 := dkwX6_ticks_6 ++ dktX6_ticks_7
def dkwX6_ticks_5 : List UInt8 := [42, 28, 182, 1, 34, 132, 2, 1, 167, 255, 228, 42, 180, 0, 9, 7, 46, 61, 3, 62, 29, 16, 8]
abbrev dktX6_ticks_5 : List UInt8 := dkwX6_ticks_5 ++ dktX6_ticks_6
def dkwX6_ticks_4 : List UInt8 := [96, 79, 3, 61, 28, 42, 180, 0, 9, 4, 46, 162, 0, 24, 42, 28, 8, 182, 0, 83, 4, 160, 0, 8]
abbrev dktX6_ticks_4 : List UInt8 := dkwX6_ticks_4 ++ dktX6_ticks_5
def dkwX6_ticks_3 : List UInt8 := [3, 182, 0, 83, 96, 92, 47, 10, 97, 80, 132, 2, 1, 167, 255, 197, 42, 180, 0, 9, 3, 92, 46, 4]
abbrev dktX6_ticks_3 : List UInt8 := dkwX6_ticks_3 ++ dktX6_ticks_4
def dkwX6_ticks_2 : List UInt8 := [156, 0, 17, 42, 180, 0, 19, 16, 14, 92, 47, 10, 97, 80, 167, 0, 20, 42, 180, 0, 19, 3, 42, 29]
abbrev dktX6_ticks_2 : List UInt8 := dkwX6_ticks_2 ++ dktX6_ticks_3
def dkwX6_ticks_1 : List UInt8 := [28, 16, 16, 162, 0, 59, 42, 28, 182, 1, 31, 62, 42, 180, 0, 9, 27, 28, 96, 29, 79, 29]
abbrev dktX6_ticks_1 : List UInt8 := dkwX6_ticks_1 ++ dktX6_ticks_2
def dkwX6_ticks_0 : List UInt8 := [42, 182, 1, 28, 87, 17, 11, 100, 42, 180, 0, 9, 3, 46, 16, 64, 112, 16, 16, 104, 96, 60, 3, 61]
abbrev dktX6_ticks_0 : List UInt8 := dkwX6_ticks_0 ++ dktX6_ticks_1
theorem dksX6_ticks_0 : cX6_ticks.data.toList.drop 0 = dktX6_ticks_0 := by decide +kernel
theorem dksX6_ticks_1 : cX6_ticks.data.toList.drop 24 = dktX6_ticks_1 := dk_seg dksX6_ticks_0 24 rfl rfl
theorem dksX6_ticks_2 : cX6_ticks.data.toList.drop 46 = dktX6_ticks_2 := dk_seg dksX6_ticks_1 22 rfl rfl
theorem dksX6_ticks_3 : cX6_ticks.data.toList.drop 70 = dktX6_ticks_3 := dk_seg dksX6_ticks_2 24 rfl rfl
theorem dksX6_ticks_4 : cX6_ticks.data.toList.drop 94 = dktX6_ticks_4 := dk_seg dksX6_ticks_3 24 rfl rfl
theorem dksX6_ticks_5 : cX6_ticks.data.toList.drop 118 = dktX6_ticks_5 := dk_seg dksX6_ticks_4 24 rfl rfl
theorem dksX6_ticks_6 : cX6_ticks.data.toList.drop 141 = dktX6_ticks_6 := dk_seg dksX6_ticks_5 23 rfl rfl
theorem dksX6_ticks_7 : cX6_ticks.data.toList.drop 165 = dktX6_ticks_7 := dk_seg dksX6_ticks_6 24 rfl rfl
theorem dksX6_ticks_8 : cX6_ticks.data.toList.drop 189 = dktX6_ticks_8 := dk_seg dksX6_ticks_7 24 rfl rfl
theorem dksX6_ticks_9 : cX6_ticks.data.toList.drop 211 = dktX6_ticks_9 := dk_seg dksX6_ticks_8 22 rfl rfl
theorem dX6_ticks_0 : decode cX6_ticks 0 = .ok (.aload_n 0, 1) := dk_42 (dk_at dksX6_ticks_0 0 rfl rfl)
theorem dX6_ticks_1 : decode cX6_ticks 1 = .ok (.invokevirtual 284, 3) := dk_182 1 28 (dk_at dksX6_ticks_0 1 rfl rfl)
theorem dX6_ticks_4 : decode cX6_ticks 4 = .ok (.pop, 1) := dk_87 (dk_at dksX6_ticks_0 4 rfl rfl)
theorem dX6_ticks_5 : decode cX6_ticks 5 = .ok (.sipush 2916, 3) := dk_17 11 100 (dk_at dksX6_ticks_0 5 rfl rfl)
theorem dX6_ticks_8 : decode cX6_ticks 8 = .ok (.aload_n 0, 1) := dk_42 (dk_at dksX6_ticks_0 8 rfl rfl)
theorem dX6_ticks_9 : decode cX6_ticks 9 = .ok (.getfield 9, 3) := dk_180 0 9 (dk_at dksX6_ticks_0 9 rfl rfl)
theorem dX6_ticks_12 : decode cX6_ticks 12 = .ok (.iconst 0, 1) := dk_3 (dk_at dksX6_ticks_0 12 rfl rfl)
theorem dX6_ticks_13 : decode cX6_ticks 13 = .ok (.iaload, 1) := dk_46 (dk_at dksX6_ticks_0 13 rfl rfl)
theorem dX6_ticks_14 : decode cX6_ticks 14 = .ok (.bipush 64, 2) := dk_16 64 (dk_at dksX6_ticks_0 14 rfl rfl)
theorem dX6_ticks_16 : decode cX6_ticks 16 = .ok (.irem, 1) := dk_112 (dk_at dksX6_ticks_0 16 rfl rfl)
theorem dX6_ticks_17 : decode cX6_ticks 17 = .ok (.bipush 16, 2) := dk_16 16 (dk_at dksX6_ticks_0 17 rfl rfl)
theorem dX6_ticks_19 : decode cX6_ticks 19 = .ok (.imul, 1) := dk_104 (dk_at dksX6_ticks_0 19 rfl rfl)
theorem dX6_ticks_20 : decode cX6_ticks 20 = .ok (.iadd, 1) := dk_96 (dk_at dksX6_ticks_0 20 rfl rfl)
theorem dX6_ticks_21 : decode cX6_ticks 21 = .ok (.istore_n 1, 1) := dk_60 (dk_at dksX6_ticks_0 21 rfl rfl)
theorem dX6_ticks_22 : decode cX6_ticks 22 = .ok (.iconst 0, 1) := dk_3 (dk_at dksX6_ticks_0 22 rfl rfl)
theorem dX6_ticks_23 : decode cX6_ticks 23 = .ok (.istore_n 2, 1) := dk_61 (dk_at dksX6_ticks_0 23 rfl rfl)
theorem dX6_ticks_24 : decode cX6_ticks 24 = .ok (.iload_n 2, 1) := dk_28 (dk_at dksX6_ticks_1 0 rfl rfl)
theorem dX6_ticks_25 : decode cX6_ticks 25 = .ok (.bipush 16, 2) := dk_16 16 (dk_at dksX6_ticks_1 1 rfl rfl)
theorem dX6_ticks_27 : decode cX6_ticks 27 = .ok (.if_icmp .ge 59, 3) := dk_162 0 59 (dk_at dksX6_ticks_1 3 rfl rfl)
theorem dX6_ticks_30 : decode cX6_ticks 30 = .ok (.aload_n 0, 1) := dk_42 (dk_at dksX6_ticks_1 6 rfl rfl)
theorem dX6_ticks_31 : decode cX6_ticks 31 = .ok (.iload_n 2, 1) := dk_28 (dk_at dksX6_ticks_1 7 rfl rfl)
theorem dX6_ticks_32 : decode cX6_ticks 32 = .ok (.invokevirtual 287, 3) := dk_182 1 31 (dk_at dksX6_ticks_1 8 rfl rfl)
theorem dX6_ticks_35 : decode cX6_ticks 35 = .ok (.istore_n 3, 1) := dk_62 (dk_at dksX6_ticks_1 11 rfl rfl)
theorem dX6_ticks_36 : decode cX6_ticks 36 = .ok (.aload_n 0, 1) := dk_42 (dk_at dksX6_ticks_1 12 rfl rfl)
theorem dX6_ticks_37 : decode cX6_ticks 37 = .ok (.getfield 9, 3) := dk_180 0 9 (dk_at dksX6_ticks_1 13 rfl rfl)
theorem dX6_ticks_40 : decode cX6_ticks 40 = .ok (.iload_n 1, 1) := dk_27 (dk_at dksX6_ticks_1 16 rfl rfl)
theorem dX6_ticks_41 : decode cX6_ticks 41 = .ok (.iload_n 2, 1) := dk_28 (dk_at dksX6_ticks_1 17 rfl rfl)
theorem dX6_ticks_42 : decode cX6_ticks 42 = .ok (.iadd, 1) := dk_96 (dk_at dksX6_ticks_1 18 rfl rfl)
theorem dX6_ticks_43 : decode cX6_ticks 43 = .ok (.iload_n 3, 1) := dk_29 (dk_at dksX6_ticks_1 19 rfl rfl)
theorem dX6_ticks_44 : decode cX6_ticks 44 = .ok (.iastore, 1) := dk_79 (dk_at dksX6_ticks_1 20 rfl rfl)
theorem dX6_ticks_45 : decode cX6_ticks 45 = .ok (.iload_n 3, 1) := dk_29 (dk_at dksX6_ticks_1 21 rfl rfl)
theorem dX6_ticks_46 : decode cX6_ticks 46 = .ok (.ifCond .ge 17, 3) := dk_156 0 17 (dk_at dksX6_ticks_2 0 rfl rfl)
theorem dX6_ticks_49 : decode cX6_ticks 49 = .ok (.aload_n 0, 1) := dk_42 (dk_at dksX6_ticks_2 3 rfl rfl)
theorem dX6_ticks_50 : decode cX6_ticks 50 = .ok (.getfield 19, 3) := dk_180 0 19 (dk_at dksX6_ticks_2 4 rfl rfl)
theorem dX6_ticks_53 : decode cX6_ticks 53 = .ok (.bipush 14, 2) := dk_16 14 (dk_at dksX6_ticks_2 7 rfl rfl)
theorem dX6_ticks_55 : decode cX6_ticks 55 = .ok (.dup2, 1) := dk_92 (dk_at dksX6_ticks_2 9 rfl rfl)
theorem dX6_ticks_56 : decode cX6_ticks 56 = .ok (.laload, 1) := dk_47 (dk_at dksX6_ticks_2 10 rfl rfl)
theorem dX6_ticks_57 : decode cX6_ticks 57 = .ok (.lconst 1, 1) := dk_10 (dk_at dksX6_ticks_2 11 rfl rfl)
theorem dX6_ticks_58 : decode cX6_ticks 58 = .ok (.ladd, 1) := dk_97 (dk_at dksX6_ticks_2 12 rfl rfl)
theorem dX6_ticks_59 : decode cX6_ticks 59 = .ok (.lastore, 1) := dk_80 (dk_at dksX6_ticks_2 13 rfl rfl)
theorem dX6_ticks_60 : decode cX6_ticks 60 = .ok (.goto 20, 3) := dk_167 0 20 (dk_at dksX6_ticks_2 14 rfl rfl)
theorem dX6_ticks_63 : decode cX6_ticks 63 = .ok (.aload_n 0, 1) := dk_42 (dk_at dksX6_ticks_2 17 rfl rfl)
theorem dX6_ticks_64 : decode cX6_ticks 64 = .ok (.getfield 19, 3) := dk_180 0 19 (dk_at dksX6_ticks_2 18 rfl rfl)
theorem dX6_ticks_67 : decode cX6_ticks 67 = .ok (.iconst 0, 1) := dk_3 (dk_at dksX6_ticks_2 21 rfl rfl)
theorem dX6_ticks_68 : decode cX6_ticks 68 = .ok (.aload_n 0, 1) := dk_42 (dk_at dksX6_ticks_2 22 rfl rfl)
theorem dX6_ticks_69 : decode cX6_ticks 69 = .ok (.iload_n 3, 1) := dk_29 (dk_at dksX6_ticks_2 23 rfl rfl)
theorem dX6_ticks_70 : decode cX6_ticks 70 = .ok (.iconst 0, 1) := dk_3 (dk_at dksX6_ticks_3 0 rfl rfl)
theorem dX6_ticks_71 : decode cX6_ticks 71 = .ok (.invokevirtual 83, 3) := dk_182 0 83 (dk_at dksX6_ticks_3 1 rfl rfl)
theorem dX6_ticks_74 : decode cX6_ticks 74 = .ok (.iadd, 1) := dk_96 (dk_at dksX6_ticks_3 4 rfl rfl)
theorem dX6_ticks_75 : decode cX6_ticks 75 = .ok (.dup2, 1) := dk_92 (dk_at dksX6_ticks_3 5 rfl rfl)
theorem dX6_ticks_76 : decode cX6_ticks 76 = .ok (.laload, 1) := dk_47 (dk_at dksX6_ticks_3 6 rfl rfl)
theorem dX6_ticks_77 : decode cX6_ticks 77 = .ok (.lconst 1, 1) := dk_10 (dk_at dksX6_ticks_3 7 rfl rfl)
theorem dX6_ticks_78 : decode cX6_ticks 78 = .ok (.ladd, 1) := dk_97 (dk_at dksX6_ticks_3 8 rfl rfl)
theorem dX6_ticks_79 : decode cX6_ticks 79 = .ok (.lastore, 1) := dk_80 (dk_at dksX6_ticks_3 9 rfl rfl)
theorem dX6_ticks_80 : decode cX6_ticks 80 = .ok (.iinc 2 1, 3) := dk_132 2 1 (dk_at dksX6_ticks_3 10 rfl rfl)
theorem dX6_ticks_83 : decode cX6_ticks 83 = .ok (.goto (-59), 3) := dk_167 255 197 (dk_at dksX6_ticks_3 13 rfl rfl)
theorem dX6_ticks_86 : decode cX6_ticks 86 = .ok (.aload_n 0, 1) := dk_42 (dk_at dksX6_ticks_3 16 rfl rfl)
theorem dX6_ticks_87 : decode cX6_ticks 87 = .ok (.getfield 9, 3) := dk_180 0 9 (dk_at dksX6_ticks_3 17 rfl rfl)
theorem dX6_ticks_90 : decode cX6_ticks 90 = .ok (.iconst 0, 1) := dk_3 (dk_at dksX6_ticks_3 20 rfl rfl)
theorem dX6_ticks_91 : decode cX6_ticks 91 = .ok (.dup2, 1) := dk_92 (dk_at dksX6_ticks_3 21 rfl rfl)
theorem dX6_ticks_92 : decode cX6_ticks 92 = .ok (.iaload, 1) := dk_46 (dk_at dksX6_ticks_3 22 rfl rfl)
theorem dX6_ticks_93 : decode cX6_ticks 93 = .ok (.iconst 1, 1) := dk_4 (dk_at dksX6_ticks_3 23 rfl rfl)
theorem dX6_ticks_94 : decode cX6_ticks 94 = .ok (.iadd, 1) := dk_96 (dk_at dksX6_ticks_4 0 rfl rfl)
theorem dX6_ticks_95 : decode cX6_ticks 95 = .ok (.iastore, 1) := dk_79 (dk_at dksX6_ticks_4 1 rfl rfl)
theorem dX6_ticks_96 : decode cX6_ticks 96 = .ok (.iconst 0, 1) := dk_3 (dk_at dksX6_ticks_4 2 rfl rfl)
theorem dX6_ticks_97 : decode cX6_ticks 97 = .ok (.istore_n 2, 1) := dk_61 (dk_at dksX6_ticks_4 3 rfl rfl)
theorem dX6_ticks_98 : decode cX6_ticks 98 = .ok (.iload_n 2, 1) := dk_28 (dk_at dksX6_ticks_4 4 rfl rfl)
theorem dX6_ticks_99 : decode cX6_ticks 99 = .ok (.aload_n 0, 1) := dk_42 (dk_at dksX6_ticks_4 5 rfl rfl)
theorem dX6_ticks_100 : decode cX6_ticks 100 = .ok (.getfield 9, 3) := dk_180 0 9 (dk_at dksX6_ticks_4 6 rfl rfl)
theorem dX6_ticks_103 : decode cX6_ticks 103 = .ok (.iconst 1, 1) := dk_4 (dk_at dksX6_ticks_4 9 rfl rfl)
theorem dX6_ticks_104 : decode cX6_ticks 104 = .ok (.iaload, 1) := dk_46 (dk_at dksX6_ticks_4 10 rfl rfl)
theorem dX6_ticks_105 : decode cX6_ticks 105 = .ok (.if_icmp .ge 24, 3) := dk_162 0 24 (dk_at dksX6_ticks_4 11 rfl rfl)
theorem dX6_ticks_108 : decode cX6_ticks 108 = .ok (.aload_n 0, 1) := dk_42 (dk_at dksX6_ticks_4 14 rfl rfl)
theorem dX6_ticks_109 : decode cX6_ticks 109 = .ok (.iload_n 2, 1) := dk_28 (dk_at dksX6_ticks_4 15 rfl rfl)
theorem dX6_ticks_110 : decode cX6_ticks 110 = .ok (.iconst 5, 1) := dk_8 (dk_at dksX6_ticks_4 16 rfl rfl)
theorem dX6_ticks_111 : decode cX6_ticks 111 = .ok (.invokevirtual 83, 3) := dk_182 0 83 (dk_at dksX6_ticks_4 17 rfl rfl)
theorem dX6_ticks_114 : decode cX6_ticks 114 = .ok (.iconst 1, 1) := dk_4 (dk_at dksX6_ticks_4 20 rfl rfl)
theorem dX6_ticks_115 : decode cX6_ticks 115 = .ok (.if_icmp .ne 8, 3) := dk_160 0 8 (dk_at dksX6_ticks_4 21 rfl rfl)
theorem dX6_ticks_118 : decode cX6_ticks 118 = .ok (.aload_n 0, 1) := dk_42 (dk_at dksX6_ticks_5 0 rfl rfl)
theorem dX6_ticks_119 : decode cX6_ticks 119 = .ok (.iload_n 2, 1) := dk_28 (dk_at dksX6_ticks_5 1 rfl rfl)
theorem dX6_ticks_120 : decode cX6_ticks 120 = .ok (.invokevirtual 290, 3) := dk_182 1 34 (dk_at dksX6_ticks_5 2 rfl rfl)
theorem dX6_ticks_123 : decode cX6_ticks 123 = .ok (.iinc 2 1, 3) := dk_132 2 1 (dk_at dksX6_ticks_5 5 rfl rfl)
theorem dX6_ticks_126 : decode cX6_ticks 126 = .ok (.goto (-28), 3) := dk_167 255 228 (dk_at dksX6_ticks_5 8 rfl rfl)
theorem dX6_ticks_129 : decode cX6_ticks 129 = .ok (.aload_n 0, 1) := dk_42 (dk_at dksX6_ticks_5 11 rfl rfl)
theorem dX6_ticks_130 : decode cX6_ticks 130 = .ok (.getfield 9, 3) := dk_180 0 9 (dk_at dksX6_ticks_5 12 rfl rfl)
theorem dX6_ticks_133 : decode cX6_ticks 133 = .ok (.iconst 4, 1) := dk_7 (dk_at dksX6_ticks_5 15 rfl rfl)
theorem dX6_ticks_134 : decode cX6_ticks 134 = .ok (.iaload, 1) := dk_46 (dk_at dksX6_ticks_5 16 rfl rfl)
theorem dX6_ticks_135 : decode cX6_ticks 135 = .ok (.istore_n 2, 1) := dk_61 (dk_at dksX6_ticks_5 17 rfl rfl)
theorem dX6_ticks_136 : decode cX6_ticks 136 = .ok (.iconst 0, 1) := dk_3 (dk_at dksX6_ticks_5 18 rfl rfl)
theorem dX6_ticks_137 : decode cX6_ticks 137 = .ok (.istore_n 3, 1) := dk_62 (dk_at dksX6_ticks_5 19 rfl rfl)
theorem dX6_ticks_138 : decode cX6_ticks 138 = .ok (.iload_n 3, 1) := dk_29 (dk_at dksX6_ticks_5 20 rfl rfl)
theorem dX6_ticks_139 : decode cX6_ticks 139 = .ok (.bipush 8, 2) := dk_16 8 (dk_at dksX6_ticks_5 21 rfl rfl)
theorem dX6_ticks_141 : decode cX6_ticks 141 = .ok (.if_icmp .ge 38, 3) := dk_162 0 38 (dk_at dksX6_ticks_6 0 rfl rfl)
theorem dX6_ticks_144 : decode cX6_ticks 144 = .ok (.iload_n 2, 1) := dk_28 (dk_at dksX6_ticks_6 3 rfl rfl)
theorem dX6_ticks_145 : decode cX6_ticks 145 = .ok (.ifCond .le 34, 3) := dk_158 0 34 (dk_at dksX6_ticks_6 4 rfl rfl)
theorem dX6_ticks_148 : decode cX6_ticks 148 = .ok (.aload_n 0, 1) := dk_42 (dk_at dksX6_ticks_6 7 rfl rfl)
theorem dX6_ticks_149 : decode cX6_ticks 149 = .ok (.getfield 9, 3) := dk_180 0 9 (dk_at dksX6_ticks_6 8 rfl rfl)
theorem dX6_ticks_152 : decode cX6_ticks 152 = .ok (.iconst 0, 1) := dk_3 (dk_at dksX6_ticks_6 11 rfl rfl)
theorem dX6_ticks_153 : decode cX6_ticks 153 = .ok (.iaload, 1) := dk_46 (dk_at dksX6_ticks_6 12 rfl rfl)
theorem dX6_ticks_154 : decode cX6_ticks 154 = .ok (.iload_n 2, 1) := dk_28 (dk_at dksX6_ticks_6 13 rfl rfl)
theorem dX6_ticks_155 : decode cX6_ticks 155 = .ok (.irem, 1) := dk_112 (dk_at dksX6_ticks_6 14 rfl rfl)
theorem dX6_ticks_156 : decode cX6_ticks 156 = .ok (.ifCond .ne 23, 3) := dk_154 0 23 (dk_at dksX6_ticks_6 15 rfl rfl)
theorem dX6_ticks_159 : decode cX6_ticks 159 = .ok (.aload_n 0, 1) := dk_42 (dk_at dksX6_ticks_6 18 rfl rfl)
theorem dX6_ticks_160 : decode cX6_ticks 160 = .ok (.getfield 19, 3) := dk_180 0 19 (dk_at dksX6_ticks_6 19 rfl rfl)
theorem dX6_ticks_163 : decode cX6_ticks 163 = .ok (.iconst 0, 1) := dk_3 (dk_at dksX6_ticks_6 22 rfl rfl)
theorem dX6_ticks_164 : decode cX6_ticks 164 = .ok (.iload_n 3, 1) := dk_29 (dk_at dksX6_ticks_6 23 rfl rfl)
theorem dX6_ticks_165 : decode cX6_ticks 165 = .ok (.iadd, 1) := dk_96 (dk_at dksX6_ticks_7 0 rfl rfl)
theorem dX6_ticks_166 : decode cX6_ticks 166 = .ok (.dup2, 1) := dk_92 (dk_at dksX6_ticks_7 1 rfl rfl)
theorem dX6_ticks_167 : decode cX6_ticks 167 = .ok (.laload, 1) := dk_47 (dk_at dksX6_ticks_7 2 rfl rfl)
theorem dX6_ticks_168 : decode cX6_ticks 168 = .ok (.ldc2_w 293, 3) := dk_20 1 37 (dk_at dksX6_ticks_7 3 rfl rfl)
theorem dX6_ticks_171 : decode cX6_ticks 171 = .ok (.ldiv, 1) := dk_109 (dk_at dksX6_ticks_7 6 rfl rfl)
theorem dX6_ticks_172 : decode cX6_ticks 172 = .ok (.lastore, 1) := dk_80 (dk_at dksX6_ticks_7 7 rfl rfl)
theorem dX6_ticks_173 : decode cX6_ticks 173 = .ok (.iinc 3 1, 3) := dk_132 3 1 (dk_at dksX6_ticks_7 8 rfl rfl)
theorem dX6_ticks_176 : decode cX6_ticks 176 = .ok (.goto (-38), 3) := dk_167 255 218 (dk_at dksX6_ticks_7 11 rfl rfl)
theorem dX6_ticks_179 : decode cX6_ticks 179 = .ok (.iconst 0, 1) := dk_3 (dk_at dksX6_ticks_7 14 rfl rfl)
theorem dX6_ticks_180 : decode cX6_ticks 180 = .ok (.istore_n 3, 1) := dk_62 (dk_at dksX6_ticks_7 15 rfl rfl)
theorem dX6_ticks_181 : decode cX6_ticks 181 = .ok (.iload_n 3, 1) := dk_29 (dk_at dksX6_ticks_7 16 rfl rfl)
theorem dX6_ticks_182 : decode cX6_ticks 182 = .ok (.bipush 12, 2) := dk_16 12 (dk_at dksX6_ticks_7 17 rfl rfl)
theorem dX6_ticks_184 : decode cX6_ticks 184 = .ok (.if_icmp .ge 45, 3) := dk_162 0 45 (dk_at dksX6_ticks_7 19 rfl rfl)
theorem dX6_ticks_187 : decode cX6_ticks 187 = .ok (.aload_n 0, 1) := dk_42 (dk_at dksX6_ticks_7 22 rfl rfl)
theorem dX6_ticks_188 : decode cX6_ticks 188 = .ok (.iload_n 3, 1) := dk_29 (dk_at dksX6_ticks_7 23 rfl rfl)
theorem dX6_ticks_189 : decode cX6_ticks 189 = .ok (.invokevirtual 111, 3) := dk_182 0 111 (dk_at dksX6_ticks_8 0 rfl rfl)
theorem dX6_ticks_192 : decode cX6_ticks 192 = .ok (.ifCond .eq 31, 3) := dk_153 0 31 (dk_at dksX6_ticks_8 3 rfl rfl)
theorem dX6_ticks_195 : decode cX6_ticks 195 = .ok (.aload_n 0, 1) := dk_42 (dk_at dksX6_ticks_8 6 rfl rfl)
theorem dX6_ticks_196 : decode cX6_ticks 196 = .ok (.iload_n 3, 1) := dk_29 (dk_at dksX6_ticks_8 7 rfl rfl)
theorem dX6_ticks_197 : decode cX6_ticks 197 = .ok (.iconst 4, 1) := dk_7 (dk_at dksX6_ticks_8 8 rfl rfl)
theorem dX6_ticks_198 : decode cX6_ticks 198 = .ok (.invokevirtual 95, 3) := dk_182 0 95 (dk_at dksX6_ticks_8 9 rfl rfl)
theorem dX6_ticks_201 : decode cX6_ticks 201 = .ok (.aload_n 0, 1) := dk_42 (dk_at dksX6_ticks_8 12 rfl rfl)
theorem dX6_ticks_202 : decode cX6_ticks 202 = .ok (.getfield 9, 3) := dk_180 0 9 (dk_at dksX6_ticks_8 13 rfl rfl)
theorem dX6_ticks_205 : decode cX6_ticks 205 = .ok (.iconst 0, 1) := dk_3 (dk_at dksX6_ticks_8 16 rfl rfl)
theorem dX6_ticks_206 : decode cX6_ticks 206 = .ok (.iaload, 1) := dk_46 (dk_at dksX6_ticks_8 17 rfl rfl)
theorem dX6_ticks_207 : decode cX6_ticks 207 = .ok (.if_icmp .gt 16, 3) := dk_163 0 16 (dk_at dksX6_ticks_8 18 rfl rfl)
theorem dX6_ticks_210 : decode cX6_ticks 210 = .ok (.aload_n 0, 1) := dk_42 (dk_at dksX6_ticks_8 21 rfl rfl)
theorem dX6_ticks_211 : decode cX6_ticks 211 = .ok (.getfield 9, 3) := dk_180 0 9 (dk_at dksX6_ticks_9 0 rfl rfl)
theorem dX6_ticks_214 : decode cX6_ticks 214 = .ok (.bipush 24, 2) := dk_16 24 (dk_at dksX6_ticks_9 3 rfl rfl)
theorem dX6_ticks_216 : decode cX6_ticks 216 = .ok (.iload_n 3, 1) := dk_29 (dk_at dksX6_ticks_9 5 rfl rfl)
theorem dX6_ticks_217 : decode cX6_ticks 217 = .ok (.bipush 6, 2) := dk_16 6 (dk_at dksX6_ticks_9 6 rfl rfl)
theorem dX6_ticks_219 : decode cX6_ticks 219 = .ok (.imul, 1) := dk_104 (dk_at dksX6_ticks_9 8 rfl rfl)
theorem dX6_ticks_220 : decode cX6_ticks 220 = .ok (.iadd, 1) := dk_96 (dk_at dksX6_ticks_9 9 rfl rfl)
theorem dX6_ticks_221 : decode cX6_ticks 221 = .ok (.iconst (-1), 1) := dk_2 (dk_at dksX6_ticks_9 10 rfl rfl)
theorem dX6_ticks_222 : decode cX6_ticks 222 = .ok (.iastore, 1) := dk_79 (dk_at dksX6_ticks_9 11 rfl rfl)
theorem dX6_ticks_223 : decode cX6_ticks 223 = .ok (.iinc 3 1, 3) := dk_132 3 1 (dk_at dksX6_ticks_9 12 rfl rfl)
theorem dX6_ticks_226 : decode cX6_ticks 226 = .ok (.goto (-45), 3) := dk_167 255 211 (dk_at dksX6_ticks_9 15 rfl rfl)
theorem dX6_ticks_229 : decode cX6_ticks 229 = .ok (.return_, 1) := dk_177 (dk_at dksX6_ticks_9 18 rfl rfl)
abbrev cX6_passes : ByteArray := prog_33_method_68_code
def dkwX6_passes_10 : List UInt8 := [21, 4, 167, 0, 9, 42, 180, 0, 9, 6, 46, 54, 4, 132, 5, 1, 167, 255, 71, 28, 172]
abbrev dktX6_passes_10 : List UInt8 := dkwX6_passes_10 ++ []
def dkwX6_passes_9 : List UInt8 := [162, 0, 16, 42, 21, 6, 182, 1, 25, 153, 0, 7, 4, 167, 0, 4, 3, 96, 62, 21, 7, 153, 0, 8]
abbrev dktX6_passes_9 : List UInt8 := dkwX6_passes_9 ++ dktX6_passes_10
def dkwX6_passes_8 : List UInt8 := [21, 7, 153, 0, 7, 10, 167, 0, 4, 9, 97, 80, 167, 0, 48, 29, 29, 42, 180, 0, 9, 5, 46]
abbrev dktX6_passes_8 : List UInt8 := dkwX6_passes_8 ++ dktX6_passes_9
def dkwX6_passes_7 : List UInt8 := [182, 0, 139, 153, 0, 35, 42, 21, 6, 182, 1, 22, 132, 2, 1, 42, 180, 0, 19, 16, 12, 92, 47]
abbrev dktX6_passes_7 : List UInt8 := dkwX6_passes_7 ++ dktX6_passes_8
def dkwX6_passes_6 : List UInt8 := [155, 0, 7, 4, 167, 0, 4, 3, 54, 7, 42, 21, 6, 182, 1, 19, 42, 42, 180, 0, 9, 3, 46]
abbrev dktX6_passes_6 : List UInt8 := dkwX6_passes_6 ++ dktX6_passes_7
def dkwX6_passes_5 : List UInt8 := [164, 0, 6, 167, 0, 126, 21, 4, 21, 4, 158, 0, 7, 4, 167, 0, 4, 3, 100, 54, 4, 21, 4]
abbrev dktX6_passes_5 : List UInt8 := dkwX6_passes_5 ++ dktX6_passes_6
def dkwX6_passes_4 : List UInt8 := [3, 182, 0, 83, 182, 1, 16, 96, 42, 180, 0, 9, 16, 16, 42, 21, 6, 3, 182, 0, 83, 96, 46]
abbrev dktX6_passes_4 : List UInt8 := dkwX6_passes_4 ++ dktX6_passes_5
def dkwX6_passes_3 : List UInt8 := [21, 4, 153, 0, 180, 42, 180, 0, 61, 21, 5, 46, 54, 6, 42, 21, 6, 182, 0, 220, 42, 42, 21, 6]
abbrev dktX6_passes_3 : List UInt8 := dkwX6_passes_3 ++ dktX6_passes_4
def dkwX6_passes_2 : List UInt8 := [97, 80, 42, 182, 0, 232, 60, 3, 61, 3, 62, 2, 54, 4, 3, 54, 5, 21, 5, 27, 162, 0, 185]
abbrev dktX6_passes_2 : List UInt8 := dkwX6_passes_2 ++ dktX6_passes_3
def dkwX6_passes_1 : List UInt8 := [79, 42, 27, 16, 9, 2, 182, 0, 188, 132, 1, 1, 167, 255, 222, 42, 180, 0, 19, 16, 15, 92, 47, 10]
abbrev dktX6_passes_1 : List UInt8 := dkwX6_passes_1 ++ dktX6_passes_2
def dkwX6_passes_0 : List UInt8 := [3, 60, 27, 42, 180, 0, 9, 4, 46, 162, 0, 30, 42, 180, 0, 64, 27, 42, 27, 16, 9, 182, 0, 83]
abbrev dktX6_passes_0 : List UInt8 := dkwX6_passes_0 ++ dktX6_passes_1
theorem dksX6_passes_0 : cX6_passes.data.toList.drop 0 = dktX6_passes_0 := by decide +kernel
theorem dksX6_passes_1 : cX6_passes.data.toList.drop 24 = dktX6_passes_1 := dk_seg dksX6_passes_0 24 rfl rfl
theorem dksX6_passes_2 : cX6_passes.data.toList.drop 48 = dktX6_passes_2 := dk_seg dksX6_passes_1 24 rfl rfl
theorem dksX6_passes_3 : cX6_passes.data.toList.drop 71 = dktX6_passes_3 := dk_seg dksX6_passes_2 23 rfl rfl
theorem dksX6_passes_4 : cX6_passes.data.toList.drop 95 = dktX6_passes_4 := dk_seg dksX6_passes_3 24 rfl rfl
theorem dksX6_passes_5 : cX6_passes.data.toList.drop 118 = dktX6_passes_5 := dk_seg dksX6_passes_4 23 rfl rfl
theorem dksX6_passes_6 : cX6_passes.data.toList.drop 141 = dktX6_passes_6 := dk_seg dksX6_passes_5 23 rfl rfl
theorem dksX6_passes_7 : cX6_passes.data.toList.drop 164 = dktX6_passes_7 := dk_seg dksX6_passes_6 23 rfl rfl
theorem dksX6_passes_8 : cX6_passes.data.toList.drop 187 = dktX6_passes_8 := dk_seg dksX6_passes_7 23 rfl rfl
theorem dksX6_passes_9 : cX6_passes.data.toList.drop 210 = dktX6_passes_9 := dk_seg dksX6_passes_8 23 rfl rfl
theorem dksX6_passes_10 : cX6_passes.data.toList.drop 234 = dktX6_passes_10 := dk_seg dksX6_passes_9 24 rfl rfl
theorem dX6_passes_0 : decode cX6_passes 0 = .ok (.iconst 0, 1) := dk_3 (dk_at dksX6_passes_0 0 rfl rfl)
theorem dX6_passes_1 : decode cX6_passes 1 = .ok (.istore_n 1, 1) := dk_60 (dk_at dksX6_passes_0 1 rfl rfl)
theorem dX6_passes_2 : decode cX6_passes 2 = .ok (.iload_n 1, 1) := dk_27 (dk_at dksX6_passes_0 2 rfl rfl)
theorem dX6_passes_3 : decode cX6_passes 3 = .ok (.aload_n 0, 1) := dk_42 (dk_at dksX6_passes_0 3 rfl rfl)
theorem dX6_passes_4 : decode cX6_passes 4 = .ok (.getfield 9, 3) := dk_180 0 9 (dk_at dksX6_passes_0 4 rfl rfl)
theorem dX6_passes_7 : decode cX6_passes 7 = .ok (.iconst 1, 1) := dk_4 (dk_at dksX6_passes_0 7 rfl rfl)
theorem dX6_passes_8 : decode cX6_passes 8 = .ok (.iaload, 1) := dk_46 (dk_at dksX6_passes_0 8 rfl rfl)
theorem dX6_passes_9 : decode cX6_passes 9 = .ok (.if_icmp .ge 30, 3) := dk_162 0 30 (dk_at dksX6_passes_0 9 rfl rfl)
theorem dX6_passes_12 : decode cX6_passes 12 = .ok (.aload_n 0, 1) := dk_42 (dk_at dksX6_passes_0 12 rfl rfl)
theorem dX6_passes_13 : decode cX6_passes 13 = .ok (.getfield 64, 3) := dk_180 0 64 (dk_at dksX6_passes_0 13 rfl rfl)
theorem dX6_passes_16 : decode cX6_passes 16 = .ok (.iload_n 1, 1) := dk_27 (dk_at dksX6_passes_0 16 rfl rfl)
theorem dX6_passes_17 : decode cX6_passes 17 = .ok (.aload_n 0, 1) := dk_42 (dk_at dksX6_passes_0 17 rfl rfl)
theorem dX6_passes_18 : decode cX6_passes 18 = .ok (.iload_n 1, 1) := dk_27 (dk_at dksX6_passes_0 18 rfl rfl)
theorem dX6_passes_19 : decode cX6_passes 19 = .ok (.bipush 9, 2) := dk_16 9 (dk_at dksX6_passes_0 19 rfl rfl)
theorem dX6_passes_21 : decode cX6_passes 21 = .ok (.invokevirtual 83, 3) := dk_182 0 83 (dk_at dksX6_passes_0 21 rfl rfl)
theorem dX6_passes_24 : decode cX6_passes 24 = .ok (.iastore, 1) := dk_79 (dk_at dksX6_passes_1 0 rfl rfl)
theorem dX6_passes_25 : decode cX6_passes 25 = .ok (.aload_n 0, 1) := dk_42 (dk_at dksX6_passes_1 1 rfl rfl)
theorem dX6_passes_26 : decode cX6_passes 26 = .ok (.iload_n 1, 1) := dk_27 (dk_at dksX6_passes_1 2 rfl rfl)
theorem dX6_passes_27 : decode cX6_passes 27 = .ok (.bipush 9, 2) := dk_16 9 (dk_at dksX6_passes_1 3 rfl rfl)
theorem dX6_passes_29 : decode cX6_passes 29 = .ok (.iconst (-1), 1) := dk_2 (dk_at dksX6_passes_1 5 rfl rfl)
theorem dX6_passes_30 : decode cX6_passes 30 = .ok (.invokevirtual 188, 3) := dk_182 0 188 (dk_at dksX6_passes_1 6 rfl rfl)
theorem dX6_passes_33 : decode cX6_passes 33 = .ok (.iinc 1 1, 3) := dk_132 1 1 (dk_at dksX6_passes_1 9 rfl rfl)
theorem dX6_passes_36 : decode cX6_passes 36 = .ok (.goto (-34), 3) := dk_167 255 222 (dk_at dksX6_passes_1 12 rfl rfl)
theorem dX6_passes_39 : decode cX6_passes 39 = .ok (.aload_n 0, 1) := dk_42 (dk_at dksX6_passes_1 15 rfl rfl)
theorem dX6_passes_40 : decode cX6_passes 40 = .ok (.getfield 19, 3) := dk_180 0 19 (dk_at dksX6_passes_1 16 rfl rfl)
theorem dX6_passes_43 : decode cX6_passes 43 = .ok (.bipush 15, 2) := dk_16 15 (dk_at dksX6_passes_1 19 rfl rfl)
theorem dX6_passes_45 : decode cX6_passes 45 = .ok (.dup2, 1) := dk_92 (dk_at dksX6_passes_1 21 rfl rfl)
theorem dX6_passes_46 : decode cX6_passes 46 = .ok (.laload, 1) := dk_47 (dk_at dksX6_passes_1 22 rfl rfl)
theorem dX6_passes_47 : decode cX6_passes 47 = .ok (.lconst 1, 1) := dk_10 (dk_at dksX6_passes_1 23 rfl rfl)
theorem dX6_passes_48 : decode cX6_passes 48 = .ok (.ladd, 1) := dk_97 (dk_at dksX6_passes_2 0 rfl rfl)
theorem dX6_passes_49 : decode cX6_passes 49 = .ok (.lastore, 1) := dk_80 (dk_at dksX6_passes_2 1 rfl rfl)
theorem dX6_passes_50 : decode cX6_passes 50 = .ok (.aload_n 0, 1) := dk_42 (dk_at dksX6_passes_2 2 rfl rfl)
theorem dX6_passes_51 : decode cX6_passes 51 = .ok (.invokevirtual 232, 3) := dk_182 0 232 (dk_at dksX6_passes_2 3 rfl rfl)
theorem dX6_passes_54 : decode cX6_passes 54 = .ok (.istore_n 1, 1) := dk_60 (dk_at dksX6_passes_2 6 rfl rfl)
theorem dX6_passes_55 : decode cX6_passes 55 = .ok (.iconst 0, 1) := dk_3 (dk_at dksX6_passes_2 7 rfl rfl)
theorem dX6_passes_56 : decode cX6_passes 56 = .ok (.istore_n 2, 1) := dk_61 (dk_at dksX6_passes_2 8 rfl rfl)
theorem dX6_passes_57 : decode cX6_passes 57 = .ok (.iconst 0, 1) := dk_3 (dk_at dksX6_passes_2 9 rfl rfl)
theorem dX6_passes_58 : decode cX6_passes 58 = .ok (.istore_n 3, 1) := dk_62 (dk_at dksX6_passes_2 10 rfl rfl)
theorem dX6_passes_59 : decode cX6_passes 59 = .ok (.iconst (-1), 1) := dk_2 (dk_at dksX6_passes_2 11 rfl rfl)
theorem dX6_passes_60 : decode cX6_passes 60 = .ok (.istore 4, 2) := dk_54 4 (dk_at dksX6_passes_2 12 rfl rfl)
theorem dX6_passes_62 : decode cX6_passes 62 = .ok (.iconst 0, 1) := dk_3 (dk_at dksX6_passes_2 14 rfl rfl)
theorem dX6_passes_63 : decode cX6_passes 63 = .ok (.istore 5, 2) := dk_54 5 (dk_at dksX6_passes_2 15 rfl rfl)
theorem dX6_passes_65 : decode cX6_passes 65 = .ok (.iload 5, 2) := dk_21 5 (dk_at dksX6_passes_2 17 rfl rfl)
theorem dX6_passes_67 : decode cX6_passes 67 = .ok (.iload_n 1, 1) := dk_27 (dk_at dksX6_passes_2 19 rfl rfl)
theorem dX6_passes_68 : decode cX6_passes 68 = .ok (.if_icmp .ge 185, 3) := dk_162 0 185 (dk_at dksX6_passes_2 20 rfl rfl)
theorem dX6_passes_71 : decode cX6_passes 71 = .ok (.iload 4, 2) := dk_21 4 (dk_at dksX6_passes_3 0 rfl rfl)
theorem dX6_passes_73 : decode cX6_passes 73 = .ok (.ifCond .eq 180, 3) := dk_153 0 180 (dk_at dksX6_passes_3 2 rfl rfl)
theorem dX6_passes_76 : decode cX6_passes 76 = .ok (.aload_n 0, 1) := dk_42 (dk_at dksX6_passes_3 5 rfl rfl)
theorem dX6_passes_77 : decode cX6_passes 77 = .ok (.getfield 61, 3) := dk_180 0 61 (dk_at dksX6_passes_3 6 rfl rfl)
theorem dX6_passes_80 : decode cX6_passes 80 = .ok (.iload 5, 2) := dk_21 5 (dk_at dksX6_passes_3 9 rfl rfl)
theorem dX6_passes_82 : decode cX6_passes 82 = .ok (.iaload, 1) := dk_46 (dk_at dksX6_passes_3 11 rfl rfl)
theorem dX6_passes_83 : decode cX6_passes 83 = .ok (.istore 6, 2) := dk_54 6 (dk_at dksX6_passes_3 12 rfl rfl)
theorem dX6_passes_85 : decode cX6_passes 85 = .ok (.aload_n 0, 1) := dk_42 (dk_at dksX6_passes_3 14 rfl rfl)
theorem dX6_passes_86 : decode cX6_passes 86 = .ok (.iload 6, 2) := dk_21 6 (dk_at dksX6_passes_3 15 rfl rfl)
theorem dX6_passes_88 : decode cX6_passes 88 = .ok (.invokevirtual 220, 3) := dk_182 0 220 (dk_at dksX6_passes_3 17 rfl rfl)
theorem dX6_passes_91 : decode cX6_passes 91 = .ok (.aload_n 0, 1) := dk_42 (dk_at dksX6_passes_3 20 rfl rfl)
theorem dX6_passes_92 : decode cX6_passes 92 = .ok (.aload_n 0, 1) := dk_42 (dk_at dksX6_passes_3 21 rfl rfl)
theorem dX6_passes_93 : decode cX6_passes 93 = .ok (.iload 6, 2) := dk_21 6 (dk_at dksX6_passes_3 22 rfl rfl)
theorem dX6_passes_95 : decode cX6_passes 95 = .ok (.iconst 0, 1) := dk_3 (dk_at dksX6_passes_4 0 rfl rfl)
theorem dX6_passes_96 : decode cX6_passes 96 = .ok (.invokevirtual 83, 3) := dk_182 0 83 (dk_at dksX6_passes_4 1 rfl rfl)
theorem dX6_passes_99 : decode cX6_passes 99 = .ok (.invokevirtual 272, 3) := dk_182 1 16 (dk_at dksX6_passes_4 4 rfl rfl)
theorem dX6_passes_102 : decode cX6_passes 102 = .ok (.iadd, 1) := dk_96 (dk_at dksX6_passes_4 7 rfl rfl)
theorem dX6_passes_103 : decode cX6_passes 103 = .ok (.aload_n 0, 1) := dk_42 (dk_at dksX6_passes_4 8 rfl rfl)
theorem dX6_passes_104 : decode cX6_passes 104 = .ok (.getfield 9, 3) := dk_180 0 9 (dk_at dksX6_passes_4 9 rfl rfl)
theorem dX6_passes_107 : decode cX6_passes 107 = .ok (.bipush 16, 2) := dk_16 16 (dk_at dksX6_passes_4 12 rfl rfl)
theorem dX6_passes_109 : decode cX6_passes 109 = .ok (.aload_n 0, 1) := dk_42 (dk_at dksX6_passes_4 14 rfl rfl)
theorem dX6_passes_110 : decode cX6_passes 110 = .ok (.iload 6, 2) := dk_21 6 (dk_at dksX6_passes_4 15 rfl rfl)
theorem dX6_passes_112 : decode cX6_passes 112 = .ok (.iconst 0, 1) := dk_3 (dk_at dksX6_passes_4 17 rfl rfl)
theorem dX6_passes_113 : decode cX6_passes 113 = .ok (.invokevirtual 83, 3) := dk_182 0 83 (dk_at dksX6_passes_4 18 rfl rfl)
theorem dX6_passes_116 : decode cX6_passes 116 = .ok (.iadd, 1) := dk_96 (dk_at dksX6_passes_4 21 rfl rfl)
theorem dX6_passes_117 : decode cX6_passes 117 = .ok (.iaload, 1) := dk_46 (dk_at dksX6_passes_4 22 rfl rfl)
theorem dX6_passes_118 : decode cX6_passes 118 = .ok (.if_icmp .le 6, 3) := dk_164 0 6 (dk_at dksX6_passes_5 0 rfl rfl)
theorem dX6_passes_121 : decode cX6_passes 121 = .ok (.goto 126, 3) := dk_167 0 126 (dk_at dksX6_passes_5 3 rfl rfl)
theorem dX6_passes_124 : decode cX6_passes 124 = .ok (.iload 4, 2) := dk_21 4 (dk_at dksX6_passes_5 6 rfl rfl)
theorem dX6_passes_126 : decode cX6_passes 126 = .ok (.iload 4, 2) := dk_21 4 (dk_at dksX6_passes_5 8 rfl rfl)
theorem dX6_passes_128 : decode cX6_passes 128 = .ok (.ifCond .le 7, 3) := dk_158 0 7 (dk_at dksX6_passes_5 10 rfl rfl)
theorem dX6_passes_131 : decode cX6_passes 131 = .ok (.iconst 1, 1) := dk_4 (dk_at dksX6_passes_5 13 rfl rfl)
theorem dX6_passes_132 : decode cX6_passes 132 = .ok (.goto 4, 3) := dk_167 0 4 (dk_at dksX6_passes_5 14 rfl rfl)
theorem dX6_passes_135 : decode cX6_passes 135 = .ok (.iconst 0, 1) := dk_3 (dk_at dksX6_passes_5 17 rfl rfl)
theorem dX6_passes_136 : decode cX6_passes 136 = .ok (.isub, 1) := dk_100 (dk_at dksX6_passes_5 18 rfl rfl)
theorem dX6_passes_137 : decode cX6_passes 137 = .ok (.istore 4, 2) := dk_54 4 (dk_at dksX6_passes_5 19 rfl rfl)
theorem dX6_passes_139 : decode cX6_passes 139 = .ok (.iload 4, 2) := dk_21 4 (dk_at dksX6_passes_5 21 rfl rfl)
theorem dX6_passes_141 : decode cX6_passes 141 = .ok (.ifCond .lt 7, 3) := dk_155 0 7 (dk_at dksX6_passes_6 0 rfl rfl)
theorem dX6_passes_144 : decode cX6_passes 144 = .ok (.iconst 1, 1) := dk_4 (dk_at dksX6_passes_6 3 rfl rfl)
theorem dX6_passes_145 : decode cX6_passes 145 = .ok (.goto 4, 3) := dk_167 0 4 (dk_at dksX6_passes_6 4 rfl rfl)
theorem dX6_passes_148 : decode cX6_passes 148 = .ok (.iconst 0, 1) := dk_3 (dk_at dksX6_passes_6 7 rfl rfl)
theorem dX6_passes_149 : decode cX6_passes 149 = .ok (.istore 7, 2) := dk_54 7 (dk_at dksX6_passes_6 8 rfl rfl)
theorem dX6_passes_151 : decode cX6_passes 151 = .ok (.aload_n 0, 1) := dk_42 (dk_at dksX6_passes_6 10 rfl rfl)
theorem dX6_passes_152 : decode cX6_passes 152 = .ok (.iload 6, 2) := dk_21 6 (dk_at dksX6_passes_6 11 rfl rfl)
theorem dX6_passes_154 : decode cX6_passes 154 = .ok (.invokevirtual 275, 3) := dk_182 1 19 (dk_at dksX6_passes_6 13 rfl rfl)
theorem dX6_passes_157 : decode cX6_passes 157 = .ok (.aload_n 0, 1) := dk_42 (dk_at dksX6_passes_6 16 rfl rfl)
theorem dX6_passes_158 : decode cX6_passes 158 = .ok (.aload_n 0, 1) := dk_42 (dk_at dksX6_passes_6 17 rfl rfl)
theorem dX6_passes_159 : decode cX6_passes 159 = .ok (.getfield 9, 3) := dk_180 0 9 (dk_at dksX6_passes_6 18 rfl rfl)
theorem dX6_passes_162 : decode cX6_passes 162 = .ok (.iconst 0, 1) := dk_3 (dk_at dksX6_passes_6 21 rfl rfl)
theorem dX6_passes_163 : decode cX6_passes 163 = .ok (.iaload, 1) := dk_46 (dk_at dksX6_passes_6 22 rfl rfl)
theorem dX6_passes_164 : decode cX6_passes 164 = .ok (.invokevirtual 139, 3) := dk_182 0 139 (dk_at dksX6_passes_7 0 rfl rfl)
theorem dX6_passes_167 : decode cX6_passes 167 = .ok (.ifCond .eq 35, 3) := dk_153 0 35 (dk_at dksX6_passes_7 3 rfl rfl)
theorem dX6_passes_170 : decode cX6_passes 170 = .ok (.aload_n 0, 1) := dk_42 (dk_at dksX6_passes_7 6 rfl rfl)
theorem dX6_passes_171 : decode cX6_passes 171 = .ok (.iload 6, 2) := dk_21 6 (dk_at dksX6_passes_7 7 rfl rfl)
theorem dX6_passes_173 : decode cX6_passes 173 = .ok (.invokevirtual 278, 3) := dk_182 1 22 (dk_at dksX6_passes_7 9 rfl rfl)
theorem dX6_passes_176 : decode cX6_passes 176 = .ok (.iinc 2 1, 3) := dk_132 2 1 (dk_at dksX6_passes_7 12 rfl rfl)
theorem dX6_passes_179 : decode cX6_passes 179 = .ok (.aload_n 0, 1) := dk_42 (dk_at dksX6_passes_7 15 rfl rfl)
theorem dX6_passes_180 : decode cX6_passes 180 = .ok (.getfield 19, 3) := dk_180 0 19 (dk_at dksX6_passes_7 16 rfl rfl)
theorem dX6_passes_183 : decode cX6_passes 183 = .ok (.bipush 12, 2) := dk_16 12 (dk_at dksX6_passes_7 19 rfl rfl)
theorem dX6_passes_185 : decode cX6_passes 185 = .ok (.dup2, 1) := dk_92 (dk_at dksX6_passes_7 21 rfl rfl)
theorem dX6_passes_186 : decode cX6_passes 186 = .ok (.laload, 1) := dk_47 (dk_at dksX6_passes_7 22 rfl rfl)
theorem dX6_passes_187 : decode cX6_passes 187 = .ok (.iload 7, 2) := dk_21 7 (dk_at dksX6_passes_8 0 rfl rfl)
theorem dX6_passes_189 : decode cX6_passes 189 = .ok (.ifCond .eq 7, 3) := dk_153 0 7 (dk_at dksX6_passes_8 2 rfl rfl)
theorem dX6_passes_192 : decode cX6_passes 192 = .ok (.lconst 1, 1) := dk_10 (dk_at dksX6_passes_8 5 rfl rfl)
theorem dX6_passes_193 : decode cX6_passes 193 = .ok (.goto 4, 3) := dk_167 0 4 (dk_at dksX6_passes_8 6 rfl rfl)
theorem dX6_passes_196 : decode cX6_passes 196 = .ok (.lconst 0, 1) := dk_9 (dk_at dksX6_passes_8 9 rfl rfl)
theorem dX6_passes_197 : decode cX6_passes 197 = .ok (.ladd, 1) := dk_97 (dk_at dksX6_passes_8 10 rfl rfl)
theorem dX6_passes_198 : decode cX6_passes 198 = .ok (.lastore, 1) := dk_80 (dk_at dksX6_passes_8 11 rfl rfl)
theorem dX6_passes_199 : decode cX6_passes 199 = .ok (.goto 48, 3) := dk_167 0 48 (dk_at dksX6_passes_8 12 rfl rfl)
theorem dX6_passes_202 : decode cX6_passes 202 = .ok (.iload_n 3, 1) := dk_29 (dk_at dksX6_passes_8 15 rfl rfl)
theorem dX6_passes_203 : decode cX6_passes 203 = .ok (.iload_n 3, 1) := dk_29 (dk_at dksX6_passes_8 16 rfl rfl)
theorem dX6_passes_204 : decode cX6_passes 204 = .ok (.aload_n 0, 1) := dk_42 (dk_at dksX6_passes_8 17 rfl rfl)
theorem dX6_passes_205 : decode cX6_passes 205 = .ok (.getfield 9, 3) := dk_180 0 9 (dk_at dksX6_passes_8 18 rfl rfl)
theorem dX6_passes_208 : decode cX6_passes 208 = .ok (.iconst 2, 1) := dk_5 (dk_at dksX6_passes_8 21 rfl rfl)
theorem dX6_passes_209 : decode cX6_passes 209 = .ok (.iaload, 1) := dk_46 (dk_at dksX6_passes_8 22 rfl rfl)
theorem dX6_passes_210 : decode cX6_passes 210 = .ok (.if_icmp .ge 16, 3) := dk_162 0 16 (dk_at dksX6_passes_9 0 rfl rfl)
theorem dX6_passes_213 : decode cX6_passes 213 = .ok (.aload_n 0, 1) := dk_42 (dk_at dksX6_passes_9 3 rfl rfl)
theorem dX6_passes_214 : decode cX6_passes 214 = .ok (.iload 6, 2) := dk_21 6 (dk_at dksX6_passes_9 4 rfl rfl)
theorem dX6_passes_216 : decode cX6_passes 216 = .ok (.invokevirtual 281, 3) := dk_182 1 25 (dk_at dksX6_passes_9 6 rfl rfl)
theorem dX6_passes_219 : decode cX6_passes 219 = .ok (.ifCond .eq 7, 3) := dk_153 0 7 (dk_at dksX6_passes_9 9 rfl rfl)
theorem dX6_passes_222 : decode cX6_passes 222 = .ok (.iconst 1, 1) := dk_4 (dk_at dksX6_passes_9 12 rfl rfl)
theorem dX6_passes_223 : decode cX6_passes 223 = .ok (.goto 4, 3) := dk_167 0 4 (dk_at dksX6_passes_9 13 rfl rfl)
theorem dX6_passes_226 : decode cX6_passes 226 = .ok (.iconst 0, 1) := dk_3 (dk_at dksX6_passes_9 16 rfl rfl)
theorem dX6_passes_227 : decode cX6_passes 227 = .ok (.iadd, 1) := dk_96 (dk_at dksX6_passes_9 17 rfl rfl)
theorem dX6_passes_228 : decode cX6_passes 228 = .ok (.istore_n 3, 1) := dk_62 (dk_at dksX6_passes_9 18 rfl rfl)
theorem dX6_passes_229 : decode cX6_passes 229 = .ok (.iload 7, 2) := dk_21 7 (dk_at dksX6_passes_9 19 rfl rfl)
theorem dX6_passes_231 : decode cX6_passes 231 = .ok (.ifCond .eq 8, 3) := dk_153 0 8 (dk_at dksX6_passes_9 21 rfl rfl)
theorem dX6_passes_234 : decode cX6_passes 234 = .ok (.iload 4, 2) := dk_21 4 (dk_at dksX6_passes_10 0 rfl rfl)
theorem dX6_passes_236 : decode cX6_passes 236 = .ok (.goto 9, 3) := dk_167 0 9 (dk_at dksX6_passes_10 2 rfl rfl)
theorem dX6_passes_239 : decode cX6_passes 239 = .ok (.aload_n 0, 1) := dk_42 (dk_at dksX6_passes_10 5 rfl rfl)
theorem dX6_passes_240 : decode cX6_passes 240 = .ok (.getfield 9, 3) := dk_180 0 9 (dk_at dksX6_passes_10 6 rfl rfl)
theorem dX6_passes_243 : decode cX6_passes 243 = .ok (.iconst 3, 1) := dk_6 (dk_at dksX6_passes_10 9 rfl rfl)
theorem dX6_passes_244 : decode cX6_passes 244 = .ok (.iaload, 1) := dk_46 (dk_at dksX6_passes_10 10 rfl rfl)
theorem dX6_passes_245 : decode cX6_passes 245 = .ok (.istore 4, 2) := dk_54 4 (dk_at dksX6_passes_10 11 rfl rfl)
theorem dX6_passes_247 : decode cX6_passes 247 = .ok (.iinc 5 1, 3) := dk_132 5 1 (dk_at dksX6_passes_10 13 rfl rfl)
theorem dX6_passes_250 : decode cX6_passes 250 = .ok (.goto (-185), 3) := dk_167 255 71 (dk_at dksX6_passes_10 16 rfl rfl)
theorem dX6_passes_253 : decode cX6_passes 253 = .ok (.iload_n 2, 1) := dk_28 (dk_at dksX6_passes_10 19 rfl rfl)
theorem dX6_passes_254 : decode cX6_passes 254 = .ok (.ireturn, 1) := dk_172 (dk_at dksX6_passes_10 20 rfl rfl)
abbrev cX6_isColumn : ByteArray := prog_33_method_74_code
def dkwX6_isColumn_0 : List UInt8 := [26, 133, 9, 20, 0, 245, 184, 0, 79, 172]
abbrev dktX6_isColumn_0 : List UInt8 := dkwX6_isColumn_0 ++ []
theorem dksX6_isColumn_0 : cX6_isColumn.data.toList.drop 0 = dktX6_isColumn_0 := by decide +kernel
theorem dX6_isColumn_0 : decode cX6_isColumn 0 = .ok (.iload_n 0, 1) := dk_26 (dk_at dksX6_isColumn_0 0 rfl rfl)
theorem dX6_isColumn_1 : decode cX6_isColumn 1 = .ok (.i2l, 1) := dk_133 (dk_at dksX6_isColumn_0 1 rfl rfl)
theorem dX6_isColumn_2 : decode cX6_isColumn 2 = .ok (.lconst 0, 1) := dk_9 (dk_at dksX6_isColumn_0 2 rfl rfl)
theorem dX6_isColumn_3 : decode cX6_isColumn 3 = .ok (.ldc2_w 245, 3) := dk_20 0 245 (dk_at dksX6_isColumn_0 3 rfl rfl)
theorem dX6_isColumn_6 : decode cX6_isColumn 6 = .ok (.invokestatic 79, 3) := dk_184 0 79 (dk_at dksX6_isColumn_0 6 rfl rfl)
theorem dX6_isColumn_9 : decode cX6_isColumn 9 = .ok (.ireturn, 1) := dk_172 (dk_at dksX6_isColumn_0 9 rfl rfl)
abbrev cX6_holderOf : ByteArray := prog_33_method_69_code
def dkwX6_holderOf_2 : List UInt8 := [172, 132, 3, 1, 167, 255, 218, 132, 2, 1, 167, 255, 200, 2, 172]
abbrev dktX6_holderOf_2 : List UInt8 := dkwX6_holderOf_2 ++ []
def dkwX6_holderOf_1 : List UInt8 := [42, 28, 29, 182, 0, 98, 153, 0, 19, 42, 28, 29, 182, 0, 105, 27, 122, 4, 126, 4, 160, 0, 5, 28]
abbrev dktX6_holderOf_1 : List UInt8 := dkwX6_holderOf_1 ++ dktX6_holderOf_2
def dkwX6_holderOf_0 : List UInt8 := [3, 61, 28, 42, 180, 0, 9, 4, 46, 162, 0, 52, 3, 62, 29, 42, 28, 7, 182, 0, 83, 162, 0, 34]
abbrev dktX6_holderOf_0 : List UInt8 := dkwX6_holderOf_0 ++ dktX6_holderOf_1
theorem dksX6_holderOf_0 : cX6_holderOf.data.toList.drop 0 = dktX6_holderOf_0 := by decide +kernel
theorem dksX6_holderOf_1 : cX6_holderOf.data.toList.drop 24 = dktX6_holderOf_1 := dk_seg dksX6_holderOf_0 24 rfl rfl
theorem dksX6_holderOf_2 : cX6_holderOf.data.toList.drop 48 = dktX6_holderOf_2 := dk_seg dksX6_holderOf_1 24 rfl rfl
theorem dX6_holderOf_0 : decode cX6_holderOf 0 = .ok (.iconst 0, 1) := dk_3 (dk_at dksX6_holderOf_0 0 rfl rfl)
theorem dX6_holderOf_1 : decode cX6_holderOf 1 = .ok (.istore_n 2, 1) := dk_61 (dk_at dksX6_holderOf_0 1 rfl rfl)
theorem dX6_holderOf_2 : decode cX6_holderOf 2 = .ok (.iload_n 2, 1) := dk_28 (dk_at dksX6_holderOf_0 2 rfl rfl)
theorem dX6_holderOf_3 : decode cX6_holderOf 3 = .ok (.aload_n 0, 1) := dk_42 (dk_at dksX6_holderOf_0 3 rfl rfl)
theorem dX6_holderOf_4 : decode cX6_holderOf 4 = .ok (.getfield 9, 3) := dk_180 0 9 (dk_at dksX6_holderOf_0 4 rfl rfl)
theorem dX6_holderOf_7 : decode cX6_holderOf 7 = .ok (.iconst 1, 1) := dk_4 (dk_at dksX6_holderOf_0 7 rfl rfl)
theorem dX6_holderOf_8 : decode cX6_holderOf 8 = .ok (.iaload, 1) := dk_46 (dk_at dksX6_holderOf_0 8 rfl rfl)
theorem dX6_holderOf_9 : decode cX6_holderOf 9 = .ok (.if_icmp .ge 52, 3) := dk_162 0 52 (dk_at dksX6_holderOf_0 9 rfl rfl)
theorem dX6_holderOf_12 : decode cX6_holderOf 12 = .ok (.iconst 0, 1) := dk_3 (dk_at dksX6_holderOf_0 12 rfl rfl)
theorem dX6_holderOf_13 : decode cX6_holderOf 13 = .ok (.istore_n 3, 1) := dk_62 (dk_at dksX6_holderOf_0 13 rfl rfl)
theorem dX6_holderOf_14 : decode cX6_holderOf 14 = .ok (.iload_n 3, 1) := dk_29 (dk_at dksX6_holderOf_0 14 rfl rfl)
theorem dX6_holderOf_15 : decode cX6_holderOf 15 = .ok (.aload_n 0, 1) := dk_42 (dk_at dksX6_holderOf_0 15 rfl rfl)
theorem dX6_holderOf_16 : decode cX6_holderOf 16 = .ok (.iload_n 2, 1) := dk_28 (dk_at dksX6_holderOf_0 16 rfl rfl)
theorem dX6_holderOf_17 : decode cX6_holderOf 17 = .ok (.iconst 4, 1) := dk_7 (dk_at dksX6_holderOf_0 17 rfl rfl)
theorem dX6_holderOf_18 : decode cX6_holderOf 18 = .ok (.invokevirtual 83, 3) := dk_182 0 83 (dk_at dksX6_holderOf_0 18 rfl rfl)
theorem dX6_holderOf_21 : decode cX6_holderOf 21 = .ok (.if_icmp .ge 34, 3) := dk_162 0 34 (dk_at dksX6_holderOf_0 21 rfl rfl)
theorem dX6_holderOf_24 : decode cX6_holderOf 24 = .ok (.aload_n 0, 1) := dk_42 (dk_at dksX6_holderOf_1 0 rfl rfl)
theorem dX6_holderOf_25 : decode cX6_holderOf 25 = .ok (.iload_n 2, 1) := dk_28 (dk_at dksX6_holderOf_1 1 rfl rfl)
theorem dX6_holderOf_26 : decode cX6_holderOf 26 = .ok (.iload_n 3, 1) := dk_29 (dk_at dksX6_holderOf_1 2 rfl rfl)
theorem dX6_holderOf_27 : decode cX6_holderOf 27 = .ok (.invokevirtual 98, 3) := dk_182 0 98 (dk_at dksX6_holderOf_1 3 rfl rfl)
theorem dX6_holderOf_30 : decode cX6_holderOf 30 = .ok (.ifCond .eq 19, 3) := dk_153 0 19 (dk_at dksX6_holderOf_1 6 rfl rfl)
theorem dX6_holderOf_33 : decode cX6_holderOf 33 = .ok (.aload_n 0, 1) := dk_42 (dk_at dksX6_holderOf_1 9 rfl rfl)
theorem dX6_holderOf_34 : decode cX6_holderOf 34 = .ok (.iload_n 2, 1) := dk_28 (dk_at dksX6_holderOf_1 10 rfl rfl)
theorem dX6_holderOf_35 : decode cX6_holderOf 35 = .ok (.iload_n 3, 1) := dk_29 (dk_at dksX6_holderOf_1 11 rfl rfl)
theorem dX6_holderOf_36 : decode cX6_holderOf 36 = .ok (.invokevirtual 105, 3) := dk_182 0 105 (dk_at dksX6_holderOf_1 12 rfl rfl)
theorem dX6_holderOf_39 : decode cX6_holderOf 39 = .ok (.iload_n 1, 1) := dk_27 (dk_at dksX6_holderOf_1 15 rfl rfl)
theorem dX6_holderOf_40 : decode cX6_holderOf 40 = .ok (.ishr, 1) := dk_122 (dk_at dksX6_holderOf_1 16 rfl rfl)
theorem dX6_holderOf_41 : decode cX6_holderOf 41 = .ok (.iconst 1, 1) := dk_4 (dk_at dksX6_holderOf_1 17 rfl rfl)
theorem dX6_holderOf_42 : decode cX6_holderOf 42 = .ok (.iand, 1) := dk_126 (dk_at dksX6_holderOf_1 18 rfl rfl)
theorem dX6_holderOf_43 : decode cX6_holderOf 43 = .ok (.iconst 1, 1) := dk_4 (dk_at dksX6_holderOf_1 19 rfl rfl)
theorem dX6_holderOf_44 : decode cX6_holderOf 44 = .ok (.if_icmp .ne 5, 3) := dk_160 0 5 (dk_at dksX6_holderOf_1 20 rfl rfl)
theorem dX6_holderOf_47 : decode cX6_holderOf 47 = .ok (.iload_n 2, 1) := dk_28 (dk_at dksX6_holderOf_1 23 rfl rfl)
theorem dX6_holderOf_48 : decode cX6_holderOf 48 = .ok (.ireturn, 1) := dk_172 (dk_at dksX6_holderOf_2 0 rfl rfl)
theorem dX6_holderOf_49 : decode cX6_holderOf 49 = .ok (.iinc 3 1, 3) := dk_132 3 1 (dk_at dksX6_holderOf_2 1 rfl rfl)
theorem dX6_holderOf_52 : decode cX6_holderOf 52 = .ok (.goto (-38), 3) := dk_167 255 218 (dk_at dksX6_holderOf_2 4 rfl rfl)
theorem dX6_holderOf_55 : decode cX6_holderOf 55 = .ok (.iinc 2 1, 3) := dk_132 2 1 (dk_at dksX6_holderOf_2 7 rfl rfl)
theorem dX6_holderOf_58 : decode cX6_holderOf 58 = .ok (.goto (-56), 3) := dk_167 255 200 (dk_at dksX6_holderOf_2 10 rfl rfl)
theorem dX6_holderOf_61 : decode cX6_holderOf 61 = .ok (.iconst (-1), 1) := dk_2 (dk_at dksX6_holderOf_2 13 rfl rfl)
theorem dX6_holderOf_62 : decode cX6_holderOf 62 = .ok (.ireturn, 1) := dk_172 (dk_at dksX6_holderOf_2 14 rfl rfl)
abbrev cX6_promisedBits : ByteArray := prog_33_method_16_code
def dkwX6_promisedBits_0 : List UInt8 := [42, 27, 16, 28, 28, 96, 182, 0, 83, 42, 27, 16, 12, 28, 96, 182, 0, 83, 184, 0, 92, 172]
abbrev dktX6_promisedBits_0 : List UInt8 := dkwX6_promisedBits_0 ++ []
theorem dksX6_promisedBits_0 : cX6_promisedBits.data.toList.drop 0 = dktX6_promisedBits_0 := by decide +kernel
theorem dX6_promisedBits_0 : decode cX6_promisedBits 0 = .ok (.aload_n 0, 1) := dk_42 (dk_at dksX6_promisedBits_0 0 rfl rfl)
theorem dX6_promisedBits_1 : decode cX6_promisedBits 1 = .ok (.iload_n 1, 1) := dk_27 (dk_at dksX6_promisedBits_0 1 rfl rfl)
theorem dX6_promisedBits_2 : decode cX6_promisedBits 2 = .ok (.bipush 28, 2) := dk_16 28 (dk_at dksX6_promisedBits_0 2 rfl rfl)
theorem dX6_promisedBits_4 : decode cX6_promisedBits 4 = .ok (.iload_n 2, 1) := dk_28 (dk_at dksX6_promisedBits_0 4 rfl rfl)
theorem dX6_promisedBits_5 : decode cX6_promisedBits 5 = .ok (.iadd, 1) := dk_96 (dk_at dksX6_promisedBits_0 5 rfl rfl)
theorem dX6_promisedBits_6 : decode cX6_promisedBits 6 = .ok (.invokevirtual 83, 3) := dk_182 0 83 (dk_at dksX6_promisedBits_0 6 rfl rfl)
theorem dX6_promisedBits_9 : decode cX6_promisedBits 9 = .ok (.aload_n 0, 1) := dk_42 (dk_at dksX6_promisedBits_0 9 rfl rfl)
theorem dX6_promisedBits_10 : decode cX6_promisedBits 10 = .ok (.iload_n 1, 1) := dk_27 (dk_at dksX6_promisedBits_0 10 rfl rfl)
theorem dX6_promisedBits_11 : decode cX6_promisedBits 11 = .ok (.bipush 12, 2) := dk_16 12 (dk_at dksX6_promisedBits_0 11 rfl rfl)
theorem dX6_promisedBits_13 : decode cX6_promisedBits 13 = .ok (.iload_n 2, 1) := dk_28 (dk_at dksX6_promisedBits_0 13 rfl rfl)
theorem dX6_promisedBits_14 : decode cX6_promisedBits 14 = .ok (.iadd, 1) := dk_96 (dk_at dksX6_promisedBits_0 14 rfl rfl)
theorem dX6_promisedBits_15 : decode cX6_promisedBits 15 = .ok (.invokevirtual 83, 3) := dk_182 0 83 (dk_at dksX6_promisedBits_0 15 rfl rfl)
theorem dX6_promisedBits_18 : decode cX6_promisedBits 18 = .ok (.invokestatic 92, 3) := dk_184 0 92 (dk_at dksX6_promisedBits_0 18 rfl rfl)
theorem dX6_promisedBits_21 : decode cX6_promisedBits 21 = .ok (.ireturn, 1) := dk_172 (dk_at dksX6_promisedBits_0 21 rfl rfl)
abbrev cX6_thinks : ByteArray := prog_33_method_77_code
def dkwX6_thinks_3 : List UInt8 := [182, 0, 102, 182, 0, 188, 132, 2, 1, 167, 255, 219, 132, 1, 1, 167, 255, 193, 177]
abbrev dktX6_thinks_3 : List UInt8 := dkwX6_thinks_3 ++ []
def dkwX6_thinks_2 : List UInt8 := [182, 0, 83, 162, 0, 33, 42, 27, 28, 182, 0, 98, 153, 0, 18, 42, 27, 16, 24, 28, 96, 42, 27, 28]
abbrev dktX6_thinks_2 : List UInt8 := dkwX6_thinks_2 ++ dktX6_thinks_3
def dkwX6_thinks_1 : List UInt8 := [27, 42, 180, 0, 9, 4, 46, 162, 0, 59, 42, 27, 5, 16, 100, 182, 0, 188, 3, 61, 28, 42, 27, 7]
abbrev dktX6_thinks_1 : List UInt8 := dkwX6_thinks_1 ++ dktX6_thinks_2
def dkwX6_thinks_0 : List UInt8 := [42, 180, 0, 9, 42, 180, 0, 13, 184, 0, 73, 42, 180, 0, 19, 42, 180, 0, 23, 184, 1, 46, 3, 60]
abbrev dktX6_thinks_0 : List UInt8 := dkwX6_thinks_0 ++ dktX6_thinks_1
theorem dksX6_thinks_0 : cX6_thinks.data.toList.drop 0 = dktX6_thinks_0 := by decide +kernel
theorem dksX6_thinks_1 : cX6_thinks.data.toList.drop 24 = dktX6_thinks_1 := dk_seg dksX6_thinks_0 24 rfl rfl
theorem dksX6_thinks_2 : cX6_thinks.data.toList.drop 48 = dktX6_thinks_2 := dk_seg dksX6_thinks_1 24 rfl rfl
theorem dksX6_thinks_3 : cX6_thinks.data.toList.drop 72 = dktX6_thinks_3 := dk_seg dksX6_thinks_2 24 rfl rfl
theorem dX6_thinks_0 : decode cX6_thinks 0 = .ok (.aload_n 0, 1) := dk_42 (dk_at dksX6_thinks_0 0 rfl rfl)
theorem dX6_thinks_1 : decode cX6_thinks 1 = .ok (.getfield 9, 3) := dk_180 0 9 (dk_at dksX6_thinks_0 1 rfl rfl)
theorem dX6_thinks_4 : decode cX6_thinks 4 = .ok (.aload_n 0, 1) := dk_42 (dk_at dksX6_thinks_0 4 rfl rfl)
theorem dX6_thinks_5 : decode cX6_thinks 5 = .ok (.getfield 13, 3) := dk_180 0 13 (dk_at dksX6_thinks_0 5 rfl rfl)
theorem dX6_thinks_8 : decode cX6_thinks 8 = .ok (.invokestatic 73, 3) := dk_184 0 73 (dk_at dksX6_thinks_0 8 rfl rfl)
theorem dX6_thinks_11 : decode cX6_thinks 11 = .ok (.aload_n 0, 1) := dk_42 (dk_at dksX6_thinks_0 11 rfl rfl)
theorem dX6_thinks_12 : decode cX6_thinks 12 = .ok (.getfield 19, 3) := dk_180 0 19 (dk_at dksX6_thinks_0 12 rfl rfl)
theorem dX6_thinks_15 : decode cX6_thinks 15 = .ok (.aload_n 0, 1) := dk_42 (dk_at dksX6_thinks_0 15 rfl rfl)
theorem dX6_thinks_16 : decode cX6_thinks 16 = .ok (.getfield 23, 3) := dk_180 0 23 (dk_at dksX6_thinks_0 16 rfl rfl)
theorem dX6_thinks_19 : decode cX6_thinks 19 = .ok (.invokestatic 302, 3) := dk_184 1 46 (dk_at dksX6_thinks_0 19 rfl rfl)
theorem dX6_thinks_22 : decode cX6_thinks 22 = .ok (.iconst 0, 1) := dk_3 (dk_at dksX6_thinks_0 22 rfl rfl)
theorem dX6_thinks_23 : decode cX6_thinks 23 = .ok (.istore_n 1, 1) := dk_60 (dk_at dksX6_thinks_0 23 rfl rfl)
theorem dX6_thinks_24 : decode cX6_thinks 24 = .ok (.iload_n 1, 1) := dk_27 (dk_at dksX6_thinks_1 0 rfl rfl)
theorem dX6_thinks_25 : decode cX6_thinks 25 = .ok (.aload_n 0, 1) := dk_42 (dk_at dksX6_thinks_1 1 rfl rfl)
theorem dX6_thinks_26 : decode cX6_thinks 26 = .ok (.getfield 9, 3) := dk_180 0 9 (dk_at dksX6_thinks_1 2 rfl rfl)
theorem dX6_thinks_29 : decode cX6_thinks 29 = .ok (.iconst 1, 1) := dk_4 (dk_at dksX6_thinks_1 5 rfl rfl)
theorem dX6_thinks_30 : decode cX6_thinks 30 = .ok (.iaload, 1) := dk_46 (dk_at dksX6_thinks_1 6 rfl rfl)
theorem dX6_thinks_31 : decode cX6_thinks 31 = .ok (.if_icmp .ge 59, 3) := dk_162 0 59 (dk_at dksX6_thinks_1 7 rfl rfl)
theorem dX6_thinks_34 : decode cX6_thinks 34 = .ok (.aload_n 0, 1) := dk_42 (dk_at dksX6_thinks_1 10 rfl rfl)
theorem dX6_thinks_35 : decode cX6_thinks 35 = .ok (.iload_n 1, 1) := dk_27 (dk_at dksX6_thinks_1 11 rfl rfl)
theorem dX6_thinks_36 : decode cX6_thinks 36 = .ok (.iconst 2, 1) := dk_5 (dk_at dksX6_thinks_1 12 rfl rfl)
theorem dX6_thinks_37 : decode cX6_thinks 37 = .ok (.bipush 100, 2) := dk_16 100 (dk_at dksX6_thinks_1 13 rfl rfl)
theorem dX6_thinks_39 : decode cX6_thinks 39 = .ok (.invokevirtual 188, 3) := dk_182 0 188 (dk_at dksX6_thinks_1 15 rfl rfl)
theorem dX6_thinks_42 : decode cX6_thinks 42 = .ok (.iconst 0, 1) := dk_3 (dk_at dksX6_thinks_1 18 rfl rfl)
theorem dX6_thinks_43 : decode cX6_thinks 43 = .ok (.istore_n 2, 1) := dk_61 (dk_at dksX6_thinks_1 19 rfl rfl)
theorem dX6_thinks_44 : decode cX6_thinks 44 = .ok (.iload_n 2, 1) := dk_28 (dk_at dksX6_thinks_1 20 rfl rfl)
theorem dX6_thinks_45 : decode cX6_thinks 45 = .ok (.aload_n 0, 1) := dk_42 (dk_at dksX6_thinks_1 21 rfl rfl)
theorem dX6_thinks_46 : decode cX6_thinks 46 = .ok (.iload_n 1, 1) := dk_27 (dk_at dksX6_thinks_1 22 rfl rfl)
theorem dX6_thinks_47 : decode cX6_thinks 47 = .ok (.iconst 4, 1) := dk_7 (dk_at dksX6_thinks_1 23 rfl rfl)
theorem dX6_thinks_48 : decode cX6_thinks 48 = .ok (.invokevirtual 83, 3) := dk_182 0 83 (dk_at dksX6_thinks_2 0 rfl rfl)
theorem dX6_thinks_51 : decode cX6_thinks 51 = .ok (.if_icmp .ge 33, 3) := dk_162 0 33 (dk_at dksX6_thinks_2 3 rfl rfl)
theorem dX6_thinks_54 : decode cX6_thinks 54 = .ok (.aload_n 0, 1) := dk_42 (dk_at dksX6_thinks_2 6 rfl rfl)
theorem dX6_thinks_55 : decode cX6_thinks 55 = .ok (.iload_n 1, 1) := dk_27 (dk_at dksX6_thinks_2 7 rfl rfl)
theorem dX6_thinks_56 : decode cX6_thinks 56 = .ok (.iload_n 2, 1) := dk_28 (dk_at dksX6_thinks_2 8 rfl rfl)
theorem dX6_thinks_57 : decode cX6_thinks 57 = .ok (.invokevirtual 98, 3) := dk_182 0 98 (dk_at dksX6_thinks_2 9 rfl rfl)
theorem dX6_thinks_60 : decode cX6_thinks 60 = .ok (.ifCond .eq 18, 3) := dk_153 0 18 (dk_at dksX6_thinks_2 12 rfl rfl)
theorem dX6_thinks_63 : decode cX6_thinks 63 = .ok (.aload_n 0, 1) := dk_42 (dk_at dksX6_thinks_2 15 rfl rfl)
theorem dX6_thinks_64 : decode cX6_thinks 64 = .ok (.iload_n 1, 1) := dk_27 (dk_at dksX6_thinks_2 16 rfl rfl)
theorem dX6_thinks_65 : decode cX6_thinks 65 = .ok (.bipush 24, 2) := dk_16 24 (dk_at dksX6_thinks_2 17 rfl rfl)
theorem dX6_thinks_67 : decode cX6_thinks 67 = .ok (.iload_n 2, 1) := dk_28 (dk_at dksX6_thinks_2 19 rfl rfl)
theorem dX6_thinks_68 : decode cX6_thinks 68 = .ok (.iadd, 1) := dk_96 (dk_at dksX6_thinks_2 20 rfl rfl)
theorem dX6_thinks_69 : decode cX6_thinks 69 = .ok (.aload_n 0, 1) := dk_42 (dk_at dksX6_thinks_2 21 rfl rfl)
theorem dX6_thinks_70 : decode cX6_thinks 70 = .ok (.iload_n 1, 1) := dk_27 (dk_at dksX6_thinks_2 22 rfl rfl)
theorem dX6_thinks_71 : decode cX6_thinks 71 = .ok (.iload_n 2, 1) := dk_28 (dk_at dksX6_thinks_2 23 rfl rfl)
theorem dX6_thinks_72 : decode cX6_thinks 72 = .ok (.invokevirtual 102, 3) := dk_182 0 102 (dk_at dksX6_thinks_3 0 rfl rfl)
theorem dX6_thinks_75 : decode cX6_thinks 75 = .ok (.invokevirtual 188, 3) := dk_182 0 188 (dk_at dksX6_thinks_3 3 rfl rfl)
theorem dX6_thinks_78 : decode cX6_thinks 78 = .ok (.iinc 2 1, 3) := dk_132 2 1 (dk_at dksX6_thinks_3 6 rfl rfl)
theorem dX6_thinks_81 : decode cX6_thinks 81 = .ok (.goto (-37), 3) := dk_167 255 219 (dk_at dksX6_thinks_3 9 rfl rfl)
theorem dX6_thinks_84 : decode cX6_thinks 84 = .ok (.iinc 1 1, 3) := dk_132 1 1 (dk_at dksX6_thinks_3 12 rfl rfl)
theorem dX6_thinks_87 : decode cX6_thinks 87 = .ok (.goto (-63), 3) := dk_167 255 193 (dk_at dksX6_thinks_3 15 rfl rfl)
theorem dX6_thinks_90 : decode cX6_thinks 90 = .ok (.return_, 1) := dk_177 (dk_at dksX6_thinks_3 18 rfl rfl)
abbrev cX6_goes : ByteArray := prog_33_method_79_code
def dkwX6_goes_0 : List UInt8 := [3, 60, 27, 17, 1, 44, 162, 0, 13, 42, 182, 1, 40, 132, 1, 1, 167, 255, 242, 177]
abbrev dktX6_goes_0 : List UInt8 := dkwX6_goes_0 ++ []
theorem dksX6_goes_0 : cX6_goes.data.toList.drop 0 = dktX6_goes_0 := by decide +kernel
theorem dX6_goes_0 : decode cX6_goes 0 = .ok (.iconst 0, 1) := dk_3 (dk_at dksX6_goes_0 0 rfl rfl)
theorem dX6_goes_1 : decode cX6_goes 1 = .ok (.istore_n 1, 1) := dk_60 (dk_at dksX6_goes_0 1 rfl rfl)
theorem dX6_goes_2 : decode cX6_goes 2 = .ok (.iload_n 1, 1) := dk_27 (dk_at dksX6_goes_0 2 rfl rfl)
theorem dX6_goes_3 : decode cX6_goes 3 = .ok (.sipush 300, 3) := dk_17 1 44 (dk_at dksX6_goes_0 3 rfl rfl)
theorem dX6_goes_6 : decode cX6_goes 6 = .ok (.if_icmp .ge 13, 3) := dk_162 0 13 (dk_at dksX6_goes_0 6 rfl rfl)
theorem dX6_goes_9 : decode cX6_goes 9 = .ok (.aload_n 0, 1) := dk_42 (dk_at dksX6_goes_0 9 rfl rfl)
theorem dX6_goes_10 : decode cX6_goes 10 = .ok (.invokevirtual 296, 3) := dk_182 1 40 (dk_at dksX6_goes_0 10 rfl rfl)
theorem dX6_goes_13 : decode cX6_goes 13 = .ok (.iinc 1 1, 3) := dk_132 1 1 (dk_at dksX6_goes_0 13 rfl rfl)
theorem dX6_goes_16 : decode cX6_goes 16 = .ok (.goto (-14), 3) := dk_167 255 242 (dk_at dksX6_goes_0 16 rfl rfl)
theorem dX6_goes_19 : decode cX6_goes 19 = .ok (.return_, 1) := dk_177 (dk_at dksX6_goes_0 19 rfl rfl)
abbrev cX6_forgets : ByteArray := prog_33_method_78_code
def dkwX6_forgets_0 : List UInt8 := [42, 180, 0, 13, 42, 180, 0, 9, 184, 0, 73, 42, 180, 0, 23, 42, 180, 0, 19, 184, 1, 46, 177]
abbrev dktX6_forgets_0 : List UInt8 := dkwX6_forgets_0 ++ []
theorem dksX6_forgets_0 : cX6_forgets.data.toList.drop 0 = dktX6_forgets_0 := by decide +kernel
theorem dX6_forgets_0 : decode cX6_forgets 0 = .ok (.aload_n 0, 1) := dk_42 (dk_at dksX6_forgets_0 0 rfl rfl)
theorem dX6_forgets_1 : decode cX6_forgets 1 = .ok (.getfield 13, 3) := dk_180 0 13 (dk_at dksX6_forgets_0 1 rfl rfl)
theorem dX6_forgets_4 : decode cX6_forgets 4 = .ok (.aload_n 0, 1) := dk_42 (dk_at dksX6_forgets_0 4 rfl rfl)
theorem dX6_forgets_5 : decode cX6_forgets 5 = .ok (.getfield 9, 3) := dk_180 0 9 (dk_at dksX6_forgets_0 5 rfl rfl)
theorem dX6_forgets_8 : decode cX6_forgets 8 = .ok (.invokestatic 73, 3) := dk_184 0 73 (dk_at dksX6_forgets_0 8 rfl rfl)
theorem dX6_forgets_11 : decode cX6_forgets 11 = .ok (.aload_n 0, 1) := dk_42 (dk_at dksX6_forgets_0 11 rfl rfl)
theorem dX6_forgets_12 : decode cX6_forgets 12 = .ok (.getfield 23, 3) := dk_180 0 23 (dk_at dksX6_forgets_0 12 rfl rfl)
theorem dX6_forgets_15 : decode cX6_forgets 15 = .ok (.aload_n 0, 1) := dk_42 (dk_at dksX6_forgets_0 15 rfl rfl)
theorem dX6_forgets_16 : decode cX6_forgets 16 = .ok (.getfield 19, 3) := dk_180 0 19 (dk_at dksX6_forgets_0 16 rfl rfl)
theorem dX6_forgets_19 : decode cX6_forgets 19 = .ok (.invokestatic 302, 3) := dk_184 1 46 (dk_at dksX6_forgets_0 19 rfl rfl)
theorem dX6_forgets_22 : decode cX6_forgets 22 = .ok (.return_, 1) := dk_177 (dk_at dksX6_forgets_0 22 rfl rfl)
abbrev cX6_notWaiting : ByteArray := prog_33_method_83_code
def dkwX6_notWaiting_1 : List UInt8 := [16, 251, 172]
abbrev dktX6_notWaiting_1 : List UInt8 := dkwX6_notWaiting_1 ++ []
def dkwX6_notWaiting_0 : List UInt8 := [42, 27, 182, 0, 200, 154, 0, 7, 2, 167, 0, 17, 42, 27, 182, 0, 211, 153, 0, 7, 3, 167, 0, 5]
abbrev dktX6_notWaiting_0 : List UInt8 := dkwX6_notWaiting_0 ++ dktX6_notWaiting_1
theorem dksX6_notWaiting_0 : cX6_notWaiting.data.toList.drop 0 = dktX6_notWaiting_0 := by decide +kernel
theorem dksX6_notWaiting_1 : cX6_notWaiting.data.toList.drop 24 = dktX6_notWaiting_1 := dk_seg dksX6_notWaiting_0 24 rfl rfl
theorem dX6_notWaiting_0 : decode cX6_notWaiting 0 = .ok (.aload_n 0, 1) := dk_42 (dk_at dksX6_notWaiting_0 0 rfl rfl)
theorem dX6_notWaiting_1 : decode cX6_notWaiting 1 = .ok (.iload_n 1, 1) := dk_27 (dk_at dksX6_notWaiting_0 1 rfl rfl)
theorem dX6_notWaiting_2 : decode cX6_notWaiting 2 = .ok (.invokevirtual 200, 3) := dk_182 0 200 (dk_at dksX6_notWaiting_0 2 rfl rfl)
theorem dX6_notWaiting_5 : decode cX6_notWaiting 5 = .ok (.ifCond .ne 7, 3) := dk_154 0 7 (dk_at dksX6_notWaiting_0 5 rfl rfl)
theorem dX6_notWaiting_8 : decode cX6_notWaiting 8 = .ok (.iconst (-1), 1) := dk_2 (dk_at dksX6_notWaiting_0 8 rfl rfl)
theorem dX6_notWaiting_9 : decode cX6_notWaiting 9 = .ok (.goto 17, 3) := dk_167 0 17 (dk_at dksX6_notWaiting_0 9 rfl rfl)
theorem dX6_notWaiting_12 : decode cX6_notWaiting 12 = .ok (.aload_n 0, 1) := dk_42 (dk_at dksX6_notWaiting_0 12 rfl rfl)
theorem dX6_notWaiting_13 : decode cX6_notWaiting 13 = .ok (.iload_n 1, 1) := dk_27 (dk_at dksX6_notWaiting_0 13 rfl rfl)
theorem dX6_notWaiting_14 : decode cX6_notWaiting 14 = .ok (.invokevirtual 211, 3) := dk_182 0 211 (dk_at dksX6_notWaiting_0 14 rfl rfl)
theorem dX6_notWaiting_17 : decode cX6_notWaiting 17 = .ok (.ifCond .eq 7, 3) := dk_153 0 7 (dk_at dksX6_notWaiting_0 17 rfl rfl)
theorem dX6_notWaiting_20 : decode cX6_notWaiting 20 = .ok (.iconst 0, 1) := dk_3 (dk_at dksX6_notWaiting_0 20 rfl rfl)
theorem dX6_notWaiting_21 : decode cX6_notWaiting 21 = .ok (.goto 5, 3) := dk_167 0 5 (dk_at dksX6_notWaiting_0 21 rfl rfl)
theorem dX6_notWaiting_24 : decode cX6_notWaiting 24 = .ok (.bipush (-5), 2) := dk_16 251 (dk_at dksX6_notWaiting_1 0 rfl rfl)
theorem dX6_notWaiting_26 : decode cX6_notWaiting 26 = .ok (.ireturn, 1) := dk_172 (dk_at dksX6_notWaiting_1 2 rfl rfl)
abbrev cX6_takes : ByteArray := prog_33_method_24_code
def dkwX6_takes_2 : List UInt8 := [180, 0, 36, 28, 42, 27, 16, 16, 28, 96, 182, 0, 83, 79, 132, 2, 1, 167, 255, 215, 177]
abbrev dktX6_takes_2 : List UInt8 := dkwX6_takes_2 ++ []
def dkwX6_takes_1 : List UInt8 := [180, 0, 122, 162, 0, 39, 42, 180, 0, 33, 28, 42, 27, 16, 12, 28, 96, 182, 0, 83, 79, 42]
abbrev dktX6_takes_1 : List UInt8 := dkwX6_takes_1 ++ dktX6_takes_2
def dkwX6_takes_0 : List UInt8 := [42, 42, 27, 3, 182, 0, 83, 181, 0, 125, 42, 42, 27, 7, 182, 0, 83, 181, 0, 122, 3, 61, 28, 42]
abbrev dktX6_takes_0 : List UInt8 := dkwX6_takes_0 ++ dktX6_takes_1
theorem dksX6_takes_0 : cX6_takes.data.toList.drop 0 = dktX6_takes_0 := by decide +kernel
theorem dksX6_takes_1 : cX6_takes.data.toList.drop 24 = dktX6_takes_1 := dk_seg dksX6_takes_0 24 rfl rfl
theorem dksX6_takes_2 : cX6_takes.data.toList.drop 46 = dktX6_takes_2 := dk_seg dksX6_takes_1 22 rfl rfl
theorem dX6_takes_0 : decode cX6_takes 0 = .ok (.aload_n 0, 1) := dk_42 (dk_at dksX6_takes_0 0 rfl rfl)
theorem dX6_takes_1 : decode cX6_takes 1 = .ok (.aload_n 0, 1) := dk_42 (dk_at dksX6_takes_0 1 rfl rfl)
theorem dX6_takes_2 : decode cX6_takes 2 = .ok (.iload_n 1, 1) := dk_27 (dk_at dksX6_takes_0 2 rfl rfl)
theorem dX6_takes_3 : decode cX6_takes 3 = .ok (.iconst 0, 1) := dk_3 (dk_at dksX6_takes_0 3 rfl rfl)
theorem dX6_takes_4 : decode cX6_takes 4 = .ok (.invokevirtual 83, 3) := dk_182 0 83 (dk_at dksX6_takes_0 4 rfl rfl)
theorem dX6_takes_7 : decode cX6_takes 7 = .ok (.putfield 125, 3) := dk_181 0 125 (dk_at dksX6_takes_0 7 rfl rfl)
theorem dX6_takes_10 : decode cX6_takes 10 = .ok (.aload_n 0, 1) := dk_42 (dk_at dksX6_takes_0 10 rfl rfl)
theorem dX6_takes_11 : decode cX6_takes 11 = .ok (.aload_n 0, 1) := dk_42 (dk_at dksX6_takes_0 11 rfl rfl)
theorem dX6_takes_12 : decode cX6_takes 12 = .ok (.iload_n 1, 1) := dk_27 (dk_at dksX6_takes_0 12 rfl rfl)
theorem dX6_takes_13 : decode cX6_takes 13 = .ok (.iconst 4, 1) := dk_7 (dk_at dksX6_takes_0 13 rfl rfl)
theorem dX6_takes_14 : decode cX6_takes 14 = .ok (.invokevirtual 83, 3) := dk_182 0 83 (dk_at dksX6_takes_0 14 rfl rfl)
theorem dX6_takes_17 : decode cX6_takes 17 = .ok (.putfield 122, 3) := dk_181 0 122 (dk_at dksX6_takes_0 17 rfl rfl)
theorem dX6_takes_20 : decode cX6_takes 20 = .ok (.iconst 0, 1) := dk_3 (dk_at dksX6_takes_0 20 rfl rfl)
theorem dX6_takes_21 : decode cX6_takes 21 = .ok (.istore_n 2, 1) := dk_61 (dk_at dksX6_takes_0 21 rfl rfl)
theorem dX6_takes_22 : decode cX6_takes 22 = .ok (.iload_n 2, 1) := dk_28 (dk_at dksX6_takes_0 22 rfl rfl)
theorem dX6_takes_23 : decode cX6_takes 23 = .ok (.aload_n 0, 1) := dk_42 (dk_at dksX6_takes_0 23 rfl rfl)
theorem dX6_takes_24 : decode cX6_takes 24 = .ok (.getfield 122, 3) := dk_180 0 122 (dk_at dksX6_takes_1 0 rfl rfl)
theorem dX6_takes_27 : decode cX6_takes 27 = .ok (.if_icmp .ge 39, 3) := dk_162 0 39 (dk_at dksX6_takes_1 3 rfl rfl)
theorem dX6_takes_30 : decode cX6_takes 30 = .ok (.aload_n 0, 1) := dk_42 (dk_at dksX6_takes_1 6 rfl rfl)
theorem dX6_takes_31 : decode cX6_takes 31 = .ok (.getfield 33, 3) := dk_180 0 33 (dk_at dksX6_takes_1 7 rfl rfl)
theorem dX6_takes_34 : decode cX6_takes 34 = .ok (.iload_n 2, 1) := dk_28 (dk_at dksX6_takes_1 10 rfl rfl)
theorem dX6_takes_35 : decode cX6_takes 35 = .ok (.aload_n 0, 1) := dk_42 (dk_at dksX6_takes_1 11 rfl rfl)
theorem dX6_takes_36 : decode cX6_takes 36 = .ok (.iload_n 1, 1) := dk_27 (dk_at dksX6_takes_1 12 rfl rfl)
theorem dX6_takes_37 : decode cX6_takes 37 = .ok (.bipush 12, 2) := dk_16 12 (dk_at dksX6_takes_1 13 rfl rfl)
theorem dX6_takes_39 : decode cX6_takes 39 = .ok (.iload_n 2, 1) := dk_28 (dk_at dksX6_takes_1 15 rfl rfl)
theorem dX6_takes_40 : decode cX6_takes 40 = .ok (.iadd, 1) := dk_96 (dk_at dksX6_takes_1 16 rfl rfl)
theorem dX6_takes_41 : decode cX6_takes 41 = .ok (.invokevirtual 83, 3) := dk_182 0 83 (dk_at dksX6_takes_1 17 rfl rfl)
theorem dX6_takes_44 : decode cX6_takes 44 = .ok (.iastore, 1) := dk_79 (dk_at dksX6_takes_1 20 rfl rfl)
theorem dX6_takes_45 : decode cX6_takes 45 = .ok (.aload_n 0, 1) := dk_42 (dk_at dksX6_takes_1 21 rfl rfl)
theorem dX6_takes_46 : decode cX6_takes 46 = .ok (.getfield 36, 3) := dk_180 0 36 (dk_at dksX6_takes_2 0 rfl rfl)
theorem dX6_takes_49 : decode cX6_takes 49 = .ok (.iload_n 2, 1) := dk_28 (dk_at dksX6_takes_2 3 rfl rfl)
theorem dX6_takes_50 : decode cX6_takes 50 = .ok (.aload_n 0, 1) := dk_42 (dk_at dksX6_takes_2 4 rfl rfl)
theorem dX6_takes_51 : decode cX6_takes 51 = .ok (.iload_n 1, 1) := dk_27 (dk_at dksX6_takes_2 5 rfl rfl)
theorem dX6_takes_52 : decode cX6_takes 52 = .ok (.bipush 16, 2) := dk_16 16 (dk_at dksX6_takes_2 6 rfl rfl)
theorem dX6_takes_54 : decode cX6_takes 54 = .ok (.iload_n 2, 1) := dk_28 (dk_at dksX6_takes_2 8 rfl rfl)
theorem dX6_takes_55 : decode cX6_takes 55 = .ok (.iadd, 1) := dk_96 (dk_at dksX6_takes_2 9 rfl rfl)
theorem dX6_takes_56 : decode cX6_takes 56 = .ok (.invokevirtual 83, 3) := dk_182 0 83 (dk_at dksX6_takes_2 10 rfl rfl)
theorem dX6_takes_59 : decode cX6_takes 59 = .ok (.iastore, 1) := dk_79 (dk_at dksX6_takes_2 13 rfl rfl)
theorem dX6_takes_60 : decode cX6_takes 60 = .ok (.iinc 2 1, 3) := dk_132 2 1 (dk_at dksX6_takes_2 14 rfl rfl)
theorem dX6_takes_63 : decode cX6_takes 63 = .ok (.goto (-41), 3) := dk_167 255 215 (dk_at dksX6_takes_2 17 rfl rfl)
theorem dX6_takes_66 : decode cX6_takes 66 = .ok (.return_, 1) := dk_177 (dk_at dksX6_takes_2 20 rfl rfl)
abbrev cX6_fits : ByteArray := prog_33_method_22_code
def dkwX6_fits_6 : List UInt8 := [4, 21, 5, 120, 128, 62, 132, 4, 1, 167, 255, 115, 4, 172]
abbrev dktX6_fits_6 : List UInt8 := dkwX6_fits_6 ++ []
def dkwX6_fits_5 : List UInt8 := [180, 0, 39, 21, 5, 21, 6, 79, 28, 21, 6, 42, 180, 0, 33, 21, 5, 46, 184, 0, 92, 128, 61, 29]
abbrev dktX6_fits_5 : List UInt8 := dkwX6_fits_5 ++ dktX6_fits_6
def dkwX6_fits_4 : List UInt8 := [28, 128, 42, 180, 0, 33, 21, 5, 46, 184, 0, 132, 54, 6, 21, 6, 156, 0, 5, 3, 172, 42]
abbrev dktX6_fits_4 : List UInt8 := dkwX6_fits_4 ++ dktX6_fits_5
def dkwX6_fits_3 : List UInt8 := [167, 255, 209, 42, 27, 133, 27, 133, 42, 180, 0, 36, 21, 5, 46, 133, 97, 42, 180, 0, 125, 182, 0, 128]
abbrev dktX6_fits_3 : List UInt8 := dkwX6_fits_3 ++ dktX6_fits_4
def dkwX6_fits_2 : List UInt8 := [180, 0, 33, 21, 6, 46, 42, 180, 0, 33, 21, 5, 46, 164, 0, 7, 21, 6, 54, 5, 132, 6, 1]
abbrev dktX6_fits_2 : List UInt8 := dkwX6_fits_2 ++ dktX6_fits_3
def dkwX6_fits_1 : List UInt8 := [42, 180, 0, 122, 162, 0, 44, 29, 21, 6, 122, 4, 126, 154, 0, 29, 21, 5, 155, 0, 20, 42]
abbrev dktX6_fits_1 : List UInt8 := dkwX6_fits_1 ++ dktX6_fits_2
def dkwX6_fits_0 : List UInt8 := [3, 61, 3, 62, 3, 54, 4, 21, 4, 42, 180, 0, 122, 162, 0, 138, 2, 54, 5, 3, 54, 6, 21, 6]
abbrev dktX6_fits_0 : List UInt8 := dkwX6_fits_0 ++ dktX6_fits_1
theorem dksX6_fits_0 : cX6_fits.data.toList.drop 0 = dktX6_fits_0 := by decide +kernel
theorem dksX6_fits_1 : cX6_fits.data.toList.drop 24 = dktX6_fits_1 := dk_seg dksX6_fits_0 24 rfl rfl
theorem dksX6_fits_2 : cX6_fits.data.toList.drop 46 = dktX6_fits_2 := dk_seg dksX6_fits_1 22 rfl rfl
theorem dksX6_fits_3 : cX6_fits.data.toList.drop 69 = dktX6_fits_3 := dk_seg dksX6_fits_2 23 rfl rfl
theorem dksX6_fits_4 : cX6_fits.data.toList.drop 93 = dktX6_fits_4 := dk_seg dksX6_fits_3 24 rfl rfl
theorem dksX6_fits_5 : cX6_fits.data.toList.drop 115 = dktX6_fits_5 := dk_seg dksX6_fits_4 22 rfl rfl
theorem dksX6_fits_6 : cX6_fits.data.toList.drop 139 = dktX6_fits_6 := dk_seg dksX6_fits_5 24 rfl rfl
theorem dX6_fits_0 : decode cX6_fits 0 = .ok (.iconst 0, 1) := dk_3 (dk_at dksX6_fits_0 0 rfl rfl)
theorem dX6_fits_1 : decode cX6_fits 1 = .ok (.istore_n 2, 1) := dk_61 (dk_at dksX6_fits_0 1 rfl rfl)
theorem dX6_fits_2 : decode cX6_fits 2 = .ok (.iconst 0, 1) := dk_3 (dk_at dksX6_fits_0 2 rfl rfl)
theorem dX6_fits_3 : decode cX6_fits 3 = .ok (.istore_n 3, 1) := dk_62 (dk_at dksX6_fits_0 3 rfl rfl)
theorem dX6_fits_4 : decode cX6_fits 4 = .ok (.iconst 0, 1) := dk_3 (dk_at dksX6_fits_0 4 rfl rfl)
theorem dX6_fits_5 : decode cX6_fits 5 = .ok (.istore 4, 2) := dk_54 4 (dk_at dksX6_fits_0 5 rfl rfl)
theorem dX6_fits_7 : decode cX6_fits 7 = .ok (.iload 4, 2) := dk_21 4 (dk_at dksX6_fits_0 7 rfl rfl)
theorem dX6_fits_9 : decode cX6_fits 9 = .ok (.aload_n 0, 1) := dk_42 (dk_at dksX6_fits_0 9 rfl rfl)
theorem dX6_fits_10 : decode cX6_fits 10 = .ok (.getfield 122, 3) := dk_180 0 122 (dk_at dksX6_fits_0 10 rfl rfl)
theorem dX6_fits_13 : decode cX6_fits 13 = .ok (.if_icmp .ge 138, 3) := dk_162 0 138 (dk_at dksX6_fits_0 13 rfl rfl)
theorem dX6_fits_16 : decode cX6_fits 16 = .ok (.iconst (-1), 1) := dk_2 (dk_at dksX6_fits_0 16 rfl rfl)
theorem dX6_fits_17 : decode cX6_fits 17 = .ok (.istore 5, 2) := dk_54 5 (dk_at dksX6_fits_0 17 rfl rfl)
theorem dX6_fits_19 : decode cX6_fits 19 = .ok (.iconst 0, 1) := dk_3 (dk_at dksX6_fits_0 19 rfl rfl)
theorem dX6_fits_20 : decode cX6_fits 20 = .ok (.istore 6, 2) := dk_54 6 (dk_at dksX6_fits_0 20 rfl rfl)
theorem dX6_fits_22 : decode cX6_fits 22 = .ok (.iload 6, 2) := dk_21 6 (dk_at dksX6_fits_0 22 rfl rfl)
theorem dX6_fits_24 : decode cX6_fits 24 = .ok (.aload_n 0, 1) := dk_42 (dk_at dksX6_fits_1 0 rfl rfl)
theorem dX6_fits_25 : decode cX6_fits 25 = .ok (.getfield 122, 3) := dk_180 0 122 (dk_at dksX6_fits_1 1 rfl rfl)
theorem dX6_fits_28 : decode cX6_fits 28 = .ok (.if_icmp .ge 44, 3) := dk_162 0 44 (dk_at dksX6_fits_1 4 rfl rfl)
theorem dX6_fits_31 : decode cX6_fits 31 = .ok (.iload_n 3, 1) := dk_29 (dk_at dksX6_fits_1 7 rfl rfl)
theorem dX6_fits_32 : decode cX6_fits 32 = .ok (.iload 6, 2) := dk_21 6 (dk_at dksX6_fits_1 8 rfl rfl)
theorem dX6_fits_34 : decode cX6_fits 34 = .ok (.ishr, 1) := dk_122 (dk_at dksX6_fits_1 10 rfl rfl)
theorem dX6_fits_35 : decode cX6_fits 35 = .ok (.iconst 1, 1) := dk_4 (dk_at dksX6_fits_1 11 rfl rfl)
theorem dX6_fits_36 : decode cX6_fits 36 = .ok (.iand, 1) := dk_126 (dk_at dksX6_fits_1 12 rfl rfl)
theorem dX6_fits_37 : decode cX6_fits 37 = .ok (.ifCond .ne 29, 3) := dk_154 0 29 (dk_at dksX6_fits_1 13 rfl rfl)
theorem dX6_fits_40 : decode cX6_fits 40 = .ok (.iload 5, 2) := dk_21 5 (dk_at dksX6_fits_1 16 rfl rfl)
theorem dX6_fits_42 : decode cX6_fits 42 = .ok (.ifCond .lt 20, 3) := dk_155 0 20 (dk_at dksX6_fits_1 18 rfl rfl)
theorem dX6_fits_45 : decode cX6_fits 45 = .ok (.aload_n 0, 1) := dk_42 (dk_at dksX6_fits_1 21 rfl rfl)
theorem dX6_fits_46 : decode cX6_fits 46 = .ok (.getfield 33, 3) := dk_180 0 33 (dk_at dksX6_fits_2 0 rfl rfl)
theorem dX6_fits_49 : decode cX6_fits 49 = .ok (.iload 6, 2) := dk_21 6 (dk_at dksX6_fits_2 3 rfl rfl)
theorem dX6_fits_51 : decode cX6_fits 51 = .ok (.iaload, 1) := dk_46 (dk_at dksX6_fits_2 5 rfl rfl)
theorem dX6_fits_52 : decode cX6_fits 52 = .ok (.aload_n 0, 1) := dk_42 (dk_at dksX6_fits_2 6 rfl rfl)
theorem dX6_fits_53 : decode cX6_fits 53 = .ok (.getfield 33, 3) := dk_180 0 33 (dk_at dksX6_fits_2 7 rfl rfl)
theorem dX6_fits_56 : decode cX6_fits 56 = .ok (.iload 5, 2) := dk_21 5 (dk_at dksX6_fits_2 10 rfl rfl)
theorem dX6_fits_58 : decode cX6_fits 58 = .ok (.iaload, 1) := dk_46 (dk_at dksX6_fits_2 12 rfl rfl)
theorem dX6_fits_59 : decode cX6_fits 59 = .ok (.if_icmp .le 7, 3) := dk_164 0 7 (dk_at dksX6_fits_2 13 rfl rfl)
theorem dX6_fits_62 : decode cX6_fits 62 = .ok (.iload 6, 2) := dk_21 6 (dk_at dksX6_fits_2 16 rfl rfl)
theorem dX6_fits_64 : decode cX6_fits 64 = .ok (.istore 5, 2) := dk_54 5 (dk_at dksX6_fits_2 18 rfl rfl)
theorem dX6_fits_66 : decode cX6_fits 66 = .ok (.iinc 6 1, 3) := dk_132 6 1 (dk_at dksX6_fits_2 20 rfl rfl)
theorem dX6_fits_69 : decode cX6_fits 69 = .ok (.goto (-47), 3) := dk_167 255 209 (dk_at dksX6_fits_3 0 rfl rfl)
theorem dX6_fits_72 : decode cX6_fits 72 = .ok (.aload_n 0, 1) := dk_42 (dk_at dksX6_fits_3 3 rfl rfl)
theorem dX6_fits_73 : decode cX6_fits 73 = .ok (.iload_n 1, 1) := dk_27 (dk_at dksX6_fits_3 4 rfl rfl)
theorem dX6_fits_74 : decode cX6_fits 74 = .ok (.i2l, 1) := dk_133 (dk_at dksX6_fits_3 5 rfl rfl)
theorem dX6_fits_75 : decode cX6_fits 75 = .ok (.iload_n 1, 1) := dk_27 (dk_at dksX6_fits_3 6 rfl rfl)
theorem dX6_fits_76 : decode cX6_fits 76 = .ok (.i2l, 1) := dk_133 (dk_at dksX6_fits_3 7 rfl rfl)
theorem dX6_fits_77 : decode cX6_fits 77 = .ok (.aload_n 0, 1) := dk_42 (dk_at dksX6_fits_3 8 rfl rfl)
theorem dX6_fits_78 : decode cX6_fits 78 = .ok (.getfield 36, 3) := dk_180 0 36 (dk_at dksX6_fits_3 9 rfl rfl)
theorem dX6_fits_81 : decode cX6_fits 81 = .ok (.iload 5, 2) := dk_21 5 (dk_at dksX6_fits_3 12 rfl rfl)
theorem dX6_fits_83 : decode cX6_fits 83 = .ok (.iaload, 1) := dk_46 (dk_at dksX6_fits_3 14 rfl rfl)
theorem dX6_fits_84 : decode cX6_fits 84 = .ok (.i2l, 1) := dk_133 (dk_at dksX6_fits_3 15 rfl rfl)
theorem dX6_fits_85 : decode cX6_fits 85 = .ok (.ladd, 1) := dk_97 (dk_at dksX6_fits_3 16 rfl rfl)
theorem dX6_fits_86 : decode cX6_fits 86 = .ok (.aload_n 0, 1) := dk_42 (dk_at dksX6_fits_3 17 rfl rfl)
theorem dX6_fits_87 : decode cX6_fits 87 = .ok (.getfield 125, 3) := dk_180 0 125 (dk_at dksX6_fits_3 18 rfl rfl)
theorem dX6_fits_90 : decode cX6_fits 90 = .ok (.invokevirtual 128, 3) := dk_182 0 128 (dk_at dksX6_fits_3 21 rfl rfl)
theorem dX6_fits_93 : decode cX6_fits 93 = .ok (.iload_n 2, 1) := dk_28 (dk_at dksX6_fits_4 0 rfl rfl)
theorem dX6_fits_94 : decode cX6_fits 94 = .ok (.ior, 1) := dk_128 (dk_at dksX6_fits_4 1 rfl rfl)
theorem dX6_fits_95 : decode cX6_fits 95 = .ok (.aload_n 0, 1) := dk_42 (dk_at dksX6_fits_4 2 rfl rfl)
theorem dX6_fits_96 : decode cX6_fits 96 = .ok (.getfield 33, 3) := dk_180 0 33 (dk_at dksX6_fits_4 3 rfl rfl)
theorem dX6_fits_99 : decode cX6_fits 99 = .ok (.iload 5, 2) := dk_21 5 (dk_at dksX6_fits_4 6 rfl rfl)
theorem dX6_fits_101 : decode cX6_fits 101 = .ok (.iaload, 1) := dk_46 (dk_at dksX6_fits_4 8 rfl rfl)
theorem dX6_fits_102 : decode cX6_fits 102 = .ok (.invokestatic 132, 3) := dk_184 0 132 (dk_at dksX6_fits_4 9 rfl rfl)
theorem dX6_fits_105 : decode cX6_fits 105 = .ok (.istore 6, 2) := dk_54 6 (dk_at dksX6_fits_4 12 rfl rfl)
theorem dX6_fits_107 : decode cX6_fits 107 = .ok (.iload 6, 2) := dk_21 6 (dk_at dksX6_fits_4 14 rfl rfl)
theorem dX6_fits_109 : decode cX6_fits 109 = .ok (.ifCond .ge 5, 3) := dk_156 0 5 (dk_at dksX6_fits_4 16 rfl rfl)
theorem dX6_fits_112 : decode cX6_fits 112 = .ok (.iconst 0, 1) := dk_3 (dk_at dksX6_fits_4 19 rfl rfl)
theorem dX6_fits_113 : decode cX6_fits 113 = .ok (.ireturn, 1) := dk_172 (dk_at dksX6_fits_4 20 rfl rfl)
theorem dX6_fits_114 : decode cX6_fits 114 = .ok (.aload_n 0, 1) := dk_42 (dk_at dksX6_fits_4 21 rfl rfl)
theorem dX6_fits_115 : decode cX6_fits 115 = .ok (.getfield 39, 3) := dk_180 0 39 (dk_at dksX6_fits_5 0 rfl rfl)
theorem dX6_fits_118 : decode cX6_fits 118 = .ok (.iload 5, 2) := dk_21 5 (dk_at dksX6_fits_5 3 rfl rfl)
theorem dX6_fits_120 : decode cX6_fits 120 = .ok (.iload 6, 2) := dk_21 6 (dk_at dksX6_fits_5 5 rfl rfl)
theorem dX6_fits_122 : decode cX6_fits 122 = .ok (.iastore, 1) := dk_79 (dk_at dksX6_fits_5 7 rfl rfl)
theorem dX6_fits_123 : decode cX6_fits 123 = .ok (.iload_n 2, 1) := dk_28 (dk_at dksX6_fits_5 8 rfl rfl)
theorem dX6_fits_124 : decode cX6_fits 124 = .ok (.iload 6, 2) := dk_21 6 (dk_at dksX6_fits_5 9 rfl rfl)
theorem dX6_fits_126 : decode cX6_fits 126 = .ok (.aload_n 0, 1) := dk_42 (dk_at dksX6_fits_5 11 rfl rfl)
theorem dX6_fits_127 : decode cX6_fits 127 = .ok (.getfield 33, 3) := dk_180 0 33 (dk_at dksX6_fits_5 12 rfl rfl)
theorem dX6_fits_130 : decode cX6_fits 130 = .ok (.iload 5, 2) := dk_21 5 (dk_at dksX6_fits_5 15 rfl rfl)
theorem dX6_fits_132 : decode cX6_fits 132 = .ok (.iaload, 1) := dk_46 (dk_at dksX6_fits_5 17 rfl rfl)
theorem dX6_fits_133 : decode cX6_fits 133 = .ok (.invokestatic 92, 3) := dk_184 0 92 (dk_at dksX6_fits_5 18 rfl rfl)
theorem dX6_fits_136 : decode cX6_fits 136 = .ok (.ior, 1) := dk_128 (dk_at dksX6_fits_5 21 rfl rfl)
theorem dX6_fits_137 : decode cX6_fits 137 = .ok (.istore_n 2, 1) := dk_61 (dk_at dksX6_fits_5 22 rfl rfl)
theorem dX6_fits_138 : decode cX6_fits 138 = .ok (.iload_n 3, 1) := dk_29 (dk_at dksX6_fits_5 23 rfl rfl)
theorem dX6_fits_139 : decode cX6_fits 139 = .ok (.iconst 1, 1) := dk_4 (dk_at dksX6_fits_6 0 rfl rfl)
theorem dX6_fits_140 : decode cX6_fits 140 = .ok (.iload 5, 2) := dk_21 5 (dk_at dksX6_fits_6 1 rfl rfl)
theorem dX6_fits_142 : decode cX6_fits 142 = .ok (.ishl, 1) := dk_120 (dk_at dksX6_fits_6 3 rfl rfl)
theorem dX6_fits_143 : decode cX6_fits 143 = .ok (.ior, 1) := dk_128 (dk_at dksX6_fits_6 4 rfl rfl)
theorem dX6_fits_144 : decode cX6_fits 144 = .ok (.istore_n 3, 1) := dk_62 (dk_at dksX6_fits_6 5 rfl rfl)
theorem dX6_fits_145 : decode cX6_fits 145 = .ok (.iinc 4 1, 3) := dk_132 4 1 (dk_at dksX6_fits_6 6 rfl rfl)
theorem dX6_fits_148 : decode cX6_fits 148 = .ok (.goto (-141), 3) := dk_167 255 115 (dk_at dksX6_fits_6 9 rfl rfl)
theorem dX6_fits_151 : decode cX6_fits 151 = .ok (.iconst 1, 1) := dk_4 (dk_at dksX6_fits_6 12 rfl rfl)
theorem dX6_fits_152 : decode cX6_fits 152 = .ok (.ireturn, 1) := dk_172 (dk_at dksX6_fits_6 13 rfl rfl)
abbrev cX6_fewestMoves : ByteArray := prog_33_method_89_code
def dkwX6_fewestMoves_4 : List UInt8 := [172, 132, 3, 1, 167, 255, 221, 132, 2, 1, 167, 255, 206, 16, 254, 172]
abbrev dktX6_fewestMoves_4 : List UInt8 := dkwX6_fewestMoves_4 ++ []
def dkwX6_fewestMoves_3 : List UInt8 := [182, 1, 74, 153, 0, 28, 42, 29, 182, 1, 74, 153, 0, 14, 42, 28, 29, 182, 1, 71, 153, 0, 5, 5]
abbrev dktX6_fewestMoves_3 : List UInt8 := dkwX6_fewestMoves_3 ++ dktX6_fewestMoves_4
def dkwX6_fewestMoves_2 : List UInt8 := [132, 2, 1, 167, 255, 229, 3, 61, 28, 27, 162, 0, 51, 28, 4, 96, 62, 29, 27, 162, 0, 36, 42, 28]
abbrev dktX6_fewestMoves_2 : List UInt8 := dkwX6_fewestMoves_2 ++ dktX6_fewestMoves_3
def dkwX6_fewestMoves_1 : List UInt8 := [162, 0, 28, 42, 28, 182, 1, 74, 153, 0, 14, 42, 28, 2, 182, 1, 71, 153, 0, 5, 4, 172]
abbrev dktX6_fewestMoves_1 : List UInt8 := dkwX6_fewestMoves_1 ++ dktX6_fewestMoves_2
def dkwX6_fewestMoves_0 : List UInt8 := [42, 2, 2, 182, 1, 71, 153, 0, 5, 3, 172, 7, 42, 180, 0, 9, 4, 46, 104, 60, 3, 61, 28, 27]
abbrev dktX6_fewestMoves_0 : List UInt8 := dkwX6_fewestMoves_0 ++ dktX6_fewestMoves_1
theorem dksX6_fewestMoves_0 : cX6_fewestMoves.data.toList.drop 0 = dktX6_fewestMoves_0 := by decide +kernel
theorem dksX6_fewestMoves_1 : cX6_fewestMoves.data.toList.drop 24 = dktX6_fewestMoves_1 := dk_seg dksX6_fewestMoves_0 24 rfl rfl
theorem dksX6_fewestMoves_2 : cX6_fewestMoves.data.toList.drop 46 = dktX6_fewestMoves_2 := dk_seg dksX6_fewestMoves_1 22 rfl rfl
theorem dksX6_fewestMoves_3 : cX6_fewestMoves.data.toList.drop 70 = dktX6_fewestMoves_3 := dk_seg dksX6_fewestMoves_2 24 rfl rfl
theorem dksX6_fewestMoves_4 : cX6_fewestMoves.data.toList.drop 94 = dktX6_fewestMoves_4 := dk_seg dksX6_fewestMoves_3 24 rfl rfl
theorem dX6_fewestMoves_0 : decode cX6_fewestMoves 0 = .ok (.aload_n 0, 1) := dk_42 (dk_at dksX6_fewestMoves_0 0 rfl rfl)
theorem dX6_fewestMoves_1 : decode cX6_fewestMoves 1 = .ok (.iconst (-1), 1) := dk_2 (dk_at dksX6_fewestMoves_0 1 rfl rfl)
theorem dX6_fewestMoves_2 : decode cX6_fewestMoves 2 = .ok (.iconst (-1), 1) := dk_2 (dk_at dksX6_fewestMoves_0 2 rfl rfl)
theorem dX6_fewestMoves_3 : decode cX6_fewestMoves 3 = .ok (.invokevirtual 327, 3) := dk_182 1 71 (dk_at dksX6_fewestMoves_0 3 rfl rfl)
theorem dX6_fewestMoves_6 : decode cX6_fewestMoves 6 = .ok (.ifCond .eq 5, 3) := dk_153 0 5 (dk_at dksX6_fewestMoves_0 6 rfl rfl)
theorem dX6_fewestMoves_9 : decode cX6_fewestMoves 9 = .ok (.iconst 0, 1) := dk_3 (dk_at dksX6_fewestMoves_0 9 rfl rfl)
theorem dX6_fewestMoves_10 : decode cX6_fewestMoves 10 = .ok (.ireturn, 1) := dk_172 (dk_at dksX6_fewestMoves_0 10 rfl rfl)
theorem dX6_fewestMoves_11 : decode cX6_fewestMoves 11 = .ok (.iconst 4, 1) := dk_7 (dk_at dksX6_fewestMoves_0 11 rfl rfl)
theorem dX6_fewestMoves_12 : decode cX6_fewestMoves 12 = .ok (.aload_n 0, 1) := dk_42 (dk_at dksX6_fewestMoves_0 12 rfl rfl)
theorem dX6_fewestMoves_13 : decode cX6_fewestMoves 13 = .ok (.getfield 9, 3) := dk_180 0 9 (dk_at dksX6_fewestMoves_0 13 rfl rfl)
theorem dX6_fewestMoves_16 : decode cX6_fewestMoves 16 = .ok (.iconst 1, 1) := dk_4 (dk_at dksX6_fewestMoves_0 16 rfl rfl)
theorem dX6_fewestMoves_17 : decode cX6_fewestMoves 17 = .ok (.iaload, 1) := dk_46 (dk_at dksX6_fewestMoves_0 17 rfl rfl)
theorem dX6_fewestMoves_18 : decode cX6_fewestMoves 18 = .ok (.imul, 1) := dk_104 (dk_at dksX6_fewestMoves_0 18 rfl rfl)
theorem dX6_fewestMoves_19 : decode cX6_fewestMoves 19 = .ok (.istore_n 1, 1) := dk_60 (dk_at dksX6_fewestMoves_0 19 rfl rfl)
theorem dX6_fewestMoves_20 : decode cX6_fewestMoves 20 = .ok (.iconst 0, 1) := dk_3 (dk_at dksX6_fewestMoves_0 20 rfl rfl)
theorem dX6_fewestMoves_21 : decode cX6_fewestMoves 21 = .ok (.istore_n 2, 1) := dk_61 (dk_at dksX6_fewestMoves_0 21 rfl rfl)
theorem dX6_fewestMoves_22 : decode cX6_fewestMoves 22 = .ok (.iload_n 2, 1) := dk_28 (dk_at dksX6_fewestMoves_0 22 rfl rfl)
theorem dX6_fewestMoves_23 : decode cX6_fewestMoves 23 = .ok (.iload_n 1, 1) := dk_27 (dk_at dksX6_fewestMoves_0 23 rfl rfl)
theorem dX6_fewestMoves_24 : decode cX6_fewestMoves 24 = .ok (.if_icmp .ge 28, 3) := dk_162 0 28 (dk_at dksX6_fewestMoves_1 0 rfl rfl)
theorem dX6_fewestMoves_27 : decode cX6_fewestMoves 27 = .ok (.aload_n 0, 1) := dk_42 (dk_at dksX6_fewestMoves_1 3 rfl rfl)
theorem dX6_fewestMoves_28 : decode cX6_fewestMoves 28 = .ok (.iload_n 2, 1) := dk_28 (dk_at dksX6_fewestMoves_1 4 rfl rfl)
theorem dX6_fewestMoves_29 : decode cX6_fewestMoves 29 = .ok (.invokevirtual 330, 3) := dk_182 1 74 (dk_at dksX6_fewestMoves_1 5 rfl rfl)
theorem dX6_fewestMoves_32 : decode cX6_fewestMoves 32 = .ok (.ifCond .eq 14, 3) := dk_153 0 14 (dk_at dksX6_fewestMoves_1 8 rfl rfl)
theorem dX6_fewestMoves_35 : decode cX6_fewestMoves 35 = .ok (.aload_n 0, 1) := dk_42 (dk_at dksX6_fewestMoves_1 11 rfl rfl)
theorem dX6_fewestMoves_36 : decode cX6_fewestMoves 36 = .ok (.iload_n 2, 1) := dk_28 (dk_at dksX6_fewestMoves_1 12 rfl rfl)
theorem dX6_fewestMoves_37 : decode cX6_fewestMoves 37 = .ok (.iconst (-1), 1) := dk_2 (dk_at dksX6_fewestMoves_1 13 rfl rfl)
theorem dX6_fewestMoves_38 : decode cX6_fewestMoves 38 = .ok (.invokevirtual 327, 3) := dk_182 1 71 (dk_at dksX6_fewestMoves_1 14 rfl rfl)
theorem dX6_fewestMoves_41 : decode cX6_fewestMoves 41 = .ok (.ifCond .eq 5, 3) := dk_153 0 5 (dk_at dksX6_fewestMoves_1 17 rfl rfl)
theorem dX6_fewestMoves_44 : decode cX6_fewestMoves 44 = .ok (.iconst 1, 1) := dk_4 (dk_at dksX6_fewestMoves_1 20 rfl rfl)
theorem dX6_fewestMoves_45 : decode cX6_fewestMoves 45 = .ok (.ireturn, 1) := dk_172 (dk_at dksX6_fewestMoves_1 21 rfl rfl)
theorem dX6_fewestMoves_46 : decode cX6_fewestMoves 46 = .ok (.iinc 2 1, 3) := dk_132 2 1 (dk_at dksX6_fewestMoves_2 0 rfl rfl)
theorem dX6_fewestMoves_49 : decode cX6_fewestMoves 49 = .ok (.goto (-27), 3) := dk_167 255 229 (dk_at dksX6_fewestMoves_2 3 rfl rfl)
theorem dX6_fewestMoves_52 : decode cX6_fewestMoves 52 = .ok (.iconst 0, 1) := dk_3 (dk_at dksX6_fewestMoves_2 6 rfl rfl)
theorem dX6_fewestMoves_53 : decode cX6_fewestMoves 53 = .ok (.istore_n 2, 1) := dk_61 (dk_at dksX6_fewestMoves_2 7 rfl rfl)
theorem dX6_fewestMoves_54 : decode cX6_fewestMoves 54 = .ok (.iload_n 2, 1) := dk_28 (dk_at dksX6_fewestMoves_2 8 rfl rfl)
theorem dX6_fewestMoves_55 : decode cX6_fewestMoves 55 = .ok (.iload_n 1, 1) := dk_27 (dk_at dksX6_fewestMoves_2 9 rfl rfl)
theorem dX6_fewestMoves_56 : decode cX6_fewestMoves 56 = .ok (.if_icmp .ge 51, 3) := dk_162 0 51 (dk_at dksX6_fewestMoves_2 10 rfl rfl)
theorem dX6_fewestMoves_59 : decode cX6_fewestMoves 59 = .ok (.iload_n 2, 1) := dk_28 (dk_at dksX6_fewestMoves_2 13 rfl rfl)
theorem dX6_fewestMoves_60 : decode cX6_fewestMoves 60 = .ok (.iconst 1, 1) := dk_4 (dk_at dksX6_fewestMoves_2 14 rfl rfl)
theorem dX6_fewestMoves_61 : decode cX6_fewestMoves 61 = .ok (.iadd, 1) := dk_96 (dk_at dksX6_fewestMoves_2 15 rfl rfl)
theorem dX6_fewestMoves_62 : decode cX6_fewestMoves 62 = .ok (.istore_n 3, 1) := dk_62 (dk_at dksX6_fewestMoves_2 16 rfl rfl)
theorem dX6_fewestMoves_63 : decode cX6_fewestMoves 63 = .ok (.iload_n 3, 1) := dk_29 (dk_at dksX6_fewestMoves_2 17 rfl rfl)
theorem dX6_fewestMoves_64 : decode cX6_fewestMoves 64 = .ok (.iload_n 1, 1) := dk_27 (dk_at dksX6_fewestMoves_2 18 rfl rfl)
theorem dX6_fewestMoves_65 : decode cX6_fewestMoves 65 = .ok (.if_icmp .ge 36, 3) := dk_162 0 36 (dk_at dksX6_fewestMoves_2 19 rfl rfl)
theorem dX6_fewestMoves_68 : decode cX6_fewestMoves 68 = .ok (.aload_n 0, 1) := dk_42 (dk_at dksX6_fewestMoves_2 22 rfl rfl)
theorem dX6_fewestMoves_69 : decode cX6_fewestMoves 69 = .ok (.iload_n 2, 1) := dk_28 (dk_at dksX6_fewestMoves_2 23 rfl rfl)
theorem dX6_fewestMoves_70 : decode cX6_fewestMoves 70 = .ok (.invokevirtual 330, 3) := dk_182 1 74 (dk_at dksX6_fewestMoves_3 0 rfl rfl)
theorem dX6_fewestMoves_73 : decode cX6_fewestMoves 73 = .ok (.ifCond .eq 28, 3) := dk_153 0 28 (dk_at dksX6_fewestMoves_3 3 rfl rfl)
theorem dX6_fewestMoves_76 : decode cX6_fewestMoves 76 = .ok (.aload_n 0, 1) := dk_42 (dk_at dksX6_fewestMoves_3 6 rfl rfl)
theorem dX6_fewestMoves_77 : decode cX6_fewestMoves 77 = .ok (.iload_n 3, 1) := dk_29 (dk_at dksX6_fewestMoves_3 7 rfl rfl)
theorem dX6_fewestMoves_78 : decode cX6_fewestMoves 78 = .ok (.invokevirtual 330, 3) := dk_182 1 74 (dk_at dksX6_fewestMoves_3 8 rfl rfl)
theorem dX6_fewestMoves_81 : decode cX6_fewestMoves 81 = .ok (.ifCond .eq 14, 3) := dk_153 0 14 (dk_at dksX6_fewestMoves_3 11 rfl rfl)
theorem dX6_fewestMoves_84 : decode cX6_fewestMoves 84 = .ok (.aload_n 0, 1) := dk_42 (dk_at dksX6_fewestMoves_3 14 rfl rfl)
theorem dX6_fewestMoves_85 : decode cX6_fewestMoves 85 = .ok (.iload_n 2, 1) := dk_28 (dk_at dksX6_fewestMoves_3 15 rfl rfl)
theorem dX6_fewestMoves_86 : decode cX6_fewestMoves 86 = .ok (.iload_n 3, 1) := dk_29 (dk_at dksX6_fewestMoves_3 16 rfl rfl)
theorem dX6_fewestMoves_87 : decode cX6_fewestMoves 87 = .ok (.invokevirtual 327, 3) := dk_182 1 71 (dk_at dksX6_fewestMoves_3 17 rfl rfl)
theorem dX6_fewestMoves_90 : decode cX6_fewestMoves 90 = .ok (.ifCond .eq 5, 3) := dk_153 0 5 (dk_at dksX6_fewestMoves_3 20 rfl rfl)
theorem dX6_fewestMoves_93 : decode cX6_fewestMoves 93 = .ok (.iconst 2, 1) := dk_5 (dk_at dksX6_fewestMoves_3 23 rfl rfl)
theorem dX6_fewestMoves_94 : decode cX6_fewestMoves 94 = .ok (.ireturn, 1) := dk_172 (dk_at dksX6_fewestMoves_4 0 rfl rfl)
theorem dX6_fewestMoves_95 : decode cX6_fewestMoves 95 = .ok (.iinc 3 1, 3) := dk_132 3 1 (dk_at dksX6_fewestMoves_4 1 rfl rfl)
theorem dX6_fewestMoves_98 : decode cX6_fewestMoves 98 = .ok (.goto (-35), 3) := dk_167 255 221 (dk_at dksX6_fewestMoves_4 4 rfl rfl)
theorem dX6_fewestMoves_101 : decode cX6_fewestMoves 101 = .ok (.iinc 2 1, 3) := dk_132 2 1 (dk_at dksX6_fewestMoves_4 7 rfl rfl)
theorem dX6_fewestMoves_104 : decode cX6_fewestMoves 104 = .ok (.goto (-50), 3) := dk_167 255 206 (dk_at dksX6_fewestMoves_4 10 rfl rfl)
theorem dX6_fewestMoves_107 : decode cX6_fewestMoves 107 = .ok (.bipush (-2), 2) := dk_16 254 (dk_at dksX6_fewestMoves_4 13 rfl rfl)
theorem dX6_fewestMoves_109 : decode cX6_fewestMoves 109 = .ok (.ireturn, 1) := dk_172 (dk_at dksX6_fewestMoves_4 15 rfl rfl)
abbrev cX6_fitBoth : ByteArray := prog_33_method_91_code
def dkwX6_fitBoth_4 : List UInt8 := [3, 46, 182, 0, 139, 62, 42, 3, 181, 0, 119, 29, 172]
abbrev dktX6_fitBoth_4 : List UInt8 := dkwX6_fitBoth_4 ++ []
def dkwX6_fitBoth_3 : List UInt8 := [132, 3, 1, 167, 255, 205, 42, 42, 180, 0, 122, 181, 0, 119, 42, 28, 182, 1, 19, 42, 42, 180, 0, 9]
abbrev dktX6_fitBoth_3 : List UInt8 := dkwX6_fitBoth_3 ++ dktX6_fitBoth_4
def dkwX6_fitBoth_2 : List UInt8 := [184, 0, 92, 79, 42, 180, 0, 58, 29, 42, 180, 0, 9, 3, 46, 42, 180, 0, 36, 29, 46, 96, 79]
abbrev dktX6_fitBoth_2 : List UInt8 := dkwX6_fitBoth_2 ++ dktX6_fitBoth_3
def dkwX6_fitBoth_1 : List UInt8 := [180, 0, 122, 162, 0, 49, 42, 180, 0, 55, 29, 42, 180, 0, 39, 29, 46, 42, 180, 0, 33, 29, 46]
abbrev dktX6_fitBoth_1 : List UInt8 := dkwX6_fitBoth_1 ++ dktX6_fitBoth_2
def dkwX6_fitBoth_0 : List UInt8 := [42, 27, 182, 1, 19, 42, 42, 180, 0, 9, 3, 46, 182, 0, 139, 154, 0, 5, 3, 172, 3, 62, 29, 42]
abbrev dktX6_fitBoth_0 : List UInt8 := dkwX6_fitBoth_0 ++ dktX6_fitBoth_1
theorem dksX6_fitBoth_0 : cX6_fitBoth.data.toList.drop 0 = dktX6_fitBoth_0 := by decide +kernel
theorem dksX6_fitBoth_1 : cX6_fitBoth.data.toList.drop 24 = dktX6_fitBoth_1 := dk_seg dksX6_fitBoth_0 24 rfl rfl
theorem dksX6_fitBoth_2 : cX6_fitBoth.data.toList.drop 47 = dktX6_fitBoth_2 := dk_seg dksX6_fitBoth_1 23 rfl rfl
theorem dksX6_fitBoth_3 : cX6_fitBoth.data.toList.drop 70 = dktX6_fitBoth_3 := dk_seg dksX6_fitBoth_2 23 rfl rfl
theorem dksX6_fitBoth_4 : cX6_fitBoth.data.toList.drop 94 = dktX6_fitBoth_4 := dk_seg dksX6_fitBoth_3 24 rfl rfl
theorem dX6_fitBoth_0 : decode cX6_fitBoth 0 = .ok (.aload_n 0, 1) := dk_42 (dk_at dksX6_fitBoth_0 0 rfl rfl)
theorem dX6_fitBoth_1 : decode cX6_fitBoth 1 = .ok (.iload_n 1, 1) := dk_27 (dk_at dksX6_fitBoth_0 1 rfl rfl)
theorem dX6_fitBoth_2 : decode cX6_fitBoth 2 = .ok (.invokevirtual 275, 3) := dk_182 1 19 (dk_at dksX6_fitBoth_0 2 rfl rfl)
theorem dX6_fitBoth_5 : decode cX6_fitBoth 5 = .ok (.aload_n 0, 1) := dk_42 (dk_at dksX6_fitBoth_0 5 rfl rfl)
theorem dX6_fitBoth_6 : decode cX6_fitBoth 6 = .ok (.aload_n 0, 1) := dk_42 (dk_at dksX6_fitBoth_0 6 rfl rfl)
theorem dX6_fitBoth_7 : decode cX6_fitBoth 7 = .ok (.getfield 9, 3) := dk_180 0 9 (dk_at dksX6_fitBoth_0 7 rfl rfl)
theorem dX6_fitBoth_10 : decode cX6_fitBoth 10 = .ok (.iconst 0, 1) := dk_3 (dk_at dksX6_fitBoth_0 10 rfl rfl)
theorem dX6_fitBoth_11 : decode cX6_fitBoth 11 = .ok (.iaload, 1) := dk_46 (dk_at dksX6_fitBoth_0 11 rfl rfl)
theorem dX6_fitBoth_12 : decode cX6_fitBoth 12 = .ok (.invokevirtual 139, 3) := dk_182 0 139 (dk_at dksX6_fitBoth_0 12 rfl rfl)
theorem dX6_fitBoth_15 : decode cX6_fitBoth 15 = .ok (.ifCond .ne 5, 3) := dk_154 0 5 (dk_at dksX6_fitBoth_0 15 rfl rfl)
theorem dX6_fitBoth_18 : decode cX6_fitBoth 18 = .ok (.iconst 0, 1) := dk_3 (dk_at dksX6_fitBoth_0 18 rfl rfl)
theorem dX6_fitBoth_19 : decode cX6_fitBoth 19 = .ok (.ireturn, 1) := dk_172 (dk_at dksX6_fitBoth_0 19 rfl rfl)
theorem dX6_fitBoth_20 : decode cX6_fitBoth 20 = .ok (.iconst 0, 1) := dk_3 (dk_at dksX6_fitBoth_0 20 rfl rfl)
theorem dX6_fitBoth_21 : decode cX6_fitBoth 21 = .ok (.istore_n 3, 1) := dk_62 (dk_at dksX6_fitBoth_0 21 rfl rfl)
theorem dX6_fitBoth_22 : decode cX6_fitBoth 22 = .ok (.iload_n 3, 1) := dk_29 (dk_at dksX6_fitBoth_0 22 rfl rfl)
theorem dX6_fitBoth_23 : decode cX6_fitBoth 23 = .ok (.aload_n 0, 1) := dk_42 (dk_at dksX6_fitBoth_0 23 rfl rfl)
theorem dX6_fitBoth_24 : decode cX6_fitBoth 24 = .ok (.getfield 122, 3) := dk_180 0 122 (dk_at dksX6_fitBoth_1 0 rfl rfl)
theorem dX6_fitBoth_27 : decode cX6_fitBoth 27 = .ok (.if_icmp .ge 49, 3) := dk_162 0 49 (dk_at dksX6_fitBoth_1 3 rfl rfl)
theorem dX6_fitBoth_30 : decode cX6_fitBoth 30 = .ok (.aload_n 0, 1) := dk_42 (dk_at dksX6_fitBoth_1 6 rfl rfl)
theorem dX6_fitBoth_31 : decode cX6_fitBoth 31 = .ok (.getfield 55, 3) := dk_180 0 55 (dk_at dksX6_fitBoth_1 7 rfl rfl)
theorem dX6_fitBoth_34 : decode cX6_fitBoth 34 = .ok (.iload_n 3, 1) := dk_29 (dk_at dksX6_fitBoth_1 10 rfl rfl)
theorem dX6_fitBoth_35 : decode cX6_fitBoth 35 = .ok (.aload_n 0, 1) := dk_42 (dk_at dksX6_fitBoth_1 11 rfl rfl)
theorem dX6_fitBoth_36 : decode cX6_fitBoth 36 = .ok (.getfield 39, 3) := dk_180 0 39 (dk_at dksX6_fitBoth_1 12 rfl rfl)
theorem dX6_fitBoth_39 : decode cX6_fitBoth 39 = .ok (.iload_n 3, 1) := dk_29 (dk_at dksX6_fitBoth_1 15 rfl rfl)
theorem dX6_fitBoth_40 : decode cX6_fitBoth 40 = .ok (.iaload, 1) := dk_46 (dk_at dksX6_fitBoth_1 16 rfl rfl)
theorem dX6_fitBoth_41 : decode cX6_fitBoth 41 = .ok (.aload_n 0, 1) := dk_42 (dk_at dksX6_fitBoth_1 17 rfl rfl)
theorem dX6_fitBoth_42 : decode cX6_fitBoth 42 = .ok (.getfield 33, 3) := dk_180 0 33 (dk_at dksX6_fitBoth_1 18 rfl rfl)
theorem dX6_fitBoth_45 : decode cX6_fitBoth 45 = .ok (.iload_n 3, 1) := dk_29 (dk_at dksX6_fitBoth_1 21 rfl rfl)
theorem dX6_fitBoth_46 : decode cX6_fitBoth 46 = .ok (.iaload, 1) := dk_46 (dk_at dksX6_fitBoth_1 22 rfl rfl)
theorem dX6_fitBoth_47 : decode cX6_fitBoth 47 = .ok (.invokestatic 92, 3) := dk_184 0 92 (dk_at dksX6_fitBoth_2 0 rfl rfl)
theorem dX6_fitBoth_50 : decode cX6_fitBoth 50 = .ok (.iastore, 1) := dk_79 (dk_at dksX6_fitBoth_2 3 rfl rfl)
theorem dX6_fitBoth_51 : decode cX6_fitBoth 51 = .ok (.aload_n 0, 1) := dk_42 (dk_at dksX6_fitBoth_2 4 rfl rfl)
theorem dX6_fitBoth_52 : decode cX6_fitBoth 52 = .ok (.getfield 58, 3) := dk_180 0 58 (dk_at dksX6_fitBoth_2 5 rfl rfl)
theorem dX6_fitBoth_55 : decode cX6_fitBoth 55 = .ok (.iload_n 3, 1) := dk_29 (dk_at dksX6_fitBoth_2 8 rfl rfl)
theorem dX6_fitBoth_56 : decode cX6_fitBoth 56 = .ok (.aload_n 0, 1) := dk_42 (dk_at dksX6_fitBoth_2 9 rfl rfl)
theorem dX6_fitBoth_57 : decode cX6_fitBoth 57 = .ok (.getfield 9, 3) := dk_180 0 9 (dk_at dksX6_fitBoth_2 10 rfl rfl)
theorem dX6_fitBoth_60 : decode cX6_fitBoth 60 = .ok (.iconst 0, 1) := dk_3 (dk_at dksX6_fitBoth_2 13 rfl rfl)
theorem dX6_fitBoth_61 : decode cX6_fitBoth 61 = .ok (.iaload, 1) := dk_46 (dk_at dksX6_fitBoth_2 14 rfl rfl)
theorem dX6_fitBoth_62 : decode cX6_fitBoth 62 = .ok (.aload_n 0, 1) := dk_42 (dk_at dksX6_fitBoth_2 15 rfl rfl)
theorem dX6_fitBoth_63 : decode cX6_fitBoth 63 = .ok (.getfield 36, 3) := dk_180 0 36 (dk_at dksX6_fitBoth_2 16 rfl rfl)
theorem dX6_fitBoth_66 : decode cX6_fitBoth 66 = .ok (.iload_n 3, 1) := dk_29 (dk_at dksX6_fitBoth_2 19 rfl rfl)
theorem dX6_fitBoth_67 : decode cX6_fitBoth 67 = .ok (.iaload, 1) := dk_46 (dk_at dksX6_fitBoth_2 20 rfl rfl)
theorem dX6_fitBoth_68 : decode cX6_fitBoth 68 = .ok (.iadd, 1) := dk_96 (dk_at dksX6_fitBoth_2 21 rfl rfl)
theorem dX6_fitBoth_69 : decode cX6_fitBoth 69 = .ok (.iastore, 1) := dk_79 (dk_at dksX6_fitBoth_2 22 rfl rfl)
theorem dX6_fitBoth_70 : decode cX6_fitBoth 70 = .ok (.iinc 3 1, 3) := dk_132 3 1 (dk_at dksX6_fitBoth_3 0 rfl rfl)
theorem dX6_fitBoth_73 : decode cX6_fitBoth 73 = .ok (.goto (-51), 3) := dk_167 255 205 (dk_at dksX6_fitBoth_3 3 rfl rfl)
theorem dX6_fitBoth_76 : decode cX6_fitBoth 76 = .ok (.aload_n 0, 1) := dk_42 (dk_at dksX6_fitBoth_3 6 rfl rfl)
theorem dX6_fitBoth_77 : decode cX6_fitBoth 77 = .ok (.aload_n 0, 1) := dk_42 (dk_at dksX6_fitBoth_3 7 rfl rfl)
theorem dX6_fitBoth_78 : decode cX6_fitBoth 78 = .ok (.getfield 122, 3) := dk_180 0 122 (dk_at dksX6_fitBoth_3 8 rfl rfl)
theorem dX6_fitBoth_81 : decode cX6_fitBoth 81 = .ok (.putfield 119, 3) := dk_181 0 119 (dk_at dksX6_fitBoth_3 11 rfl rfl)
theorem dX6_fitBoth_84 : decode cX6_fitBoth 84 = .ok (.aload_n 0, 1) := dk_42 (dk_at dksX6_fitBoth_3 14 rfl rfl)
theorem dX6_fitBoth_85 : decode cX6_fitBoth 85 = .ok (.iload_n 2, 1) := dk_28 (dk_at dksX6_fitBoth_3 15 rfl rfl)
theorem dX6_fitBoth_86 : decode cX6_fitBoth 86 = .ok (.invokevirtual 275, 3) := dk_182 1 19 (dk_at dksX6_fitBoth_3 16 rfl rfl)
theorem dX6_fitBoth_89 : decode cX6_fitBoth 89 = .ok (.aload_n 0, 1) := dk_42 (dk_at dksX6_fitBoth_3 19 rfl rfl)
theorem dX6_fitBoth_90 : decode cX6_fitBoth 90 = .ok (.aload_n 0, 1) := dk_42 (dk_at dksX6_fitBoth_3 20 rfl rfl)
theorem dX6_fitBoth_91 : decode cX6_fitBoth 91 = .ok (.getfield 9, 3) := dk_180 0 9 (dk_at dksX6_fitBoth_3 21 rfl rfl)
theorem dX6_fitBoth_94 : decode cX6_fitBoth 94 = .ok (.iconst 0, 1) := dk_3 (dk_at dksX6_fitBoth_4 0 rfl rfl)
theorem dX6_fitBoth_95 : decode cX6_fitBoth 95 = .ok (.iaload, 1) := dk_46 (dk_at dksX6_fitBoth_4 1 rfl rfl)
theorem dX6_fitBoth_96 : decode cX6_fitBoth 96 = .ok (.invokevirtual 139, 3) := dk_182 0 139 (dk_at dksX6_fitBoth_4 2 rfl rfl)
theorem dX6_fitBoth_99 : decode cX6_fitBoth 99 = .ok (.istore_n 3, 1) := dk_62 (dk_at dksX6_fitBoth_4 5 rfl rfl)
theorem dX6_fitBoth_100 : decode cX6_fitBoth 100 = .ok (.aload_n 0, 1) := dk_42 (dk_at dksX6_fitBoth_4 6 rfl rfl)
theorem dX6_fitBoth_101 : decode cX6_fitBoth 101 = .ok (.iconst 0, 1) := dk_3 (dk_at dksX6_fitBoth_4 7 rfl rfl)
theorem dX6_fitBoth_102 : decode cX6_fitBoth 102 = .ok (.putfield 119, 3) := dk_181 0 119 (dk_at dksX6_fitBoth_4 8 rfl rfl)
theorem dX6_fitBoth_105 : decode cX6_fitBoth 105 = .ok (.iload_n 3, 1) := dk_29 (dk_at dksX6_fitBoth_4 11 rfl rfl)
theorem dX6_fitBoth_106 : decode cX6_fitBoth 106 = .ok (.ireturn, 1) := dk_172 (dk_at dksX6_fitBoth_4 12 rfl rfl)
abbrev cX6_takenTo : ByteArray := prog_33_method_93_code
def dkwX6_takenTo_8 : List UInt8 := [21, 4, 7, 182, 0, 95, 184, 0, 87, 62, 132, 4, 1, 167, 255, 200, 29, 172]
abbrev dktX6_takenTo_8 : List UInt8 := dkwX6_takenTo_8 ++ []
def dkwX6_takenTo_7 : List UInt8 := [182, 0, 95, 28, 163, 0, 29, 42, 21, 4, 182, 0, 115, 27, 122, 4, 126, 4, 160, 0, 15, 29, 42]
abbrev dktX6_takenTo_7 : List UInt8 := dkwX6_takenTo_7 ++ dktX6_takenTo_8
def dkwX6_takenTo_6 : List UInt8 := [54, 4, 21, 4, 16, 12, 162, 0, 55, 42, 21, 4, 182, 0, 111, 153, 0, 40, 42, 21, 4, 6]
abbrev dktX6_takenTo_6 : List UInt8 := dkwX6_takenTo_6 ++ dktX6_takenTo_7
def dkwX6_takenTo_5 : List UInt8 := [21, 6, 96, 182, 0, 83, 96, 184, 0, 87, 62, 132, 6, 1, 167, 255, 155, 132, 4, 1, 167, 255, 125, 3]
abbrev dktX6_takenTo_5 : List UInt8 := dkwX6_takenTo_5 ++ dktX6_takenTo_6
def dkwX6_takenTo_4 : List UInt8 := [21, 4, 21, 6, 182, 0, 108, 27, 122, 4, 126, 4, 160, 0, 22, 29, 21, 5, 42, 21, 4, 16, 16]
abbrev dktX6_takenTo_4 : List UInt8 := dkwX6_takenTo_4 ++ dktX6_takenTo_5
def dkwX6_takenTo_3 : List UInt8 := [21, 4, 21, 6, 182, 0, 102, 184, 0, 87, 62, 21, 5, 155, 0, 44, 21, 5, 28, 163, 0, 38, 42]
abbrev dktX6_takenTo_3 : List UInt8 := dkwX6_takenTo_3 ++ dktX6_takenTo_4
def dkwX6_takenTo_2 : List UInt8 := [182, 0, 98, 153, 0, 32, 42, 21, 4, 21, 6, 182, 0, 105, 27, 122, 4, 126, 4, 160, 0, 16, 29, 42]
abbrev dktX6_takenTo_2 : List UInt8 := dkwX6_takenTo_2 ++ dktX6_takenTo_3
def dkwX6_takenTo_1 : List UInt8 := [54, 5, 3, 54, 6, 21, 6, 42, 21, 4, 7, 182, 0, 83, 162, 0, 95, 42, 21, 4, 21, 6]
abbrev dktX6_takenTo_1 : List UInt8 := dkwX6_takenTo_1 ++ dktX6_takenTo_2
def dkwX6_takenTo_0 : List UInt8 := [28, 62, 3, 54, 4, 21, 4, 42, 180, 0, 9, 4, 46, 162, 0, 126, 42, 21, 4, 16, 9, 182, 0, 83]
abbrev dktX6_takenTo_0 : List UInt8 := dkwX6_takenTo_0 ++ dktX6_takenTo_1
theorem dksX6_takenTo_0 : cX6_takenTo.data.toList.drop 0 = dktX6_takenTo_0 := by decide +kernel
theorem dksX6_takenTo_1 : cX6_takenTo.data.toList.drop 24 = dktX6_takenTo_1 := dk_seg dksX6_takenTo_0 24 rfl rfl
theorem dksX6_takenTo_2 : cX6_takenTo.data.toList.drop 46 = dktX6_takenTo_2 := dk_seg dksX6_takenTo_1 22 rfl rfl
theorem dksX6_takenTo_3 : cX6_takenTo.data.toList.drop 70 = dktX6_takenTo_3 := dk_seg dksX6_takenTo_2 24 rfl rfl
theorem dksX6_takenTo_4 : cX6_takenTo.data.toList.drop 93 = dktX6_takenTo_4 := dk_seg dksX6_takenTo_3 23 rfl rfl
theorem dksX6_takenTo_5 : cX6_takenTo.data.toList.drop 116 = dktX6_takenTo_5 := dk_seg dksX6_takenTo_4 23 rfl rfl
theorem dksX6_takenTo_6 : cX6_takenTo.data.toList.drop 140 = dktX6_takenTo_6 := dk_seg dksX6_takenTo_5 24 rfl rfl
theorem dksX6_takenTo_7 : cX6_takenTo.data.toList.drop 162 = dktX6_takenTo_7 := dk_seg dksX6_takenTo_6 22 rfl rfl
theorem dksX6_takenTo_8 : cX6_takenTo.data.toList.drop 185 = dktX6_takenTo_8 := dk_seg dksX6_takenTo_7 23 rfl rfl
theorem dX6_takenTo_0 : decode cX6_takenTo 0 = .ok (.iload_n 2, 1) := dk_28 (dk_at dksX6_takenTo_0 0 rfl rfl)
theorem dX6_takenTo_1 : decode cX6_takenTo 1 = .ok (.istore_n 3, 1) := dk_62 (dk_at dksX6_takenTo_0 1 rfl rfl)
theorem dX6_takenTo_2 : decode cX6_takenTo 2 = .ok (.iconst 0, 1) := dk_3 (dk_at dksX6_takenTo_0 2 rfl rfl)
theorem dX6_takenTo_3 : decode cX6_takenTo 3 = .ok (.istore 4, 2) := dk_54 4 (dk_at dksX6_takenTo_0 3 rfl rfl)
theorem dX6_takenTo_5 : decode cX6_takenTo 5 = .ok (.iload 4, 2) := dk_21 4 (dk_at dksX6_takenTo_0 5 rfl rfl)
theorem dX6_takenTo_7 : decode cX6_takenTo 7 = .ok (.aload_n 0, 1) := dk_42 (dk_at dksX6_takenTo_0 7 rfl rfl)
theorem dX6_takenTo_8 : decode cX6_takenTo 8 = .ok (.getfield 9, 3) := dk_180 0 9 (dk_at dksX6_takenTo_0 8 rfl rfl)
theorem dX6_takenTo_11 : decode cX6_takenTo 11 = .ok (.iconst 1, 1) := dk_4 (dk_at dksX6_takenTo_0 11 rfl rfl)
theorem dX6_takenTo_12 : decode cX6_takenTo 12 = .ok (.iaload, 1) := dk_46 (dk_at dksX6_takenTo_0 12 rfl rfl)
theorem dX6_takenTo_13 : decode cX6_takenTo 13 = .ok (.if_icmp .ge 126, 3) := dk_162 0 126 (dk_at dksX6_takenTo_0 13 rfl rfl)
theorem dX6_takenTo_16 : decode cX6_takenTo 16 = .ok (.aload_n 0, 1) := dk_42 (dk_at dksX6_takenTo_0 16 rfl rfl)
theorem dX6_takenTo_17 : decode cX6_takenTo 17 = .ok (.iload 4, 2) := dk_21 4 (dk_at dksX6_takenTo_0 17 rfl rfl)
theorem dX6_takenTo_19 : decode cX6_takenTo 19 = .ok (.bipush 9, 2) := dk_16 9 (dk_at dksX6_takenTo_0 19 rfl rfl)
theorem dX6_takenTo_21 : decode cX6_takenTo 21 = .ok (.invokevirtual 83, 3) := dk_182 0 83 (dk_at dksX6_takenTo_0 21 rfl rfl)
theorem dX6_takenTo_24 : decode cX6_takenTo 24 = .ok (.istore 5, 2) := dk_54 5 (dk_at dksX6_takenTo_1 0 rfl rfl)
theorem dX6_takenTo_26 : decode cX6_takenTo 26 = .ok (.iconst 0, 1) := dk_3 (dk_at dksX6_takenTo_1 2 rfl rfl)
theorem dX6_takenTo_27 : decode cX6_takenTo 27 = .ok (.istore 6, 2) := dk_54 6 (dk_at dksX6_takenTo_1 3 rfl rfl)
theorem dX6_takenTo_29 : decode cX6_takenTo 29 = .ok (.iload 6, 2) := dk_21 6 (dk_at dksX6_takenTo_1 5 rfl rfl)
theorem dX6_takenTo_31 : decode cX6_takenTo 31 = .ok (.aload_n 0, 1) := dk_42 (dk_at dksX6_takenTo_1 7 rfl rfl)
theorem dX6_takenTo_32 : decode cX6_takenTo 32 = .ok (.iload 4, 2) := dk_21 4 (dk_at dksX6_takenTo_1 8 rfl rfl)
theorem dX6_takenTo_34 : decode cX6_takenTo 34 = .ok (.iconst 4, 1) := dk_7 (dk_at dksX6_takenTo_1 10 rfl rfl)
theorem dX6_takenTo_35 : decode cX6_takenTo 35 = .ok (.invokevirtual 83, 3) := dk_182 0 83 (dk_at dksX6_takenTo_1 11 rfl rfl)
theorem dX6_takenTo_38 : decode cX6_takenTo 38 = .ok (.if_icmp .ge 95, 3) := dk_162 0 95 (dk_at dksX6_takenTo_1 14 rfl rfl)
theorem dX6_takenTo_41 : decode cX6_takenTo 41 = .ok (.aload_n 0, 1) := dk_42 (dk_at dksX6_takenTo_1 17 rfl rfl)
theorem dX6_takenTo_42 : decode cX6_takenTo 42 = .ok (.iload 4, 2) := dk_21 4 (dk_at dksX6_takenTo_1 18 rfl rfl)
theorem dX6_takenTo_44 : decode cX6_takenTo 44 = .ok (.iload 6, 2) := dk_21 6 (dk_at dksX6_takenTo_1 20 rfl rfl)
theorem dX6_takenTo_46 : decode cX6_takenTo 46 = .ok (.invokevirtual 98, 3) := dk_182 0 98 (dk_at dksX6_takenTo_2 0 rfl rfl)
theorem dX6_takenTo_49 : decode cX6_takenTo 49 = .ok (.ifCond .eq 32, 3) := dk_153 0 32 (dk_at dksX6_takenTo_2 3 rfl rfl)
theorem dX6_takenTo_52 : decode cX6_takenTo 52 = .ok (.aload_n 0, 1) := dk_42 (dk_at dksX6_takenTo_2 6 rfl rfl)
theorem dX6_takenTo_53 : decode cX6_takenTo 53 = .ok (.iload 4, 2) := dk_21 4 (dk_at dksX6_takenTo_2 7 rfl rfl)
theorem dX6_takenTo_55 : decode cX6_takenTo 55 = .ok (.iload 6, 2) := dk_21 6 (dk_at dksX6_takenTo_2 9 rfl rfl)
theorem dX6_takenTo_57 : decode cX6_takenTo 57 = .ok (.invokevirtual 105, 3) := dk_182 0 105 (dk_at dksX6_takenTo_2 11 rfl rfl)
theorem dX6_takenTo_60 : decode cX6_takenTo 60 = .ok (.iload_n 1, 1) := dk_27 (dk_at dksX6_takenTo_2 14 rfl rfl)
theorem dX6_takenTo_61 : decode cX6_takenTo 61 = .ok (.ishr, 1) := dk_122 (dk_at dksX6_takenTo_2 15 rfl rfl)
theorem dX6_takenTo_62 : decode cX6_takenTo 62 = .ok (.iconst 1, 1) := dk_4 (dk_at dksX6_takenTo_2 16 rfl rfl)
theorem dX6_takenTo_63 : decode cX6_takenTo 63 = .ok (.iand, 1) := dk_126 (dk_at dksX6_takenTo_2 17 rfl rfl)
theorem dX6_takenTo_64 : decode cX6_takenTo 64 = .ok (.iconst 1, 1) := dk_4 (dk_at dksX6_takenTo_2 18 rfl rfl)
theorem dX6_takenTo_65 : decode cX6_takenTo 65 = .ok (.if_icmp .ne 16, 3) := dk_160 0 16 (dk_at dksX6_takenTo_2 19 rfl rfl)
theorem dX6_takenTo_68 : decode cX6_takenTo 68 = .ok (.iload_n 3, 1) := dk_29 (dk_at dksX6_takenTo_2 22 rfl rfl)
theorem dX6_takenTo_69 : decode cX6_takenTo 69 = .ok (.aload_n 0, 1) := dk_42 (dk_at dksX6_takenTo_2 23 rfl rfl)
theorem dX6_takenTo_70 : decode cX6_takenTo 70 = .ok (.iload 4, 2) := dk_21 4 (dk_at dksX6_takenTo_3 0 rfl rfl)
theorem dX6_takenTo_72 : decode cX6_takenTo 72 = .ok (.iload 6, 2) := dk_21 6 (dk_at dksX6_takenTo_3 2 rfl rfl)
theorem dX6_takenTo_74 : decode cX6_takenTo 74 = .ok (.invokevirtual 102, 3) := dk_182 0 102 (dk_at dksX6_takenTo_3 4 rfl rfl)
theorem dX6_takenTo_77 : decode cX6_takenTo 77 = .ok (.invokestatic 87, 3) := dk_184 0 87 (dk_at dksX6_takenTo_3 7 rfl rfl)
theorem dX6_takenTo_80 : decode cX6_takenTo 80 = .ok (.istore_n 3, 1) := dk_62 (dk_at dksX6_takenTo_3 10 rfl rfl)
theorem dX6_takenTo_81 : decode cX6_takenTo 81 = .ok (.iload 5, 2) := dk_21 5 (dk_at dksX6_takenTo_3 11 rfl rfl)
theorem dX6_takenTo_83 : decode cX6_takenTo 83 = .ok (.ifCond .lt 44, 3) := dk_155 0 44 (dk_at dksX6_takenTo_3 13 rfl rfl)
theorem dX6_takenTo_86 : decode cX6_takenTo 86 = .ok (.iload 5, 2) := dk_21 5 (dk_at dksX6_takenTo_3 16 rfl rfl)
theorem dX6_takenTo_88 : decode cX6_takenTo 88 = .ok (.iload_n 2, 1) := dk_28 (dk_at dksX6_takenTo_3 18 rfl rfl)
theorem dX6_takenTo_89 : decode cX6_takenTo 89 = .ok (.if_icmp .gt 38, 3) := dk_163 0 38 (dk_at dksX6_takenTo_3 19 rfl rfl)
theorem dX6_takenTo_92 : decode cX6_takenTo 92 = .ok (.aload_n 0, 1) := dk_42 (dk_at dksX6_takenTo_3 22 rfl rfl)
theorem dX6_takenTo_93 : decode cX6_takenTo 93 = .ok (.iload 4, 2) := dk_21 4 (dk_at dksX6_takenTo_4 0 rfl rfl)
theorem dX6_takenTo_95 : decode cX6_takenTo 95 = .ok (.iload 6, 2) := dk_21 6 (dk_at dksX6_takenTo_4 2 rfl rfl)
theorem dX6_takenTo_97 : decode cX6_takenTo 97 = .ok (.invokevirtual 108, 3) := dk_182 0 108 (dk_at dksX6_takenTo_4 4 rfl rfl)
theorem dX6_takenTo_100 : decode cX6_takenTo 100 = .ok (.iload_n 1, 1) := dk_27 (dk_at dksX6_takenTo_4 7 rfl rfl)
theorem dX6_takenTo_101 : decode cX6_takenTo 101 = .ok (.ishr, 1) := dk_122 (dk_at dksX6_takenTo_4 8 rfl rfl)
theorem dX6_takenTo_102 : decode cX6_takenTo 102 = .ok (.iconst 1, 1) := dk_4 (dk_at dksX6_takenTo_4 9 rfl rfl)
theorem dX6_takenTo_103 : decode cX6_takenTo 103 = .ok (.iand, 1) := dk_126 (dk_at dksX6_takenTo_4 10 rfl rfl)
theorem dX6_takenTo_104 : decode cX6_takenTo 104 = .ok (.iconst 1, 1) := dk_4 (dk_at dksX6_takenTo_4 11 rfl rfl)
theorem dX6_takenTo_105 : decode cX6_takenTo 105 = .ok (.if_icmp .ne 22, 3) := dk_160 0 22 (dk_at dksX6_takenTo_4 12 rfl rfl)
theorem dX6_takenTo_108 : decode cX6_takenTo 108 = .ok (.iload_n 3, 1) := dk_29 (dk_at dksX6_takenTo_4 15 rfl rfl)
theorem dX6_takenTo_109 : decode cX6_takenTo 109 = .ok (.iload 5, 2) := dk_21 5 (dk_at dksX6_takenTo_4 16 rfl rfl)
theorem dX6_takenTo_111 : decode cX6_takenTo 111 = .ok (.aload_n 0, 1) := dk_42 (dk_at dksX6_takenTo_4 18 rfl rfl)
theorem dX6_takenTo_112 : decode cX6_takenTo 112 = .ok (.iload 4, 2) := dk_21 4 (dk_at dksX6_takenTo_4 19 rfl rfl)
theorem dX6_takenTo_114 : decode cX6_takenTo 114 = .ok (.bipush 16, 2) := dk_16 16 (dk_at dksX6_takenTo_4 21 rfl rfl)
theorem dX6_takenTo_116 : decode cX6_takenTo 116 = .ok (.iload 6, 2) := dk_21 6 (dk_at dksX6_takenTo_5 0 rfl rfl)
theorem dX6_takenTo_118 : decode cX6_takenTo 118 = .ok (.iadd, 1) := dk_96 (dk_at dksX6_takenTo_5 2 rfl rfl)
theorem dX6_takenTo_119 : decode cX6_takenTo 119 = .ok (.invokevirtual 83, 3) := dk_182 0 83 (dk_at dksX6_takenTo_5 3 rfl rfl)
theorem dX6_takenTo_122 : decode cX6_takenTo 122 = .ok (.iadd, 1) := dk_96 (dk_at dksX6_takenTo_5 6 rfl rfl)
theorem dX6_takenTo_123 : decode cX6_takenTo 123 = .ok (.invokestatic 87, 3) := dk_184 0 87 (dk_at dksX6_takenTo_5 7 rfl rfl)
theorem dX6_takenTo_126 : decode cX6_takenTo 126 = .ok (.istore_n 3, 1) := dk_62 (dk_at dksX6_takenTo_5 10 rfl rfl)
theorem dX6_takenTo_127 : decode cX6_takenTo 127 = .ok (.iinc 6 1, 3) := dk_132 6 1 (dk_at dksX6_takenTo_5 11 rfl rfl)
theorem dX6_takenTo_130 : decode cX6_takenTo 130 = .ok (.goto (-101), 3) := dk_167 255 155 (dk_at dksX6_takenTo_5 14 rfl rfl)
theorem dX6_takenTo_133 : decode cX6_takenTo 133 = .ok (.iinc 4 1, 3) := dk_132 4 1 (dk_at dksX6_takenTo_5 17 rfl rfl)
theorem dX6_takenTo_136 : decode cX6_takenTo 136 = .ok (.goto (-131), 3) := dk_167 255 125 (dk_at dksX6_takenTo_5 20 rfl rfl)
theorem dX6_takenTo_139 : decode cX6_takenTo 139 = .ok (.iconst 0, 1) := dk_3 (dk_at dksX6_takenTo_5 23 rfl rfl)
theorem dX6_takenTo_140 : decode cX6_takenTo 140 = .ok (.istore 4, 2) := dk_54 4 (dk_at dksX6_takenTo_6 0 rfl rfl)
theorem dX6_takenTo_142 : decode cX6_takenTo 142 = .ok (.iload 4, 2) := dk_21 4 (dk_at dksX6_takenTo_6 2 rfl rfl)
theorem dX6_takenTo_144 : decode cX6_takenTo 144 = .ok (.bipush 12, 2) := dk_16 12 (dk_at dksX6_takenTo_6 4 rfl rfl)
theorem dX6_takenTo_146 : decode cX6_takenTo 146 = .ok (.if_icmp .ge 55, 3) := dk_162 0 55 (dk_at dksX6_takenTo_6 6 rfl rfl)
theorem dX6_takenTo_149 : decode cX6_takenTo 149 = .ok (.aload_n 0, 1) := dk_42 (dk_at dksX6_takenTo_6 9 rfl rfl)
theorem dX6_takenTo_150 : decode cX6_takenTo 150 = .ok (.iload 4, 2) := dk_21 4 (dk_at dksX6_takenTo_6 10 rfl rfl)
theorem dX6_takenTo_152 : decode cX6_takenTo 152 = .ok (.invokevirtual 111, 3) := dk_182 0 111 (dk_at dksX6_takenTo_6 12 rfl rfl)
theorem dX6_takenTo_155 : decode cX6_takenTo 155 = .ok (.ifCond .eq 40, 3) := dk_153 0 40 (dk_at dksX6_takenTo_6 15 rfl rfl)
theorem dX6_takenTo_158 : decode cX6_takenTo 158 = .ok (.aload_n 0, 1) := dk_42 (dk_at dksX6_takenTo_6 18 rfl rfl)
theorem dX6_takenTo_159 : decode cX6_takenTo 159 = .ok (.iload 4, 2) := dk_21 4 (dk_at dksX6_takenTo_6 19 rfl rfl)
theorem dX6_takenTo_161 : decode cX6_takenTo 161 = .ok (.iconst 3, 1) := dk_6 (dk_at dksX6_takenTo_6 21 rfl rfl)
theorem dX6_takenTo_162 : decode cX6_takenTo 162 = .ok (.invokevirtual 95, 3) := dk_182 0 95 (dk_at dksX6_takenTo_7 0 rfl rfl)
theorem dX6_takenTo_165 : decode cX6_takenTo 165 = .ok (.iload_n 2, 1) := dk_28 (dk_at dksX6_takenTo_7 3 rfl rfl)
theorem dX6_takenTo_166 : decode cX6_takenTo 166 = .ok (.if_icmp .gt 29, 3) := dk_163 0 29 (dk_at dksX6_takenTo_7 4 rfl rfl)
theorem dX6_takenTo_169 : decode cX6_takenTo 169 = .ok (.aload_n 0, 1) := dk_42 (dk_at dksX6_takenTo_7 7 rfl rfl)
theorem dX6_takenTo_170 : decode cX6_takenTo 170 = .ok (.iload 4, 2) := dk_21 4 (dk_at dksX6_takenTo_7 8 rfl rfl)
theorem dX6_takenTo_172 : decode cX6_takenTo 172 = .ok (.invokevirtual 115, 3) := dk_182 0 115 (dk_at dksX6_takenTo_7 10 rfl rfl)
theorem dX6_takenTo_175 : decode cX6_takenTo 175 = .ok (.iload_n 1, 1) := dk_27 (dk_at dksX6_takenTo_7 13 rfl rfl)
theorem dX6_takenTo_176 : decode cX6_takenTo 176 = .ok (.ishr, 1) := dk_122 (dk_at dksX6_takenTo_7 14 rfl rfl)
theorem dX6_takenTo_177 : decode cX6_takenTo 177 = .ok (.iconst 1, 1) := dk_4 (dk_at dksX6_takenTo_7 15 rfl rfl)
theorem dX6_takenTo_178 : decode cX6_takenTo 178 = .ok (.iand, 1) := dk_126 (dk_at dksX6_takenTo_7 16 rfl rfl)
theorem dX6_takenTo_179 : decode cX6_takenTo 179 = .ok (.iconst 1, 1) := dk_4 (dk_at dksX6_takenTo_7 17 rfl rfl)
theorem dX6_takenTo_180 : decode cX6_takenTo 180 = .ok (.if_icmp .ne 15, 3) := dk_160 0 15 (dk_at dksX6_takenTo_7 18 rfl rfl)
theorem dX6_takenTo_183 : decode cX6_takenTo 183 = .ok (.iload_n 3, 1) := dk_29 (dk_at dksX6_takenTo_7 21 rfl rfl)
theorem dX6_takenTo_184 : decode cX6_takenTo 184 = .ok (.aload_n 0, 1) := dk_42 (dk_at dksX6_takenTo_7 22 rfl rfl)
theorem dX6_takenTo_185 : decode cX6_takenTo 185 = .ok (.iload 4, 2) := dk_21 4 (dk_at dksX6_takenTo_8 0 rfl rfl)
theorem dX6_takenTo_187 : decode cX6_takenTo 187 = .ok (.iconst 4, 1) := dk_7 (dk_at dksX6_takenTo_8 2 rfl rfl)
theorem dX6_takenTo_188 : decode cX6_takenTo 188 = .ok (.invokevirtual 95, 3) := dk_182 0 95 (dk_at dksX6_takenTo_8 3 rfl rfl)
theorem dX6_takenTo_191 : decode cX6_takenTo 191 = .ok (.invokestatic 87, 3) := dk_184 0 87 (dk_at dksX6_takenTo_8 6 rfl rfl)
theorem dX6_takenTo_194 : decode cX6_takenTo 194 = .ok (.istore_n 3, 1) := dk_62 (dk_at dksX6_takenTo_8 9 rfl rfl)
theorem dX6_takenTo_195 : decode cX6_takenTo 195 = .ok (.iinc 4 1, 3) := dk_132 4 1 (dk_at dksX6_takenTo_8 10 rfl rfl)
theorem dX6_takenTo_198 : decode cX6_takenTo 198 = .ok (.goto (-56), 3) := dk_167 255 200 (dk_at dksX6_takenTo_8 13 rfl rfl)
theorem dX6_takenTo_201 : decode cX6_takenTo 201 = .ok (.iload_n 3, 1) := dk_29 (dk_at dksX6_takenTo_8 16 rfl rfl)
theorem dX6_takenTo_202 : decode cX6_takenTo 202 = .ok (.ireturn, 1) := dk_172 (dk_at dksX6_takenTo_8 17 rfl rfl)
abbrev cX6_begins : ByteArray := prog_33_method_94_code
def dkwX6_begins_6 : List UInt8 := [167, 255, 206, 29, 172]
abbrev dktX6_begins_6 : List UInt8 := dkwX6_begins_6 ++ []
def dkwX6_begins_5 : List UInt8 := [160, 0, 18, 42, 21, 4, 6, 182, 0, 95, 28, 29, 184, 0, 135, 167, 0, 4, 29, 62, 132, 4, 1]
abbrev dktX6_begins_5 : List UInt8 := dkwX6_begins_5 ++ dktX6_begins_6
def dkwX6_begins_4 : List UInt8 := [162, 0, 49, 42, 21, 4, 182, 0, 111, 153, 0, 32, 42, 21, 4, 182, 0, 115, 27, 122, 4, 126, 4]
abbrev dktX6_begins_4 : List UInt8 := dkwX6_begins_4 ++ dktX6_begins_5
def dkwX6_begins_3 : List UInt8 := [167, 0, 4, 29, 62, 132, 5, 1, 167, 255, 196, 132, 4, 1, 167, 255, 176, 3, 54, 4, 21, 4, 16, 12]
abbrev dktX6_begins_3 : List UInt8 := dkwX6_begins_3 ++ dktX6_begins_4
def dkwX6_begins_2 : List UInt8 := [182, 0, 108, 27, 122, 4, 126, 4, 160, 0, 19, 42, 21, 4, 16, 9, 182, 0, 83, 28, 29, 184, 0, 135]
abbrev dktX6_begins_2 : List UInt8 := dkwX6_begins_2 ++ dktX6_begins_3
def dkwX6_begins_1 : List UInt8 := [7, 182, 0, 83, 162, 0, 54, 42, 21, 4, 16, 9, 182, 0, 83, 155, 0, 35, 42, 21, 4, 21, 5]
abbrev dktX6_begins_1 : List UInt8 := dkwX6_begins_1 ++ dktX6_begins_2
def dkwX6_begins_0 : List UInt8 := [2, 62, 3, 54, 4, 21, 4, 42, 180, 0, 9, 4, 46, 162, 0, 75, 3, 54, 5, 21, 5, 42, 21, 4]
abbrev dktX6_begins_0 : List UInt8 := dkwX6_begins_0 ++ dktX6_begins_1
theorem dksX6_begins_0 : cX6_begins.data.toList.drop 0 = dktX6_begins_0 := by decide +kernel
theorem dksX6_begins_1 : cX6_begins.data.toList.drop 24 = dktX6_begins_1 := dk_seg dksX6_begins_0 24 rfl rfl
theorem dksX6_begins_2 : cX6_begins.data.toList.drop 47 = dktX6_begins_2 := dk_seg dksX6_begins_1 23 rfl rfl
theorem dksX6_begins_3 : cX6_begins.data.toList.drop 71 = dktX6_begins_3 := dk_seg dksX6_begins_2 24 rfl rfl
theorem dksX6_begins_4 : cX6_begins.data.toList.drop 95 = dktX6_begins_4 := dk_seg dksX6_begins_3 24 rfl rfl
theorem dksX6_begins_5 : cX6_begins.data.toList.drop 118 = dktX6_begins_5 := dk_seg dksX6_begins_4 23 rfl rfl
theorem dksX6_begins_6 : cX6_begins.data.toList.drop 141 = dktX6_begins_6 := dk_seg dksX6_begins_5 23 rfl rfl
theorem dX6_begins_0 : decode cX6_begins 0 = .ok (.iconst (-1), 1) := dk_2 (dk_at dksX6_begins_0 0 rfl rfl)
theorem dX6_begins_1 : decode cX6_begins 1 = .ok (.istore_n 3, 1) := dk_62 (dk_at dksX6_begins_0 1 rfl rfl)
theorem dX6_begins_2 : decode cX6_begins 2 = .ok (.iconst 0, 1) := dk_3 (dk_at dksX6_begins_0 2 rfl rfl)
theorem dX6_begins_3 : decode cX6_begins 3 = .ok (.istore 4, 2) := dk_54 4 (dk_at dksX6_begins_0 3 rfl rfl)
theorem dX6_begins_5 : decode cX6_begins 5 = .ok (.iload 4, 2) := dk_21 4 (dk_at dksX6_begins_0 5 rfl rfl)
theorem dX6_begins_7 : decode cX6_begins 7 = .ok (.aload_n 0, 1) := dk_42 (dk_at dksX6_begins_0 7 rfl rfl)
theorem dX6_begins_8 : decode cX6_begins 8 = .ok (.getfield 9, 3) := dk_180 0 9 (dk_at dksX6_begins_0 8 rfl rfl)
theorem dX6_begins_11 : decode cX6_begins 11 = .ok (.iconst 1, 1) := dk_4 (dk_at dksX6_begins_0 11 rfl rfl)
theorem dX6_begins_12 : decode cX6_begins 12 = .ok (.iaload, 1) := dk_46 (dk_at dksX6_begins_0 12 rfl rfl)
theorem dX6_begins_13 : decode cX6_begins 13 = .ok (.if_icmp .ge 75, 3) := dk_162 0 75 (dk_at dksX6_begins_0 13 rfl rfl)
theorem dX6_begins_16 : decode cX6_begins 16 = .ok (.iconst 0, 1) := dk_3 (dk_at dksX6_begins_0 16 rfl rfl)
theorem dX6_begins_17 : decode cX6_begins 17 = .ok (.istore 5, 2) := dk_54 5 (dk_at dksX6_begins_0 17 rfl rfl)
theorem dX6_begins_19 : decode cX6_begins 19 = .ok (.iload 5, 2) := dk_21 5 (dk_at dksX6_begins_0 19 rfl rfl)
theorem dX6_begins_21 : decode cX6_begins 21 = .ok (.aload_n 0, 1) := dk_42 (dk_at dksX6_begins_0 21 rfl rfl)
theorem dX6_begins_22 : decode cX6_begins 22 = .ok (.iload 4, 2) := dk_21 4 (dk_at dksX6_begins_0 22 rfl rfl)
theorem dX6_begins_24 : decode cX6_begins 24 = .ok (.iconst 4, 1) := dk_7 (dk_at dksX6_begins_1 0 rfl rfl)
theorem dX6_begins_25 : decode cX6_begins 25 = .ok (.invokevirtual 83, 3) := dk_182 0 83 (dk_at dksX6_begins_1 1 rfl rfl)
theorem dX6_begins_28 : decode cX6_begins 28 = .ok (.if_icmp .ge 54, 3) := dk_162 0 54 (dk_at dksX6_begins_1 4 rfl rfl)
theorem dX6_begins_31 : decode cX6_begins 31 = .ok (.aload_n 0, 1) := dk_42 (dk_at dksX6_begins_1 7 rfl rfl)
theorem dX6_begins_32 : decode cX6_begins 32 = .ok (.iload 4, 2) := dk_21 4 (dk_at dksX6_begins_1 8 rfl rfl)
theorem dX6_begins_34 : decode cX6_begins 34 = .ok (.bipush 9, 2) := dk_16 9 (dk_at dksX6_begins_1 10 rfl rfl)
theorem dX6_begins_36 : decode cX6_begins 36 = .ok (.invokevirtual 83, 3) := dk_182 0 83 (dk_at dksX6_begins_1 12 rfl rfl)
theorem dX6_begins_39 : decode cX6_begins 39 = .ok (.ifCond .lt 35, 3) := dk_155 0 35 (dk_at dksX6_begins_1 15 rfl rfl)
theorem dX6_begins_42 : decode cX6_begins 42 = .ok (.aload_n 0, 1) := dk_42 (dk_at dksX6_begins_1 18 rfl rfl)
theorem dX6_begins_43 : decode cX6_begins 43 = .ok (.iload 4, 2) := dk_21 4 (dk_at dksX6_begins_1 19 rfl rfl)
theorem dX6_begins_45 : decode cX6_begins 45 = .ok (.iload 5, 2) := dk_21 5 (dk_at dksX6_begins_1 21 rfl rfl)
theorem dX6_begins_47 : decode cX6_begins 47 = .ok (.invokevirtual 108, 3) := dk_182 0 108 (dk_at dksX6_begins_2 0 rfl rfl)
theorem dX6_begins_50 : decode cX6_begins 50 = .ok (.iload_n 1, 1) := dk_27 (dk_at dksX6_begins_2 3 rfl rfl)
theorem dX6_begins_51 : decode cX6_begins 51 = .ok (.ishr, 1) := dk_122 (dk_at dksX6_begins_2 4 rfl rfl)
theorem dX6_begins_52 : decode cX6_begins 52 = .ok (.iconst 1, 1) := dk_4 (dk_at dksX6_begins_2 5 rfl rfl)
theorem dX6_begins_53 : decode cX6_begins 53 = .ok (.iand, 1) := dk_126 (dk_at dksX6_begins_2 6 rfl rfl)
theorem dX6_begins_54 : decode cX6_begins 54 = .ok (.iconst 1, 1) := dk_4 (dk_at dksX6_begins_2 7 rfl rfl)
theorem dX6_begins_55 : decode cX6_begins 55 = .ok (.if_icmp .ne 19, 3) := dk_160 0 19 (dk_at dksX6_begins_2 8 rfl rfl)
theorem dX6_begins_58 : decode cX6_begins 58 = .ok (.aload_n 0, 1) := dk_42 (dk_at dksX6_begins_2 11 rfl rfl)
theorem dX6_begins_59 : decode cX6_begins 59 = .ok (.iload 4, 2) := dk_21 4 (dk_at dksX6_begins_2 12 rfl rfl)
theorem dX6_begins_61 : decode cX6_begins 61 = .ok (.bipush 9, 2) := dk_16 9 (dk_at dksX6_begins_2 14 rfl rfl)
theorem dX6_begins_63 : decode cX6_begins 63 = .ok (.invokevirtual 83, 3) := dk_182 0 83 (dk_at dksX6_begins_2 16 rfl rfl)
theorem dX6_begins_66 : decode cX6_begins 66 = .ok (.iload_n 2, 1) := dk_28 (dk_at dksX6_begins_2 19 rfl rfl)
theorem dX6_begins_67 : decode cX6_begins 67 = .ok (.iload_n 3, 1) := dk_29 (dk_at dksX6_begins_2 20 rfl rfl)
theorem dX6_begins_68 : decode cX6_begins 68 = .ok (.invokestatic 135, 3) := dk_184 0 135 (dk_at dksX6_begins_2 21 rfl rfl)
theorem dX6_begins_71 : decode cX6_begins 71 = .ok (.goto 4, 3) := dk_167 0 4 (dk_at dksX6_begins_3 0 rfl rfl)
theorem dX6_begins_74 : decode cX6_begins 74 = .ok (.iload_n 3, 1) := dk_29 (dk_at dksX6_begins_3 3 rfl rfl)
theorem dX6_begins_75 : decode cX6_begins 75 = .ok (.istore_n 3, 1) := dk_62 (dk_at dksX6_begins_3 4 rfl rfl)
theorem dX6_begins_76 : decode cX6_begins 76 = .ok (.iinc 5 1, 3) := dk_132 5 1 (dk_at dksX6_begins_3 5 rfl rfl)
theorem dX6_begins_79 : decode cX6_begins 79 = .ok (.goto (-60), 3) := dk_167 255 196 (dk_at dksX6_begins_3 8 rfl rfl)
theorem dX6_begins_82 : decode cX6_begins 82 = .ok (.iinc 4 1, 3) := dk_132 4 1 (dk_at dksX6_begins_3 11 rfl rfl)
theorem dX6_begins_85 : decode cX6_begins 85 = .ok (.goto (-80), 3) := dk_167 255 176 (dk_at dksX6_begins_3 14 rfl rfl)
theorem dX6_begins_88 : decode cX6_begins 88 = .ok (.iconst 0, 1) := dk_3 (dk_at dksX6_begins_3 17 rfl rfl)
theorem dX6_begins_89 : decode cX6_begins 89 = .ok (.istore 4, 2) := dk_54 4 (dk_at dksX6_begins_3 18 rfl rfl)
theorem dX6_begins_91 : decode cX6_begins 91 = .ok (.iload 4, 2) := dk_21 4 (dk_at dksX6_begins_3 20 rfl rfl)
theorem dX6_begins_93 : decode cX6_begins 93 = .ok (.bipush 12, 2) := dk_16 12 (dk_at dksX6_begins_3 22 rfl rfl)
theorem dX6_begins_95 : decode cX6_begins 95 = .ok (.if_icmp .ge 49, 3) := dk_162 0 49 (dk_at dksX6_begins_4 0 rfl rfl)
theorem dX6_begins_98 : decode cX6_begins 98 = .ok (.aload_n 0, 1) := dk_42 (dk_at dksX6_begins_4 3 rfl rfl)
theorem dX6_begins_99 : decode cX6_begins 99 = .ok (.iload 4, 2) := dk_21 4 (dk_at dksX6_begins_4 4 rfl rfl)
theorem dX6_begins_101 : decode cX6_begins 101 = .ok (.invokevirtual 111, 3) := dk_182 0 111 (dk_at dksX6_begins_4 6 rfl rfl)
theorem dX6_begins_104 : decode cX6_begins 104 = .ok (.ifCond .eq 32, 3) := dk_153 0 32 (dk_at dksX6_begins_4 9 rfl rfl)
theorem dX6_begins_107 : decode cX6_begins 107 = .ok (.aload_n 0, 1) := dk_42 (dk_at dksX6_begins_4 12 rfl rfl)
theorem dX6_begins_108 : decode cX6_begins 108 = .ok (.iload 4, 2) := dk_21 4 (dk_at dksX6_begins_4 13 rfl rfl)
theorem dX6_begins_110 : decode cX6_begins 110 = .ok (.invokevirtual 115, 3) := dk_182 0 115 (dk_at dksX6_begins_4 15 rfl rfl)
theorem dX6_begins_113 : decode cX6_begins 113 = .ok (.iload_n 1, 1) := dk_27 (dk_at dksX6_begins_4 18 rfl rfl)
theorem dX6_begins_114 : decode cX6_begins 114 = .ok (.ishr, 1) := dk_122 (dk_at dksX6_begins_4 19 rfl rfl)
theorem dX6_begins_115 : decode cX6_begins 115 = .ok (.iconst 1, 1) := dk_4 (dk_at dksX6_begins_4 20 rfl rfl)
theorem dX6_begins_116 : decode cX6_begins 116 = .ok (.iand, 1) := dk_126 (dk_at dksX6_begins_4 21 rfl rfl)
theorem dX6_begins_117 : decode cX6_begins 117 = .ok (.iconst 1, 1) := dk_4 (dk_at dksX6_begins_4 22 rfl rfl)
theorem dX6_begins_118 : decode cX6_begins 118 = .ok (.if_icmp .ne 18, 3) := dk_160 0 18 (dk_at dksX6_begins_5 0 rfl rfl)
theorem dX6_begins_121 : decode cX6_begins 121 = .ok (.aload_n 0, 1) := dk_42 (dk_at dksX6_begins_5 3 rfl rfl)
theorem dX6_begins_122 : decode cX6_begins 122 = .ok (.iload 4, 2) := dk_21 4 (dk_at dksX6_begins_5 4 rfl rfl)
theorem dX6_begins_124 : decode cX6_begins 124 = .ok (.iconst 3, 1) := dk_6 (dk_at dksX6_begins_5 6 rfl rfl)
theorem dX6_begins_125 : decode cX6_begins 125 = .ok (.invokevirtual 95, 3) := dk_182 0 95 (dk_at dksX6_begins_5 7 rfl rfl)
theorem dX6_begins_128 : decode cX6_begins 128 = .ok (.iload_n 2, 1) := dk_28 (dk_at dksX6_begins_5 10 rfl rfl)
theorem dX6_begins_129 : decode cX6_begins 129 = .ok (.iload_n 3, 1) := dk_29 (dk_at dksX6_begins_5 11 rfl rfl)
theorem dX6_begins_130 : decode cX6_begins 130 = .ok (.invokestatic 135, 3) := dk_184 0 135 (dk_at dksX6_begins_5 12 rfl rfl)
theorem dX6_begins_133 : decode cX6_begins 133 = .ok (.goto 4, 3) := dk_167 0 4 (dk_at dksX6_begins_5 15 rfl rfl)
theorem dX6_begins_136 : decode cX6_begins 136 = .ok (.iload_n 3, 1) := dk_29 (dk_at dksX6_begins_5 18 rfl rfl)
theorem dX6_begins_137 : decode cX6_begins 137 = .ok (.istore_n 3, 1) := dk_62 (dk_at dksX6_begins_5 19 rfl rfl)
theorem dX6_begins_138 : decode cX6_begins 138 = .ok (.iinc 4 1, 3) := dk_132 4 1 (dk_at dksX6_begins_5 20 rfl rfl)
theorem dX6_begins_141 : decode cX6_begins 141 = .ok (.goto (-50), 3) := dk_167 255 206 (dk_at dksX6_begins_6 0 rfl rfl)
theorem dX6_begins_144 : decode cX6_begins 144 = .ok (.iload_n 3, 1) := dk_29 (dk_at dksX6_begins_6 3 rfl rfl)
theorem dX6_begins_145 : decode cX6_begins 145 = .ok (.ireturn, 1) := dk_172 (dk_at dksX6_begins_6 4 rfl rfl)
abbrev cX6_ways : ByteArray := prog_33_method_96_code
def dkwX6_ways_5 : List UInt8 := [21, 4, 172]
abbrev dktX6_ways_5 : List UInt8 := dkwX6_ways_5 ++ []
def dkwX6_ways_4 : List UInt8 := [42, 180, 0, 33, 21, 5, 46, 184, 0, 92, 128, 182, 1, 89, 96, 54, 4, 132, 5, 1, 167, 255, 161]
abbrev dktX6_ways_4 : List UInt8 := dkwX6_ways_4 ++ dktX6_ways_5
def dkwX6_ways_3 : List UInt8 := [54, 6, 21, 4, 21, 6, 156, 0, 7, 3, 167, 0, 28, 42, 27, 28, 4, 21, 5, 120, 128, 29, 21, 6]
abbrev dktX6_ways_3 : List UInt8 := dkwX6_ways_3 ++ dktX6_ways_4
def dkwX6_ways_2 : List UInt8 := [21, 5, 46, 133, 97, 42, 180, 0, 125, 182, 0, 128, 29, 128, 42, 180, 0, 33, 21, 5, 46, 184, 0, 132]
abbrev dktX6_ways_2 : List UInt8 := dkwX6_ways_2 ++ dktX6_ways_3
def dkwX6_ways_1 : List UInt8 := [180, 0, 122, 162, 0, 92, 28, 21, 5, 122, 4, 126, 154, 0, 77, 42, 27, 133, 27, 133, 42, 180, 0, 36]
abbrev dktX6_ways_1 : List UInt8 := dkwX6_ways_1 ++ dktX6_ways_2
def dkwX6_ways_0 : List UInt8 := [28, 4, 42, 180, 0, 122, 120, 4, 100, 160, 0, 5, 4, 172, 3, 54, 4, 3, 54, 5, 21, 5, 42]
abbrev dktX6_ways_0 : List UInt8 := dkwX6_ways_0 ++ dktX6_ways_1
theorem dksX6_ways_0 : cX6_ways.data.toList.drop 0 = dktX6_ways_0 := by decide +kernel
theorem dksX6_ways_1 : cX6_ways.data.toList.drop 23 = dktX6_ways_1 := dk_seg dksX6_ways_0 23 rfl rfl
theorem dksX6_ways_2 : cX6_ways.data.toList.drop 47 = dktX6_ways_2 := dk_seg dksX6_ways_1 24 rfl rfl
theorem dksX6_ways_3 : cX6_ways.data.toList.drop 71 = dktX6_ways_3 := dk_seg dksX6_ways_2 24 rfl rfl
theorem dksX6_ways_4 : cX6_ways.data.toList.drop 95 = dktX6_ways_4 := dk_seg dksX6_ways_3 24 rfl rfl
theorem dksX6_ways_5 : cX6_ways.data.toList.drop 118 = dktX6_ways_5 := dk_seg dksX6_ways_4 23 rfl rfl
theorem dX6_ways_0 : decode cX6_ways 0 = .ok (.iload_n 2, 1) := dk_28 (dk_at dksX6_ways_0 0 rfl rfl)
theorem dX6_ways_1 : decode cX6_ways 1 = .ok (.iconst 1, 1) := dk_4 (dk_at dksX6_ways_0 1 rfl rfl)
theorem dX6_ways_2 : decode cX6_ways 2 = .ok (.aload_n 0, 1) := dk_42 (dk_at dksX6_ways_0 2 rfl rfl)
theorem dX6_ways_3 : decode cX6_ways 3 = .ok (.getfield 122, 3) := dk_180 0 122 (dk_at dksX6_ways_0 3 rfl rfl)
theorem dX6_ways_6 : decode cX6_ways 6 = .ok (.ishl, 1) := dk_120 (dk_at dksX6_ways_0 6 rfl rfl)
theorem dX6_ways_7 : decode cX6_ways 7 = .ok (.iconst 1, 1) := dk_4 (dk_at dksX6_ways_0 7 rfl rfl)
theorem dX6_ways_8 : decode cX6_ways 8 = .ok (.isub, 1) := dk_100 (dk_at dksX6_ways_0 8 rfl rfl)
theorem dX6_ways_9 : decode cX6_ways 9 = .ok (.if_icmp .ne 5, 3) := dk_160 0 5 (dk_at dksX6_ways_0 9 rfl rfl)
theorem dX6_ways_12 : decode cX6_ways 12 = .ok (.iconst 1, 1) := dk_4 (dk_at dksX6_ways_0 12 rfl rfl)
theorem dX6_ways_13 : decode cX6_ways 13 = .ok (.ireturn, 1) := dk_172 (dk_at dksX6_ways_0 13 rfl rfl)
theorem dX6_ways_14 : decode cX6_ways 14 = .ok (.iconst 0, 1) := dk_3 (dk_at dksX6_ways_0 14 rfl rfl)
theorem dX6_ways_15 : decode cX6_ways 15 = .ok (.istore 4, 2) := dk_54 4 (dk_at dksX6_ways_0 15 rfl rfl)
theorem dX6_ways_17 : decode cX6_ways 17 = .ok (.iconst 0, 1) := dk_3 (dk_at dksX6_ways_0 17 rfl rfl)
theorem dX6_ways_18 : decode cX6_ways 18 = .ok (.istore 5, 2) := dk_54 5 (dk_at dksX6_ways_0 18 rfl rfl)
theorem dX6_ways_20 : decode cX6_ways 20 = .ok (.iload 5, 2) := dk_21 5 (dk_at dksX6_ways_0 20 rfl rfl)
theorem dX6_ways_22 : decode cX6_ways 22 = .ok (.aload_n 0, 1) := dk_42 (dk_at dksX6_ways_0 22 rfl rfl)
theorem dX6_ways_23 : decode cX6_ways 23 = .ok (.getfield 122, 3) := dk_180 0 122 (dk_at dksX6_ways_1 0 rfl rfl)
theorem dX6_ways_26 : decode cX6_ways 26 = .ok (.if_icmp .ge 92, 3) := dk_162 0 92 (dk_at dksX6_ways_1 3 rfl rfl)
theorem dX6_ways_29 : decode cX6_ways 29 = .ok (.iload_n 2, 1) := dk_28 (dk_at dksX6_ways_1 6 rfl rfl)
theorem dX6_ways_30 : decode cX6_ways 30 = .ok (.iload 5, 2) := dk_21 5 (dk_at dksX6_ways_1 7 rfl rfl)
theorem dX6_ways_32 : decode cX6_ways 32 = .ok (.ishr, 1) := dk_122 (dk_at dksX6_ways_1 9 rfl rfl)
theorem dX6_ways_33 : decode cX6_ways 33 = .ok (.iconst 1, 1) := dk_4 (dk_at dksX6_ways_1 10 rfl rfl)
theorem dX6_ways_34 : decode cX6_ways 34 = .ok (.iand, 1) := dk_126 (dk_at dksX6_ways_1 11 rfl rfl)
theorem dX6_ways_35 : decode cX6_ways 35 = .ok (.ifCond .ne 77, 3) := dk_154 0 77 (dk_at dksX6_ways_1 12 rfl rfl)
theorem dX6_ways_38 : decode cX6_ways 38 = .ok (.aload_n 0, 1) := dk_42 (dk_at dksX6_ways_1 15 rfl rfl)
theorem dX6_ways_39 : decode cX6_ways 39 = .ok (.iload_n 1, 1) := dk_27 (dk_at dksX6_ways_1 16 rfl rfl)
theorem dX6_ways_40 : decode cX6_ways 40 = .ok (.i2l, 1) := dk_133 (dk_at dksX6_ways_1 17 rfl rfl)
theorem dX6_ways_41 : decode cX6_ways 41 = .ok (.iload_n 1, 1) := dk_27 (dk_at dksX6_ways_1 18 rfl rfl)
theorem dX6_ways_42 : decode cX6_ways 42 = .ok (.i2l, 1) := dk_133 (dk_at dksX6_ways_1 19 rfl rfl)
theorem dX6_ways_43 : decode cX6_ways 43 = .ok (.aload_n 0, 1) := dk_42 (dk_at dksX6_ways_1 20 rfl rfl)
theorem dX6_ways_44 : decode cX6_ways 44 = .ok (.getfield 36, 3) := dk_180 0 36 (dk_at dksX6_ways_1 21 rfl rfl)
theorem dX6_ways_47 : decode cX6_ways 47 = .ok (.iload 5, 2) := dk_21 5 (dk_at dksX6_ways_2 0 rfl rfl)
theorem dX6_ways_49 : decode cX6_ways 49 = .ok (.iaload, 1) := dk_46 (dk_at dksX6_ways_2 2 rfl rfl)
theorem dX6_ways_50 : decode cX6_ways 50 = .ok (.i2l, 1) := dk_133 (dk_at dksX6_ways_2 3 rfl rfl)
theorem dX6_ways_51 : decode cX6_ways 51 = .ok (.ladd, 1) := dk_97 (dk_at dksX6_ways_2 4 rfl rfl)
theorem dX6_ways_52 : decode cX6_ways 52 = .ok (.aload_n 0, 1) := dk_42 (dk_at dksX6_ways_2 5 rfl rfl)
theorem dX6_ways_53 : decode cX6_ways 53 = .ok (.getfield 125, 3) := dk_180 0 125 (dk_at dksX6_ways_2 6 rfl rfl)
theorem dX6_ways_56 : decode cX6_ways 56 = .ok (.invokevirtual 128, 3) := dk_182 0 128 (dk_at dksX6_ways_2 9 rfl rfl)
theorem dX6_ways_59 : decode cX6_ways 59 = .ok (.iload_n 3, 1) := dk_29 (dk_at dksX6_ways_2 12 rfl rfl)
theorem dX6_ways_60 : decode cX6_ways 60 = .ok (.ior, 1) := dk_128 (dk_at dksX6_ways_2 13 rfl rfl)
theorem dX6_ways_61 : decode cX6_ways 61 = .ok (.aload_n 0, 1) := dk_42 (dk_at dksX6_ways_2 14 rfl rfl)
theorem dX6_ways_62 : decode cX6_ways 62 = .ok (.getfield 33, 3) := dk_180 0 33 (dk_at dksX6_ways_2 15 rfl rfl)
theorem dX6_ways_65 : decode cX6_ways 65 = .ok (.iload 5, 2) := dk_21 5 (dk_at dksX6_ways_2 18 rfl rfl)
theorem dX6_ways_67 : decode cX6_ways 67 = .ok (.iaload, 1) := dk_46 (dk_at dksX6_ways_2 20 rfl rfl)
theorem dX6_ways_68 : decode cX6_ways 68 = .ok (.invokestatic 132, 3) := dk_184 0 132 (dk_at dksX6_ways_2 21 rfl rfl)
theorem dX6_ways_71 : decode cX6_ways 71 = .ok (.istore 6, 2) := dk_54 6 (dk_at dksX6_ways_3 0 rfl rfl)
theorem dX6_ways_73 : decode cX6_ways 73 = .ok (.iload 4, 2) := dk_21 4 (dk_at dksX6_ways_3 2 rfl rfl)
theorem dX6_ways_75 : decode cX6_ways 75 = .ok (.iload 6, 2) := dk_21 6 (dk_at dksX6_ways_3 4 rfl rfl)
theorem dX6_ways_77 : decode cX6_ways 77 = .ok (.ifCond .ge 7, 3) := dk_156 0 7 (dk_at dksX6_ways_3 6 rfl rfl)
theorem dX6_ways_80 : decode cX6_ways 80 = .ok (.iconst 0, 1) := dk_3 (dk_at dksX6_ways_3 9 rfl rfl)
theorem dX6_ways_81 : decode cX6_ways 81 = .ok (.goto 28, 3) := dk_167 0 28 (dk_at dksX6_ways_3 10 rfl rfl)
theorem dX6_ways_84 : decode cX6_ways 84 = .ok (.aload_n 0, 1) := dk_42 (dk_at dksX6_ways_3 13 rfl rfl)
theorem dX6_ways_85 : decode cX6_ways 85 = .ok (.iload_n 1, 1) := dk_27 (dk_at dksX6_ways_3 14 rfl rfl)
theorem dX6_ways_86 : decode cX6_ways 86 = .ok (.iload_n 2, 1) := dk_28 (dk_at dksX6_ways_3 15 rfl rfl)
theorem dX6_ways_87 : decode cX6_ways 87 = .ok (.iconst 1, 1) := dk_4 (dk_at dksX6_ways_3 16 rfl rfl)
theorem dX6_ways_88 : decode cX6_ways 88 = .ok (.iload 5, 2) := dk_21 5 (dk_at dksX6_ways_3 17 rfl rfl)
theorem dX6_ways_90 : decode cX6_ways 90 = .ok (.ishl, 1) := dk_120 (dk_at dksX6_ways_3 19 rfl rfl)
theorem dX6_ways_91 : decode cX6_ways 91 = .ok (.ior, 1) := dk_128 (dk_at dksX6_ways_3 20 rfl rfl)
theorem dX6_ways_92 : decode cX6_ways 92 = .ok (.iload_n 3, 1) := dk_29 (dk_at dksX6_ways_3 21 rfl rfl)
theorem dX6_ways_93 : decode cX6_ways 93 = .ok (.iload 6, 2) := dk_21 6 (dk_at dksX6_ways_3 22 rfl rfl)
theorem dX6_ways_95 : decode cX6_ways 95 = .ok (.aload_n 0, 1) := dk_42 (dk_at dksX6_ways_4 0 rfl rfl)
theorem dX6_ways_96 : decode cX6_ways 96 = .ok (.getfield 33, 3) := dk_180 0 33 (dk_at dksX6_ways_4 1 rfl rfl)
theorem dX6_ways_99 : decode cX6_ways 99 = .ok (.iload 5, 2) := dk_21 5 (dk_at dksX6_ways_4 4 rfl rfl)
theorem dX6_ways_101 : decode cX6_ways 101 = .ok (.iaload, 1) := dk_46 (dk_at dksX6_ways_4 6 rfl rfl)
theorem dX6_ways_102 : decode cX6_ways 102 = .ok (.invokestatic 92, 3) := dk_184 0 92 (dk_at dksX6_ways_4 7 rfl rfl)
theorem dX6_ways_105 : decode cX6_ways 105 = .ok (.ior, 1) := dk_128 (dk_at dksX6_ways_4 10 rfl rfl)
theorem dX6_ways_106 : decode cX6_ways 106 = .ok (.invokevirtual 345, 3) := dk_182 1 89 (dk_at dksX6_ways_4 11 rfl rfl)
theorem dX6_ways_109 : decode cX6_ways 109 = .ok (.iadd, 1) := dk_96 (dk_at dksX6_ways_4 14 rfl rfl)
theorem dX6_ways_110 : decode cX6_ways 110 = .ok (.istore 4, 2) := dk_54 4 (dk_at dksX6_ways_4 15 rfl rfl)
theorem dX6_ways_112 : decode cX6_ways 112 = .ok (.iinc 5 1, 3) := dk_132 5 1 (dk_at dksX6_ways_4 17 rfl rfl)
theorem dX6_ways_115 : decode cX6_ways 115 = .ok (.goto (-95), 3) := dk_167 255 161 (dk_at dksX6_ways_4 20 rfl rfl)
theorem dX6_ways_118 : decode cX6_ways 118 = .ok (.iload 4, 2) := dk_21 4 (dk_at dksX6_ways_5 0 rfl rfl)
theorem dX6_ways_120 : decode cX6_ways 120 = .ok (.ireturn, 1) := dk_172 (dk_at dksX6_ways_5 2 rfl rfl)
abbrev cX6_first : ByteArray := prog_33_method_27_code
def dkwX6_first_1 : List UInt8 := [182, 0, 139, 153, 0, 5, 28, 172, 42, 28, 182, 0, 142, 61, 167, 255, 222, 2, 172]
abbrev dktX6_first_1 : List UInt8 := dkwX6_first_1 ++ []
def dkwX6_first_0 : List UInt8 := [27, 61, 28, 155, 0, 36, 28, 42, 180, 0, 9, 3, 46, 17, 78, 32, 96, 163, 0, 22, 42, 28]
abbrev dktX6_first_0 : List UInt8 := dkwX6_first_0 ++ dktX6_first_1
theorem dksX6_first_0 : cX6_first.data.toList.drop 0 = dktX6_first_0 := by decide +kernel
theorem dksX6_first_1 : cX6_first.data.toList.drop 22 = dktX6_first_1 := dk_seg dksX6_first_0 22 rfl rfl
theorem dX6_first_0 : decode cX6_first 0 = .ok (.iload_n 1, 1) := dk_27 (dk_at dksX6_first_0 0 rfl rfl)
theorem dX6_first_1 : decode cX6_first 1 = .ok (.istore_n 2, 1) := dk_61 (dk_at dksX6_first_0 1 rfl rfl)
theorem dX6_first_2 : decode cX6_first 2 = .ok (.iload_n 2, 1) := dk_28 (dk_at dksX6_first_0 2 rfl rfl)
theorem dX6_first_3 : decode cX6_first 3 = .ok (.ifCond .lt 36, 3) := dk_155 0 36 (dk_at dksX6_first_0 3 rfl rfl)
theorem dX6_first_6 : decode cX6_first 6 = .ok (.iload_n 2, 1) := dk_28 (dk_at dksX6_first_0 6 rfl rfl)
theorem dX6_first_7 : decode cX6_first 7 = .ok (.aload_n 0, 1) := dk_42 (dk_at dksX6_first_0 7 rfl rfl)
theorem dX6_first_8 : decode cX6_first 8 = .ok (.getfield 9, 3) := dk_180 0 9 (dk_at dksX6_first_0 8 rfl rfl)
theorem dX6_first_11 : decode cX6_first 11 = .ok (.iconst 0, 1) := dk_3 (dk_at dksX6_first_0 11 rfl rfl)
theorem dX6_first_12 : decode cX6_first 12 = .ok (.iaload, 1) := dk_46 (dk_at dksX6_first_0 12 rfl rfl)
theorem dX6_first_13 : decode cX6_first 13 = .ok (.sipush 20000, 3) := dk_17 78 32 (dk_at dksX6_first_0 13 rfl rfl)
theorem dX6_first_16 : decode cX6_first 16 = .ok (.iadd, 1) := dk_96 (dk_at dksX6_first_0 16 rfl rfl)
theorem dX6_first_17 : decode cX6_first 17 = .ok (.if_icmp .gt 22, 3) := dk_163 0 22 (dk_at dksX6_first_0 17 rfl rfl)
theorem dX6_first_20 : decode cX6_first 20 = .ok (.aload_n 0, 1) := dk_42 (dk_at dksX6_first_0 20 rfl rfl)
theorem dX6_first_21 : decode cX6_first 21 = .ok (.iload_n 2, 1) := dk_28 (dk_at dksX6_first_0 21 rfl rfl)
theorem dX6_first_22 : decode cX6_first 22 = .ok (.invokevirtual 139, 3) := dk_182 0 139 (dk_at dksX6_first_1 0 rfl rfl)
theorem dX6_first_25 : decode cX6_first 25 = .ok (.ifCond .eq 5, 3) := dk_153 0 5 (dk_at dksX6_first_1 3 rfl rfl)
theorem dX6_first_28 : decode cX6_first 28 = .ok (.iload_n 2, 1) := dk_28 (dk_at dksX6_first_1 6 rfl rfl)
theorem dX6_first_29 : decode cX6_first 29 = .ok (.ireturn, 1) := dk_172 (dk_at dksX6_first_1 7 rfl rfl)
theorem dX6_first_30 : decode cX6_first 30 = .ok (.aload_n 0, 1) := dk_42 (dk_at dksX6_first_1 8 rfl rfl)
theorem dX6_first_31 : decode cX6_first 31 = .ok (.iload_n 2, 1) := dk_28 (dk_at dksX6_first_1 9 rfl rfl)
theorem dX6_first_32 : decode cX6_first 32 = .ok (.invokevirtual 142, 3) := dk_182 0 142 (dk_at dksX6_first_1 10 rfl rfl)
theorem dX6_first_35 : decode cX6_first 35 = .ok (.istore_n 2, 1) := dk_61 (dk_at dksX6_first_1 13 rfl rfl)
theorem dX6_first_36 : decode cX6_first 36 = .ok (.goto (-34), 3) := dk_167 255 222 (dk_at dksX6_first_1 14 rfl rfl)
theorem dX6_first_39 : decode cX6_first 39 = .ok (.iconst (-1), 1) := dk_2 (dk_at dksX6_first_1 17 rfl rfl)
theorem dX6_first_40 : decode cX6_first 40 = .ok (.ireturn, 1) := dk_172 (dk_at dksX6_first_1 18 rfl rfl)
abbrev cX6_busy : ByteArray := prog_33_method_20_code
def dkwX6_busy_13 : List UInt8 := [54, 6, 132, 7, 1, 167, 255, 215, 21, 6, 172]
abbrev dktX6_busy_13 : List UInt8 := dkwX6_busy_13 ++ []
def dkwX6_busy_12 : List UInt8 := [180, 0, 58, 21, 7, 46, 133, 148, 156, 0, 13, 42, 180, 0, 55, 21, 7, 46, 167, 0, 4, 3, 128]
abbrev dktX6_busy_12 : List UInt8 := dkwX6_busy_12 ++ dktX6_busy_13
def dkwX6_busy_11 : List UInt8 := [132, 7, 1, 167, 255, 188, 3, 54, 7, 21, 7, 42, 180, 0, 119, 162, 0, 38, 21, 6, 31, 42]
abbrev dktX6_busy_11 : List UInt8 := dkwX6_busy_11 ++ dktX6_busy_12
def dkwX6_busy_10 : List UInt8 := [21, 7, 6, 182, 0, 95, 133, 148, 158, 0, 14, 21, 6, 42, 21, 7, 182, 0, 115, 128, 54, 6]
abbrev dktX6_busy_10 : List UInt8 := dkwX6_busy_10 ++ dktX6_busy_11
def dkwX6_busy_9 : List UInt8 := [182, 0, 95, 21, 5, 159, 0, 40, 31, 42, 21, 7, 7, 182, 0, 95, 133, 148, 156, 0, 27, 33, 42]
abbrev dktX6_busy_9 : List UInt8 := dkwX6_busy_9 ++ dktX6_busy_10
def dkwX6_busy_8 : List UInt8 := [54, 7, 21, 7, 16, 12, 162, 0, 67, 42, 21, 7, 182, 0, 111, 153, 0, 52, 42, 21, 7, 8]
abbrev dktX6_busy_8 : List UInt8 := dkwX6_busy_8 ++ dktX6_busy_9
def dkwX6_busy_7 : List UInt8 := [21, 7, 21, 9, 182, 0, 108, 128, 54, 6, 132, 9, 1, 167, 255, 111, 132, 7, 1, 167, 255, 81, 3]
abbrev dktX6_busy_7 : List UInt8 := dkwX6_busy_7 ++ dktX6_busy_8
def dkwX6_busy_6 : List UInt8 := [21, 9, 96, 182, 0, 83, 96, 133, 148, 156, 0, 24, 33, 21, 8, 133, 148, 158, 0, 16, 21, 6, 42]
abbrev dktX6_busy_6 : List UInt8 := dkwX6_busy_6 ++ dktX6_busy_7
def dkwX6_busy_5 : List UInt8 := [180, 0, 42, 159, 0, 53, 21, 7, 42, 180, 0, 46, 159, 0, 44, 31, 21, 8, 42, 21, 7, 16, 16]
abbrev dktX6_busy_5 : List UInt8 := dkwX6_busy_5 ++ dktX6_busy_6
def dkwX6_busy_4 : List UInt8 := [159, 0, 16, 21, 6, 42, 21, 7, 21, 9, 182, 0, 105, 128, 54, 6, 21, 8, 155, 0, 62, 21, 7, 42]
abbrev dktX6_busy_4 : List UInt8 := dkwX6_busy_4 ++ dktX6_busy_5
def dkwX6_busy_3 : List UInt8 := [21, 7, 104, 21, 9, 96, 42, 180, 0, 49, 159, 0, 30, 7, 21, 7, 104, 21, 9, 96, 42, 180, 0, 52]
abbrev dktX6_busy_3 : List UInt8 := dkwX6_busy_3 ++ dktX6_busy_4
def dkwX6_busy_2 : List UInt8 := [21, 9, 182, 0, 98, 153, 0, 58, 31, 42, 21, 7, 21, 9, 182, 0, 102, 133, 148, 156, 0, 44, 7]
abbrev dktX6_busy_2 : List UInt8 := dkwX6_busy_2 ++ dktX6_busy_3
def dkwX6_busy_1 : List UInt8 := [182, 0, 83, 54, 8, 3, 54, 9, 21, 9, 42, 21, 7, 7, 182, 0, 83, 162, 0, 139, 42, 21, 7]
abbrev dktX6_busy_1 : List UInt8 := dkwX6_busy_1 ++ dktX6_busy_2
def dkwX6_busy_0 : List UInt8 := [3, 54, 6, 3, 54, 7, 21, 7, 42, 180, 0, 9, 4, 46, 162, 0, 170, 42, 21, 7, 16, 9]
abbrev dktX6_busy_0 : List UInt8 := dkwX6_busy_0 ++ dktX6_busy_1
theorem dksX6_busy_0 : cX6_busy.data.toList.drop 0 = dktX6_busy_0 := by decide +kernel
theorem dksX6_busy_1 : cX6_busy.data.toList.drop 22 = dktX6_busy_1 := dk_seg dksX6_busy_0 22 rfl rfl
theorem dksX6_busy_2 : cX6_busy.data.toList.drop 45 = dktX6_busy_2 := dk_seg dksX6_busy_1 23 rfl rfl
theorem dksX6_busy_3 : cX6_busy.data.toList.drop 68 = dktX6_busy_3 := dk_seg dksX6_busy_2 23 rfl rfl
theorem dksX6_busy_4 : cX6_busy.data.toList.drop 92 = dktX6_busy_4 := dk_seg dksX6_busy_3 24 rfl rfl
theorem dksX6_busy_5 : cX6_busy.data.toList.drop 116 = dktX6_busy_5 := dk_seg dksX6_busy_4 24 rfl rfl
theorem dksX6_busy_6 : cX6_busy.data.toList.drop 139 = dktX6_busy_6 := dk_seg dksX6_busy_5 23 rfl rfl
theorem dksX6_busy_7 : cX6_busy.data.toList.drop 162 = dktX6_busy_7 := dk_seg dksX6_busy_6 23 rfl rfl
theorem dksX6_busy_8 : cX6_busy.data.toList.drop 185 = dktX6_busy_8 := dk_seg dksX6_busy_7 23 rfl rfl
theorem dksX6_busy_9 : cX6_busy.data.toList.drop 207 = dktX6_busy_9 := dk_seg dksX6_busy_8 22 rfl rfl
theorem dksX6_busy_10 : cX6_busy.data.toList.drop 230 = dktX6_busy_10 := dk_seg dksX6_busy_9 23 rfl rfl
theorem dksX6_busy_11 : cX6_busy.data.toList.drop 252 = dktX6_busy_11 := dk_seg dksX6_busy_10 22 rfl rfl
theorem dksX6_busy_12 : cX6_busy.data.toList.drop 274 = dktX6_busy_12 := dk_seg dksX6_busy_11 22 rfl rfl
theorem dksX6_busy_13 : cX6_busy.data.toList.drop 297 = dktX6_busy_13 := dk_seg dksX6_busy_12 23 rfl rfl
theorem dX6_busy_0 : decode cX6_busy 0 = .ok (.iconst 0, 1) := dk_3 (dk_at dksX6_busy_0 0 rfl rfl)
theorem dX6_busy_1 : decode cX6_busy 1 = .ok (.istore 6, 2) := dk_54 6 (dk_at dksX6_busy_0 1 rfl rfl)
theorem dX6_busy_3 : decode cX6_busy 3 = .ok (.iconst 0, 1) := dk_3 (dk_at dksX6_busy_0 3 rfl rfl)
theorem dX6_busy_4 : decode cX6_busy 4 = .ok (.istore 7, 2) := dk_54 7 (dk_at dksX6_busy_0 4 rfl rfl)
theorem dX6_busy_6 : decode cX6_busy 6 = .ok (.iload 7, 2) := dk_21 7 (dk_at dksX6_busy_0 6 rfl rfl)
theorem dX6_busy_8 : decode cX6_busy 8 = .ok (.aload_n 0, 1) := dk_42 (dk_at dksX6_busy_0 8 rfl rfl)
theorem dX6_busy_9 : decode cX6_busy 9 = .ok (.getfield 9, 3) := dk_180 0 9 (dk_at dksX6_busy_0 9 rfl rfl)
theorem dX6_busy_12 : decode cX6_busy 12 = .ok (.iconst 1, 1) := dk_4 (dk_at dksX6_busy_0 12 rfl rfl)
theorem dX6_busy_13 : decode cX6_busy 13 = .ok (.iaload, 1) := dk_46 (dk_at dksX6_busy_0 13 rfl rfl)
theorem dX6_busy_14 : decode cX6_busy 14 = .ok (.if_icmp .ge 170, 3) := dk_162 0 170 (dk_at dksX6_busy_0 14 rfl rfl)
theorem dX6_busy_17 : decode cX6_busy 17 = .ok (.aload_n 0, 1) := dk_42 (dk_at dksX6_busy_0 17 rfl rfl)
theorem dX6_busy_18 : decode cX6_busy 18 = .ok (.iload 7, 2) := dk_21 7 (dk_at dksX6_busy_0 18 rfl rfl)
theorem dX6_busy_20 : decode cX6_busy 20 = .ok (.bipush 9, 2) := dk_16 9 (dk_at dksX6_busy_0 20 rfl rfl)
theorem dX6_busy_22 : decode cX6_busy 22 = .ok (.invokevirtual 83, 3) := dk_182 0 83 (dk_at dksX6_busy_1 0 rfl rfl)
theorem dX6_busy_25 : decode cX6_busy 25 = .ok (.istore 8, 2) := dk_54 8 (dk_at dksX6_busy_1 3 rfl rfl)
theorem dX6_busy_27 : decode cX6_busy 27 = .ok (.iconst 0, 1) := dk_3 (dk_at dksX6_busy_1 5 rfl rfl)
theorem dX6_busy_28 : decode cX6_busy 28 = .ok (.istore 9, 2) := dk_54 9 (dk_at dksX6_busy_1 6 rfl rfl)
theorem dX6_busy_30 : decode cX6_busy 30 = .ok (.iload 9, 2) := dk_21 9 (dk_at dksX6_busy_1 8 rfl rfl)
theorem dX6_busy_32 : decode cX6_busy 32 = .ok (.aload_n 0, 1) := dk_42 (dk_at dksX6_busy_1 10 rfl rfl)
theorem dX6_busy_33 : decode cX6_busy 33 = .ok (.iload 7, 2) := dk_21 7 (dk_at dksX6_busy_1 11 rfl rfl)
theorem dX6_busy_35 : decode cX6_busy 35 = .ok (.iconst 4, 1) := dk_7 (dk_at dksX6_busy_1 13 rfl rfl)
theorem dX6_busy_36 : decode cX6_busy 36 = .ok (.invokevirtual 83, 3) := dk_182 0 83 (dk_at dksX6_busy_1 14 rfl rfl)
theorem dX6_busy_39 : decode cX6_busy 39 = .ok (.if_icmp .ge 139, 3) := dk_162 0 139 (dk_at dksX6_busy_1 17 rfl rfl)
theorem dX6_busy_42 : decode cX6_busy 42 = .ok (.aload_n 0, 1) := dk_42 (dk_at dksX6_busy_1 20 rfl rfl)
theorem dX6_busy_43 : decode cX6_busy 43 = .ok (.iload 7, 2) := dk_21 7 (dk_at dksX6_busy_1 21 rfl rfl)
theorem dX6_busy_45 : decode cX6_busy 45 = .ok (.iload 9, 2) := dk_21 9 (dk_at dksX6_busy_2 0 rfl rfl)
theorem dX6_busy_47 : decode cX6_busy 47 = .ok (.invokevirtual 98, 3) := dk_182 0 98 (dk_at dksX6_busy_2 2 rfl rfl)
theorem dX6_busy_50 : decode cX6_busy 50 = .ok (.ifCond .eq 58, 3) := dk_153 0 58 (dk_at dksX6_busy_2 5 rfl rfl)
theorem dX6_busy_53 : decode cX6_busy 53 = .ok (.lload_n 1, 1) := dk_31 (dk_at dksX6_busy_2 8 rfl rfl)
theorem dX6_busy_54 : decode cX6_busy 54 = .ok (.aload_n 0, 1) := dk_42 (dk_at dksX6_busy_2 9 rfl rfl)
theorem dX6_busy_55 : decode cX6_busy 55 = .ok (.iload 7, 2) := dk_21 7 (dk_at dksX6_busy_2 10 rfl rfl)
theorem dX6_busy_57 : decode cX6_busy 57 = .ok (.iload 9, 2) := dk_21 9 (dk_at dksX6_busy_2 12 rfl rfl)
theorem dX6_busy_59 : decode cX6_busy 59 = .ok (.invokevirtual 102, 3) := dk_182 0 102 (dk_at dksX6_busy_2 14 rfl rfl)
theorem dX6_busy_62 : decode cX6_busy 62 = .ok (.i2l, 1) := dk_133 (dk_at dksX6_busy_2 17 rfl rfl)
theorem dX6_busy_63 : decode cX6_busy 63 = .ok (.lcmp, 1) := dk_148 (dk_at dksX6_busy_2 18 rfl rfl)
theorem dX6_busy_64 : decode cX6_busy 64 = .ok (.ifCond .ge 44, 3) := dk_156 0 44 (dk_at dksX6_busy_2 19 rfl rfl)
theorem dX6_busy_67 : decode cX6_busy 67 = .ok (.iconst 4, 1) := dk_7 (dk_at dksX6_busy_2 22 rfl rfl)
theorem dX6_busy_68 : decode cX6_busy 68 = .ok (.iload 7, 2) := dk_21 7 (dk_at dksX6_busy_3 0 rfl rfl)
theorem dX6_busy_70 : decode cX6_busy 70 = .ok (.imul, 1) := dk_104 (dk_at dksX6_busy_3 2 rfl rfl)
theorem dX6_busy_71 : decode cX6_busy 71 = .ok (.iload 9, 2) := dk_21 9 (dk_at dksX6_busy_3 3 rfl rfl)
theorem dX6_busy_73 : decode cX6_busy 73 = .ok (.iadd, 1) := dk_96 (dk_at dksX6_busy_3 5 rfl rfl)
theorem dX6_busy_74 : decode cX6_busy 74 = .ok (.aload_n 0, 1) := dk_42 (dk_at dksX6_busy_3 6 rfl rfl)
theorem dX6_busy_75 : decode cX6_busy 75 = .ok (.getfield 49, 3) := dk_180 0 49 (dk_at dksX6_busy_3 7 rfl rfl)
theorem dX6_busy_78 : decode cX6_busy 78 = .ok (.if_icmp .eq 30, 3) := dk_159 0 30 (dk_at dksX6_busy_3 10 rfl rfl)
theorem dX6_busy_81 : decode cX6_busy 81 = .ok (.iconst 4, 1) := dk_7 (dk_at dksX6_busy_3 13 rfl rfl)
theorem dX6_busy_82 : decode cX6_busy 82 = .ok (.iload 7, 2) := dk_21 7 (dk_at dksX6_busy_3 14 rfl rfl)
theorem dX6_busy_84 : decode cX6_busy 84 = .ok (.imul, 1) := dk_104 (dk_at dksX6_busy_3 16 rfl rfl)
theorem dX6_busy_85 : decode cX6_busy 85 = .ok (.iload 9, 2) := dk_21 9 (dk_at dksX6_busy_3 17 rfl rfl)
theorem dX6_busy_87 : decode cX6_busy 87 = .ok (.iadd, 1) := dk_96 (dk_at dksX6_busy_3 19 rfl rfl)
theorem dX6_busy_88 : decode cX6_busy 88 = .ok (.aload_n 0, 1) := dk_42 (dk_at dksX6_busy_3 20 rfl rfl)
theorem dX6_busy_89 : decode cX6_busy 89 = .ok (.getfield 52, 3) := dk_180 0 52 (dk_at dksX6_busy_3 21 rfl rfl)
theorem dX6_busy_92 : decode cX6_busy 92 = .ok (.if_icmp .eq 16, 3) := dk_159 0 16 (dk_at dksX6_busy_4 0 rfl rfl)
theorem dX6_busy_95 : decode cX6_busy 95 = .ok (.iload 6, 2) := dk_21 6 (dk_at dksX6_busy_4 3 rfl rfl)
theorem dX6_busy_97 : decode cX6_busy 97 = .ok (.aload_n 0, 1) := dk_42 (dk_at dksX6_busy_4 5 rfl rfl)
theorem dX6_busy_98 : decode cX6_busy 98 = .ok (.iload 7, 2) := dk_21 7 (dk_at dksX6_busy_4 6 rfl rfl)
theorem dX6_busy_100 : decode cX6_busy 100 = .ok (.iload 9, 2) := dk_21 9 (dk_at dksX6_busy_4 8 rfl rfl)
theorem dX6_busy_102 : decode cX6_busy 102 = .ok (.invokevirtual 105, 3) := dk_182 0 105 (dk_at dksX6_busy_4 10 rfl rfl)
theorem dX6_busy_105 : decode cX6_busy 105 = .ok (.ior, 1) := dk_128 (dk_at dksX6_busy_4 13 rfl rfl)
theorem dX6_busy_106 : decode cX6_busy 106 = .ok (.istore 6, 2) := dk_54 6 (dk_at dksX6_busy_4 14 rfl rfl)
theorem dX6_busy_108 : decode cX6_busy 108 = .ok (.iload 8, 2) := dk_21 8 (dk_at dksX6_busy_4 16 rfl rfl)
theorem dX6_busy_110 : decode cX6_busy 110 = .ok (.ifCond .lt 62, 3) := dk_155 0 62 (dk_at dksX6_busy_4 18 rfl rfl)
theorem dX6_busy_113 : decode cX6_busy 113 = .ok (.iload 7, 2) := dk_21 7 (dk_at dksX6_busy_4 21 rfl rfl)
theorem dX6_busy_115 : decode cX6_busy 115 = .ok (.aload_n 0, 1) := dk_42 (dk_at dksX6_busy_4 23 rfl rfl)
theorem dX6_busy_116 : decode cX6_busy 116 = .ok (.getfield 42, 3) := dk_180 0 42 (dk_at dksX6_busy_5 0 rfl rfl)
theorem dX6_busy_119 : decode cX6_busy 119 = .ok (.if_icmp .eq 53, 3) := dk_159 0 53 (dk_at dksX6_busy_5 3 rfl rfl)
theorem dX6_busy_122 : decode cX6_busy 122 = .ok (.iload 7, 2) := dk_21 7 (dk_at dksX6_busy_5 6 rfl rfl)
theorem dX6_busy_124 : decode cX6_busy 124 = .ok (.aload_n 0, 1) := dk_42 (dk_at dksX6_busy_5 8 rfl rfl)
theorem dX6_busy_125 : decode cX6_busy 125 = .ok (.getfield 46, 3) := dk_180 0 46 (dk_at dksX6_busy_5 9 rfl rfl)
theorem dX6_busy_128 : decode cX6_busy 128 = .ok (.if_icmp .eq 44, 3) := dk_159 0 44 (dk_at dksX6_busy_5 12 rfl rfl)
theorem dX6_busy_131 : decode cX6_busy 131 = .ok (.lload_n 1, 1) := dk_31 (dk_at dksX6_busy_5 15 rfl rfl)
theorem dX6_busy_132 : decode cX6_busy 132 = .ok (.iload 8, 2) := dk_21 8 (dk_at dksX6_busy_5 16 rfl rfl)
theorem dX6_busy_134 : decode cX6_busy 134 = .ok (.aload_n 0, 1) := dk_42 (dk_at dksX6_busy_5 18 rfl rfl)
theorem dX6_busy_135 : decode cX6_busy 135 = .ok (.iload 7, 2) := dk_21 7 (dk_at dksX6_busy_5 19 rfl rfl)
theorem dX6_busy_137 : decode cX6_busy 137 = .ok (.bipush 16, 2) := dk_16 16 (dk_at dksX6_busy_5 21 rfl rfl)
theorem dX6_busy_139 : decode cX6_busy 139 = .ok (.iload 9, 2) := dk_21 9 (dk_at dksX6_busy_6 0 rfl rfl)
theorem dX6_busy_141 : decode cX6_busy 141 = .ok (.iadd, 1) := dk_96 (dk_at dksX6_busy_6 2 rfl rfl)
theorem dX6_busy_142 : decode cX6_busy 142 = .ok (.invokevirtual 83, 3) := dk_182 0 83 (dk_at dksX6_busy_6 3 rfl rfl)
theorem dX6_busy_145 : decode cX6_busy 145 = .ok (.iadd, 1) := dk_96 (dk_at dksX6_busy_6 6 rfl rfl)
theorem dX6_busy_146 : decode cX6_busy 146 = .ok (.i2l, 1) := dk_133 (dk_at dksX6_busy_6 7 rfl rfl)
theorem dX6_busy_147 : decode cX6_busy 147 = .ok (.lcmp, 1) := dk_148 (dk_at dksX6_busy_6 8 rfl rfl)
theorem dX6_busy_148 : decode cX6_busy 148 = .ok (.ifCond .ge 24, 3) := dk_156 0 24 (dk_at dksX6_busy_6 9 rfl rfl)
theorem dX6_busy_151 : decode cX6_busy 151 = .ok (.lload_n 3, 1) := dk_33 (dk_at dksX6_busy_6 12 rfl rfl)
theorem dX6_busy_152 : decode cX6_busy 152 = .ok (.iload 8, 2) := dk_21 8 (dk_at dksX6_busy_6 13 rfl rfl)
theorem dX6_busy_154 : decode cX6_busy 154 = .ok (.i2l, 1) := dk_133 (dk_at dksX6_busy_6 15 rfl rfl)
theorem dX6_busy_155 : decode cX6_busy 155 = .ok (.lcmp, 1) := dk_148 (dk_at dksX6_busy_6 16 rfl rfl)
theorem dX6_busy_156 : decode cX6_busy 156 = .ok (.ifCond .le 16, 3) := dk_158 0 16 (dk_at dksX6_busy_6 17 rfl rfl)
theorem dX6_busy_159 : decode cX6_busy 159 = .ok (.iload 6, 2) := dk_21 6 (dk_at dksX6_busy_6 20 rfl rfl)
theorem dX6_busy_161 : decode cX6_busy 161 = .ok (.aload_n 0, 1) := dk_42 (dk_at dksX6_busy_6 22 rfl rfl)
theorem dX6_busy_162 : decode cX6_busy 162 = .ok (.iload 7, 2) := dk_21 7 (dk_at dksX6_busy_7 0 rfl rfl)
theorem dX6_busy_164 : decode cX6_busy 164 = .ok (.iload 9, 2) := dk_21 9 (dk_at dksX6_busy_7 2 rfl rfl)
theorem dX6_busy_166 : decode cX6_busy 166 = .ok (.invokevirtual 108, 3) := dk_182 0 108 (dk_at dksX6_busy_7 4 rfl rfl)
theorem dX6_busy_169 : decode cX6_busy 169 = .ok (.ior, 1) := dk_128 (dk_at dksX6_busy_7 7 rfl rfl)
theorem dX6_busy_170 : decode cX6_busy 170 = .ok (.istore 6, 2) := dk_54 6 (dk_at dksX6_busy_7 8 rfl rfl)
theorem dX6_busy_172 : decode cX6_busy 172 = .ok (.iinc 9 1, 3) := dk_132 9 1 (dk_at dksX6_busy_7 10 rfl rfl)
theorem dX6_busy_175 : decode cX6_busy 175 = .ok (.goto (-145), 3) := dk_167 255 111 (dk_at dksX6_busy_7 13 rfl rfl)
theorem dX6_busy_178 : decode cX6_busy 178 = .ok (.iinc 7 1, 3) := dk_132 7 1 (dk_at dksX6_busy_7 16 rfl rfl)
theorem dX6_busy_181 : decode cX6_busy 181 = .ok (.goto (-175), 3) := dk_167 255 81 (dk_at dksX6_busy_7 19 rfl rfl)
theorem dX6_busy_184 : decode cX6_busy 184 = .ok (.iconst 0, 1) := dk_3 (dk_at dksX6_busy_7 22 rfl rfl)
theorem dX6_busy_185 : decode cX6_busy 185 = .ok (.istore 7, 2) := dk_54 7 (dk_at dksX6_busy_8 0 rfl rfl)
theorem dX6_busy_187 : decode cX6_busy 187 = .ok (.iload 7, 2) := dk_21 7 (dk_at dksX6_busy_8 2 rfl rfl)
theorem dX6_busy_189 : decode cX6_busy 189 = .ok (.bipush 12, 2) := dk_16 12 (dk_at dksX6_busy_8 4 rfl rfl)
theorem dX6_busy_191 : decode cX6_busy 191 = .ok (.if_icmp .ge 67, 3) := dk_162 0 67 (dk_at dksX6_busy_8 6 rfl rfl)
theorem dX6_busy_194 : decode cX6_busy 194 = .ok (.aload_n 0, 1) := dk_42 (dk_at dksX6_busy_8 9 rfl rfl)
theorem dX6_busy_195 : decode cX6_busy 195 = .ok (.iload 7, 2) := dk_21 7 (dk_at dksX6_busy_8 10 rfl rfl)
theorem dX6_busy_197 : decode cX6_busy 197 = .ok (.invokevirtual 111, 3) := dk_182 0 111 (dk_at dksX6_busy_8 12 rfl rfl)
theorem dX6_busy_200 : decode cX6_busy 200 = .ok (.ifCond .eq 52, 3) := dk_153 0 52 (dk_at dksX6_busy_8 15 rfl rfl)
theorem dX6_busy_203 : decode cX6_busy 203 = .ok (.aload_n 0, 1) := dk_42 (dk_at dksX6_busy_8 18 rfl rfl)
theorem dX6_busy_204 : decode cX6_busy 204 = .ok (.iload 7, 2) := dk_21 7 (dk_at dksX6_busy_8 19 rfl rfl)
theorem dX6_busy_206 : decode cX6_busy 206 = .ok (.iconst 5, 1) := dk_8 (dk_at dksX6_busy_8 21 rfl rfl)
theorem dX6_busy_207 : decode cX6_busy 207 = .ok (.invokevirtual 95, 3) := dk_182 0 95 (dk_at dksX6_busy_9 0 rfl rfl)
theorem dX6_busy_210 : decode cX6_busy 210 = .ok (.iload 5, 2) := dk_21 5 (dk_at dksX6_busy_9 3 rfl rfl)
theorem dX6_busy_212 : decode cX6_busy 212 = .ok (.if_icmp .eq 40, 3) := dk_159 0 40 (dk_at dksX6_busy_9 5 rfl rfl)
theorem dX6_busy_215 : decode cX6_busy 215 = .ok (.lload_n 1, 1) := dk_31 (dk_at dksX6_busy_9 8 rfl rfl)
theorem dX6_busy_216 : decode cX6_busy 216 = .ok (.aload_n 0, 1) := dk_42 (dk_at dksX6_busy_9 9 rfl rfl)
theorem dX6_busy_217 : decode cX6_busy 217 = .ok (.iload 7, 2) := dk_21 7 (dk_at dksX6_busy_9 10 rfl rfl)
theorem dX6_busy_219 : decode cX6_busy 219 = .ok (.iconst 4, 1) := dk_7 (dk_at dksX6_busy_9 12 rfl rfl)
theorem dX6_busy_220 : decode cX6_busy 220 = .ok (.invokevirtual 95, 3) := dk_182 0 95 (dk_at dksX6_busy_9 13 rfl rfl)
theorem dX6_busy_223 : decode cX6_busy 223 = .ok (.i2l, 1) := dk_133 (dk_at dksX6_busy_9 16 rfl rfl)
theorem dX6_busy_224 : decode cX6_busy 224 = .ok (.lcmp, 1) := dk_148 (dk_at dksX6_busy_9 17 rfl rfl)
theorem dX6_busy_225 : decode cX6_busy 225 = .ok (.ifCond .ge 27, 3) := dk_156 0 27 (dk_at dksX6_busy_9 18 rfl rfl)
theorem dX6_busy_228 : decode cX6_busy 228 = .ok (.lload_n 3, 1) := dk_33 (dk_at dksX6_busy_9 21 rfl rfl)
theorem dX6_busy_229 : decode cX6_busy 229 = .ok (.aload_n 0, 1) := dk_42 (dk_at dksX6_busy_9 22 rfl rfl)
theorem dX6_busy_230 : decode cX6_busy 230 = .ok (.iload 7, 2) := dk_21 7 (dk_at dksX6_busy_10 0 rfl rfl)
theorem dX6_busy_232 : decode cX6_busy 232 = .ok (.iconst 3, 1) := dk_6 (dk_at dksX6_busy_10 2 rfl rfl)
theorem dX6_busy_233 : decode cX6_busy 233 = .ok (.invokevirtual 95, 3) := dk_182 0 95 (dk_at dksX6_busy_10 3 rfl rfl)
theorem dX6_busy_236 : decode cX6_busy 236 = .ok (.i2l, 1) := dk_133 (dk_at dksX6_busy_10 6 rfl rfl)
theorem dX6_busy_237 : decode cX6_busy 237 = .ok (.lcmp, 1) := dk_148 (dk_at dksX6_busy_10 7 rfl rfl)
theorem dX6_busy_238 : decode cX6_busy 238 = .ok (.ifCond .le 14, 3) := dk_158 0 14 (dk_at dksX6_busy_10 8 rfl rfl)
theorem dX6_busy_241 : decode cX6_busy 241 = .ok (.iload 6, 2) := dk_21 6 (dk_at dksX6_busy_10 11 rfl rfl)
theorem dX6_busy_243 : decode cX6_busy 243 = .ok (.aload_n 0, 1) := dk_42 (dk_at dksX6_busy_10 13 rfl rfl)
theorem dX6_busy_244 : decode cX6_busy 244 = .ok (.iload 7, 2) := dk_21 7 (dk_at dksX6_busy_10 14 rfl rfl)
theorem dX6_busy_246 : decode cX6_busy 246 = .ok (.invokevirtual 115, 3) := dk_182 0 115 (dk_at dksX6_busy_10 16 rfl rfl)
theorem dX6_busy_249 : decode cX6_busy 249 = .ok (.ior, 1) := dk_128 (dk_at dksX6_busy_10 19 rfl rfl)
theorem dX6_busy_250 : decode cX6_busy 250 = .ok (.istore 6, 2) := dk_54 6 (dk_at dksX6_busy_10 20 rfl rfl)
theorem dX6_busy_252 : decode cX6_busy 252 = .ok (.iinc 7 1, 3) := dk_132 7 1 (dk_at dksX6_busy_11 0 rfl rfl)
theorem dX6_busy_255 : decode cX6_busy 255 = .ok (.goto (-68), 3) := dk_167 255 188 (dk_at dksX6_busy_11 3 rfl rfl)
theorem dX6_busy_258 : decode cX6_busy 258 = .ok (.iconst 0, 1) := dk_3 (dk_at dksX6_busy_11 6 rfl rfl)
theorem dX6_busy_259 : decode cX6_busy 259 = .ok (.istore 7, 2) := dk_54 7 (dk_at dksX6_busy_11 7 rfl rfl)
theorem dX6_busy_261 : decode cX6_busy 261 = .ok (.iload 7, 2) := dk_21 7 (dk_at dksX6_busy_11 9 rfl rfl)
theorem dX6_busy_263 : decode cX6_busy 263 = .ok (.aload_n 0, 1) := dk_42 (dk_at dksX6_busy_11 11 rfl rfl)
theorem dX6_busy_264 : decode cX6_busy 264 = .ok (.getfield 119, 3) := dk_180 0 119 (dk_at dksX6_busy_11 12 rfl rfl)
theorem dX6_busy_267 : decode cX6_busy 267 = .ok (.if_icmp .ge 38, 3) := dk_162 0 38 (dk_at dksX6_busy_11 15 rfl rfl)
theorem dX6_busy_270 : decode cX6_busy 270 = .ok (.iload 6, 2) := dk_21 6 (dk_at dksX6_busy_11 18 rfl rfl)
theorem dX6_busy_272 : decode cX6_busy 272 = .ok (.lload_n 1, 1) := dk_31 (dk_at dksX6_busy_11 20 rfl rfl)
theorem dX6_busy_273 : decode cX6_busy 273 = .ok (.aload_n 0, 1) := dk_42 (dk_at dksX6_busy_11 21 rfl rfl)
theorem dX6_busy_274 : decode cX6_busy 274 = .ok (.getfield 58, 3) := dk_180 0 58 (dk_at dksX6_busy_12 0 rfl rfl)
theorem dX6_busy_277 : decode cX6_busy 277 = .ok (.iload 7, 2) := dk_21 7 (dk_at dksX6_busy_12 3 rfl rfl)
theorem dX6_busy_279 : decode cX6_busy 279 = .ok (.iaload, 1) := dk_46 (dk_at dksX6_busy_12 5 rfl rfl)
theorem dX6_busy_280 : decode cX6_busy 280 = .ok (.i2l, 1) := dk_133 (dk_at dksX6_busy_12 6 rfl rfl)
theorem dX6_busy_281 : decode cX6_busy 281 = .ok (.lcmp, 1) := dk_148 (dk_at dksX6_busy_12 7 rfl rfl)
theorem dX6_busy_282 : decode cX6_busy 282 = .ok (.ifCond .ge 13, 3) := dk_156 0 13 (dk_at dksX6_busy_12 8 rfl rfl)
theorem dX6_busy_285 : decode cX6_busy 285 = .ok (.aload_n 0, 1) := dk_42 (dk_at dksX6_busy_12 11 rfl rfl)
theorem dX6_busy_286 : decode cX6_busy 286 = .ok (.getfield 55, 3) := dk_180 0 55 (dk_at dksX6_busy_12 12 rfl rfl)
theorem dX6_busy_289 : decode cX6_busy 289 = .ok (.iload 7, 2) := dk_21 7 (dk_at dksX6_busy_12 15 rfl rfl)
theorem dX6_busy_291 : decode cX6_busy 291 = .ok (.iaload, 1) := dk_46 (dk_at dksX6_busy_12 17 rfl rfl)
theorem dX6_busy_292 : decode cX6_busy 292 = .ok (.goto 4, 3) := dk_167 0 4 (dk_at dksX6_busy_12 18 rfl rfl)
theorem dX6_busy_295 : decode cX6_busy 295 = .ok (.iconst 0, 1) := dk_3 (dk_at dksX6_busy_12 21 rfl rfl)
theorem dX6_busy_296 : decode cX6_busy 296 = .ok (.ior, 1) := dk_128 (dk_at dksX6_busy_12 22 rfl rfl)
theorem dX6_busy_297 : decode cX6_busy 297 = .ok (.istore 6, 2) := dk_54 6 (dk_at dksX6_busy_13 0 rfl rfl)
theorem dX6_busy_299 : decode cX6_busy 299 = .ok (.iinc 7 1, 3) := dk_132 7 1 (dk_at dksX6_busy_13 2 rfl rfl)
theorem dX6_busy_302 : decode cX6_busy 302 = .ok (.goto (-41), 3) := dk_167 255 215 (dk_at dksX6_busy_13 5 rfl rfl)
theorem dX6_busy_305 : decode cX6_busy 305 = .ok (.iload 6, 2) := dk_21 6 (dk_at dksX6_busy_13 8 rfl rfl)
theorem dX6_busy_307 : decode cX6_busy 307 = .ok (.ireturn, 1) := dk_172 (dk_at dksX6_busy_13 10 rfl rfl)
abbrev cX6_laysSums : ByteArray := prog_33_method_4_code
def dkwX6_laysSums_0 : List UInt8 := [3, 61, 28, 16, 16, 162, 0, 15, 43, 28, 42, 28, 47, 80, 132, 2, 1, 167, 255, 241, 177]
abbrev dktX6_laysSums_0 : List UInt8 := dkwX6_laysSums_0 ++ []
theorem dksX6_laysSums_0 : cX6_laysSums.data.toList.drop 0 = dktX6_laysSums_0 := by decide +kernel
theorem dX6_laysSums_0 : decode cX6_laysSums 0 = .ok (.iconst 0, 1) := dk_3 (dk_at dksX6_laysSums_0 0 rfl rfl)
theorem dX6_laysSums_1 : decode cX6_laysSums 1 = .ok (.istore_n 2, 1) := dk_61 (dk_at dksX6_laysSums_0 1 rfl rfl)
theorem dX6_laysSums_2 : decode cX6_laysSums 2 = .ok (.iload_n 2, 1) := dk_28 (dk_at dksX6_laysSums_0 2 rfl rfl)
theorem dX6_laysSums_3 : decode cX6_laysSums 3 = .ok (.bipush 16, 2) := dk_16 16 (dk_at dksX6_laysSums_0 3 rfl rfl)
theorem dX6_laysSums_5 : decode cX6_laysSums 5 = .ok (.if_icmp .ge 15, 3) := dk_162 0 15 (dk_at dksX6_laysSums_0 5 rfl rfl)
theorem dX6_laysSums_8 : decode cX6_laysSums 8 = .ok (.aload_n 1, 1) := dk_43 (dk_at dksX6_laysSums_0 8 rfl rfl)
theorem dX6_laysSums_9 : decode cX6_laysSums 9 = .ok (.iload_n 2, 1) := dk_28 (dk_at dksX6_laysSums_0 9 rfl rfl)
theorem dX6_laysSums_10 : decode cX6_laysSums 10 = .ok (.aload_n 0, 1) := dk_42 (dk_at dksX6_laysSums_0 10 rfl rfl)
theorem dX6_laysSums_11 : decode cX6_laysSums 11 = .ok (.iload_n 2, 1) := dk_28 (dk_at dksX6_laysSums_0 11 rfl rfl)
theorem dX6_laysSums_12 : decode cX6_laysSums 12 = .ok (.laload, 1) := dk_47 (dk_at dksX6_laysSums_0 12 rfl rfl)
theorem dX6_laysSums_13 : decode cX6_laysSums 13 = .ok (.lastore, 1) := dk_80 (dk_at dksX6_laysSums_0 13 rfl rfl)
theorem dX6_laysSums_14 : decode cX6_laysSums 14 = .ok (.iinc 2 1, 3) := dk_132 2 1 (dk_at dksX6_laysSums_0 14 rfl rfl)
theorem dX6_laysSums_17 : decode cX6_laysSums 17 = .ok (.goto (-15), 3) := dk_167 255 241 (dk_at dksX6_laysSums_0 17 rfl rfl)
theorem dX6_laysSums_20 : decode cX6_laysSums 20 = .ok (.return_, 1) := dk_177 (dk_at dksX6_laysSums_0 20 rfl rfl)
abbrev cX6_ofThese : ByteArray := prog_33_method_107_code
def dkwX6_ofThese_1 : List UInt8 := [160, 0, 7, 4, 167, 0, 4, 3, 96, 61, 132, 3, 1, 167, 255, 225, 28, 172]
abbrev dktX6_ofThese_1 : List UInt8 := dkwX6_ofThese_1 ++ []
def dkwX6_ofThese_0 : List UInt8 := [3, 61, 3, 62, 29, 42, 180, 0, 9, 4, 46, 162, 0, 27, 28, 42, 29, 8, 182, 0, 83, 27]
abbrev dktX6_ofThese_0 : List UInt8 := dkwX6_ofThese_0 ++ dktX6_ofThese_1
theorem dksX6_ofThese_0 : cX6_ofThese.data.toList.drop 0 = dktX6_ofThese_0 := by decide +kernel
theorem dksX6_ofThese_1 : cX6_ofThese.data.toList.drop 22 = dktX6_ofThese_1 := dk_seg dksX6_ofThese_0 22 rfl rfl
theorem dX6_ofThese_0 : decode cX6_ofThese 0 = .ok (.iconst 0, 1) := dk_3 (dk_at dksX6_ofThese_0 0 rfl rfl)
theorem dX6_ofThese_1 : decode cX6_ofThese 1 = .ok (.istore_n 2, 1) := dk_61 (dk_at dksX6_ofThese_0 1 rfl rfl)
theorem dX6_ofThese_2 : decode cX6_ofThese 2 = .ok (.iconst 0, 1) := dk_3 (dk_at dksX6_ofThese_0 2 rfl rfl)
theorem dX6_ofThese_3 : decode cX6_ofThese 3 = .ok (.istore_n 3, 1) := dk_62 (dk_at dksX6_ofThese_0 3 rfl rfl)
theorem dX6_ofThese_4 : decode cX6_ofThese 4 = .ok (.iload_n 3, 1) := dk_29 (dk_at dksX6_ofThese_0 4 rfl rfl)
theorem dX6_ofThese_5 : decode cX6_ofThese 5 = .ok (.aload_n 0, 1) := dk_42 (dk_at dksX6_ofThese_0 5 rfl rfl)
theorem dX6_ofThese_6 : decode cX6_ofThese 6 = .ok (.getfield 9, 3) := dk_180 0 9 (dk_at dksX6_ofThese_0 6 rfl rfl)
theorem dX6_ofThese_9 : decode cX6_ofThese 9 = .ok (.iconst 1, 1) := dk_4 (dk_at dksX6_ofThese_0 9 rfl rfl)
theorem dX6_ofThese_10 : decode cX6_ofThese 10 = .ok (.iaload, 1) := dk_46 (dk_at dksX6_ofThese_0 10 rfl rfl)
theorem dX6_ofThese_11 : decode cX6_ofThese 11 = .ok (.if_icmp .ge 27, 3) := dk_162 0 27 (dk_at dksX6_ofThese_0 11 rfl rfl)
theorem dX6_ofThese_14 : decode cX6_ofThese 14 = .ok (.iload_n 2, 1) := dk_28 (dk_at dksX6_ofThese_0 14 rfl rfl)
theorem dX6_ofThese_15 : decode cX6_ofThese 15 = .ok (.aload_n 0, 1) := dk_42 (dk_at dksX6_ofThese_0 15 rfl rfl)
theorem dX6_ofThese_16 : decode cX6_ofThese 16 = .ok (.iload_n 3, 1) := dk_29 (dk_at dksX6_ofThese_0 16 rfl rfl)
theorem dX6_ofThese_17 : decode cX6_ofThese 17 = .ok (.iconst 5, 1) := dk_8 (dk_at dksX6_ofThese_0 17 rfl rfl)
theorem dX6_ofThese_18 : decode cX6_ofThese 18 = .ok (.invokevirtual 83, 3) := dk_182 0 83 (dk_at dksX6_ofThese_0 18 rfl rfl)
theorem dX6_ofThese_21 : decode cX6_ofThese 21 = .ok (.iload_n 1, 1) := dk_27 (dk_at dksX6_ofThese_0 21 rfl rfl)
theorem dX6_ofThese_22 : decode cX6_ofThese 22 = .ok (.if_icmp .ne 7, 3) := dk_160 0 7 (dk_at dksX6_ofThese_1 0 rfl rfl)
theorem dX6_ofThese_25 : decode cX6_ofThese 25 = .ok (.iconst 1, 1) := dk_4 (dk_at dksX6_ofThese_1 3 rfl rfl)
theorem dX6_ofThese_26 : decode cX6_ofThese 26 = .ok (.goto 4, 3) := dk_167 0 4 (dk_at dksX6_ofThese_1 4 rfl rfl)
theorem dX6_ofThese_29 : decode cX6_ofThese 29 = .ok (.iconst 0, 1) := dk_3 (dk_at dksX6_ofThese_1 7 rfl rfl)
theorem dX6_ofThese_30 : decode cX6_ofThese 30 = .ok (.iadd, 1) := dk_96 (dk_at dksX6_ofThese_1 8 rfl rfl)
theorem dX6_ofThese_31 : decode cX6_ofThese 31 = .ok (.istore_n 2, 1) := dk_61 (dk_at dksX6_ofThese_1 9 rfl rfl)
theorem dX6_ofThese_32 : decode cX6_ofThese 32 = .ok (.iinc 3 1, 3) := dk_132 3 1 (dk_at dksX6_ofThese_1 10 rfl rfl)
theorem dX6_ofThese_35 : decode cX6_ofThese 35 = .ok (.goto (-31), 3) := dk_167 255 225 (dk_at dksX6_ofThese_1 13 rfl rfl)
theorem dX6_ofThese_38 : decode cX6_ofThese 38 = .ok (.iload_n 2, 1) := dk_28 (dk_at dksX6_ofThese_1 16 rfl rfl)
theorem dX6_ofThese_39 : decode cX6_ofThese 39 = .ok (.ireturn, 1) := dk_172 (dk_at dksX6_ofThese_1 17 rfl rfl)
abbrev cX6_heldBy : ByteArray := prog_33_method_65_code
def dkwX6_heldBy_3 : List UInt8 := [167, 255, 205, 132, 3, 1, 167, 255, 186, 28, 172]
abbrev dktX6_heldBy_3 : List UInt8 := dkwX6_heldBy_3 ++ []
def dkwX6_heldBy_2 : List UInt8 := [153, 0, 16, 42, 29, 16, 12, 21, 4, 96, 182, 0, 83, 167, 0, 4, 3, 96, 61, 132, 4, 1]
abbrev dktX6_heldBy_2 : List UInt8 := dkwX6_heldBy_2 ++ dktX6_heldBy_3
def dkwX6_heldBy_1 : List UInt8 := [182, 0, 83, 162, 0, 46, 28, 42, 29, 3, 182, 0, 83, 27, 160, 0, 26, 42, 29, 21, 4, 182, 0, 98]
abbrev dktX6_heldBy_1 : List UInt8 := dkwX6_heldBy_1 ++ dktX6_heldBy_2
def dkwX6_heldBy_0 : List UInt8 := [3, 61, 3, 62, 29, 42, 180, 0, 9, 4, 46, 162, 0, 66, 3, 54, 4, 21, 4, 42, 29, 7]
abbrev dktX6_heldBy_0 : List UInt8 := dkwX6_heldBy_0 ++ dktX6_heldBy_1
theorem dksX6_heldBy_0 : cX6_heldBy.data.toList.drop 0 = dktX6_heldBy_0 := by decide +kernel
theorem dksX6_heldBy_1 : cX6_heldBy.data.toList.drop 22 = dktX6_heldBy_1 := dk_seg dksX6_heldBy_0 22 rfl rfl
theorem dksX6_heldBy_2 : cX6_heldBy.data.toList.drop 46 = dktX6_heldBy_2 := dk_seg dksX6_heldBy_1 24 rfl rfl
theorem dksX6_heldBy_3 : cX6_heldBy.data.toList.drop 68 = dktX6_heldBy_3 := dk_seg dksX6_heldBy_2 22 rfl rfl
theorem dX6_heldBy_0 : decode cX6_heldBy 0 = .ok (.iconst 0, 1) := dk_3 (dk_at dksX6_heldBy_0 0 rfl rfl)
theorem dX6_heldBy_1 : decode cX6_heldBy 1 = .ok (.istore_n 2, 1) := dk_61 (dk_at dksX6_heldBy_0 1 rfl rfl)
theorem dX6_heldBy_2 : decode cX6_heldBy 2 = .ok (.iconst 0, 1) := dk_3 (dk_at dksX6_heldBy_0 2 rfl rfl)
theorem dX6_heldBy_3 : decode cX6_heldBy 3 = .ok (.istore_n 3, 1) := dk_62 (dk_at dksX6_heldBy_0 3 rfl rfl)
theorem dX6_heldBy_4 : decode cX6_heldBy 4 = .ok (.iload_n 3, 1) := dk_29 (dk_at dksX6_heldBy_0 4 rfl rfl)
theorem dX6_heldBy_5 : decode cX6_heldBy 5 = .ok (.aload_n 0, 1) := dk_42 (dk_at dksX6_heldBy_0 5 rfl rfl)
theorem dX6_heldBy_6 : decode cX6_heldBy 6 = .ok (.getfield 9, 3) := dk_180 0 9 (dk_at dksX6_heldBy_0 6 rfl rfl)
theorem dX6_heldBy_9 : decode cX6_heldBy 9 = .ok (.iconst 1, 1) := dk_4 (dk_at dksX6_heldBy_0 9 rfl rfl)
theorem dX6_heldBy_10 : decode cX6_heldBy 10 = .ok (.iaload, 1) := dk_46 (dk_at dksX6_heldBy_0 10 rfl rfl)
theorem dX6_heldBy_11 : decode cX6_heldBy 11 = .ok (.if_icmp .ge 66, 3) := dk_162 0 66 (dk_at dksX6_heldBy_0 11 rfl rfl)
theorem dX6_heldBy_14 : decode cX6_heldBy 14 = .ok (.iconst 0, 1) := dk_3 (dk_at dksX6_heldBy_0 14 rfl rfl)
theorem dX6_heldBy_15 : decode cX6_heldBy 15 = .ok (.istore 4, 2) := dk_54 4 (dk_at dksX6_heldBy_0 15 rfl rfl)
theorem dX6_heldBy_17 : decode cX6_heldBy 17 = .ok (.iload 4, 2) := dk_21 4 (dk_at dksX6_heldBy_0 17 rfl rfl)
theorem dX6_heldBy_19 : decode cX6_heldBy 19 = .ok (.aload_n 0, 1) := dk_42 (dk_at dksX6_heldBy_0 19 rfl rfl)
theorem dX6_heldBy_20 : decode cX6_heldBy 20 = .ok (.iload_n 3, 1) := dk_29 (dk_at dksX6_heldBy_0 20 rfl rfl)
theorem dX6_heldBy_21 : decode cX6_heldBy 21 = .ok (.iconst 4, 1) := dk_7 (dk_at dksX6_heldBy_0 21 rfl rfl)
theorem dX6_heldBy_22 : decode cX6_heldBy 22 = .ok (.invokevirtual 83, 3) := dk_182 0 83 (dk_at dksX6_heldBy_1 0 rfl rfl)
theorem dX6_heldBy_25 : decode cX6_heldBy 25 = .ok (.if_icmp .ge 46, 3) := dk_162 0 46 (dk_at dksX6_heldBy_1 3 rfl rfl)
theorem dX6_heldBy_28 : decode cX6_heldBy 28 = .ok (.iload_n 2, 1) := dk_28 (dk_at dksX6_heldBy_1 6 rfl rfl)
theorem dX6_heldBy_29 : decode cX6_heldBy 29 = .ok (.aload_n 0, 1) := dk_42 (dk_at dksX6_heldBy_1 7 rfl rfl)
theorem dX6_heldBy_30 : decode cX6_heldBy 30 = .ok (.iload_n 3, 1) := dk_29 (dk_at dksX6_heldBy_1 8 rfl rfl)
theorem dX6_heldBy_31 : decode cX6_heldBy 31 = .ok (.iconst 0, 1) := dk_3 (dk_at dksX6_heldBy_1 9 rfl rfl)
theorem dX6_heldBy_32 : decode cX6_heldBy 32 = .ok (.invokevirtual 83, 3) := dk_182 0 83 (dk_at dksX6_heldBy_1 10 rfl rfl)
theorem dX6_heldBy_35 : decode cX6_heldBy 35 = .ok (.iload_n 1, 1) := dk_27 (dk_at dksX6_heldBy_1 13 rfl rfl)
theorem dX6_heldBy_36 : decode cX6_heldBy 36 = .ok (.if_icmp .ne 26, 3) := dk_160 0 26 (dk_at dksX6_heldBy_1 14 rfl rfl)
theorem dX6_heldBy_39 : decode cX6_heldBy 39 = .ok (.aload_n 0, 1) := dk_42 (dk_at dksX6_heldBy_1 17 rfl rfl)
theorem dX6_heldBy_40 : decode cX6_heldBy 40 = .ok (.iload_n 3, 1) := dk_29 (dk_at dksX6_heldBy_1 18 rfl rfl)
theorem dX6_heldBy_41 : decode cX6_heldBy 41 = .ok (.iload 4, 2) := dk_21 4 (dk_at dksX6_heldBy_1 19 rfl rfl)
theorem dX6_heldBy_43 : decode cX6_heldBy 43 = .ok (.invokevirtual 98, 3) := dk_182 0 98 (dk_at dksX6_heldBy_1 21 rfl rfl)
theorem dX6_heldBy_46 : decode cX6_heldBy 46 = .ok (.ifCond .eq 16, 3) := dk_153 0 16 (dk_at dksX6_heldBy_2 0 rfl rfl)
theorem dX6_heldBy_49 : decode cX6_heldBy 49 = .ok (.aload_n 0, 1) := dk_42 (dk_at dksX6_heldBy_2 3 rfl rfl)
theorem dX6_heldBy_50 : decode cX6_heldBy 50 = .ok (.iload_n 3, 1) := dk_29 (dk_at dksX6_heldBy_2 4 rfl rfl)
theorem dX6_heldBy_51 : decode cX6_heldBy 51 = .ok (.bipush 12, 2) := dk_16 12 (dk_at dksX6_heldBy_2 5 rfl rfl)
theorem dX6_heldBy_53 : decode cX6_heldBy 53 = .ok (.iload 4, 2) := dk_21 4 (dk_at dksX6_heldBy_2 7 rfl rfl)
theorem dX6_heldBy_55 : decode cX6_heldBy 55 = .ok (.iadd, 1) := dk_96 (dk_at dksX6_heldBy_2 9 rfl rfl)
theorem dX6_heldBy_56 : decode cX6_heldBy 56 = .ok (.invokevirtual 83, 3) := dk_182 0 83 (dk_at dksX6_heldBy_2 10 rfl rfl)
theorem dX6_heldBy_59 : decode cX6_heldBy 59 = .ok (.goto 4, 3) := dk_167 0 4 (dk_at dksX6_heldBy_2 13 rfl rfl)
theorem dX6_heldBy_62 : decode cX6_heldBy 62 = .ok (.iconst 0, 1) := dk_3 (dk_at dksX6_heldBy_2 16 rfl rfl)
theorem dX6_heldBy_63 : decode cX6_heldBy 63 = .ok (.iadd, 1) := dk_96 (dk_at dksX6_heldBy_2 17 rfl rfl)
theorem dX6_heldBy_64 : decode cX6_heldBy 64 = .ok (.istore_n 2, 1) := dk_61 (dk_at dksX6_heldBy_2 18 rfl rfl)
theorem dX6_heldBy_65 : decode cX6_heldBy 65 = .ok (.iinc 4 1, 3) := dk_132 4 1 (dk_at dksX6_heldBy_2 19 rfl rfl)
theorem dX6_heldBy_68 : decode cX6_heldBy 68 = .ok (.goto (-51), 3) := dk_167 255 205 (dk_at dksX6_heldBy_3 0 rfl rfl)
theorem dX6_heldBy_71 : decode cX6_heldBy 71 = .ok (.iinc 3 1, 3) := dk_132 3 1 (dk_at dksX6_heldBy_3 3 rfl rfl)
theorem dX6_heldBy_74 : decode cX6_heldBy 74 = .ok (.goto (-70), 3) := dk_167 255 186 (dk_at dksX6_heldBy_3 6 rfl rfl)
theorem dX6_heldBy_77 : decode cX6_heldBy 77 = .ok (.iload_n 2, 1) := dk_28 (dk_at dksX6_heldBy_3 9 rfl rfl)
theorem dX6_heldBy_78 : decode cX6_heldBy 78 = .ok (.ireturn, 1) := dk_172 (dk_at dksX6_heldBy_3 10 rfl rfl)
abbrev cX6_number : ByteArray := prog_33_method_37_code
def dkwX6_number_3 : List UInt8 := [172, 29, 172]
abbrev dktX6_number_3 : List UInt8 := dkwX6_number_3 ++ []
def dkwX6_number_2 : List UInt8 := [96, 181, 0, 171, 167, 255, 211, 29, 133, 10, 27, 133, 184, 0, 79, 154, 0, 10, 42, 28, 181, 0, 171, 2]
abbrev dktX6_number_2 : List UInt8 := dkwX6_number_2 ++ dktX6_number_3
def dkwX6_number_1 : List UInt8 := [16, 10, 29, 104, 42, 180, 0, 29, 42, 180, 0, 171, 51, 96, 16, 48, 100, 62, 42, 89, 180, 0, 171, 4]
abbrev dktX6_number_1 : List UInt8 := dkwX6_number_1 ++ dktX6_number_2
def dkwX6_number_0 : List UInt8 := [42, 180, 0, 171, 61, 3, 62, 42, 182, 0, 178, 153, 0, 44, 42, 180, 0, 171, 28, 100, 6, 162, 0, 34]
abbrev dktX6_number_0 : List UInt8 := dkwX6_number_0 ++ dktX6_number_1
theorem dksX6_number_0 : cX6_number.data.toList.drop 0 = dktX6_number_0 := by decide +kernel
theorem dksX6_number_1 : cX6_number.data.toList.drop 24 = dktX6_number_1 := dk_seg dksX6_number_0 24 rfl rfl
theorem dksX6_number_2 : cX6_number.data.toList.drop 48 = dktX6_number_2 := dk_seg dksX6_number_1 24 rfl rfl
theorem dksX6_number_3 : cX6_number.data.toList.drop 72 = dktX6_number_3 := dk_seg dksX6_number_2 24 rfl rfl
theorem dX6_number_0 : decode cX6_number 0 = .ok (.aload_n 0, 1) := dk_42 (dk_at dksX6_number_0 0 rfl rfl)
theorem dX6_number_1 : decode cX6_number 1 = .ok (.getfield 171, 3) := dk_180 0 171 (dk_at dksX6_number_0 1 rfl rfl)
theorem dX6_number_4 : decode cX6_number 4 = .ok (.istore_n 2, 1) := dk_61 (dk_at dksX6_number_0 4 rfl rfl)
theorem dX6_number_5 : decode cX6_number 5 = .ok (.iconst 0, 1) := dk_3 (dk_at dksX6_number_0 5 rfl rfl)
theorem dX6_number_6 : decode cX6_number 6 = .ok (.istore_n 3, 1) := dk_62 (dk_at dksX6_number_0 6 rfl rfl)
theorem dX6_number_7 : decode cX6_number 7 = .ok (.aload_n 0, 1) := dk_42 (dk_at dksX6_number_0 7 rfl rfl)
theorem dX6_number_8 : decode cX6_number 8 = .ok (.invokevirtual 178, 3) := dk_182 0 178 (dk_at dksX6_number_0 8 rfl rfl)
theorem dX6_number_11 : decode cX6_number 11 = .ok (.ifCond .eq 44, 3) := dk_153 0 44 (dk_at dksX6_number_0 11 rfl rfl)
theorem dX6_number_14 : decode cX6_number 14 = .ok (.aload_n 0, 1) := dk_42 (dk_at dksX6_number_0 14 rfl rfl)
theorem dX6_number_15 : decode cX6_number 15 = .ok (.getfield 171, 3) := dk_180 0 171 (dk_at dksX6_number_0 15 rfl rfl)
theorem dX6_number_18 : decode cX6_number 18 = .ok (.iload_n 2, 1) := dk_28 (dk_at dksX6_number_0 18 rfl rfl)
theorem dX6_number_19 : decode cX6_number 19 = .ok (.isub, 1) := dk_100 (dk_at dksX6_number_0 19 rfl rfl)
theorem dX6_number_20 : decode cX6_number 20 = .ok (.iconst 3, 1) := dk_6 (dk_at dksX6_number_0 20 rfl rfl)
theorem dX6_number_21 : decode cX6_number 21 = .ok (.if_icmp .ge 34, 3) := dk_162 0 34 (dk_at dksX6_number_0 21 rfl rfl)
theorem dX6_number_24 : decode cX6_number 24 = .ok (.bipush 10, 2) := dk_16 10 (dk_at dksX6_number_1 0 rfl rfl)
theorem dX6_number_26 : decode cX6_number 26 = .ok (.iload_n 3, 1) := dk_29 (dk_at dksX6_number_1 2 rfl rfl)
theorem dX6_number_27 : decode cX6_number 27 = .ok (.imul, 1) := dk_104 (dk_at dksX6_number_1 3 rfl rfl)
theorem dX6_number_28 : decode cX6_number 28 = .ok (.aload_n 0, 1) := dk_42 (dk_at dksX6_number_1 4 rfl rfl)
theorem dX6_number_29 : decode cX6_number 29 = .ok (.getfield 29, 3) := dk_180 0 29 (dk_at dksX6_number_1 5 rfl rfl)
theorem dX6_number_32 : decode cX6_number 32 = .ok (.aload_n 0, 1) := dk_42 (dk_at dksX6_number_1 8 rfl rfl)
theorem dX6_number_33 : decode cX6_number 33 = .ok (.getfield 171, 3) := dk_180 0 171 (dk_at dksX6_number_1 9 rfl rfl)
theorem dX6_number_36 : decode cX6_number 36 = .ok (.baload, 1) := dk_51 (dk_at dksX6_number_1 12 rfl rfl)
theorem dX6_number_37 : decode cX6_number 37 = .ok (.iadd, 1) := dk_96 (dk_at dksX6_number_1 13 rfl rfl)
theorem dX6_number_38 : decode cX6_number 38 = .ok (.bipush 48, 2) := dk_16 48 (dk_at dksX6_number_1 14 rfl rfl)
theorem dX6_number_40 : decode cX6_number 40 = .ok (.isub, 1) := dk_100 (dk_at dksX6_number_1 16 rfl rfl)
theorem dX6_number_41 : decode cX6_number 41 = .ok (.istore_n 3, 1) := dk_62 (dk_at dksX6_number_1 17 rfl rfl)
theorem dX6_number_42 : decode cX6_number 42 = .ok (.aload_n 0, 1) := dk_42 (dk_at dksX6_number_1 18 rfl rfl)
theorem dX6_number_43 : decode cX6_number 43 = .ok (.dup, 1) := dk_89 (dk_at dksX6_number_1 19 rfl rfl)
theorem dX6_number_44 : decode cX6_number 44 = .ok (.getfield 171, 3) := dk_180 0 171 (dk_at dksX6_number_1 20 rfl rfl)
theorem dX6_number_47 : decode cX6_number 47 = .ok (.iconst 1, 1) := dk_4 (dk_at dksX6_number_1 23 rfl rfl)
theorem dX6_number_48 : decode cX6_number 48 = .ok (.iadd, 1) := dk_96 (dk_at dksX6_number_2 0 rfl rfl)
theorem dX6_number_49 : decode cX6_number 49 = .ok (.putfield 171, 3) := dk_181 0 171 (dk_at dksX6_number_2 1 rfl rfl)
theorem dX6_number_52 : decode cX6_number 52 = .ok (.goto (-45), 3) := dk_167 255 211 (dk_at dksX6_number_2 4 rfl rfl)
theorem dX6_number_55 : decode cX6_number 55 = .ok (.iload_n 3, 1) := dk_29 (dk_at dksX6_number_2 7 rfl rfl)
theorem dX6_number_56 : decode cX6_number 56 = .ok (.i2l, 1) := dk_133 (dk_at dksX6_number_2 8 rfl rfl)
theorem dX6_number_57 : decode cX6_number 57 = .ok (.lconst 1, 1) := dk_10 (dk_at dksX6_number_2 9 rfl rfl)
theorem dX6_number_58 : decode cX6_number 58 = .ok (.iload_n 1, 1) := dk_27 (dk_at dksX6_number_2 10 rfl rfl)
theorem dX6_number_59 : decode cX6_number 59 = .ok (.i2l, 1) := dk_133 (dk_at dksX6_number_2 11 rfl rfl)
theorem dX6_number_60 : decode cX6_number 60 = .ok (.invokestatic 79, 3) := dk_184 0 79 (dk_at dksX6_number_2 12 rfl rfl)
theorem dX6_number_63 : decode cX6_number 63 = .ok (.ifCond .ne 10, 3) := dk_154 0 10 (dk_at dksX6_number_2 15 rfl rfl)
theorem dX6_number_66 : decode cX6_number 66 = .ok (.aload_n 0, 1) := dk_42 (dk_at dksX6_number_2 18 rfl rfl)
theorem dX6_number_67 : decode cX6_number 67 = .ok (.iload_n 2, 1) := dk_28 (dk_at dksX6_number_2 19 rfl rfl)
theorem dX6_number_68 : decode cX6_number 68 = .ok (.putfield 171, 3) := dk_181 0 171 (dk_at dksX6_number_2 20 rfl rfl)
theorem dX6_number_71 : decode cX6_number 71 = .ok (.iconst (-1), 1) := dk_2 (dk_at dksX6_number_2 23 rfl rfl)
theorem dX6_number_72 : decode cX6_number 72 = .ok (.ireturn, 1) := dk_172 (dk_at dksX6_number_3 0 rfl rfl)
theorem dX6_number_73 : decode cX6_number 73 = .ok (.iload_n 3, 1) := dk_29 (dk_at dksX6_number_3 1 rfl rfl)
theorem dX6_number_74 : decode cX6_number 74 = .ok (.ireturn, 1) := dk_172 (dk_at dksX6_number_3 2 rfl rfl)
abbrev cX6_takesSign : ByteArray := prog_33_method_38_code
def dkwX6_takesSign_1 : List UInt8 := [3, 172, 42, 89, 180, 0, 171, 4, 96, 181, 0, 171, 4, 172]
abbrev dktX6_takesSign_1 : List UInt8 := dkwX6_takesSign_1 ++ []
def dkwX6_takesSign_0 : List UInt8 := [42, 180, 0, 171, 42, 180, 0, 168, 162, 0, 16, 42, 180, 0, 29, 42, 180, 0, 171, 51, 27, 159, 0, 5]
abbrev dktX6_takesSign_0 : List UInt8 := dkwX6_takesSign_0 ++ dktX6_takesSign_1
theorem dksX6_takesSign_0 : cX6_takesSign.data.toList.drop 0 = dktX6_takesSign_0 := by decide +kernel
theorem dksX6_takesSign_1 : cX6_takesSign.data.toList.drop 24 = dktX6_takesSign_1 := dk_seg dksX6_takesSign_0 24 rfl rfl
theorem dX6_takesSign_0 : decode cX6_takesSign 0 = .ok (.aload_n 0, 1) := dk_42 (dk_at dksX6_takesSign_0 0 rfl rfl)
theorem dX6_takesSign_1 : decode cX6_takesSign 1 = .ok (.getfield 171, 3) := dk_180 0 171 (dk_at dksX6_takesSign_0 1 rfl rfl)
theorem dX6_takesSign_4 : decode cX6_takesSign 4 = .ok (.aload_n 0, 1) := dk_42 (dk_at dksX6_takesSign_0 4 rfl rfl)
theorem dX6_takesSign_5 : decode cX6_takesSign 5 = .ok (.getfield 168, 3) := dk_180 0 168 (dk_at dksX6_takesSign_0 5 rfl rfl)
theorem dX6_takesSign_8 : decode cX6_takesSign 8 = .ok (.if_icmp .ge 16, 3) := dk_162 0 16 (dk_at dksX6_takesSign_0 8 rfl rfl)
theorem dX6_takesSign_11 : decode cX6_takesSign 11 = .ok (.aload_n 0, 1) := dk_42 (dk_at dksX6_takesSign_0 11 rfl rfl)
theorem dX6_takesSign_12 : decode cX6_takesSign 12 = .ok (.getfield 29, 3) := dk_180 0 29 (dk_at dksX6_takesSign_0 12 rfl rfl)
theorem dX6_takesSign_15 : decode cX6_takesSign 15 = .ok (.aload_n 0, 1) := dk_42 (dk_at dksX6_takesSign_0 15 rfl rfl)
theorem dX6_takesSign_16 : decode cX6_takesSign 16 = .ok (.getfield 171, 3) := dk_180 0 171 (dk_at dksX6_takesSign_0 16 rfl rfl)
theorem dX6_takesSign_19 : decode cX6_takesSign 19 = .ok (.baload, 1) := dk_51 (dk_at dksX6_takesSign_0 19 rfl rfl)
theorem dX6_takesSign_20 : decode cX6_takesSign 20 = .ok (.iload_n 1, 1) := dk_27 (dk_at dksX6_takesSign_0 20 rfl rfl)
theorem dX6_takesSign_21 : decode cX6_takesSign 21 = .ok (.if_icmp .eq 5, 3) := dk_159 0 5 (dk_at dksX6_takesSign_0 21 rfl rfl)
theorem dX6_takesSign_24 : decode cX6_takesSign 24 = .ok (.iconst 0, 1) := dk_3 (dk_at dksX6_takesSign_1 0 rfl rfl)
theorem dX6_takesSign_25 : decode cX6_takesSign 25 = .ok (.ireturn, 1) := dk_172 (dk_at dksX6_takesSign_1 1 rfl rfl)
theorem dX6_takesSign_26 : decode cX6_takesSign 26 = .ok (.aload_n 0, 1) := dk_42 (dk_at dksX6_takesSign_1 2 rfl rfl)
theorem dX6_takesSign_27 : decode cX6_takesSign 27 = .ok (.dup, 1) := dk_89 (dk_at dksX6_takesSign_1 3 rfl rfl)
theorem dX6_takesSign_28 : decode cX6_takesSign 28 = .ok (.getfield 171, 3) := dk_180 0 171 (dk_at dksX6_takesSign_1 4 rfl rfl)
theorem dX6_takesSign_31 : decode cX6_takesSign 31 = .ok (.iconst 1, 1) := dk_4 (dk_at dksX6_takesSign_1 7 rfl rfl)
theorem dX6_takesSign_32 : decode cX6_takesSign 32 = .ok (.iadd, 1) := dk_96 (dk_at dksX6_takesSign_1 8 rfl rfl)
theorem dX6_takesSign_33 : decode cX6_takesSign 33 = .ok (.putfield 171, 3) := dk_181 0 171 (dk_at dksX6_takesSign_1 9 rfl rfl)
theorem dX6_takesSign_36 : decode cX6_takesSign 36 = .ok (.iconst 1, 1) := dk_4 (dk_at dksX6_takesSign_1 12 rfl rfl)
theorem dX6_takesSign_37 : decode cX6_takesSign 37 = .ok (.ireturn, 1) := dk_172 (dk_at dksX6_takesSign_1 13 rfl rfl)
abbrev cX6_happens : ByteArray := prog_33_method_40_code
def dkwX6_happens_4 : List UInt8 := [79, 42, 180, 0, 9, 29, 5, 96, 28, 79, 42, 180, 0, 9, 16, 7, 92, 46, 4, 96, 79, 177]
abbrev dktX6_happens_4 : List UInt8 := dkwX6_happens_4 ++ []
def dkwX6_happens_3 : List UInt8 := [46, 104, 96, 62, 42, 180, 0, 9, 29, 42, 180, 0, 9, 3, 46, 79, 42, 180, 0, 9, 29, 4, 96, 27]
abbrev dktX6_happens_3 : List UInt8 := dkwX6_happens_3 ++ dktX6_happens_4
def dkwX6_happens_2 : List UInt8 := [167, 255, 224, 42, 180, 0, 9, 16, 7, 92, 46, 4, 100, 79, 17, 10, 176, 6, 42, 180, 0, 9, 16, 7]
abbrev dktX6_happens_2 : List UInt8 := dkwX6_happens_2 ++ dktX6_happens_3
def dkwX6_happens_1 : List UInt8 := [180, 0, 9, 17, 10, 176, 29, 96, 42, 180, 0, 9, 17, 10, 176, 29, 96, 6, 96, 46, 79, 132, 3, 1]
abbrev dktX6_happens_1 : List UInt8 := dkwX6_happens_1 ++ dktX6_happens_2
def dkwX6_happens_0 : List UInt8 := [42, 180, 0, 9, 16, 7, 46, 16, 60, 160, 0, 51, 3, 62, 29, 17, 0, 177, 162, 0, 31, 42]
abbrev dktX6_happens_0 : List UInt8 := dkwX6_happens_0 ++ dktX6_happens_1
theorem dksX6_happens_0 : cX6_happens.data.toList.drop 0 = dktX6_happens_0 := by decide +kernel
theorem dksX6_happens_1 : cX6_happens.data.toList.drop 22 = dktX6_happens_1 := dk_seg dksX6_happens_0 22 rfl rfl
theorem dksX6_happens_2 : cX6_happens.data.toList.drop 46 = dktX6_happens_2 := dk_seg dksX6_happens_1 24 rfl rfl
theorem dksX6_happens_3 : cX6_happens.data.toList.drop 70 = dktX6_happens_3 := dk_seg dksX6_happens_2 24 rfl rfl
theorem dksX6_happens_4 : cX6_happens.data.toList.drop 94 = dktX6_happens_4 := dk_seg dksX6_happens_3 24 rfl rfl
theorem dX6_happens_0 : decode cX6_happens 0 = .ok (.aload_n 0, 1) := dk_42 (dk_at dksX6_happens_0 0 rfl rfl)
theorem dX6_happens_1 : decode cX6_happens 1 = .ok (.getfield 9, 3) := dk_180 0 9 (dk_at dksX6_happens_0 1 rfl rfl)
theorem dX6_happens_4 : decode cX6_happens 4 = .ok (.bipush 7, 2) := dk_16 7 (dk_at dksX6_happens_0 4 rfl rfl)
theorem dX6_happens_6 : decode cX6_happens 6 = .ok (.iaload, 1) := dk_46 (dk_at dksX6_happens_0 6 rfl rfl)
theorem dX6_happens_7 : decode cX6_happens 7 = .ok (.bipush 60, 2) := dk_16 60 (dk_at dksX6_happens_0 7 rfl rfl)
theorem dX6_happens_9 : decode cX6_happens 9 = .ok (.if_icmp .ne 51, 3) := dk_160 0 51 (dk_at dksX6_happens_0 9 rfl rfl)
theorem dX6_happens_12 : decode cX6_happens 12 = .ok (.iconst 0, 1) := dk_3 (dk_at dksX6_happens_0 12 rfl rfl)
theorem dX6_happens_13 : decode cX6_happens 13 = .ok (.istore_n 3, 1) := dk_62 (dk_at dksX6_happens_0 13 rfl rfl)
theorem dX6_happens_14 : decode cX6_happens 14 = .ok (.iload_n 3, 1) := dk_29 (dk_at dksX6_happens_0 14 rfl rfl)
theorem dX6_happens_15 : decode cX6_happens 15 = .ok (.sipush 177, 3) := dk_17 0 177 (dk_at dksX6_happens_0 15 rfl rfl)
theorem dX6_happens_18 : decode cX6_happens 18 = .ok (.if_icmp .ge 31, 3) := dk_162 0 31 (dk_at dksX6_happens_0 18 rfl rfl)
theorem dX6_happens_21 : decode cX6_happens 21 = .ok (.aload_n 0, 1) := dk_42 (dk_at dksX6_happens_0 21 rfl rfl)
theorem dX6_happens_22 : decode cX6_happens 22 = .ok (.getfield 9, 3) := dk_180 0 9 (dk_at dksX6_happens_1 0 rfl rfl)
theorem dX6_happens_25 : decode cX6_happens 25 = .ok (.sipush 2736, 3) := dk_17 10 176 (dk_at dksX6_happens_1 3 rfl rfl)
theorem dX6_happens_28 : decode cX6_happens 28 = .ok (.iload_n 3, 1) := dk_29 (dk_at dksX6_happens_1 6 rfl rfl)
theorem dX6_happens_29 : decode cX6_happens 29 = .ok (.iadd, 1) := dk_96 (dk_at dksX6_happens_1 7 rfl rfl)
theorem dX6_happens_30 : decode cX6_happens 30 = .ok (.aload_n 0, 1) := dk_42 (dk_at dksX6_happens_1 8 rfl rfl)
theorem dX6_happens_31 : decode cX6_happens 31 = .ok (.getfield 9, 3) := dk_180 0 9 (dk_at dksX6_happens_1 9 rfl rfl)
theorem dX6_happens_34 : decode cX6_happens 34 = .ok (.sipush 2736, 3) := dk_17 10 176 (dk_at dksX6_happens_1 12 rfl rfl)
theorem dX6_happens_37 : decode cX6_happens 37 = .ok (.iload_n 3, 1) := dk_29 (dk_at dksX6_happens_1 15 rfl rfl)
theorem dX6_happens_38 : decode cX6_happens 38 = .ok (.iadd, 1) := dk_96 (dk_at dksX6_happens_1 16 rfl rfl)
theorem dX6_happens_39 : decode cX6_happens 39 = .ok (.iconst 3, 1) := dk_6 (dk_at dksX6_happens_1 17 rfl rfl)
theorem dX6_happens_40 : decode cX6_happens 40 = .ok (.iadd, 1) := dk_96 (dk_at dksX6_happens_1 18 rfl rfl)
theorem dX6_happens_41 : decode cX6_happens 41 = .ok (.iaload, 1) := dk_46 (dk_at dksX6_happens_1 19 rfl rfl)
theorem dX6_happens_42 : decode cX6_happens 42 = .ok (.iastore, 1) := dk_79 (dk_at dksX6_happens_1 20 rfl rfl)
theorem dX6_happens_43 : decode cX6_happens 43 = .ok (.iinc 3 1, 3) := dk_132 3 1 (dk_at dksX6_happens_1 21 rfl rfl)
theorem dX6_happens_46 : decode cX6_happens 46 = .ok (.goto (-32), 3) := dk_167 255 224 (dk_at dksX6_happens_2 0 rfl rfl)
theorem dX6_happens_49 : decode cX6_happens 49 = .ok (.aload_n 0, 1) := dk_42 (dk_at dksX6_happens_2 3 rfl rfl)
theorem dX6_happens_50 : decode cX6_happens 50 = .ok (.getfield 9, 3) := dk_180 0 9 (dk_at dksX6_happens_2 4 rfl rfl)
theorem dX6_happens_53 : decode cX6_happens 53 = .ok (.bipush 7, 2) := dk_16 7 (dk_at dksX6_happens_2 7 rfl rfl)
theorem dX6_happens_55 : decode cX6_happens 55 = .ok (.dup2, 1) := dk_92 (dk_at dksX6_happens_2 9 rfl rfl)
theorem dX6_happens_56 : decode cX6_happens 56 = .ok (.iaload, 1) := dk_46 (dk_at dksX6_happens_2 10 rfl rfl)
theorem dX6_happens_57 : decode cX6_happens 57 = .ok (.iconst 1, 1) := dk_4 (dk_at dksX6_happens_2 11 rfl rfl)
theorem dX6_happens_58 : decode cX6_happens 58 = .ok (.isub, 1) := dk_100 (dk_at dksX6_happens_2 12 rfl rfl)
theorem dX6_happens_59 : decode cX6_happens 59 = .ok (.iastore, 1) := dk_79 (dk_at dksX6_happens_2 13 rfl rfl)
theorem dX6_happens_60 : decode cX6_happens 60 = .ok (.sipush 2736, 3) := dk_17 10 176 (dk_at dksX6_happens_2 14 rfl rfl)
theorem dX6_happens_63 : decode cX6_happens 63 = .ok (.iconst 3, 1) := dk_6 (dk_at dksX6_happens_2 17 rfl rfl)
theorem dX6_happens_64 : decode cX6_happens 64 = .ok (.aload_n 0, 1) := dk_42 (dk_at dksX6_happens_2 18 rfl rfl)
theorem dX6_happens_65 : decode cX6_happens 65 = .ok (.getfield 9, 3) := dk_180 0 9 (dk_at dksX6_happens_2 19 rfl rfl)
theorem dX6_happens_68 : decode cX6_happens 68 = .ok (.bipush 7, 2) := dk_16 7 (dk_at dksX6_happens_2 22 rfl rfl)
theorem dX6_happens_70 : decode cX6_happens 70 = .ok (.iaload, 1) := dk_46 (dk_at dksX6_happens_3 0 rfl rfl)
theorem dX6_happens_71 : decode cX6_happens 71 = .ok (.imul, 1) := dk_104 (dk_at dksX6_happens_3 1 rfl rfl)
theorem dX6_happens_72 : decode cX6_happens 72 = .ok (.iadd, 1) := dk_96 (dk_at dksX6_happens_3 2 rfl rfl)
theorem dX6_happens_73 : decode cX6_happens 73 = .ok (.istore_n 3, 1) := dk_62 (dk_at dksX6_happens_3 3 rfl rfl)
theorem dX6_happens_74 : decode cX6_happens 74 = .ok (.aload_n 0, 1) := dk_42 (dk_at dksX6_happens_3 4 rfl rfl)
theorem dX6_happens_75 : decode cX6_happens 75 = .ok (.getfield 9, 3) := dk_180 0 9 (dk_at dksX6_happens_3 5 rfl rfl)
theorem dX6_happens_78 : decode cX6_happens 78 = .ok (.iload_n 3, 1) := dk_29 (dk_at dksX6_happens_3 8 rfl rfl)
theorem dX6_happens_79 : decode cX6_happens 79 = .ok (.aload_n 0, 1) := dk_42 (dk_at dksX6_happens_3 9 rfl rfl)
theorem dX6_happens_80 : decode cX6_happens 80 = .ok (.getfield 9, 3) := dk_180 0 9 (dk_at dksX6_happens_3 10 rfl rfl)
theorem dX6_happens_83 : decode cX6_happens 83 = .ok (.iconst 0, 1) := dk_3 (dk_at dksX6_happens_3 13 rfl rfl)
theorem dX6_happens_84 : decode cX6_happens 84 = .ok (.iaload, 1) := dk_46 (dk_at dksX6_happens_3 14 rfl rfl)
theorem dX6_happens_85 : decode cX6_happens 85 = .ok (.iastore, 1) := dk_79 (dk_at dksX6_happens_3 15 rfl rfl)
theorem dX6_happens_86 : decode cX6_happens 86 = .ok (.aload_n 0, 1) := dk_42 (dk_at dksX6_happens_3 16 rfl rfl)
theorem dX6_happens_87 : decode cX6_happens 87 = .ok (.getfield 9, 3) := dk_180 0 9 (dk_at dksX6_happens_3 17 rfl rfl)
theorem dX6_happens_90 : decode cX6_happens 90 = .ok (.iload_n 3, 1) := dk_29 (dk_at dksX6_happens_3 20 rfl rfl)
theorem dX6_happens_91 : decode cX6_happens 91 = .ok (.iconst 1, 1) := dk_4 (dk_at dksX6_happens_3 21 rfl rfl)
theorem dX6_happens_92 : decode cX6_happens 92 = .ok (.iadd, 1) := dk_96 (dk_at dksX6_happens_3 22 rfl rfl)
theorem dX6_happens_93 : decode cX6_happens 93 = .ok (.iload_n 1, 1) := dk_27 (dk_at dksX6_happens_3 23 rfl rfl)
theorem dX6_happens_94 : decode cX6_happens 94 = .ok (.iastore, 1) := dk_79 (dk_at dksX6_happens_4 0 rfl rfl)
theorem dX6_happens_95 : decode cX6_happens 95 = .ok (.aload_n 0, 1) := dk_42 (dk_at dksX6_happens_4 1 rfl rfl)
theorem dX6_happens_96 : decode cX6_happens 96 = .ok (.getfield 9, 3) := dk_180 0 9 (dk_at dksX6_happens_4 2 rfl rfl)
theorem dX6_happens_99 : decode cX6_happens 99 = .ok (.iload_n 3, 1) := dk_29 (dk_at dksX6_happens_4 5 rfl rfl)
theorem dX6_happens_100 : decode cX6_happens 100 = .ok (.iconst 2, 1) := dk_5 (dk_at dksX6_happens_4 6 rfl rfl)
theorem dX6_happens_101 : decode cX6_happens 101 = .ok (.iadd, 1) := dk_96 (dk_at dksX6_happens_4 7 rfl rfl)
theorem dX6_happens_102 : decode cX6_happens 102 = .ok (.iload_n 2, 1) := dk_28 (dk_at dksX6_happens_4 8 rfl rfl)
theorem dX6_happens_103 : decode cX6_happens 103 = .ok (.iastore, 1) := dk_79 (dk_at dksX6_happens_4 9 rfl rfl)
theorem dX6_happens_104 : decode cX6_happens 104 = .ok (.aload_n 0, 1) := dk_42 (dk_at dksX6_happens_4 10 rfl rfl)
theorem dX6_happens_105 : decode cX6_happens 105 = .ok (.getfield 9, 3) := dk_180 0 9 (dk_at dksX6_happens_4 11 rfl rfl)
theorem dX6_happens_108 : decode cX6_happens 108 = .ok (.bipush 7, 2) := dk_16 7 (dk_at dksX6_happens_4 14 rfl rfl)
theorem dX6_happens_110 : decode cX6_happens 110 = .ok (.dup2, 1) := dk_92 (dk_at dksX6_happens_4 16 rfl rfl)
theorem dX6_happens_111 : decode cX6_happens 111 = .ok (.iaload, 1) := dk_46 (dk_at dksX6_happens_4 17 rfl rfl)
theorem dX6_happens_112 : decode cX6_happens 112 = .ok (.iconst 1, 1) := dk_4 (dk_at dksX6_happens_4 18 rfl rfl)
theorem dX6_happens_113 : decode cX6_happens 113 = .ok (.iadd, 1) := dk_96 (dk_at dksX6_happens_4 19 rfl rfl)
theorem dX6_happens_114 : decode cX6_happens 114 = .ok (.iastore, 1) := dk_79 (dk_at dksX6_happens_4 20 rfl rfl)
theorem dX6_happens_115 : decode cX6_happens 115 = .ok (.return_, 1) := dk_177 (dk_at dksX6_happens_4 21 rfl rfl)
abbrev cX6_holds : ByteArray := prog_33_method_12_code
def dkwX6_holds_1 : List UInt8 := [46, 164, 0, 7, 4, 167, 0, 4, 3, 172]
abbrev dktX6_holds_1 : List UInt8 := dkwX6_holds_1 ++ []
def dkwX6_holds_0 : List UInt8 := [42, 27, 8, 182, 0, 83, 4, 160, 0, 25, 42, 27, 16, 24, 28, 96, 182, 0, 83, 42, 180, 0, 9, 3]
abbrev dktX6_holds_0 : List UInt8 := dkwX6_holds_0 ++ dktX6_holds_1
theorem dksX6_holds_0 : cX6_holds.data.toList.drop 0 = dktX6_holds_0 := by decide +kernel
theorem dksX6_holds_1 : cX6_holds.data.toList.drop 24 = dktX6_holds_1 := dk_seg dksX6_holds_0 24 rfl rfl
theorem dX6_holds_0 : decode cX6_holds 0 = .ok (.aload_n 0, 1) := dk_42 (dk_at dksX6_holds_0 0 rfl rfl)
theorem dX6_holds_1 : decode cX6_holds 1 = .ok (.iload_n 1, 1) := dk_27 (dk_at dksX6_holds_0 1 rfl rfl)
theorem dX6_holds_2 : decode cX6_holds 2 = .ok (.iconst 5, 1) := dk_8 (dk_at dksX6_holds_0 2 rfl rfl)
theorem dX6_holds_3 : decode cX6_holds 3 = .ok (.invokevirtual 83, 3) := dk_182 0 83 (dk_at dksX6_holds_0 3 rfl rfl)
theorem dX6_holds_6 : decode cX6_holds 6 = .ok (.iconst 1, 1) := dk_4 (dk_at dksX6_holds_0 6 rfl rfl)
theorem dX6_holds_7 : decode cX6_holds 7 = .ok (.if_icmp .ne 25, 3) := dk_160 0 25 (dk_at dksX6_holds_0 7 rfl rfl)
theorem dX6_holds_10 : decode cX6_holds 10 = .ok (.aload_n 0, 1) := dk_42 (dk_at dksX6_holds_0 10 rfl rfl)
theorem dX6_holds_11 : decode cX6_holds 11 = .ok (.iload_n 1, 1) := dk_27 (dk_at dksX6_holds_0 11 rfl rfl)
theorem dX6_holds_12 : decode cX6_holds 12 = .ok (.bipush 24, 2) := dk_16 24 (dk_at dksX6_holds_0 12 rfl rfl)
theorem dX6_holds_14 : decode cX6_holds 14 = .ok (.iload_n 2, 1) := dk_28 (dk_at dksX6_holds_0 14 rfl rfl)
theorem dX6_holds_15 : decode cX6_holds 15 = .ok (.iadd, 1) := dk_96 (dk_at dksX6_holds_0 15 rfl rfl)
theorem dX6_holds_16 : decode cX6_holds 16 = .ok (.invokevirtual 83, 3) := dk_182 0 83 (dk_at dksX6_holds_0 16 rfl rfl)
theorem dX6_holds_19 : decode cX6_holds 19 = .ok (.aload_n 0, 1) := dk_42 (dk_at dksX6_holds_0 19 rfl rfl)
theorem dX6_holds_20 : decode cX6_holds 20 = .ok (.getfield 9, 3) := dk_180 0 9 (dk_at dksX6_holds_0 20 rfl rfl)
theorem dX6_holds_23 : decode cX6_holds 23 = .ok (.iconst 0, 1) := dk_3 (dk_at dksX6_holds_0 23 rfl rfl)
theorem dX6_holds_24 : decode cX6_holds 24 = .ok (.iaload, 1) := dk_46 (dk_at dksX6_holds_1 0 rfl rfl)
theorem dX6_holds_25 : decode cX6_holds 25 = .ok (.if_icmp .le 7, 3) := dk_164 0 7 (dk_at dksX6_holds_1 1 rfl rfl)
theorem dX6_holds_28 : decode cX6_holds 28 = .ok (.iconst 1, 1) := dk_4 (dk_at dksX6_holds_1 4 rfl rfl)
theorem dX6_holds_29 : decode cX6_holds 29 = .ok (.goto 4, 3) := dk_167 0 4 (dk_at dksX6_holds_1 5 rfl rfl)
theorem dX6_holds_32 : decode cX6_holds 32 = .ok (.iconst 0, 1) := dk_3 (dk_at dksX6_holds_1 8 rfl rfl)
theorem dX6_holds_33 : decode cX6_holds 33 = .ok (.ireturn, 1) := dk_172 (dk_at dksX6_holds_1 9 rfl rfl)
abbrev cX6_isInLine : ByteArray := prog_33_method_48_code
def dkwX6_isInLine_2 : List UInt8 := [160, 0, 7, 4, 167, 0, 4, 3, 172]
abbrev dktX6_isInLine_2 : List UInt8 := dkwX6_isInLine_2 ++ []
def dkwX6_isInLine_1 : List UInt8 := [154, 0, 31, 28, 155, 0, 23, 42, 28, 8, 182, 0, 83, 5, 159, 0, 13, 42, 28, 8, 182, 0, 83, 6]
abbrev dktX6_isInLine_1 : List UInt8 := dkwX6_isInLine_1 ++ dktX6_isInLine_2
def dkwX6_isInLine_0 : List UInt8 := [42, 27, 6, 182, 0, 83, 61, 42, 27, 182, 0, 211, 153, 0, 41, 42, 27, 16, 10, 182, 0, 83]
abbrev dktX6_isInLine_0 : List UInt8 := dkwX6_isInLine_0 ++ dktX6_isInLine_1
theorem dksX6_isInLine_0 : cX6_isInLine.data.toList.drop 0 = dktX6_isInLine_0 := by decide +kernel
theorem dksX6_isInLine_1 : cX6_isInLine.data.toList.drop 22 = dktX6_isInLine_1 := dk_seg dksX6_isInLine_0 22 rfl rfl
theorem dksX6_isInLine_2 : cX6_isInLine.data.toList.drop 46 = dktX6_isInLine_2 := dk_seg dksX6_isInLine_1 24 rfl rfl
theorem dX6_isInLine_0 : decode cX6_isInLine 0 = .ok (.aload_n 0, 1) := dk_42 (dk_at dksX6_isInLine_0 0 rfl rfl)
theorem dX6_isInLine_1 : decode cX6_isInLine 1 = .ok (.iload_n 1, 1) := dk_27 (dk_at dksX6_isInLine_0 1 rfl rfl)
theorem dX6_isInLine_2 : decode cX6_isInLine 2 = .ok (.iconst 3, 1) := dk_6 (dk_at dksX6_isInLine_0 2 rfl rfl)
theorem dX6_isInLine_3 : decode cX6_isInLine 3 = .ok (.invokevirtual 83, 3) := dk_182 0 83 (dk_at dksX6_isInLine_0 3 rfl rfl)
theorem dX6_isInLine_6 : decode cX6_isInLine 6 = .ok (.istore_n 2, 1) := dk_61 (dk_at dksX6_isInLine_0 6 rfl rfl)
theorem dX6_isInLine_7 : decode cX6_isInLine 7 = .ok (.aload_n 0, 1) := dk_42 (dk_at dksX6_isInLine_0 7 rfl rfl)
theorem dX6_isInLine_8 : decode cX6_isInLine 8 = .ok (.iload_n 1, 1) := dk_27 (dk_at dksX6_isInLine_0 8 rfl rfl)
theorem dX6_isInLine_9 : decode cX6_isInLine 9 = .ok (.invokevirtual 211, 3) := dk_182 0 211 (dk_at dksX6_isInLine_0 9 rfl rfl)
theorem dX6_isInLine_12 : decode cX6_isInLine 12 = .ok (.ifCond .eq 41, 3) := dk_153 0 41 (dk_at dksX6_isInLine_0 12 rfl rfl)
theorem dX6_isInLine_15 : decode cX6_isInLine 15 = .ok (.aload_n 0, 1) := dk_42 (dk_at dksX6_isInLine_0 15 rfl rfl)
theorem dX6_isInLine_16 : decode cX6_isInLine 16 = .ok (.iload_n 1, 1) := dk_27 (dk_at dksX6_isInLine_0 16 rfl rfl)
theorem dX6_isInLine_17 : decode cX6_isInLine 17 = .ok (.bipush 10, 2) := dk_16 10 (dk_at dksX6_isInLine_0 17 rfl rfl)
theorem dX6_isInLine_19 : decode cX6_isInLine 19 = .ok (.invokevirtual 83, 3) := dk_182 0 83 (dk_at dksX6_isInLine_0 19 rfl rfl)
theorem dX6_isInLine_22 : decode cX6_isInLine 22 = .ok (.ifCond .ne 31, 3) := dk_154 0 31 (dk_at dksX6_isInLine_1 0 rfl rfl)
theorem dX6_isInLine_25 : decode cX6_isInLine 25 = .ok (.iload_n 2, 1) := dk_28 (dk_at dksX6_isInLine_1 3 rfl rfl)
theorem dX6_isInLine_26 : decode cX6_isInLine 26 = .ok (.ifCond .lt 23, 3) := dk_155 0 23 (dk_at dksX6_isInLine_1 4 rfl rfl)
theorem dX6_isInLine_29 : decode cX6_isInLine 29 = .ok (.aload_n 0, 1) := dk_42 (dk_at dksX6_isInLine_1 7 rfl rfl)
theorem dX6_isInLine_30 : decode cX6_isInLine 30 = .ok (.iload_n 2, 1) := dk_28 (dk_at dksX6_isInLine_1 8 rfl rfl)
theorem dX6_isInLine_31 : decode cX6_isInLine 31 = .ok (.iconst 5, 1) := dk_8 (dk_at dksX6_isInLine_1 9 rfl rfl)
theorem dX6_isInLine_32 : decode cX6_isInLine 32 = .ok (.invokevirtual 83, 3) := dk_182 0 83 (dk_at dksX6_isInLine_1 10 rfl rfl)
theorem dX6_isInLine_35 : decode cX6_isInLine 35 = .ok (.iconst 2, 1) := dk_5 (dk_at dksX6_isInLine_1 13 rfl rfl)
theorem dX6_isInLine_36 : decode cX6_isInLine 36 = .ok (.if_icmp .eq 13, 3) := dk_159 0 13 (dk_at dksX6_isInLine_1 14 rfl rfl)
theorem dX6_isInLine_39 : decode cX6_isInLine 39 = .ok (.aload_n 0, 1) := dk_42 (dk_at dksX6_isInLine_1 17 rfl rfl)
theorem dX6_isInLine_40 : decode cX6_isInLine 40 = .ok (.iload_n 2, 1) := dk_28 (dk_at dksX6_isInLine_1 18 rfl rfl)
theorem dX6_isInLine_41 : decode cX6_isInLine 41 = .ok (.iconst 5, 1) := dk_8 (dk_at dksX6_isInLine_1 19 rfl rfl)
theorem dX6_isInLine_42 : decode cX6_isInLine 42 = .ok (.invokevirtual 83, 3) := dk_182 0 83 (dk_at dksX6_isInLine_1 20 rfl rfl)
theorem dX6_isInLine_45 : decode cX6_isInLine 45 = .ok (.iconst 3, 1) := dk_6 (dk_at dksX6_isInLine_1 23 rfl rfl)
theorem dX6_isInLine_46 : decode cX6_isInLine 46 = .ok (.if_icmp .ne 7, 3) := dk_160 0 7 (dk_at dksX6_isInLine_2 0 rfl rfl)
theorem dX6_isInLine_49 : decode cX6_isInLine 49 = .ok (.iconst 1, 1) := dk_4 (dk_at dksX6_isInLine_2 3 rfl rfl)
theorem dX6_isInLine_50 : decode cX6_isInLine 50 = .ok (.goto 4, 3) := dk_167 0 4 (dk_at dksX6_isInLine_2 4 rfl rfl)
theorem dX6_isInLine_53 : decode cX6_isInLine 53 = .ok (.iconst 0, 1) := dk_3 (dk_at dksX6_isInLine_2 7 rfl rfl)
theorem dX6_isInLine_54 : decode cX6_isInLine 54 = .ok (.ireturn, 1) := dk_172 (dk_at dksX6_isInLine_2 8 rfl rfl)
abbrev cX6_isAhead : ByteArray := prog_33_method_49_code
def dkwX6_isAhead_3 : List UInt8 := [3, 172]
abbrev dktX6_isAhead_3 : List UInt8 := dkwX6_isAhead_3 ++ []
def dkwX6_isAhead_2 : List UInt8 := [182, 0, 83, 182, 0, 152, 62, 29, 155, 0, 12, 29, 154, 0, 12, 27, 28, 162, 0, 7, 4, 167, 0, 4]
abbrev dktX6_isAhead_2 : List UInt8 := dkwX6_isAhead_2 ++ dktX6_isAhead_3
def dkwX6_isAhead_1 : List UInt8 := [182, 0, 83, 164, 0, 7, 4, 167, 0, 4, 3, 172, 42, 42, 27, 3, 182, 0, 83, 42, 28, 3]
abbrev dktX6_isAhead_1 : List UInt8 := dkwX6_isAhead_1 ++ dktX6_isAhead_2
def dkwX6_isAhead_0 : List UInt8 := [42, 27, 4, 182, 0, 83, 42, 28, 4, 182, 0, 83, 159, 0, 24, 42, 27, 4, 182, 0, 83, 42, 28, 4]
abbrev dktX6_isAhead_0 : List UInt8 := dkwX6_isAhead_0 ++ dktX6_isAhead_1
theorem dksX6_isAhead_0 : cX6_isAhead.data.toList.drop 0 = dktX6_isAhead_0 := by decide +kernel
theorem dksX6_isAhead_1 : cX6_isAhead.data.toList.drop 24 = dktX6_isAhead_1 := dk_seg dksX6_isAhead_0 24 rfl rfl
theorem dksX6_isAhead_2 : cX6_isAhead.data.toList.drop 46 = dktX6_isAhead_2 := dk_seg dksX6_isAhead_1 22 rfl rfl
theorem dksX6_isAhead_3 : cX6_isAhead.data.toList.drop 70 = dktX6_isAhead_3 := dk_seg dksX6_isAhead_2 24 rfl rfl
theorem dX6_isAhead_0 : decode cX6_isAhead 0 = .ok (.aload_n 0, 1) := dk_42 (dk_at dksX6_isAhead_0 0 rfl rfl)
theorem dX6_isAhead_1 : decode cX6_isAhead 1 = .ok (.iload_n 1, 1) := dk_27 (dk_at dksX6_isAhead_0 1 rfl rfl)
theorem dX6_isAhead_2 : decode cX6_isAhead 2 = .ok (.iconst 1, 1) := dk_4 (dk_at dksX6_isAhead_0 2 rfl rfl)
theorem dX6_isAhead_3 : decode cX6_isAhead 3 = .ok (.invokevirtual 83, 3) := dk_182 0 83 (dk_at dksX6_isAhead_0 3 rfl rfl)
theorem dX6_isAhead_6 : decode cX6_isAhead 6 = .ok (.aload_n 0, 1) := dk_42 (dk_at dksX6_isAhead_0 6 rfl rfl)
theorem dX6_isAhead_7 : decode cX6_isAhead 7 = .ok (.iload_n 2, 1) := dk_28 (dk_at dksX6_isAhead_0 7 rfl rfl)
theorem dX6_isAhead_8 : decode cX6_isAhead 8 = .ok (.iconst 1, 1) := dk_4 (dk_at dksX6_isAhead_0 8 rfl rfl)
theorem dX6_isAhead_9 : decode cX6_isAhead 9 = .ok (.invokevirtual 83, 3) := dk_182 0 83 (dk_at dksX6_isAhead_0 9 rfl rfl)
theorem dX6_isAhead_12 : decode cX6_isAhead 12 = .ok (.if_icmp .eq 24, 3) := dk_159 0 24 (dk_at dksX6_isAhead_0 12 rfl rfl)
theorem dX6_isAhead_15 : decode cX6_isAhead 15 = .ok (.aload_n 0, 1) := dk_42 (dk_at dksX6_isAhead_0 15 rfl rfl)
theorem dX6_isAhead_16 : decode cX6_isAhead 16 = .ok (.iload_n 1, 1) := dk_27 (dk_at dksX6_isAhead_0 16 rfl rfl)
theorem dX6_isAhead_17 : decode cX6_isAhead 17 = .ok (.iconst 1, 1) := dk_4 (dk_at dksX6_isAhead_0 17 rfl rfl)
theorem dX6_isAhead_18 : decode cX6_isAhead 18 = .ok (.invokevirtual 83, 3) := dk_182 0 83 (dk_at dksX6_isAhead_0 18 rfl rfl)
theorem dX6_isAhead_21 : decode cX6_isAhead 21 = .ok (.aload_n 0, 1) := dk_42 (dk_at dksX6_isAhead_0 21 rfl rfl)
theorem dX6_isAhead_22 : decode cX6_isAhead 22 = .ok (.iload_n 2, 1) := dk_28 (dk_at dksX6_isAhead_0 22 rfl rfl)
theorem dX6_isAhead_23 : decode cX6_isAhead 23 = .ok (.iconst 1, 1) := dk_4 (dk_at dksX6_isAhead_0 23 rfl rfl)
theorem dX6_isAhead_24 : decode cX6_isAhead 24 = .ok (.invokevirtual 83, 3) := dk_182 0 83 (dk_at dksX6_isAhead_1 0 rfl rfl)
theorem dX6_isAhead_27 : decode cX6_isAhead 27 = .ok (.if_icmp .le 7, 3) := dk_164 0 7 (dk_at dksX6_isAhead_1 3 rfl rfl)
theorem dX6_isAhead_30 : decode cX6_isAhead 30 = .ok (.iconst 1, 1) := dk_4 (dk_at dksX6_isAhead_1 6 rfl rfl)
theorem dX6_isAhead_31 : decode cX6_isAhead 31 = .ok (.goto 4, 3) := dk_167 0 4 (dk_at dksX6_isAhead_1 7 rfl rfl)
theorem dX6_isAhead_34 : decode cX6_isAhead 34 = .ok (.iconst 0, 1) := dk_3 (dk_at dksX6_isAhead_1 10 rfl rfl)
theorem dX6_isAhead_35 : decode cX6_isAhead 35 = .ok (.ireturn, 1) := dk_172 (dk_at dksX6_isAhead_1 11 rfl rfl)
theorem dX6_isAhead_36 : decode cX6_isAhead 36 = .ok (.aload_n 0, 1) := dk_42 (dk_at dksX6_isAhead_1 12 rfl rfl)
theorem dX6_isAhead_37 : decode cX6_isAhead 37 = .ok (.aload_n 0, 1) := dk_42 (dk_at dksX6_isAhead_1 13 rfl rfl)
theorem dX6_isAhead_38 : decode cX6_isAhead 38 = .ok (.iload_n 1, 1) := dk_27 (dk_at dksX6_isAhead_1 14 rfl rfl)
theorem dX6_isAhead_39 : decode cX6_isAhead 39 = .ok (.iconst 0, 1) := dk_3 (dk_at dksX6_isAhead_1 15 rfl rfl)
theorem dX6_isAhead_40 : decode cX6_isAhead 40 = .ok (.invokevirtual 83, 3) := dk_182 0 83 (dk_at dksX6_isAhead_1 16 rfl rfl)
theorem dX6_isAhead_43 : decode cX6_isAhead 43 = .ok (.aload_n 0, 1) := dk_42 (dk_at dksX6_isAhead_1 19 rfl rfl)
theorem dX6_isAhead_44 : decode cX6_isAhead 44 = .ok (.iload_n 2, 1) := dk_28 (dk_at dksX6_isAhead_1 20 rfl rfl)
theorem dX6_isAhead_45 : decode cX6_isAhead 45 = .ok (.iconst 0, 1) := dk_3 (dk_at dksX6_isAhead_1 21 rfl rfl)
theorem dX6_isAhead_46 : decode cX6_isAhead 46 = .ok (.invokevirtual 83, 3) := dk_182 0 83 (dk_at dksX6_isAhead_2 0 rfl rfl)
theorem dX6_isAhead_49 : decode cX6_isAhead 49 = .ok (.invokevirtual 152, 3) := dk_182 0 152 (dk_at dksX6_isAhead_2 3 rfl rfl)
theorem dX6_isAhead_52 : decode cX6_isAhead 52 = .ok (.istore_n 3, 1) := dk_62 (dk_at dksX6_isAhead_2 6 rfl rfl)
theorem dX6_isAhead_53 : decode cX6_isAhead 53 = .ok (.iload_n 3, 1) := dk_29 (dk_at dksX6_isAhead_2 7 rfl rfl)
theorem dX6_isAhead_54 : decode cX6_isAhead 54 = .ok (.ifCond .lt 12, 3) := dk_155 0 12 (dk_at dksX6_isAhead_2 8 rfl rfl)
theorem dX6_isAhead_57 : decode cX6_isAhead 57 = .ok (.iload_n 3, 1) := dk_29 (dk_at dksX6_isAhead_2 11 rfl rfl)
theorem dX6_isAhead_58 : decode cX6_isAhead 58 = .ok (.ifCond .ne 12, 3) := dk_154 0 12 (dk_at dksX6_isAhead_2 12 rfl rfl)
theorem dX6_isAhead_61 : decode cX6_isAhead 61 = .ok (.iload_n 1, 1) := dk_27 (dk_at dksX6_isAhead_2 15 rfl rfl)
theorem dX6_isAhead_62 : decode cX6_isAhead 62 = .ok (.iload_n 2, 1) := dk_28 (dk_at dksX6_isAhead_2 16 rfl rfl)
theorem dX6_isAhead_63 : decode cX6_isAhead 63 = .ok (.if_icmp .ge 7, 3) := dk_162 0 7 (dk_at dksX6_isAhead_2 17 rfl rfl)
theorem dX6_isAhead_66 : decode cX6_isAhead 66 = .ok (.iconst 1, 1) := dk_4 (dk_at dksX6_isAhead_2 20 rfl rfl)
theorem dX6_isAhead_67 : decode cX6_isAhead 67 = .ok (.goto 4, 3) := dk_167 0 4 (dk_at dksX6_isAhead_2 21 rfl rfl)
theorem dX6_isAhead_70 : decode cX6_isAhead 70 = .ok (.iconst 0, 1) := dk_3 (dk_at dksX6_isAhead_3 0 rfl rfl)
theorem dX6_isAhead_71 : decode cX6_isAhead 71 = .ok (.ireturn, 1) := dk_172 (dk_at dksX6_isAhead_3 1 rfl rfl)
abbrev cX6_areColumns : ByteArray := prog_33_method_58_code
def dkwX6_areColumns_1 : List UInt8 := [27, 16, 100, 108, 133, 20, 0, 245, 184, 0, 79, 153, 0, 7, 4, 167, 0, 4, 3, 172]
abbrev dktX6_areColumns_1 : List UInt8 := dkwX6_areColumns_1 ++ []
def dkwX6_areColumns_0 : List UInt8 := [27, 155, 0, 41, 27, 16, 100, 108, 133, 9, 20, 0, 245, 184, 0, 79, 153, 0, 26, 27, 16, 100, 112, 133]
abbrev dktX6_areColumns_0 : List UInt8 := dkwX6_areColumns_0 ++ dktX6_areColumns_1
theorem dksX6_areColumns_0 : cX6_areColumns.data.toList.drop 0 = dktX6_areColumns_0 := by decide +kernel
theorem dksX6_areColumns_1 : cX6_areColumns.data.toList.drop 24 = dktX6_areColumns_1 := dk_seg dksX6_areColumns_0 24 rfl rfl
theorem dX6_areColumns_0 : decode cX6_areColumns 0 = .ok (.iload_n 1, 1) := dk_27 (dk_at dksX6_areColumns_0 0 rfl rfl)
theorem dX6_areColumns_1 : decode cX6_areColumns 1 = .ok (.ifCond .lt 41, 3) := dk_155 0 41 (dk_at dksX6_areColumns_0 1 rfl rfl)
theorem dX6_areColumns_4 : decode cX6_areColumns 4 = .ok (.iload_n 1, 1) := dk_27 (dk_at dksX6_areColumns_0 4 rfl rfl)
theorem dX6_areColumns_5 : decode cX6_areColumns 5 = .ok (.bipush 100, 2) := dk_16 100 (dk_at dksX6_areColumns_0 5 rfl rfl)
theorem dX6_areColumns_7 : decode cX6_areColumns 7 = .ok (.idiv, 1) := dk_108 (dk_at dksX6_areColumns_0 7 rfl rfl)
theorem dX6_areColumns_8 : decode cX6_areColumns 8 = .ok (.i2l, 1) := dk_133 (dk_at dksX6_areColumns_0 8 rfl rfl)
theorem dX6_areColumns_9 : decode cX6_areColumns 9 = .ok (.lconst 0, 1) := dk_9 (dk_at dksX6_areColumns_0 9 rfl rfl)
theorem dX6_areColumns_10 : decode cX6_areColumns 10 = .ok (.ldc2_w 245, 3) := dk_20 0 245 (dk_at dksX6_areColumns_0 10 rfl rfl)
theorem dX6_areColumns_13 : decode cX6_areColumns 13 = .ok (.invokestatic 79, 3) := dk_184 0 79 (dk_at dksX6_areColumns_0 13 rfl rfl)
theorem dX6_areColumns_16 : decode cX6_areColumns 16 = .ok (.ifCond .eq 26, 3) := dk_153 0 26 (dk_at dksX6_areColumns_0 16 rfl rfl)
theorem dX6_areColumns_19 : decode cX6_areColumns 19 = .ok (.iload_n 1, 1) := dk_27 (dk_at dksX6_areColumns_0 19 rfl rfl)
theorem dX6_areColumns_20 : decode cX6_areColumns 20 = .ok (.bipush 100, 2) := dk_16 100 (dk_at dksX6_areColumns_0 20 rfl rfl)
theorem dX6_areColumns_22 : decode cX6_areColumns 22 = .ok (.irem, 1) := dk_112 (dk_at dksX6_areColumns_0 22 rfl rfl)
theorem dX6_areColumns_23 : decode cX6_areColumns 23 = .ok (.i2l, 1) := dk_133 (dk_at dksX6_areColumns_0 23 rfl rfl)
theorem dX6_areColumns_24 : decode cX6_areColumns 24 = .ok (.iload_n 1, 1) := dk_27 (dk_at dksX6_areColumns_1 0 rfl rfl)
theorem dX6_areColumns_25 : decode cX6_areColumns 25 = .ok (.bipush 100, 2) := dk_16 100 (dk_at dksX6_areColumns_1 1 rfl rfl)
theorem dX6_areColumns_27 : decode cX6_areColumns 27 = .ok (.idiv, 1) := dk_108 (dk_at dksX6_areColumns_1 3 rfl rfl)
theorem dX6_areColumns_28 : decode cX6_areColumns 28 = .ok (.i2l, 1) := dk_133 (dk_at dksX6_areColumns_1 4 rfl rfl)
theorem dX6_areColumns_29 : decode cX6_areColumns 29 = .ok (.ldc2_w 245, 3) := dk_20 0 245 (dk_at dksX6_areColumns_1 5 rfl rfl)
theorem dX6_areColumns_32 : decode cX6_areColumns 32 = .ok (.invokestatic 79, 3) := dk_184 0 79 (dk_at dksX6_areColumns_1 8 rfl rfl)
theorem dX6_areColumns_35 : decode cX6_areColumns 35 = .ok (.ifCond .eq 7, 3) := dk_153 0 7 (dk_at dksX6_areColumns_1 11 rfl rfl)
theorem dX6_areColumns_38 : decode cX6_areColumns 38 = .ok (.iconst 1, 1) := dk_4 (dk_at dksX6_areColumns_1 14 rfl rfl)
theorem dX6_areColumns_39 : decode cX6_areColumns 39 = .ok (.goto 4, 3) := dk_167 0 4 (dk_at dksX6_areColumns_1 15 rfl rfl)
theorem dX6_areColumns_42 : decode cX6_areColumns 42 = .ok (.iconst 0, 1) := dk_3 (dk_at dksX6_areColumns_1 18 rfl rfl)
theorem dX6_areColumns_43 : decode cX6_areColumns 43 = .ok (.ireturn, 1) := dk_172 (dk_at dksX6_areColumns_1 19 rfl rfl)
abbrev cX6_isSpan : ByteArray := prog_33_method_18_code
def dkwX6_isSpan_0 : List UInt8 := [42, 27, 3, 182, 0, 95, 155, 0, 7, 4, 167, 0, 4, 3, 172]
abbrev dktX6_isSpan_0 : List UInt8 := dkwX6_isSpan_0 ++ []
theorem dksX6_isSpan_0 : cX6_isSpan.data.toList.drop 0 = dktX6_isSpan_0 := by decide +kernel
theorem dX6_isSpan_0 : decode cX6_isSpan 0 = .ok (.aload_n 0, 1) := dk_42 (dk_at dksX6_isSpan_0 0 rfl rfl)
theorem dX6_isSpan_1 : decode cX6_isSpan 1 = .ok (.iload_n 1, 1) := dk_27 (dk_at dksX6_isSpan_0 1 rfl rfl)
theorem dX6_isSpan_2 : decode cX6_isSpan 2 = .ok (.iconst 0, 1) := dk_3 (dk_at dksX6_isSpan_0 2 rfl rfl)
theorem dX6_isSpan_3 : decode cX6_isSpan 3 = .ok (.invokevirtual 95, 3) := dk_182 0 95 (dk_at dksX6_isSpan_0 3 rfl rfl)
theorem dX6_isSpan_6 : decode cX6_isSpan 6 = .ok (.ifCond .lt 7, 3) := dk_155 0 7 (dk_at dksX6_isSpan_0 6 rfl rfl)
theorem dX6_isSpan_9 : decode cX6_isSpan 9 = .ok (.iconst 1, 1) := dk_4 (dk_at dksX6_isSpan_0 9 rfl rfl)
theorem dX6_isSpan_10 : decode cX6_isSpan 10 = .ok (.goto 4, 3) := dk_167 0 4 (dk_at dksX6_isSpan_0 10 rfl rfl)
theorem dX6_isSpan_13 : decode cX6_isSpan 13 = .ok (.iconst 0, 1) := dk_3 (dk_at dksX6_isSpan_0 13 rfl rfl)
theorem dX6_isSpan_14 : decode cX6_isSpan 14 = .ok (.ireturn, 1) := dk_172 (dk_at dksX6_isSpan_0 14 rfl rfl)
abbrev cX6_spanBits : ByteArray := prog_33_method_19_code
def dkwX6_spanBits_1 : List UInt8 := [172]
abbrev dktX6_spanBits_1 : List UInt8 := dkwX6_spanBits_1 ++ []
def dkwX6_spanBits_0 : List UInt8 := [42, 27, 4, 182, 0, 95, 42, 27, 5, 182, 0, 95, 42, 27, 4, 182, 0, 95, 100, 4, 96, 184, 0, 92]
abbrev dktX6_spanBits_0 : List UInt8 := dkwX6_spanBits_0 ++ dktX6_spanBits_1
theorem dksX6_spanBits_0 : cX6_spanBits.data.toList.drop 0 = dktX6_spanBits_0 := by decide +kernel
theorem dksX6_spanBits_1 : cX6_spanBits.data.toList.drop 24 = dktX6_spanBits_1 := dk_seg dksX6_spanBits_0 24 rfl rfl
theorem dX6_spanBits_0 : decode cX6_spanBits 0 = .ok (.aload_n 0, 1) := dk_42 (dk_at dksX6_spanBits_0 0 rfl rfl)
theorem dX6_spanBits_1 : decode cX6_spanBits 1 = .ok (.iload_n 1, 1) := dk_27 (dk_at dksX6_spanBits_0 1 rfl rfl)
theorem dX6_spanBits_2 : decode cX6_spanBits 2 = .ok (.iconst 1, 1) := dk_4 (dk_at dksX6_spanBits_0 2 rfl rfl)
theorem dX6_spanBits_3 : decode cX6_spanBits 3 = .ok (.invokevirtual 95, 3) := dk_182 0 95 (dk_at dksX6_spanBits_0 3 rfl rfl)
theorem dX6_spanBits_6 : decode cX6_spanBits 6 = .ok (.aload_n 0, 1) := dk_42 (dk_at dksX6_spanBits_0 6 rfl rfl)
theorem dX6_spanBits_7 : decode cX6_spanBits 7 = .ok (.iload_n 1, 1) := dk_27 (dk_at dksX6_spanBits_0 7 rfl rfl)
theorem dX6_spanBits_8 : decode cX6_spanBits 8 = .ok (.iconst 2, 1) := dk_5 (dk_at dksX6_spanBits_0 8 rfl rfl)
theorem dX6_spanBits_9 : decode cX6_spanBits 9 = .ok (.invokevirtual 95, 3) := dk_182 0 95 (dk_at dksX6_spanBits_0 9 rfl rfl)
theorem dX6_spanBits_12 : decode cX6_spanBits 12 = .ok (.aload_n 0, 1) := dk_42 (dk_at dksX6_spanBits_0 12 rfl rfl)
theorem dX6_spanBits_13 : decode cX6_spanBits 13 = .ok (.iload_n 1, 1) := dk_27 (dk_at dksX6_spanBits_0 13 rfl rfl)
theorem dX6_spanBits_14 : decode cX6_spanBits 14 = .ok (.iconst 1, 1) := dk_4 (dk_at dksX6_spanBits_0 14 rfl rfl)
theorem dX6_spanBits_15 : decode cX6_spanBits 15 = .ok (.invokevirtual 95, 3) := dk_182 0 95 (dk_at dksX6_spanBits_0 15 rfl rfl)
theorem dX6_spanBits_18 : decode cX6_spanBits 18 = .ok (.isub, 1) := dk_100 (dk_at dksX6_spanBits_0 18 rfl rfl)
theorem dX6_spanBits_19 : decode cX6_spanBits 19 = .ok (.iconst 1, 1) := dk_4 (dk_at dksX6_spanBits_0 19 rfl rfl)
theorem dX6_spanBits_20 : decode cX6_spanBits 20 = .ok (.iadd, 1) := dk_96 (dk_at dksX6_spanBits_0 20 rfl rfl)
theorem dX6_spanBits_21 : decode cX6_spanBits 21 = .ok (.invokestatic 92, 3) := dk_184 0 92 (dk_at dksX6_spanBits_0 21 rfl rfl)
theorem dX6_spanBits_24 : decode cX6_spanBits 24 = .ok (.ireturn, 1) := dk_172 (dk_at dksX6_spanBits_1 0 rfl rfl)
abbrev cX6_heldBits : ByteArray := prog_33_method_15_code
def dkwX6_heldBits_0 : List UInt8 := [42, 27, 16, 20, 28, 96, 182, 0, 83, 42, 27, 16, 12, 28, 96, 182, 0, 83, 184, 0, 92, 172]
abbrev dktX6_heldBits_0 : List UInt8 := dkwX6_heldBits_0 ++ []
theorem dksX6_heldBits_0 : cX6_heldBits.data.toList.drop 0 = dktX6_heldBits_0 := by decide +kernel
theorem dX6_heldBits_0 : decode cX6_heldBits 0 = .ok (.aload_n 0, 1) := dk_42 (dk_at dksX6_heldBits_0 0 rfl rfl)
theorem dX6_heldBits_1 : decode cX6_heldBits 1 = .ok (.iload_n 1, 1) := dk_27 (dk_at dksX6_heldBits_0 1 rfl rfl)
theorem dX6_heldBits_2 : decode cX6_heldBits 2 = .ok (.bipush 20, 2) := dk_16 20 (dk_at dksX6_heldBits_0 2 rfl rfl)
theorem dX6_heldBits_4 : decode cX6_heldBits 4 = .ok (.iload_n 2, 1) := dk_28 (dk_at dksX6_heldBits_0 4 rfl rfl)
theorem dX6_heldBits_5 : decode cX6_heldBits 5 = .ok (.iadd, 1) := dk_96 (dk_at dksX6_heldBits_0 5 rfl rfl)
theorem dX6_heldBits_6 : decode cX6_heldBits 6 = .ok (.invokevirtual 83, 3) := dk_182 0 83 (dk_at dksX6_heldBits_0 6 rfl rfl)
theorem dX6_heldBits_9 : decode cX6_heldBits 9 = .ok (.aload_n 0, 1) := dk_42 (dk_at dksX6_heldBits_0 9 rfl rfl)
theorem dX6_heldBits_10 : decode cX6_heldBits 10 = .ok (.iload_n 1, 1) := dk_27 (dk_at dksX6_heldBits_0 10 rfl rfl)
theorem dX6_heldBits_11 : decode cX6_heldBits 11 = .ok (.bipush 12, 2) := dk_16 12 (dk_at dksX6_heldBits_0 11 rfl rfl)
theorem dX6_heldBits_13 : decode cX6_heldBits 13 = .ok (.iload_n 2, 1) := dk_28 (dk_at dksX6_heldBits_0 13 rfl rfl)
theorem dX6_heldBits_14 : decode cX6_heldBits 14 = .ok (.iadd, 1) := dk_96 (dk_at dksX6_heldBits_0 14 rfl rfl)
theorem dX6_heldBits_15 : decode cX6_heldBits 15 = .ok (.invokevirtual 83, 3) := dk_182 0 83 (dk_at dksX6_heldBits_0 15 rfl rfl)
theorem dX6_heldBits_18 : decode cX6_heldBits 18 = .ok (.invokestatic 92, 3) := dk_184 0 92 (dk_at dksX6_heldBits_0 18 rfl rfl)
theorem dX6_heldBits_21 : decode cX6_heldBits 21 = .ok (.ireturn, 1) := dk_172 (dk_at dksX6_heldBits_0 21 rfl rfl)
abbrev cX6_knownEnd : ByteArray := prog_33_method_13_code
def dkwX6_knownEnd_0 : List UInt8 := [42, 27, 16, 6, 182, 0, 83, 42, 27, 16, 16, 28, 96, 182, 0, 83, 96, 172]
abbrev dktX6_knownEnd_0 : List UInt8 := dkwX6_knownEnd_0 ++ []
theorem dksX6_knownEnd_0 : cX6_knownEnd.data.toList.drop 0 = dktX6_knownEnd_0 := by decide +kernel
theorem dX6_knownEnd_0 : decode cX6_knownEnd 0 = .ok (.aload_n 0, 1) := dk_42 (dk_at dksX6_knownEnd_0 0 rfl rfl)
theorem dX6_knownEnd_1 : decode cX6_knownEnd 1 = .ok (.iload_n 1, 1) := dk_27 (dk_at dksX6_knownEnd_0 1 rfl rfl)
theorem dX6_knownEnd_2 : decode cX6_knownEnd 2 = .ok (.bipush 6, 2) := dk_16 6 (dk_at dksX6_knownEnd_0 2 rfl rfl)
theorem dX6_knownEnd_4 : decode cX6_knownEnd 4 = .ok (.invokevirtual 83, 3) := dk_182 0 83 (dk_at dksX6_knownEnd_0 4 rfl rfl)
theorem dX6_knownEnd_7 : decode cX6_knownEnd 7 = .ok (.aload_n 0, 1) := dk_42 (dk_at dksX6_knownEnd_0 7 rfl rfl)
theorem dX6_knownEnd_8 : decode cX6_knownEnd 8 = .ok (.iload_n 1, 1) := dk_27 (dk_at dksX6_knownEnd_0 8 rfl rfl)
theorem dX6_knownEnd_9 : decode cX6_knownEnd 9 = .ok (.bipush 16, 2) := dk_16 16 (dk_at dksX6_knownEnd_0 9 rfl rfl)
theorem dX6_knownEnd_11 : decode cX6_knownEnd 11 = .ok (.iload_n 2, 1) := dk_28 (dk_at dksX6_knownEnd_0 11 rfl rfl)
theorem dX6_knownEnd_12 : decode cX6_knownEnd 12 = .ok (.iadd, 1) := dk_96 (dk_at dksX6_knownEnd_0 12 rfl rfl)
theorem dX6_knownEnd_13 : decode cX6_knownEnd 13 = .ok (.invokevirtual 83, 3) := dk_182 0 83 (dk_at dksX6_knownEnd_0 13 rfl rfl)
theorem dX6_knownEnd_16 : decode cX6_knownEnd 16 = .ok (.iadd, 1) := dk_96 (dk_at dksX6_knownEnd_0 16 rfl rfl)
theorem dX6_knownEnd_17 : decode cX6_knownEnd 17 = .ok (.ireturn, 1) := dk_172 (dk_at dksX6_knownEnd_0 17 rfl rfl)
abbrev cX6_ends : ByteArray := prog_33_method_70_code
def dkwX6_ends_6 : List UInt8 := [177]
abbrev dktX6_ends_6 : List UInt8 := dkwX6_ends_6 ++ []
def dkwX6_ends_5 : List UInt8 := [182, 0, 192, 42, 180, 0, 19, 16, 8, 29, 153, 0, 7, 5, 167, 0, 4, 4, 96, 92, 47, 10, 97, 80]
abbrev dktX6_ends_5 : List UInt8 := dkwX6_ends_5 ++ dktX6_ends_6
def dkwX6_ends_4 : List UInt8 := [27, 16, 7, 42, 180, 0, 9, 3, 46, 182, 0, 188, 42, 29, 153, 0, 7, 6, 167, 0, 4, 5, 27]
abbrev dktX6_ends_4 : List UInt8 := dkwX6_ends_4 ++ dktX6_ends_5
def dkwX6_ends_3 : List UInt8 := [180, 0, 9, 3, 46, 163, 0, 66, 42, 27, 8, 29, 153, 0, 7, 6, 167, 0, 4, 5, 182, 0, 188, 42]
abbrev dktX6_ends_3 : List UInt8 := dkwX6_ends_3 ++ dktX6_ends_4
def dkwX6_ends_2 : List UInt8 := [96, 182, 0, 83, 164, 0, 7, 4, 167, 0, 4, 3, 128, 62, 132, 4, 1, 167, 255, 199, 28, 42]
abbrev dktX6_ends_2 : List UInt8 := dkwX6_ends_2 ++ dktX6_ends_3
def dkwX6_ends_1 : List UInt8 := [21, 4, 96, 182, 0, 83, 184, 0, 87, 61, 29, 42, 27, 21, 4, 182, 0, 223, 42, 27, 16, 16, 21, 4]
abbrev dktX6_ends_1 : List UInt8 := dkwX6_ends_1 ++ dktX6_ends_2
def dkwX6_ends_0 : List UInt8 := [3, 61, 3, 62, 3, 54, 4, 21, 4, 42, 27, 7, 182, 0, 83, 162, 0, 52, 28, 42, 27, 16, 24]
abbrev dktX6_ends_0 : List UInt8 := dkwX6_ends_0 ++ dktX6_ends_1
theorem dksX6_ends_0 : cX6_ends.data.toList.drop 0 = dktX6_ends_0 := by decide +kernel
theorem dksX6_ends_1 : cX6_ends.data.toList.drop 23 = dktX6_ends_1 := dk_seg dksX6_ends_0 23 rfl rfl
theorem dksX6_ends_2 : cX6_ends.data.toList.drop 47 = dktX6_ends_2 := dk_seg dksX6_ends_1 24 rfl rfl
theorem dksX6_ends_3 : cX6_ends.data.toList.drop 69 = dktX6_ends_3 := dk_seg dksX6_ends_2 22 rfl rfl
theorem dksX6_ends_4 : cX6_ends.data.toList.drop 93 = dktX6_ends_4 := dk_seg dksX6_ends_3 24 rfl rfl
theorem dksX6_ends_5 : cX6_ends.data.toList.drop 116 = dktX6_ends_5 := dk_seg dksX6_ends_4 23 rfl rfl
theorem dksX6_ends_6 : cX6_ends.data.toList.drop 140 = dktX6_ends_6 := dk_seg dksX6_ends_5 24 rfl rfl
theorem dX6_ends_0 : decode cX6_ends 0 = .ok (.iconst 0, 1) := dk_3 (dk_at dksX6_ends_0 0 rfl rfl)
theorem dX6_ends_1 : decode cX6_ends 1 = .ok (.istore_n 2, 1) := dk_61 (dk_at dksX6_ends_0 1 rfl rfl)
theorem dX6_ends_2 : decode cX6_ends 2 = .ok (.iconst 0, 1) := dk_3 (dk_at dksX6_ends_0 2 rfl rfl)
theorem dX6_ends_3 : decode cX6_ends 3 = .ok (.istore_n 3, 1) := dk_62 (dk_at dksX6_ends_0 3 rfl rfl)
theorem dX6_ends_4 : decode cX6_ends 4 = .ok (.iconst 0, 1) := dk_3 (dk_at dksX6_ends_0 4 rfl rfl)
theorem dX6_ends_5 : decode cX6_ends 5 = .ok (.istore 4, 2) := dk_54 4 (dk_at dksX6_ends_0 5 rfl rfl)
theorem dX6_ends_7 : decode cX6_ends 7 = .ok (.iload 4, 2) := dk_21 4 (dk_at dksX6_ends_0 7 rfl rfl)
theorem dX6_ends_9 : decode cX6_ends 9 = .ok (.aload_n 0, 1) := dk_42 (dk_at dksX6_ends_0 9 rfl rfl)
theorem dX6_ends_10 : decode cX6_ends 10 = .ok (.iload_n 1, 1) := dk_27 (dk_at dksX6_ends_0 10 rfl rfl)
theorem dX6_ends_11 : decode cX6_ends 11 = .ok (.iconst 4, 1) := dk_7 (dk_at dksX6_ends_0 11 rfl rfl)
theorem dX6_ends_12 : decode cX6_ends 12 = .ok (.invokevirtual 83, 3) := dk_182 0 83 (dk_at dksX6_ends_0 12 rfl rfl)
theorem dX6_ends_15 : decode cX6_ends 15 = .ok (.if_icmp .ge 52, 3) := dk_162 0 52 (dk_at dksX6_ends_0 15 rfl rfl)
theorem dX6_ends_18 : decode cX6_ends 18 = .ok (.iload_n 2, 1) := dk_28 (dk_at dksX6_ends_0 18 rfl rfl)
theorem dX6_ends_19 : decode cX6_ends 19 = .ok (.aload_n 0, 1) := dk_42 (dk_at dksX6_ends_0 19 rfl rfl)
theorem dX6_ends_20 : decode cX6_ends 20 = .ok (.iload_n 1, 1) := dk_27 (dk_at dksX6_ends_0 20 rfl rfl)
theorem dX6_ends_21 : decode cX6_ends 21 = .ok (.bipush 24, 2) := dk_16 24 (dk_at dksX6_ends_0 21 rfl rfl)
theorem dX6_ends_23 : decode cX6_ends 23 = .ok (.iload 4, 2) := dk_21 4 (dk_at dksX6_ends_1 0 rfl rfl)
theorem dX6_ends_25 : decode cX6_ends 25 = .ok (.iadd, 1) := dk_96 (dk_at dksX6_ends_1 2 rfl rfl)
theorem dX6_ends_26 : decode cX6_ends 26 = .ok (.invokevirtual 83, 3) := dk_182 0 83 (dk_at dksX6_ends_1 3 rfl rfl)
theorem dX6_ends_29 : decode cX6_ends 29 = .ok (.invokestatic 87, 3) := dk_184 0 87 (dk_at dksX6_ends_1 6 rfl rfl)
theorem dX6_ends_32 : decode cX6_ends 32 = .ok (.istore_n 2, 1) := dk_61 (dk_at dksX6_ends_1 9 rfl rfl)
theorem dX6_ends_33 : decode cX6_ends 33 = .ok (.iload_n 3, 1) := dk_29 (dk_at dksX6_ends_1 10 rfl rfl)
theorem dX6_ends_34 : decode cX6_ends 34 = .ok (.aload_n 0, 1) := dk_42 (dk_at dksX6_ends_1 11 rfl rfl)
theorem dX6_ends_35 : decode cX6_ends 35 = .ok (.iload_n 1, 1) := dk_27 (dk_at dksX6_ends_1 12 rfl rfl)
theorem dX6_ends_36 : decode cX6_ends 36 = .ok (.iload 4, 2) := dk_21 4 (dk_at dksX6_ends_1 13 rfl rfl)
theorem dX6_ends_38 : decode cX6_ends 38 = .ok (.invokevirtual 223, 3) := dk_182 0 223 (dk_at dksX6_ends_1 15 rfl rfl)
theorem dX6_ends_41 : decode cX6_ends 41 = .ok (.aload_n 0, 1) := dk_42 (dk_at dksX6_ends_1 18 rfl rfl)
theorem dX6_ends_42 : decode cX6_ends 42 = .ok (.iload_n 1, 1) := dk_27 (dk_at dksX6_ends_1 19 rfl rfl)
theorem dX6_ends_43 : decode cX6_ends 43 = .ok (.bipush 16, 2) := dk_16 16 (dk_at dksX6_ends_1 20 rfl rfl)
theorem dX6_ends_45 : decode cX6_ends 45 = .ok (.iload 4, 2) := dk_21 4 (dk_at dksX6_ends_1 22 rfl rfl)
theorem dX6_ends_47 : decode cX6_ends 47 = .ok (.iadd, 1) := dk_96 (dk_at dksX6_ends_2 0 rfl rfl)
theorem dX6_ends_48 : decode cX6_ends 48 = .ok (.invokevirtual 83, 3) := dk_182 0 83 (dk_at dksX6_ends_2 1 rfl rfl)
theorem dX6_ends_51 : decode cX6_ends 51 = .ok (.if_icmp .le 7, 3) := dk_164 0 7 (dk_at dksX6_ends_2 4 rfl rfl)
theorem dX6_ends_54 : decode cX6_ends 54 = .ok (.iconst 1, 1) := dk_4 (dk_at dksX6_ends_2 7 rfl rfl)
theorem dX6_ends_55 : decode cX6_ends 55 = .ok (.goto 4, 3) := dk_167 0 4 (dk_at dksX6_ends_2 8 rfl rfl)
theorem dX6_ends_58 : decode cX6_ends 58 = .ok (.iconst 0, 1) := dk_3 (dk_at dksX6_ends_2 11 rfl rfl)
theorem dX6_ends_59 : decode cX6_ends 59 = .ok (.ior, 1) := dk_128 (dk_at dksX6_ends_2 12 rfl rfl)
theorem dX6_ends_60 : decode cX6_ends 60 = .ok (.istore_n 3, 1) := dk_62 (dk_at dksX6_ends_2 13 rfl rfl)
theorem dX6_ends_61 : decode cX6_ends 61 = .ok (.iinc 4 1, 3) := dk_132 4 1 (dk_at dksX6_ends_2 14 rfl rfl)
theorem dX6_ends_64 : decode cX6_ends 64 = .ok (.goto (-57), 3) := dk_167 255 199 (dk_at dksX6_ends_2 17 rfl rfl)
theorem dX6_ends_67 : decode cX6_ends 67 = .ok (.iload_n 2, 1) := dk_28 (dk_at dksX6_ends_2 20 rfl rfl)
theorem dX6_ends_68 : decode cX6_ends 68 = .ok (.aload_n 0, 1) := dk_42 (dk_at dksX6_ends_2 21 rfl rfl)
theorem dX6_ends_69 : decode cX6_ends 69 = .ok (.getfield 9, 3) := dk_180 0 9 (dk_at dksX6_ends_3 0 rfl rfl)
theorem dX6_ends_72 : decode cX6_ends 72 = .ok (.iconst 0, 1) := dk_3 (dk_at dksX6_ends_3 3 rfl rfl)
theorem dX6_ends_73 : decode cX6_ends 73 = .ok (.iaload, 1) := dk_46 (dk_at dksX6_ends_3 4 rfl rfl)
theorem dX6_ends_74 : decode cX6_ends 74 = .ok (.if_icmp .gt 66, 3) := dk_163 0 66 (dk_at dksX6_ends_3 5 rfl rfl)
theorem dX6_ends_77 : decode cX6_ends 77 = .ok (.aload_n 0, 1) := dk_42 (dk_at dksX6_ends_3 8 rfl rfl)
theorem dX6_ends_78 : decode cX6_ends 78 = .ok (.iload_n 1, 1) := dk_27 (dk_at dksX6_ends_3 9 rfl rfl)
theorem dX6_ends_79 : decode cX6_ends 79 = .ok (.iconst 5, 1) := dk_8 (dk_at dksX6_ends_3 10 rfl rfl)
theorem dX6_ends_80 : decode cX6_ends 80 = .ok (.iload_n 3, 1) := dk_29 (dk_at dksX6_ends_3 11 rfl rfl)
theorem dX6_ends_81 : decode cX6_ends 81 = .ok (.ifCond .eq 7, 3) := dk_153 0 7 (dk_at dksX6_ends_3 12 rfl rfl)
theorem dX6_ends_84 : decode cX6_ends 84 = .ok (.iconst 3, 1) := dk_6 (dk_at dksX6_ends_3 15 rfl rfl)
theorem dX6_ends_85 : decode cX6_ends 85 = .ok (.goto 4, 3) := dk_167 0 4 (dk_at dksX6_ends_3 16 rfl rfl)
theorem dX6_ends_88 : decode cX6_ends 88 = .ok (.iconst 2, 1) := dk_5 (dk_at dksX6_ends_3 19 rfl rfl)
theorem dX6_ends_89 : decode cX6_ends 89 = .ok (.invokevirtual 188, 3) := dk_182 0 188 (dk_at dksX6_ends_3 20 rfl rfl)
theorem dX6_ends_92 : decode cX6_ends 92 = .ok (.aload_n 0, 1) := dk_42 (dk_at dksX6_ends_3 23 rfl rfl)
theorem dX6_ends_93 : decode cX6_ends 93 = .ok (.iload_n 1, 1) := dk_27 (dk_at dksX6_ends_4 0 rfl rfl)
theorem dX6_ends_94 : decode cX6_ends 94 = .ok (.bipush 7, 2) := dk_16 7 (dk_at dksX6_ends_4 1 rfl rfl)
theorem dX6_ends_96 : decode cX6_ends 96 = .ok (.aload_n 0, 1) := dk_42 (dk_at dksX6_ends_4 3 rfl rfl)
theorem dX6_ends_97 : decode cX6_ends 97 = .ok (.getfield 9, 3) := dk_180 0 9 (dk_at dksX6_ends_4 4 rfl rfl)
theorem dX6_ends_100 : decode cX6_ends 100 = .ok (.iconst 0, 1) := dk_3 (dk_at dksX6_ends_4 7 rfl rfl)
theorem dX6_ends_101 : decode cX6_ends 101 = .ok (.iaload, 1) := dk_46 (dk_at dksX6_ends_4 8 rfl rfl)
theorem dX6_ends_102 : decode cX6_ends 102 = .ok (.invokevirtual 188, 3) := dk_182 0 188 (dk_at dksX6_ends_4 9 rfl rfl)
theorem dX6_ends_105 : decode cX6_ends 105 = .ok (.aload_n 0, 1) := dk_42 (dk_at dksX6_ends_4 12 rfl rfl)
theorem dX6_ends_106 : decode cX6_ends 106 = .ok (.iload_n 3, 1) := dk_29 (dk_at dksX6_ends_4 13 rfl rfl)
theorem dX6_ends_107 : decode cX6_ends 107 = .ok (.ifCond .eq 7, 3) := dk_153 0 7 (dk_at dksX6_ends_4 14 rfl rfl)
theorem dX6_ends_110 : decode cX6_ends 110 = .ok (.iconst 3, 1) := dk_6 (dk_at dksX6_ends_4 17 rfl rfl)
theorem dX6_ends_111 : decode cX6_ends 111 = .ok (.goto 4, 3) := dk_167 0 4 (dk_at dksX6_ends_4 18 rfl rfl)
theorem dX6_ends_114 : decode cX6_ends 114 = .ok (.iconst 2, 1) := dk_5 (dk_at dksX6_ends_4 21 rfl rfl)
theorem dX6_ends_115 : decode cX6_ends 115 = .ok (.iload_n 1, 1) := dk_27 (dk_at dksX6_ends_4 22 rfl rfl)
theorem dX6_ends_116 : decode cX6_ends 116 = .ok (.invokevirtual 192, 3) := dk_182 0 192 (dk_at dksX6_ends_5 0 rfl rfl)
theorem dX6_ends_119 : decode cX6_ends 119 = .ok (.aload_n 0, 1) := dk_42 (dk_at dksX6_ends_5 3 rfl rfl)
theorem dX6_ends_120 : decode cX6_ends 120 = .ok (.getfield 19, 3) := dk_180 0 19 (dk_at dksX6_ends_5 4 rfl rfl)
theorem dX6_ends_123 : decode cX6_ends 123 = .ok (.bipush 8, 2) := dk_16 8 (dk_at dksX6_ends_5 7 rfl rfl)
theorem dX6_ends_125 : decode cX6_ends 125 = .ok (.iload_n 3, 1) := dk_29 (dk_at dksX6_ends_5 9 rfl rfl)
theorem dX6_ends_126 : decode cX6_ends 126 = .ok (.ifCond .eq 7, 3) := dk_153 0 7 (dk_at dksX6_ends_5 10 rfl rfl)
theorem dX6_ends_129 : decode cX6_ends 129 = .ok (.iconst 2, 1) := dk_5 (dk_at dksX6_ends_5 13 rfl rfl)
theorem dX6_ends_130 : decode cX6_ends 130 = .ok (.goto 4, 3) := dk_167 0 4 (dk_at dksX6_ends_5 14 rfl rfl)
theorem dX6_ends_133 : decode cX6_ends 133 = .ok (.iconst 1, 1) := dk_4 (dk_at dksX6_ends_5 17 rfl rfl)
theorem dX6_ends_134 : decode cX6_ends 134 = .ok (.iadd, 1) := dk_96 (dk_at dksX6_ends_5 18 rfl rfl)
theorem dX6_ends_135 : decode cX6_ends 135 = .ok (.dup2, 1) := dk_92 (dk_at dksX6_ends_5 19 rfl rfl)
theorem dX6_ends_136 : decode cX6_ends 136 = .ok (.laload, 1) := dk_47 (dk_at dksX6_ends_5 20 rfl rfl)
theorem dX6_ends_137 : decode cX6_ends 137 = .ok (.lconst 1, 1) := dk_10 (dk_at dksX6_ends_5 21 rfl rfl)
theorem dX6_ends_138 : decode cX6_ends 138 = .ok (.ladd, 1) := dk_97 (dk_at dksX6_ends_5 22 rfl rfl)
theorem dX6_ends_139 : decode cX6_ends 139 = .ok (.lastore, 1) := dk_80 (dk_at dksX6_ends_5 23 rfl rfl)
theorem dX6_ends_140 : decode cX6_ends 140 = .ok (.return_, 1) := dk_177 (dk_at dksX6_ends_6 0 rfl rfl)
abbrev cX6_starts : ByteArray := prog_33_method_66_code
def dkwX6_starts_6 : List UInt8 := [46, 42, 27, 16, 11, 182, 0, 83, 100, 133, 97, 80, 177]
abbrev dktX6_starts_6 : List UInt8 := dkwX6_starts_6 ++ []
def dkwX6_starts_5 : List UInt8 := [42, 180, 0, 19, 16, 8, 92, 47, 10, 97, 80, 42, 180, 0, 19, 16, 13, 92, 47, 42, 180, 0, 9, 3]
abbrev dktX6_starts_5 : List UInt8 := dkwX6_starts_5 ++ dktX6_starts_6
def dkwX6_starts_4 : List UInt8 := [17, 10, 96, 42, 180, 0, 9, 16, 6, 46, 96, 27, 79, 42, 180, 0, 9, 16, 6, 92, 46, 4, 96, 79]
abbrev dktX6_starts_4 : List UInt8 := dkwX6_starts_4 ++ dktX6_starts_5
def dkwX6_starts_3 : List UInt8 := [184, 1, 10, 96, 182, 0, 188, 132, 2, 1, 167, 255, 199, 42, 4, 27, 182, 0, 192, 42, 180, 0, 9]
abbrev dktX6_starts_3 : List UInt8 := dkwX6_starts_3 ++ dktX6_starts_4
def dkwX6_starts_2 : List UInt8 := [16, 24, 28, 96, 42, 180, 0, 9, 3, 46, 42, 180, 0, 36, 28, 46, 42, 27, 28, 182, 0, 223]
abbrev dktX6_starts_2 : List UInt8 := dkwX6_starts_2 ++ dktX6_starts_3
def dkwX6_starts_1 : List UInt8 := [180, 0, 122, 162, 0, 55, 42, 27, 16, 20, 28, 96, 42, 180, 0, 39, 28, 46, 182, 0, 188, 42, 27]
abbrev dktX6_starts_1 : List UInt8 := dkwX6_starts_1 ++ dktX6_starts_2
def dkwX6_starts_0 : List UInt8 := [42, 27, 8, 4, 182, 0, 188, 42, 27, 16, 6, 42, 180, 0, 9, 3, 46, 182, 0, 188, 3, 61, 28, 42]
abbrev dktX6_starts_0 : List UInt8 := dkwX6_starts_0 ++ dktX6_starts_1
theorem dksX6_starts_0 : cX6_starts.data.toList.drop 0 = dktX6_starts_0 := by decide +kernel
theorem dksX6_starts_1 : cX6_starts.data.toList.drop 24 = dktX6_starts_1 := dk_seg dksX6_starts_0 24 rfl rfl
theorem dksX6_starts_2 : cX6_starts.data.toList.drop 47 = dktX6_starts_2 := dk_seg dksX6_starts_1 23 rfl rfl
theorem dksX6_starts_3 : cX6_starts.data.toList.drop 69 = dktX6_starts_3 := dk_seg dksX6_starts_2 22 rfl rfl
theorem dksX6_starts_4 : cX6_starts.data.toList.drop 92 = dktX6_starts_4 := dk_seg dksX6_starts_3 23 rfl rfl
theorem dksX6_starts_5 : cX6_starts.data.toList.drop 116 = dktX6_starts_5 := dk_seg dksX6_starts_4 24 rfl rfl
theorem dksX6_starts_6 : cX6_starts.data.toList.drop 140 = dktX6_starts_6 := dk_seg dksX6_starts_5 24 rfl rfl
theorem dX6_starts_0 : decode cX6_starts 0 = .ok (.aload_n 0, 1) := dk_42 (dk_at dksX6_starts_0 0 rfl rfl)
theorem dX6_starts_1 : decode cX6_starts 1 = .ok (.iload_n 1, 1) := dk_27 (dk_at dksX6_starts_0 1 rfl rfl)
theorem dX6_starts_2 : decode cX6_starts 2 = .ok (.iconst 5, 1) := dk_8 (dk_at dksX6_starts_0 2 rfl rfl)
theorem dX6_starts_3 : decode cX6_starts 3 = .ok (.iconst 1, 1) := dk_4 (dk_at dksX6_starts_0 3 rfl rfl)
theorem dX6_starts_4 : decode cX6_starts 4 = .ok (.invokevirtual 188, 3) := dk_182 0 188 (dk_at dksX6_starts_0 4 rfl rfl)
theorem dX6_starts_7 : decode cX6_starts 7 = .ok (.aload_n 0, 1) := dk_42 (dk_at dksX6_starts_0 7 rfl rfl)
theorem dX6_starts_8 : decode cX6_starts 8 = .ok (.iload_n 1, 1) := dk_27 (dk_at dksX6_starts_0 8 rfl rfl)
theorem dX6_starts_9 : decode cX6_starts 9 = .ok (.bipush 6, 2) := dk_16 6 (dk_at dksX6_starts_0 9 rfl rfl)
theorem dX6_starts_11 : decode cX6_starts 11 = .ok (.aload_n 0, 1) := dk_42 (dk_at dksX6_starts_0 11 rfl rfl)
theorem dX6_starts_12 : decode cX6_starts 12 = .ok (.getfield 9, 3) := dk_180 0 9 (dk_at dksX6_starts_0 12 rfl rfl)
theorem dX6_starts_15 : decode cX6_starts 15 = .ok (.iconst 0, 1) := dk_3 (dk_at dksX6_starts_0 15 rfl rfl)
theorem dX6_starts_16 : decode cX6_starts 16 = .ok (.iaload, 1) := dk_46 (dk_at dksX6_starts_0 16 rfl rfl)
theorem dX6_starts_17 : decode cX6_starts 17 = .ok (.invokevirtual 188, 3) := dk_182 0 188 (dk_at dksX6_starts_0 17 rfl rfl)
theorem dX6_starts_20 : decode cX6_starts 20 = .ok (.iconst 0, 1) := dk_3 (dk_at dksX6_starts_0 20 rfl rfl)
theorem dX6_starts_21 : decode cX6_starts 21 = .ok (.istore_n 2, 1) := dk_61 (dk_at dksX6_starts_0 21 rfl rfl)
theorem dX6_starts_22 : decode cX6_starts 22 = .ok (.iload_n 2, 1) := dk_28 (dk_at dksX6_starts_0 22 rfl rfl)
theorem dX6_starts_23 : decode cX6_starts 23 = .ok (.aload_n 0, 1) := dk_42 (dk_at dksX6_starts_0 23 rfl rfl)
theorem dX6_starts_24 : decode cX6_starts 24 = .ok (.getfield 122, 3) := dk_180 0 122 (dk_at dksX6_starts_1 0 rfl rfl)
theorem dX6_starts_27 : decode cX6_starts 27 = .ok (.if_icmp .ge 55, 3) := dk_162 0 55 (dk_at dksX6_starts_1 3 rfl rfl)
theorem dX6_starts_30 : decode cX6_starts 30 = .ok (.aload_n 0, 1) := dk_42 (dk_at dksX6_starts_1 6 rfl rfl)
theorem dX6_starts_31 : decode cX6_starts 31 = .ok (.iload_n 1, 1) := dk_27 (dk_at dksX6_starts_1 7 rfl rfl)
theorem dX6_starts_32 : decode cX6_starts 32 = .ok (.bipush 20, 2) := dk_16 20 (dk_at dksX6_starts_1 8 rfl rfl)
theorem dX6_starts_34 : decode cX6_starts 34 = .ok (.iload_n 2, 1) := dk_28 (dk_at dksX6_starts_1 10 rfl rfl)
theorem dX6_starts_35 : decode cX6_starts 35 = .ok (.iadd, 1) := dk_96 (dk_at dksX6_starts_1 11 rfl rfl)
theorem dX6_starts_36 : decode cX6_starts 36 = .ok (.aload_n 0, 1) := dk_42 (dk_at dksX6_starts_1 12 rfl rfl)
theorem dX6_starts_37 : decode cX6_starts 37 = .ok (.getfield 39, 3) := dk_180 0 39 (dk_at dksX6_starts_1 13 rfl rfl)
theorem dX6_starts_40 : decode cX6_starts 40 = .ok (.iload_n 2, 1) := dk_28 (dk_at dksX6_starts_1 16 rfl rfl)
theorem dX6_starts_41 : decode cX6_starts 41 = .ok (.iaload, 1) := dk_46 (dk_at dksX6_starts_1 17 rfl rfl)
theorem dX6_starts_42 : decode cX6_starts 42 = .ok (.invokevirtual 188, 3) := dk_182 0 188 (dk_at dksX6_starts_1 18 rfl rfl)
theorem dX6_starts_45 : decode cX6_starts 45 = .ok (.aload_n 0, 1) := dk_42 (dk_at dksX6_starts_1 21 rfl rfl)
theorem dX6_starts_46 : decode cX6_starts 46 = .ok (.iload_n 1, 1) := dk_27 (dk_at dksX6_starts_1 22 rfl rfl)
theorem dX6_starts_47 : decode cX6_starts 47 = .ok (.bipush 24, 2) := dk_16 24 (dk_at dksX6_starts_2 0 rfl rfl)
theorem dX6_starts_49 : decode cX6_starts 49 = .ok (.iload_n 2, 1) := dk_28 (dk_at dksX6_starts_2 2 rfl rfl)
theorem dX6_starts_50 : decode cX6_starts 50 = .ok (.iadd, 1) := dk_96 (dk_at dksX6_starts_2 3 rfl rfl)
theorem dX6_starts_51 : decode cX6_starts 51 = .ok (.aload_n 0, 1) := dk_42 (dk_at dksX6_starts_2 4 rfl rfl)
theorem dX6_starts_52 : decode cX6_starts 52 = .ok (.getfield 9, 3) := dk_180 0 9 (dk_at dksX6_starts_2 5 rfl rfl)
theorem dX6_starts_55 : decode cX6_starts 55 = .ok (.iconst 0, 1) := dk_3 (dk_at dksX6_starts_2 8 rfl rfl)
theorem dX6_starts_56 : decode cX6_starts 56 = .ok (.iaload, 1) := dk_46 (dk_at dksX6_starts_2 9 rfl rfl)
theorem dX6_starts_57 : decode cX6_starts 57 = .ok (.aload_n 0, 1) := dk_42 (dk_at dksX6_starts_2 10 rfl rfl)
theorem dX6_starts_58 : decode cX6_starts 58 = .ok (.getfield 36, 3) := dk_180 0 36 (dk_at dksX6_starts_2 11 rfl rfl)
theorem dX6_starts_61 : decode cX6_starts 61 = .ok (.iload_n 2, 1) := dk_28 (dk_at dksX6_starts_2 14 rfl rfl)
theorem dX6_starts_62 : decode cX6_starts 62 = .ok (.iaload, 1) := dk_46 (dk_at dksX6_starts_2 15 rfl rfl)
theorem dX6_starts_63 : decode cX6_starts 63 = .ok (.aload_n 0, 1) := dk_42 (dk_at dksX6_starts_2 16 rfl rfl)
theorem dX6_starts_64 : decode cX6_starts 64 = .ok (.iload_n 1, 1) := dk_27 (dk_at dksX6_starts_2 17 rfl rfl)
theorem dX6_starts_65 : decode cX6_starts 65 = .ok (.iload_n 2, 1) := dk_28 (dk_at dksX6_starts_2 18 rfl rfl)
theorem dX6_starts_66 : decode cX6_starts 66 = .ok (.invokevirtual 223, 3) := dk_182 0 223 (dk_at dksX6_starts_2 19 rfl rfl)
theorem dX6_starts_69 : decode cX6_starts 69 = .ok (.invokestatic 266, 3) := dk_184 1 10 (dk_at dksX6_starts_3 0 rfl rfl)
theorem dX6_starts_72 : decode cX6_starts 72 = .ok (.iadd, 1) := dk_96 (dk_at dksX6_starts_3 3 rfl rfl)
theorem dX6_starts_73 : decode cX6_starts 73 = .ok (.invokevirtual 188, 3) := dk_182 0 188 (dk_at dksX6_starts_3 4 rfl rfl)
theorem dX6_starts_76 : decode cX6_starts 76 = .ok (.iinc 2 1, 3) := dk_132 2 1 (dk_at dksX6_starts_3 7 rfl rfl)
theorem dX6_starts_79 : decode cX6_starts 79 = .ok (.goto (-57), 3) := dk_167 255 199 (dk_at dksX6_starts_3 10 rfl rfl)
theorem dX6_starts_82 : decode cX6_starts 82 = .ok (.aload_n 0, 1) := dk_42 (dk_at dksX6_starts_3 13 rfl rfl)
theorem dX6_starts_83 : decode cX6_starts 83 = .ok (.iconst 1, 1) := dk_4 (dk_at dksX6_starts_3 14 rfl rfl)
theorem dX6_starts_84 : decode cX6_starts 84 = .ok (.iload_n 1, 1) := dk_27 (dk_at dksX6_starts_3 15 rfl rfl)
theorem dX6_starts_85 : decode cX6_starts 85 = .ok (.invokevirtual 192, 3) := dk_182 0 192 (dk_at dksX6_starts_3 16 rfl rfl)
theorem dX6_starts_88 : decode cX6_starts 88 = .ok (.aload_n 0, 1) := dk_42 (dk_at dksX6_starts_3 19 rfl rfl)
theorem dX6_starts_89 : decode cX6_starts 89 = .ok (.getfield 9, 3) := dk_180 0 9 (dk_at dksX6_starts_3 20 rfl rfl)
theorem dX6_starts_92 : decode cX6_starts 92 = .ok (.sipush 2656, 3) := dk_17 10 96 (dk_at dksX6_starts_4 0 rfl rfl)
theorem dX6_starts_95 : decode cX6_starts 95 = .ok (.aload_n 0, 1) := dk_42 (dk_at dksX6_starts_4 3 rfl rfl)
theorem dX6_starts_96 : decode cX6_starts 96 = .ok (.getfield 9, 3) := dk_180 0 9 (dk_at dksX6_starts_4 4 rfl rfl)
theorem dX6_starts_99 : decode cX6_starts 99 = .ok (.bipush 6, 2) := dk_16 6 (dk_at dksX6_starts_4 7 rfl rfl)
theorem dX6_starts_101 : decode cX6_starts 101 = .ok (.iaload, 1) := dk_46 (dk_at dksX6_starts_4 9 rfl rfl)
theorem dX6_starts_102 : decode cX6_starts 102 = .ok (.iadd, 1) := dk_96 (dk_at dksX6_starts_4 10 rfl rfl)
theorem dX6_starts_103 : decode cX6_starts 103 = .ok (.iload_n 1, 1) := dk_27 (dk_at dksX6_starts_4 11 rfl rfl)
theorem dX6_starts_104 : decode cX6_starts 104 = .ok (.iastore, 1) := dk_79 (dk_at dksX6_starts_4 12 rfl rfl)
theorem dX6_starts_105 : decode cX6_starts 105 = .ok (.aload_n 0, 1) := dk_42 (dk_at dksX6_starts_4 13 rfl rfl)
theorem dX6_starts_106 : decode cX6_starts 106 = .ok (.getfield 9, 3) := dk_180 0 9 (dk_at dksX6_starts_4 14 rfl rfl)
theorem dX6_starts_109 : decode cX6_starts 109 = .ok (.bipush 6, 2) := dk_16 6 (dk_at dksX6_starts_4 17 rfl rfl)
theorem dX6_starts_111 : decode cX6_starts 111 = .ok (.dup2, 1) := dk_92 (dk_at dksX6_starts_4 19 rfl rfl)
theorem dX6_starts_112 : decode cX6_starts 112 = .ok (.iaload, 1) := dk_46 (dk_at dksX6_starts_4 20 rfl rfl)
theorem dX6_starts_113 : decode cX6_starts 113 = .ok (.iconst 1, 1) := dk_4 (dk_at dksX6_starts_4 21 rfl rfl)
theorem dX6_starts_114 : decode cX6_starts 114 = .ok (.iadd, 1) := dk_96 (dk_at dksX6_starts_4 22 rfl rfl)
theorem dX6_starts_115 : decode cX6_starts 115 = .ok (.iastore, 1) := dk_79 (dk_at dksX6_starts_4 23 rfl rfl)
theorem dX6_starts_116 : decode cX6_starts 116 = .ok (.aload_n 0, 1) := dk_42 (dk_at dksX6_starts_5 0 rfl rfl)
theorem dX6_starts_117 : decode cX6_starts 117 = .ok (.getfield 19, 3) := dk_180 0 19 (dk_at dksX6_starts_5 1 rfl rfl)
theorem dX6_starts_120 : decode cX6_starts 120 = .ok (.bipush 8, 2) := dk_16 8 (dk_at dksX6_starts_5 4 rfl rfl)
theorem dX6_starts_122 : decode cX6_starts 122 = .ok (.dup2, 1) := dk_92 (dk_at dksX6_starts_5 6 rfl rfl)
theorem dX6_starts_123 : decode cX6_starts 123 = .ok (.laload, 1) := dk_47 (dk_at dksX6_starts_5 7 rfl rfl)
theorem dX6_starts_124 : decode cX6_starts 124 = .ok (.lconst 1, 1) := dk_10 (dk_at dksX6_starts_5 8 rfl rfl)
theorem dX6_starts_125 : decode cX6_starts 125 = .ok (.ladd, 1) := dk_97 (dk_at dksX6_starts_5 9 rfl rfl)
theorem dX6_starts_126 : decode cX6_starts 126 = .ok (.lastore, 1) := dk_80 (dk_at dksX6_starts_5 10 rfl rfl)
theorem dX6_starts_127 : decode cX6_starts 127 = .ok (.aload_n 0, 1) := dk_42 (dk_at dksX6_starts_5 11 rfl rfl)
theorem dX6_starts_128 : decode cX6_starts 128 = .ok (.getfield 19, 3) := dk_180 0 19 (dk_at dksX6_starts_5 12 rfl rfl)
theorem dX6_starts_131 : decode cX6_starts 131 = .ok (.bipush 13, 2) := dk_16 13 (dk_at dksX6_starts_5 15 rfl rfl)
theorem dX6_starts_133 : decode cX6_starts 133 = .ok (.dup2, 1) := dk_92 (dk_at dksX6_starts_5 17 rfl rfl)
theorem dX6_starts_134 : decode cX6_starts 134 = .ok (.laload, 1) := dk_47 (dk_at dksX6_starts_5 18 rfl rfl)
theorem dX6_starts_135 : decode cX6_starts 135 = .ok (.aload_n 0, 1) := dk_42 (dk_at dksX6_starts_5 19 rfl rfl)
theorem dX6_starts_136 : decode cX6_starts 136 = .ok (.getfield 9, 3) := dk_180 0 9 (dk_at dksX6_starts_5 20 rfl rfl)
theorem dX6_starts_139 : decode cX6_starts 139 = .ok (.iconst 0, 1) := dk_3 (dk_at dksX6_starts_5 23 rfl rfl)
theorem dX6_starts_140 : decode cX6_starts 140 = .ok (.iaload, 1) := dk_46 (dk_at dksX6_starts_6 0 rfl rfl)
theorem dX6_starts_141 : decode cX6_starts 141 = .ok (.aload_n 0, 1) := dk_42 (dk_at dksX6_starts_6 1 rfl rfl)
theorem dX6_starts_142 : decode cX6_starts 142 = .ok (.iload_n 1, 1) := dk_27 (dk_at dksX6_starts_6 2 rfl rfl)
theorem dX6_starts_143 : decode cX6_starts 143 = .ok (.bipush 11, 2) := dk_16 11 (dk_at dksX6_starts_6 3 rfl rfl)
theorem dX6_starts_145 : decode cX6_starts 145 = .ok (.invokevirtual 83, 3) := dk_182 0 83 (dk_at dksX6_starts_6 5 rfl rfl)
theorem dX6_starts_148 : decode cX6_starts 148 = .ok (.isub, 1) := dk_100 (dk_at dksX6_starts_6 8 rfl rfl)
theorem dX6_starts_149 : decode cX6_starts 149 = .ok (.i2l, 1) := dk_133 (dk_at dksX6_starts_6 9 rfl rfl)
theorem dX6_starts_150 : decode cX6_starts 150 = .ok (.ladd, 1) := dk_97 (dk_at dksX6_starts_6 10 rfl rfl)
theorem dX6_starts_151 : decode cX6_starts 151 = .ok (.lastore, 1) := dk_80 (dk_at dksX6_starts_6 11 rfl rfl)
theorem dX6_starts_152 : decode cX6_starts 152 = .ok (.return_, 1) := dk_177 (dk_at dksX6_starts_6 12 rfl rfl)
abbrev cX6_promises : ByteArray := prog_33_method_67_code
def dkwX6_promises_3 : List UInt8 := [28, 182, 0, 188, 42, 180, 0, 64, 27, 46, 28, 159, 0, 9, 42, 8, 27, 182, 0, 192, 4, 172]
abbrev dktX6_promises_3 : List UInt8 := dkwX6_promises_3 ++ []
def dkwX6_promises_2 : List UInt8 := [46, 182, 0, 188, 132, 3, 1, 167, 255, 230, 42, 27, 16, 8, 182, 0, 83, 156, 0, 11, 42, 27, 16, 8]
abbrev dktX6_promises_2 : List UInt8 := dkwX6_promises_2 ++ dktX6_promises_3
def dkwX6_promises_1 : List UInt8 := [182, 0, 188, 3, 62, 29, 42, 180, 0, 122, 162, 0, 24, 42, 27, 16, 28, 29, 96, 42, 180, 0, 39, 29]
abbrev dktX6_promises_1 : List UInt8 := dkwX6_promises_1 ++ dktX6_promises_2
def dkwX6_promises_0 : List UInt8 := [42, 42, 180, 0, 9, 3, 46, 4, 96, 182, 1, 13, 61, 28, 156, 0, 5, 3, 172, 42, 27, 16, 9, 28]
abbrev dktX6_promises_0 : List UInt8 := dkwX6_promises_0 ++ dktX6_promises_1
theorem dksX6_promises_0 : cX6_promises.data.toList.drop 0 = dktX6_promises_0 := by decide +kernel
theorem dksX6_promises_1 : cX6_promises.data.toList.drop 24 = dktX6_promises_1 := dk_seg dksX6_promises_0 24 rfl rfl
theorem dksX6_promises_2 : cX6_promises.data.toList.drop 48 = dktX6_promises_2 := dk_seg dksX6_promises_1 24 rfl rfl
theorem dksX6_promises_3 : cX6_promises.data.toList.drop 72 = dktX6_promises_3 := dk_seg dksX6_promises_2 24 rfl rfl
theorem dX6_promises_0 : decode cX6_promises 0 = .ok (.aload_n 0, 1) := dk_42 (dk_at dksX6_promises_0 0 rfl rfl)
theorem dX6_promises_1 : decode cX6_promises 1 = .ok (.aload_n 0, 1) := dk_42 (dk_at dksX6_promises_0 1 rfl rfl)
theorem dX6_promises_2 : decode cX6_promises 2 = .ok (.getfield 9, 3) := dk_180 0 9 (dk_at dksX6_promises_0 2 rfl rfl)
theorem dX6_promises_5 : decode cX6_promises 5 = .ok (.iconst 0, 1) := dk_3 (dk_at dksX6_promises_0 5 rfl rfl)
theorem dX6_promises_6 : decode cX6_promises 6 = .ok (.iaload, 1) := dk_46 (dk_at dksX6_promises_0 6 rfl rfl)
theorem dX6_promises_7 : decode cX6_promises 7 = .ok (.iconst 1, 1) := dk_4 (dk_at dksX6_promises_0 7 rfl rfl)
theorem dX6_promises_8 : decode cX6_promises 8 = .ok (.iadd, 1) := dk_96 (dk_at dksX6_promises_0 8 rfl rfl)
theorem dX6_promises_9 : decode cX6_promises 9 = .ok (.invokevirtual 269, 3) := dk_182 1 13 (dk_at dksX6_promises_0 9 rfl rfl)
theorem dX6_promises_12 : decode cX6_promises 12 = .ok (.istore_n 2, 1) := dk_61 (dk_at dksX6_promises_0 12 rfl rfl)
theorem dX6_promises_13 : decode cX6_promises 13 = .ok (.iload_n 2, 1) := dk_28 (dk_at dksX6_promises_0 13 rfl rfl)
theorem dX6_promises_14 : decode cX6_promises 14 = .ok (.ifCond .ge 5, 3) := dk_156 0 5 (dk_at dksX6_promises_0 14 rfl rfl)
theorem dX6_promises_17 : decode cX6_promises 17 = .ok (.iconst 0, 1) := dk_3 (dk_at dksX6_promises_0 17 rfl rfl)
theorem dX6_promises_18 : decode cX6_promises 18 = .ok (.ireturn, 1) := dk_172 (dk_at dksX6_promises_0 18 rfl rfl)
theorem dX6_promises_19 : decode cX6_promises 19 = .ok (.aload_n 0, 1) := dk_42 (dk_at dksX6_promises_0 19 rfl rfl)
theorem dX6_promises_20 : decode cX6_promises 20 = .ok (.iload_n 1, 1) := dk_27 (dk_at dksX6_promises_0 20 rfl rfl)
theorem dX6_promises_21 : decode cX6_promises 21 = .ok (.bipush 9, 2) := dk_16 9 (dk_at dksX6_promises_0 21 rfl rfl)
theorem dX6_promises_23 : decode cX6_promises 23 = .ok (.iload_n 2, 1) := dk_28 (dk_at dksX6_promises_0 23 rfl rfl)
theorem dX6_promises_24 : decode cX6_promises 24 = .ok (.invokevirtual 188, 3) := dk_182 0 188 (dk_at dksX6_promises_1 0 rfl rfl)
theorem dX6_promises_27 : decode cX6_promises 27 = .ok (.iconst 0, 1) := dk_3 (dk_at dksX6_promises_1 3 rfl rfl)
theorem dX6_promises_28 : decode cX6_promises 28 = .ok (.istore_n 3, 1) := dk_62 (dk_at dksX6_promises_1 4 rfl rfl)
theorem dX6_promises_29 : decode cX6_promises 29 = .ok (.iload_n 3, 1) := dk_29 (dk_at dksX6_promises_1 5 rfl rfl)
theorem dX6_promises_30 : decode cX6_promises 30 = .ok (.aload_n 0, 1) := dk_42 (dk_at dksX6_promises_1 6 rfl rfl)
theorem dX6_promises_31 : decode cX6_promises 31 = .ok (.getfield 122, 3) := dk_180 0 122 (dk_at dksX6_promises_1 7 rfl rfl)
theorem dX6_promises_34 : decode cX6_promises 34 = .ok (.if_icmp .ge 24, 3) := dk_162 0 24 (dk_at dksX6_promises_1 10 rfl rfl)
theorem dX6_promises_37 : decode cX6_promises 37 = .ok (.aload_n 0, 1) := dk_42 (dk_at dksX6_promises_1 13 rfl rfl)
theorem dX6_promises_38 : decode cX6_promises 38 = .ok (.iload_n 1, 1) := dk_27 (dk_at dksX6_promises_1 14 rfl rfl)
theorem dX6_promises_39 : decode cX6_promises 39 = .ok (.bipush 28, 2) := dk_16 28 (dk_at dksX6_promises_1 15 rfl rfl)
theorem dX6_promises_41 : decode cX6_promises 41 = .ok (.iload_n 3, 1) := dk_29 (dk_at dksX6_promises_1 17 rfl rfl)
theorem dX6_promises_42 : decode cX6_promises 42 = .ok (.iadd, 1) := dk_96 (dk_at dksX6_promises_1 18 rfl rfl)
theorem dX6_promises_43 : decode cX6_promises 43 = .ok (.aload_n 0, 1) := dk_42 (dk_at dksX6_promises_1 19 rfl rfl)
theorem dX6_promises_44 : decode cX6_promises 44 = .ok (.getfield 39, 3) := dk_180 0 39 (dk_at dksX6_promises_1 20 rfl rfl)
theorem dX6_promises_47 : decode cX6_promises 47 = .ok (.iload_n 3, 1) := dk_29 (dk_at dksX6_promises_1 23 rfl rfl)
theorem dX6_promises_48 : decode cX6_promises 48 = .ok (.iaload, 1) := dk_46 (dk_at dksX6_promises_2 0 rfl rfl)
theorem dX6_promises_49 : decode cX6_promises 49 = .ok (.invokevirtual 188, 3) := dk_182 0 188 (dk_at dksX6_promises_2 1 rfl rfl)
theorem dX6_promises_52 : decode cX6_promises 52 = .ok (.iinc 3 1, 3) := dk_132 3 1 (dk_at dksX6_promises_2 4 rfl rfl)
theorem dX6_promises_55 : decode cX6_promises 55 = .ok (.goto (-26), 3) := dk_167 255 230 (dk_at dksX6_promises_2 7 rfl rfl)
theorem dX6_promises_58 : decode cX6_promises 58 = .ok (.aload_n 0, 1) := dk_42 (dk_at dksX6_promises_2 10 rfl rfl)
theorem dX6_promises_59 : decode cX6_promises 59 = .ok (.iload_n 1, 1) := dk_27 (dk_at dksX6_promises_2 11 rfl rfl)
theorem dX6_promises_60 : decode cX6_promises 60 = .ok (.bipush 8, 2) := dk_16 8 (dk_at dksX6_promises_2 12 rfl rfl)
theorem dX6_promises_62 : decode cX6_promises 62 = .ok (.invokevirtual 83, 3) := dk_182 0 83 (dk_at dksX6_promises_2 14 rfl rfl)
theorem dX6_promises_65 : decode cX6_promises 65 = .ok (.ifCond .ge 11, 3) := dk_156 0 11 (dk_at dksX6_promises_2 17 rfl rfl)
theorem dX6_promises_68 : decode cX6_promises 68 = .ok (.aload_n 0, 1) := dk_42 (dk_at dksX6_promises_2 20 rfl rfl)
theorem dX6_promises_69 : decode cX6_promises 69 = .ok (.iload_n 1, 1) := dk_27 (dk_at dksX6_promises_2 21 rfl rfl)
theorem dX6_promises_70 : decode cX6_promises 70 = .ok (.bipush 8, 2) := dk_16 8 (dk_at dksX6_promises_2 22 rfl rfl)
theorem dX6_promises_72 : decode cX6_promises 72 = .ok (.iload_n 2, 1) := dk_28 (dk_at dksX6_promises_3 0 rfl rfl)
theorem dX6_promises_73 : decode cX6_promises 73 = .ok (.invokevirtual 188, 3) := dk_182 0 188 (dk_at dksX6_promises_3 1 rfl rfl)
theorem dX6_promises_76 : decode cX6_promises 76 = .ok (.aload_n 0, 1) := dk_42 (dk_at dksX6_promises_3 4 rfl rfl)
theorem dX6_promises_77 : decode cX6_promises 77 = .ok (.getfield 64, 3) := dk_180 0 64 (dk_at dksX6_promises_3 5 rfl rfl)
theorem dX6_promises_80 : decode cX6_promises 80 = .ok (.iload_n 1, 1) := dk_27 (dk_at dksX6_promises_3 8 rfl rfl)
theorem dX6_promises_81 : decode cX6_promises 81 = .ok (.iaload, 1) := dk_46 (dk_at dksX6_promises_3 9 rfl rfl)
theorem dX6_promises_82 : decode cX6_promises 82 = .ok (.iload_n 2, 1) := dk_28 (dk_at dksX6_promises_3 10 rfl rfl)
theorem dX6_promises_83 : decode cX6_promises 83 = .ok (.if_icmp .eq 9, 3) := dk_159 0 9 (dk_at dksX6_promises_3 11 rfl rfl)
theorem dX6_promises_86 : decode cX6_promises 86 = .ok (.aload_n 0, 1) := dk_42 (dk_at dksX6_promises_3 14 rfl rfl)
theorem dX6_promises_87 : decode cX6_promises 87 = .ok (.iconst 5, 1) := dk_8 (dk_at dksX6_promises_3 15 rfl rfl)
theorem dX6_promises_88 : decode cX6_promises 88 = .ok (.iload_n 1, 1) := dk_27 (dk_at dksX6_promises_3 16 rfl rfl)
theorem dX6_promises_89 : decode cX6_promises 89 = .ok (.invokevirtual 192, 3) := dk_182 0 192 (dk_at dksX6_promises_3 17 rfl rfl)
theorem dX6_promises_92 : decode cX6_promises 92 = .ok (.iconst 1, 1) := dk_4 (dk_at dksX6_promises_3 20 rfl rfl)
theorem dX6_promises_93 : decode cX6_promises 93 = .ok (.ireturn, 1) := dk_172 (dk_at dksX6_promises_3 21 rfl rfl)
abbrev cX6_place : ByteArray := prog_33_method_21_code
def dkwX6_place_3 : List UInt8 := [28, 172]
abbrev dktX6_place_3 : List UInt8 := dkwX6_place_3 ++ []
def dkwX6_place_2 : List UInt8 := [21, 4, 29, 162, 0, 12, 21, 5, 21, 4, 100, 61, 21, 4, 62, 3, 54, 4, 132, 5, 1, 167, 255, 200]
abbrev dktX6_place_2 : List UInt8 := dkwX6_place_2 ++ dktX6_place_3
def dkwX6_place_1 : List UInt8 := [162, 0, 18, 26, 21, 5, 122, 4, 126, 154, 0, 9, 132, 4, 1, 167, 0, 27, 21, 4, 27, 161, 0, 18]
abbrev dktX6_place_1 : List UInt8 := dkwX6_place_1 ++ dktX6_place_2
def dkwX6_place_0 : List UInt8 := [2, 61, 16, 17, 62, 3, 54, 4, 3, 54, 5, 21, 5, 16, 16, 163, 0, 55, 21, 5, 16, 16]
abbrev dktX6_place_0 : List UInt8 := dkwX6_place_0 ++ dktX6_place_1
theorem dksX6_place_0 : cX6_place.data.toList.drop 0 = dktX6_place_0 := by decide +kernel
theorem dksX6_place_1 : cX6_place.data.toList.drop 22 = dktX6_place_1 := dk_seg dksX6_place_0 22 rfl rfl
theorem dksX6_place_2 : cX6_place.data.toList.drop 46 = dktX6_place_2 := dk_seg dksX6_place_1 24 rfl rfl
theorem dksX6_place_3 : cX6_place.data.toList.drop 70 = dktX6_place_3 := dk_seg dksX6_place_2 24 rfl rfl
theorem dX6_place_0 : decode cX6_place 0 = .ok (.iconst (-1), 1) := dk_2 (dk_at dksX6_place_0 0 rfl rfl)
theorem dX6_place_1 : decode cX6_place 1 = .ok (.istore_n 2, 1) := dk_61 (dk_at dksX6_place_0 1 rfl rfl)
theorem dX6_place_2 : decode cX6_place 2 = .ok (.bipush 17, 2) := dk_16 17 (dk_at dksX6_place_0 2 rfl rfl)
theorem dX6_place_4 : decode cX6_place 4 = .ok (.istore_n 3, 1) := dk_62 (dk_at dksX6_place_0 4 rfl rfl)
theorem dX6_place_5 : decode cX6_place 5 = .ok (.iconst 0, 1) := dk_3 (dk_at dksX6_place_0 5 rfl rfl)
theorem dX6_place_6 : decode cX6_place 6 = .ok (.istore 4, 2) := dk_54 4 (dk_at dksX6_place_0 6 rfl rfl)
theorem dX6_place_8 : decode cX6_place 8 = .ok (.iconst 0, 1) := dk_3 (dk_at dksX6_place_0 8 rfl rfl)
theorem dX6_place_9 : decode cX6_place 9 = .ok (.istore 5, 2) := dk_54 5 (dk_at dksX6_place_0 9 rfl rfl)
theorem dX6_place_11 : decode cX6_place 11 = .ok (.iload 5, 2) := dk_21 5 (dk_at dksX6_place_0 11 rfl rfl)
theorem dX6_place_13 : decode cX6_place 13 = .ok (.bipush 16, 2) := dk_16 16 (dk_at dksX6_place_0 13 rfl rfl)
theorem dX6_place_15 : decode cX6_place 15 = .ok (.if_icmp .gt 55, 3) := dk_163 0 55 (dk_at dksX6_place_0 15 rfl rfl)
theorem dX6_place_18 : decode cX6_place 18 = .ok (.iload 5, 2) := dk_21 5 (dk_at dksX6_place_0 18 rfl rfl)
theorem dX6_place_20 : decode cX6_place 20 = .ok (.bipush 16, 2) := dk_16 16 (dk_at dksX6_place_0 20 rfl rfl)
theorem dX6_place_22 : decode cX6_place 22 = .ok (.if_icmp .ge 18, 3) := dk_162 0 18 (dk_at dksX6_place_1 0 rfl rfl)
theorem dX6_place_25 : decode cX6_place 25 = .ok (.iload_n 0, 1) := dk_26 (dk_at dksX6_place_1 3 rfl rfl)
theorem dX6_place_26 : decode cX6_place 26 = .ok (.iload 5, 2) := dk_21 5 (dk_at dksX6_place_1 4 rfl rfl)
theorem dX6_place_28 : decode cX6_place 28 = .ok (.ishr, 1) := dk_122 (dk_at dksX6_place_1 6 rfl rfl)
theorem dX6_place_29 : decode cX6_place 29 = .ok (.iconst 1, 1) := dk_4 (dk_at dksX6_place_1 7 rfl rfl)
theorem dX6_place_30 : decode cX6_place 30 = .ok (.iand, 1) := dk_126 (dk_at dksX6_place_1 8 rfl rfl)
theorem dX6_place_31 : decode cX6_place 31 = .ok (.ifCond .ne 9, 3) := dk_154 0 9 (dk_at dksX6_place_1 9 rfl rfl)
theorem dX6_place_34 : decode cX6_place 34 = .ok (.iinc 4 1, 3) := dk_132 4 1 (dk_at dksX6_place_1 12 rfl rfl)
theorem dX6_place_37 : decode cX6_place 37 = .ok (.goto 27, 3) := dk_167 0 27 (dk_at dksX6_place_1 15 rfl rfl)
theorem dX6_place_40 : decode cX6_place 40 = .ok (.iload 4, 2) := dk_21 4 (dk_at dksX6_place_1 18 rfl rfl)
theorem dX6_place_42 : decode cX6_place 42 = .ok (.iload_n 1, 1) := dk_27 (dk_at dksX6_place_1 20 rfl rfl)
theorem dX6_place_43 : decode cX6_place 43 = .ok (.if_icmp .lt 18, 3) := dk_161 0 18 (dk_at dksX6_place_1 21 rfl rfl)
theorem dX6_place_46 : decode cX6_place 46 = .ok (.iload 4, 2) := dk_21 4 (dk_at dksX6_place_2 0 rfl rfl)
theorem dX6_place_48 : decode cX6_place 48 = .ok (.iload_n 3, 1) := dk_29 (dk_at dksX6_place_2 2 rfl rfl)
theorem dX6_place_49 : decode cX6_place 49 = .ok (.if_icmp .ge 12, 3) := dk_162 0 12 (dk_at dksX6_place_2 3 rfl rfl)
theorem dX6_place_52 : decode cX6_place 52 = .ok (.iload 5, 2) := dk_21 5 (dk_at dksX6_place_2 6 rfl rfl)
theorem dX6_place_54 : decode cX6_place 54 = .ok (.iload 4, 2) := dk_21 4 (dk_at dksX6_place_2 8 rfl rfl)
theorem dX6_place_56 : decode cX6_place 56 = .ok (.isub, 1) := dk_100 (dk_at dksX6_place_2 10 rfl rfl)
theorem dX6_place_57 : decode cX6_place 57 = .ok (.istore_n 2, 1) := dk_61 (dk_at dksX6_place_2 11 rfl rfl)
theorem dX6_place_58 : decode cX6_place 58 = .ok (.iload 4, 2) := dk_21 4 (dk_at dksX6_place_2 12 rfl rfl)
theorem dX6_place_60 : decode cX6_place 60 = .ok (.istore_n 3, 1) := dk_62 (dk_at dksX6_place_2 14 rfl rfl)
theorem dX6_place_61 : decode cX6_place 61 = .ok (.iconst 0, 1) := dk_3 (dk_at dksX6_place_2 15 rfl rfl)
theorem dX6_place_62 : decode cX6_place 62 = .ok (.istore 4, 2) := dk_54 4 (dk_at dksX6_place_2 16 rfl rfl)
theorem dX6_place_64 : decode cX6_place 64 = .ok (.iinc 5 1, 3) := dk_132 5 1 (dk_at dksX6_place_2 18 rfl rfl)
theorem dX6_place_67 : decode cX6_place 67 = .ok (.goto (-56), 3) := dk_167 255 200 (dk_at dksX6_place_2 21 rfl rfl)
theorem dX6_place_70 : decode cX6_place 70 = .ok (.iload_n 2, 1) := dk_28 (dk_at dksX6_place_3 0 rfl rfl)
theorem dX6_place_71 : decode cX6_place 71 = .ok (.ireturn, 1) := dk_172 (dk_at dksX6_place_3 1 rfl rfl)
abbrev cX6_areMoved : ByteArray := prog_33_method_87_code
def dkwX6_areMoved_1 : List UInt8 := [181, 0, 52, 29, 172]
abbrev dktX6_areMoved_1 : List UInt8 := dkwX6_areMoved_1 ++ []
def dkwX6_areMoved_0 : List UInt8 := [42, 27, 181, 0, 49, 42, 28, 181, 0, 52, 42, 182, 1, 68, 62, 42, 2, 181, 0, 49, 42, 2]
abbrev dktX6_areMoved_0 : List UInt8 := dkwX6_areMoved_0 ++ dktX6_areMoved_1
theorem dksX6_areMoved_0 : cX6_areMoved.data.toList.drop 0 = dktX6_areMoved_0 := by decide +kernel
theorem dksX6_areMoved_1 : cX6_areMoved.data.toList.drop 22 = dktX6_areMoved_1 := dk_seg dksX6_areMoved_0 22 rfl rfl
theorem dX6_areMoved_0 : decode cX6_areMoved 0 = .ok (.aload_n 0, 1) := dk_42 (dk_at dksX6_areMoved_0 0 rfl rfl)
theorem dX6_areMoved_1 : decode cX6_areMoved 1 = .ok (.iload_n 1, 1) := dk_27 (dk_at dksX6_areMoved_0 1 rfl rfl)
theorem dX6_areMoved_2 : decode cX6_areMoved 2 = .ok (.putfield 49, 3) := dk_181 0 49 (dk_at dksX6_areMoved_0 2 rfl rfl)
theorem dX6_areMoved_5 : decode cX6_areMoved 5 = .ok (.aload_n 0, 1) := dk_42 (dk_at dksX6_areMoved_0 5 rfl rfl)
theorem dX6_areMoved_6 : decode cX6_areMoved 6 = .ok (.iload_n 2, 1) := dk_28 (dk_at dksX6_areMoved_0 6 rfl rfl)
theorem dX6_areMoved_7 : decode cX6_areMoved 7 = .ok (.putfield 52, 3) := dk_181 0 52 (dk_at dksX6_areMoved_0 7 rfl rfl)
theorem dX6_areMoved_10 : decode cX6_areMoved 10 = .ok (.aload_n 0, 1) := dk_42 (dk_at dksX6_areMoved_0 10 rfl rfl)
theorem dX6_areMoved_11 : decode cX6_areMoved 11 = .ok (.invokevirtual 324, 3) := dk_182 1 68 (dk_at dksX6_areMoved_0 11 rfl rfl)
theorem dX6_areMoved_14 : decode cX6_areMoved 14 = .ok (.istore_n 3, 1) := dk_62 (dk_at dksX6_areMoved_0 14 rfl rfl)
theorem dX6_areMoved_15 : decode cX6_areMoved 15 = .ok (.aload_n 0, 1) := dk_42 (dk_at dksX6_areMoved_0 15 rfl rfl)
theorem dX6_areMoved_16 : decode cX6_areMoved 16 = .ok (.iconst (-1), 1) := dk_2 (dk_at dksX6_areMoved_0 16 rfl rfl)
theorem dX6_areMoved_17 : decode cX6_areMoved 17 = .ok (.putfield 49, 3) := dk_181 0 49 (dk_at dksX6_areMoved_0 17 rfl rfl)
theorem dX6_areMoved_20 : decode cX6_areMoved 20 = .ok (.aload_n 0, 1) := dk_42 (dk_at dksX6_areMoved_0 20 rfl rfl)
theorem dX6_areMoved_21 : decode cX6_areMoved 21 = .ok (.iconst (-1), 1) := dk_2 (dk_at dksX6_areMoved_0 21 rfl rfl)
theorem dX6_areMoved_22 : decode cX6_areMoved 22 = .ok (.putfield 52, 3) := dk_181 0 52 (dk_at dksX6_areMoved_1 0 rfl rfl)
theorem dX6_areMoved_25 : decode cX6_areMoved 25 = .ok (.iload_n 3, 1) := dk_29 (dk_at dksX6_areMoved_1 3 rfl rfl)
theorem dX6_areMoved_26 : decode cX6_areMoved 26 = .ok (.ireturn, 1) := dk_172 (dk_at dksX6_areMoved_1 4 rfl rfl)
abbrev cX6_isHolding : ByteArray := prog_33_method_88_code
def dkwX6_isHolding_1 : List UInt8 := [153, 0, 7, 4, 167, 0, 4, 3, 172]
abbrev dktX6_isHolding_1 : List UInt8 := dkwX6_isHolding_1 ++ []
def dkwX6_isHolding_0 : List UInt8 := [27, 7, 108, 61, 27, 7, 112, 42, 28, 7, 182, 0, 83, 162, 0, 18, 42, 28, 27, 7, 112, 182, 0, 98]
abbrev dktX6_isHolding_0 : List UInt8 := dkwX6_isHolding_0 ++ dktX6_isHolding_1
theorem dksX6_isHolding_0 : cX6_isHolding.data.toList.drop 0 = dktX6_isHolding_0 := by decide +kernel
theorem dksX6_isHolding_1 : cX6_isHolding.data.toList.drop 24 = dktX6_isHolding_1 := dk_seg dksX6_isHolding_0 24 rfl rfl
theorem dX6_isHolding_0 : decode cX6_isHolding 0 = .ok (.iload_n 1, 1) := dk_27 (dk_at dksX6_isHolding_0 0 rfl rfl)
theorem dX6_isHolding_1 : decode cX6_isHolding 1 = .ok (.iconst 4, 1) := dk_7 (dk_at dksX6_isHolding_0 1 rfl rfl)
theorem dX6_isHolding_2 : decode cX6_isHolding 2 = .ok (.idiv, 1) := dk_108 (dk_at dksX6_isHolding_0 2 rfl rfl)
theorem dX6_isHolding_3 : decode cX6_isHolding 3 = .ok (.istore_n 2, 1) := dk_61 (dk_at dksX6_isHolding_0 3 rfl rfl)
theorem dX6_isHolding_4 : decode cX6_isHolding 4 = .ok (.iload_n 1, 1) := dk_27 (dk_at dksX6_isHolding_0 4 rfl rfl)
theorem dX6_isHolding_5 : decode cX6_isHolding 5 = .ok (.iconst 4, 1) := dk_7 (dk_at dksX6_isHolding_0 5 rfl rfl)
theorem dX6_isHolding_6 : decode cX6_isHolding 6 = .ok (.irem, 1) := dk_112 (dk_at dksX6_isHolding_0 6 rfl rfl)
theorem dX6_isHolding_7 : decode cX6_isHolding 7 = .ok (.aload_n 0, 1) := dk_42 (dk_at dksX6_isHolding_0 7 rfl rfl)
theorem dX6_isHolding_8 : decode cX6_isHolding 8 = .ok (.iload_n 2, 1) := dk_28 (dk_at dksX6_isHolding_0 8 rfl rfl)
theorem dX6_isHolding_9 : decode cX6_isHolding 9 = .ok (.iconst 4, 1) := dk_7 (dk_at dksX6_isHolding_0 9 rfl rfl)
theorem dX6_isHolding_10 : decode cX6_isHolding 10 = .ok (.invokevirtual 83, 3) := dk_182 0 83 (dk_at dksX6_isHolding_0 10 rfl rfl)
theorem dX6_isHolding_13 : decode cX6_isHolding 13 = .ok (.if_icmp .ge 18, 3) := dk_162 0 18 (dk_at dksX6_isHolding_0 13 rfl rfl)
theorem dX6_isHolding_16 : decode cX6_isHolding 16 = .ok (.aload_n 0, 1) := dk_42 (dk_at dksX6_isHolding_0 16 rfl rfl)
theorem dX6_isHolding_17 : decode cX6_isHolding 17 = .ok (.iload_n 2, 1) := dk_28 (dk_at dksX6_isHolding_0 17 rfl rfl)
theorem dX6_isHolding_18 : decode cX6_isHolding 18 = .ok (.iload_n 1, 1) := dk_27 (dk_at dksX6_isHolding_0 18 rfl rfl)
theorem dX6_isHolding_19 : decode cX6_isHolding 19 = .ok (.iconst 4, 1) := dk_7 (dk_at dksX6_isHolding_0 19 rfl rfl)
theorem dX6_isHolding_20 : decode cX6_isHolding 20 = .ok (.irem, 1) := dk_112 (dk_at dksX6_isHolding_0 20 rfl rfl)
theorem dX6_isHolding_21 : decode cX6_isHolding 21 = .ok (.invokevirtual 98, 3) := dk_182 0 98 (dk_at dksX6_isHolding_0 21 rfl rfl)
theorem dX6_isHolding_24 : decode cX6_isHolding 24 = .ok (.ifCond .eq 7, 3) := dk_153 0 7 (dk_at dksX6_isHolding_1 0 rfl rfl)
theorem dX6_isHolding_27 : decode cX6_isHolding 27 = .ok (.iconst 1, 1) := dk_4 (dk_at dksX6_isHolding_1 3 rfl rfl)
theorem dX6_isHolding_28 : decode cX6_isHolding 28 = .ok (.goto 4, 3) := dk_167 0 4 (dk_at dksX6_isHolding_1 4 rfl rfl)
theorem dX6_isHolding_31 : decode cX6_isHolding 31 = .ok (.iconst 0, 1) := dk_3 (dk_at dksX6_isHolding_1 7 rfl rfl)
theorem dX6_isHolding_32 : decode cX6_isHolding 32 = .ok (.ireturn, 1) := dk_172 (dk_at dksX6_isHolding_1 8 rfl rfl)
abbrev cX6_sooner : ByteArray := prog_33_method_25_code
def dkwX6_sooner_0 : List UInt8 := [26, 27, 164, 0, 16, 28, 155, 0, 8, 26, 28, 162, 0, 7, 26, 167, 0, 4, 28, 172]
abbrev dktX6_sooner_0 : List UInt8 := dkwX6_sooner_0 ++ []
theorem dksX6_sooner_0 : cX6_sooner.data.toList.drop 0 = dktX6_sooner_0 := by decide +kernel
theorem dX6_sooner_0 : decode cX6_sooner 0 = .ok (.iload_n 0, 1) := dk_26 (dk_at dksX6_sooner_0 0 rfl rfl)
theorem dX6_sooner_1 : decode cX6_sooner 1 = .ok (.iload_n 1, 1) := dk_27 (dk_at dksX6_sooner_0 1 rfl rfl)
theorem dX6_sooner_2 : decode cX6_sooner 2 = .ok (.if_icmp .le 16, 3) := dk_164 0 16 (dk_at dksX6_sooner_0 2 rfl rfl)
theorem dX6_sooner_5 : decode cX6_sooner 5 = .ok (.iload_n 2, 1) := dk_28 (dk_at dksX6_sooner_0 5 rfl rfl)
theorem dX6_sooner_6 : decode cX6_sooner 6 = .ok (.ifCond .lt 8, 3) := dk_155 0 8 (dk_at dksX6_sooner_0 6 rfl rfl)
theorem dX6_sooner_9 : decode cX6_sooner 9 = .ok (.iload_n 0, 1) := dk_26 (dk_at dksX6_sooner_0 9 rfl rfl)
theorem dX6_sooner_10 : decode cX6_sooner 10 = .ok (.iload_n 2, 1) := dk_28 (dk_at dksX6_sooner_0 10 rfl rfl)
theorem dX6_sooner_11 : decode cX6_sooner 11 = .ok (.if_icmp .ge 7, 3) := dk_162 0 7 (dk_at dksX6_sooner_0 11 rfl rfl)
theorem dX6_sooner_14 : decode cX6_sooner 14 = .ok (.iload_n 0, 1) := dk_26 (dk_at dksX6_sooner_0 14 rfl rfl)
theorem dX6_sooner_15 : decode cX6_sooner 15 = .ok (.goto 4, 3) := dk_167 0 4 (dk_at dksX6_sooner_0 15 rfl rfl)
theorem dX6_sooner_18 : decode cX6_sooner 18 = .ok (.iload_n 2, 1) := dk_28 (dk_at dksX6_sooner_0 18 rfl rfl)
theorem dX6_sooner_19 : decode cX6_sooner 19 = .ok (.ireturn, 1) := dk_172 (dk_at dksX6_sooner_0 19 rfl rfl)
abbrev cX6_change : ByteArray := prog_33_method_26_code
def dkwX6_change_8 : List UInt8 := [100, 4, 96, 27, 28, 184, 0, 135, 61, 132, 4, 1, 167, 255, 222, 132, 3, 1, 167, 255, 187, 28, 172]
abbrev dktX6_change_8 : List UInt8 := dkwX6_change_8 ++ []
def dkwX6_change_7 : List UInt8 := [54, 4, 21, 4, 42, 180, 0, 122, 162, 0, 31, 42, 29, 6, 182, 0, 95, 42, 180, 0, 36, 21, 4, 46]
abbrev dktX6_change_7 : List UInt8 := dkwX6_change_7 ++ dktX6_change_8
def dkwX6_change_6 : List UInt8 := [162, 0, 69, 42, 29, 182, 0, 111, 153, 0, 55, 42, 29, 7, 182, 0, 95, 27, 28, 184, 0, 135, 61, 3]
abbrev dktX6_change_6 : List UInt8 := dkwX6_change_6 ++ dktX6_change_7
def dkwX6_change_5 : List UInt8 := [27, 28, 184, 0, 135, 61, 132, 5, 1, 167, 255, 221, 132, 3, 1, 167, 255, 126, 3, 62, 29, 16, 12]
abbrev dktX6_change_5 : List UInt8 := dkwX6_change_5 ++ dktX6_change_6
def dkwX6_change_4 : List UInt8 := [42, 180, 0, 122, 162, 0, 32, 21, 4, 155, 0, 27, 21, 4, 42, 180, 0, 36, 21, 5, 46, 100, 4, 96]
abbrev dktX6_change_4 : List UInt8 := dkwX6_change_4 ++ dktX6_change_5
def dkwX6_change_3 : List UInt8 := [21, 5, 96, 182, 0, 83, 96, 27, 28, 184, 0, 135, 61, 132, 5, 1, 167, 255, 195, 3, 54, 5, 21, 5]
abbrev dktX6_change_3 : List UInt8 := dkwX6_change_3 ++ dktX6_change_4
def dkwX6_change_2 : List UInt8 := [29, 21, 5, 182, 0, 102, 27, 28, 184, 0, 135, 61, 21, 4, 155, 0, 22, 21, 4, 42, 29, 16, 16]
abbrev dktX6_change_2 : List UInt8 := dkwX6_change_2 ++ dktX6_change_3
def dkwX6_change_1 : List UInt8 := [54, 5, 21, 5, 42, 29, 7, 182, 0, 83, 162, 0, 56, 42, 29, 21, 5, 182, 0, 98, 153, 0, 16, 42]
abbrev dktX6_change_1 : List UInt8 := dkwX6_change_1 ++ dktX6_change_2
def dkwX6_change_0 : List UInt8 := [2, 61, 3, 62, 29, 42, 180, 0, 9, 4, 46, 162, 0, 126, 42, 29, 16, 9, 182, 0, 83, 54, 4, 3]
abbrev dktX6_change_0 : List UInt8 := dkwX6_change_0 ++ dktX6_change_1
theorem dksX6_change_0 : cX6_change.data.toList.drop 0 = dktX6_change_0 := by decide +kernel
theorem dksX6_change_1 : cX6_change.data.toList.drop 24 = dktX6_change_1 := dk_seg dksX6_change_0 24 rfl rfl
theorem dksX6_change_2 : cX6_change.data.toList.drop 48 = dktX6_change_2 := dk_seg dksX6_change_1 24 rfl rfl
theorem dksX6_change_3 : cX6_change.data.toList.drop 71 = dktX6_change_3 := dk_seg dksX6_change_2 23 rfl rfl
theorem dksX6_change_4 : cX6_change.data.toList.drop 95 = dktX6_change_4 := dk_seg dksX6_change_3 24 rfl rfl
theorem dksX6_change_5 : cX6_change.data.toList.drop 119 = dktX6_change_5 := dk_seg dksX6_change_4 24 rfl rfl
theorem dksX6_change_6 : cX6_change.data.toList.drop 142 = dktX6_change_6 := dk_seg dksX6_change_5 23 rfl rfl
theorem dksX6_change_7 : cX6_change.data.toList.drop 166 = dktX6_change_7 := dk_seg dksX6_change_6 24 rfl rfl
theorem dksX6_change_8 : cX6_change.data.toList.drop 190 = dktX6_change_8 := dk_seg dksX6_change_7 24 rfl rfl
theorem dX6_change_0 : decode cX6_change 0 = .ok (.iconst (-1), 1) := dk_2 (dk_at dksX6_change_0 0 rfl rfl)
theorem dX6_change_1 : decode cX6_change 1 = .ok (.istore_n 2, 1) := dk_61 (dk_at dksX6_change_0 1 rfl rfl)
theorem dX6_change_2 : decode cX6_change 2 = .ok (.iconst 0, 1) := dk_3 (dk_at dksX6_change_0 2 rfl rfl)
theorem dX6_change_3 : decode cX6_change 3 = .ok (.istore_n 3, 1) := dk_62 (dk_at dksX6_change_0 3 rfl rfl)
theorem dX6_change_4 : decode cX6_change 4 = .ok (.iload_n 3, 1) := dk_29 (dk_at dksX6_change_0 4 rfl rfl)
theorem dX6_change_5 : decode cX6_change 5 = .ok (.aload_n 0, 1) := dk_42 (dk_at dksX6_change_0 5 rfl rfl)
theorem dX6_change_6 : decode cX6_change 6 = .ok (.getfield 9, 3) := dk_180 0 9 (dk_at dksX6_change_0 6 rfl rfl)
theorem dX6_change_9 : decode cX6_change 9 = .ok (.iconst 1, 1) := dk_4 (dk_at dksX6_change_0 9 rfl rfl)
theorem dX6_change_10 : decode cX6_change 10 = .ok (.iaload, 1) := dk_46 (dk_at dksX6_change_0 10 rfl rfl)
theorem dX6_change_11 : decode cX6_change 11 = .ok (.if_icmp .ge 126, 3) := dk_162 0 126 (dk_at dksX6_change_0 11 rfl rfl)
theorem dX6_change_14 : decode cX6_change 14 = .ok (.aload_n 0, 1) := dk_42 (dk_at dksX6_change_0 14 rfl rfl)
theorem dX6_change_15 : decode cX6_change 15 = .ok (.iload_n 3, 1) := dk_29 (dk_at dksX6_change_0 15 rfl rfl)
theorem dX6_change_16 : decode cX6_change 16 = .ok (.bipush 9, 2) := dk_16 9 (dk_at dksX6_change_0 16 rfl rfl)
theorem dX6_change_18 : decode cX6_change 18 = .ok (.invokevirtual 83, 3) := dk_182 0 83 (dk_at dksX6_change_0 18 rfl rfl)
theorem dX6_change_21 : decode cX6_change 21 = .ok (.istore 4, 2) := dk_54 4 (dk_at dksX6_change_0 21 rfl rfl)
theorem dX6_change_23 : decode cX6_change 23 = .ok (.iconst 0, 1) := dk_3 (dk_at dksX6_change_0 23 rfl rfl)
theorem dX6_change_24 : decode cX6_change 24 = .ok (.istore 5, 2) := dk_54 5 (dk_at dksX6_change_1 0 rfl rfl)
theorem dX6_change_26 : decode cX6_change 26 = .ok (.iload 5, 2) := dk_21 5 (dk_at dksX6_change_1 2 rfl rfl)
theorem dX6_change_28 : decode cX6_change 28 = .ok (.aload_n 0, 1) := dk_42 (dk_at dksX6_change_1 4 rfl rfl)
theorem dX6_change_29 : decode cX6_change 29 = .ok (.iload_n 3, 1) := dk_29 (dk_at dksX6_change_1 5 rfl rfl)
theorem dX6_change_30 : decode cX6_change 30 = .ok (.iconst 4, 1) := dk_7 (dk_at dksX6_change_1 6 rfl rfl)
theorem dX6_change_31 : decode cX6_change 31 = .ok (.invokevirtual 83, 3) := dk_182 0 83 (dk_at dksX6_change_1 7 rfl rfl)
theorem dX6_change_34 : decode cX6_change 34 = .ok (.if_icmp .ge 56, 3) := dk_162 0 56 (dk_at dksX6_change_1 10 rfl rfl)
theorem dX6_change_37 : decode cX6_change 37 = .ok (.aload_n 0, 1) := dk_42 (dk_at dksX6_change_1 13 rfl rfl)
theorem dX6_change_38 : decode cX6_change 38 = .ok (.iload_n 3, 1) := dk_29 (dk_at dksX6_change_1 14 rfl rfl)
theorem dX6_change_39 : decode cX6_change 39 = .ok (.iload 5, 2) := dk_21 5 (dk_at dksX6_change_1 15 rfl rfl)
theorem dX6_change_41 : decode cX6_change 41 = .ok (.invokevirtual 98, 3) := dk_182 0 98 (dk_at dksX6_change_1 17 rfl rfl)
theorem dX6_change_44 : decode cX6_change 44 = .ok (.ifCond .eq 16, 3) := dk_153 0 16 (dk_at dksX6_change_1 20 rfl rfl)
theorem dX6_change_47 : decode cX6_change 47 = .ok (.aload_n 0, 1) := dk_42 (dk_at dksX6_change_1 23 rfl rfl)
theorem dX6_change_48 : decode cX6_change 48 = .ok (.iload_n 3, 1) := dk_29 (dk_at dksX6_change_2 0 rfl rfl)
theorem dX6_change_49 : decode cX6_change 49 = .ok (.iload 5, 2) := dk_21 5 (dk_at dksX6_change_2 1 rfl rfl)
theorem dX6_change_51 : decode cX6_change 51 = .ok (.invokevirtual 102, 3) := dk_182 0 102 (dk_at dksX6_change_2 3 rfl rfl)
theorem dX6_change_54 : decode cX6_change 54 = .ok (.iload_n 1, 1) := dk_27 (dk_at dksX6_change_2 6 rfl rfl)
theorem dX6_change_55 : decode cX6_change 55 = .ok (.iload_n 2, 1) := dk_28 (dk_at dksX6_change_2 7 rfl rfl)
theorem dX6_change_56 : decode cX6_change 56 = .ok (.invokestatic 135, 3) := dk_184 0 135 (dk_at dksX6_change_2 8 rfl rfl)
theorem dX6_change_59 : decode cX6_change 59 = .ok (.istore_n 2, 1) := dk_61 (dk_at dksX6_change_2 11 rfl rfl)
theorem dX6_change_60 : decode cX6_change 60 = .ok (.iload 4, 2) := dk_21 4 (dk_at dksX6_change_2 12 rfl rfl)
theorem dX6_change_62 : decode cX6_change 62 = .ok (.ifCond .lt 22, 3) := dk_155 0 22 (dk_at dksX6_change_2 14 rfl rfl)
theorem dX6_change_65 : decode cX6_change 65 = .ok (.iload 4, 2) := dk_21 4 (dk_at dksX6_change_2 17 rfl rfl)
theorem dX6_change_67 : decode cX6_change 67 = .ok (.aload_n 0, 1) := dk_42 (dk_at dksX6_change_2 19 rfl rfl)
theorem dX6_change_68 : decode cX6_change 68 = .ok (.iload_n 3, 1) := dk_29 (dk_at dksX6_change_2 20 rfl rfl)
theorem dX6_change_69 : decode cX6_change 69 = .ok (.bipush 16, 2) := dk_16 16 (dk_at dksX6_change_2 21 rfl rfl)
theorem dX6_change_71 : decode cX6_change 71 = .ok (.iload 5, 2) := dk_21 5 (dk_at dksX6_change_3 0 rfl rfl)
theorem dX6_change_73 : decode cX6_change 73 = .ok (.iadd, 1) := dk_96 (dk_at dksX6_change_3 2 rfl rfl)
theorem dX6_change_74 : decode cX6_change 74 = .ok (.invokevirtual 83, 3) := dk_182 0 83 (dk_at dksX6_change_3 3 rfl rfl)
theorem dX6_change_77 : decode cX6_change 77 = .ok (.iadd, 1) := dk_96 (dk_at dksX6_change_3 6 rfl rfl)
theorem dX6_change_78 : decode cX6_change 78 = .ok (.iload_n 1, 1) := dk_27 (dk_at dksX6_change_3 7 rfl rfl)
theorem dX6_change_79 : decode cX6_change 79 = .ok (.iload_n 2, 1) := dk_28 (dk_at dksX6_change_3 8 rfl rfl)
theorem dX6_change_80 : decode cX6_change 80 = .ok (.invokestatic 135, 3) := dk_184 0 135 (dk_at dksX6_change_3 9 rfl rfl)
theorem dX6_change_83 : decode cX6_change 83 = .ok (.istore_n 2, 1) := dk_61 (dk_at dksX6_change_3 12 rfl rfl)
theorem dX6_change_84 : decode cX6_change 84 = .ok (.iinc 5 1, 3) := dk_132 5 1 (dk_at dksX6_change_3 13 rfl rfl)
theorem dX6_change_87 : decode cX6_change 87 = .ok (.goto (-61), 3) := dk_167 255 195 (dk_at dksX6_change_3 16 rfl rfl)
theorem dX6_change_90 : decode cX6_change 90 = .ok (.iconst 0, 1) := dk_3 (dk_at dksX6_change_3 19 rfl rfl)
theorem dX6_change_91 : decode cX6_change 91 = .ok (.istore 5, 2) := dk_54 5 (dk_at dksX6_change_3 20 rfl rfl)
theorem dX6_change_93 : decode cX6_change 93 = .ok (.iload 5, 2) := dk_21 5 (dk_at dksX6_change_3 22 rfl rfl)
theorem dX6_change_95 : decode cX6_change 95 = .ok (.aload_n 0, 1) := dk_42 (dk_at dksX6_change_4 0 rfl rfl)
theorem dX6_change_96 : decode cX6_change 96 = .ok (.getfield 122, 3) := dk_180 0 122 (dk_at dksX6_change_4 1 rfl rfl)
theorem dX6_change_99 : decode cX6_change 99 = .ok (.if_icmp .ge 32, 3) := dk_162 0 32 (dk_at dksX6_change_4 4 rfl rfl)
theorem dX6_change_102 : decode cX6_change 102 = .ok (.iload 4, 2) := dk_21 4 (dk_at dksX6_change_4 7 rfl rfl)
theorem dX6_change_104 : decode cX6_change 104 = .ok (.ifCond .lt 27, 3) := dk_155 0 27 (dk_at dksX6_change_4 9 rfl rfl)
theorem dX6_change_107 : decode cX6_change 107 = .ok (.iload 4, 2) := dk_21 4 (dk_at dksX6_change_4 12 rfl rfl)
theorem dX6_change_109 : decode cX6_change 109 = .ok (.aload_n 0, 1) := dk_42 (dk_at dksX6_change_4 14 rfl rfl)
theorem dX6_change_110 : decode cX6_change 110 = .ok (.getfield 36, 3) := dk_180 0 36 (dk_at dksX6_change_4 15 rfl rfl)
theorem dX6_change_113 : decode cX6_change 113 = .ok (.iload 5, 2) := dk_21 5 (dk_at dksX6_change_4 18 rfl rfl)
theorem dX6_change_115 : decode cX6_change 115 = .ok (.iaload, 1) := dk_46 (dk_at dksX6_change_4 20 rfl rfl)
theorem dX6_change_116 : decode cX6_change 116 = .ok (.isub, 1) := dk_100 (dk_at dksX6_change_4 21 rfl rfl)
theorem dX6_change_117 : decode cX6_change 117 = .ok (.iconst 1, 1) := dk_4 (dk_at dksX6_change_4 22 rfl rfl)
theorem dX6_change_118 : decode cX6_change 118 = .ok (.iadd, 1) := dk_96 (dk_at dksX6_change_4 23 rfl rfl)
theorem dX6_change_119 : decode cX6_change 119 = .ok (.iload_n 1, 1) := dk_27 (dk_at dksX6_change_5 0 rfl rfl)
theorem dX6_change_120 : decode cX6_change 120 = .ok (.iload_n 2, 1) := dk_28 (dk_at dksX6_change_5 1 rfl rfl)
theorem dX6_change_121 : decode cX6_change 121 = .ok (.invokestatic 135, 3) := dk_184 0 135 (dk_at dksX6_change_5 2 rfl rfl)
theorem dX6_change_124 : decode cX6_change 124 = .ok (.istore_n 2, 1) := dk_61 (dk_at dksX6_change_5 5 rfl rfl)
theorem dX6_change_125 : decode cX6_change 125 = .ok (.iinc 5 1, 3) := dk_132 5 1 (dk_at dksX6_change_5 6 rfl rfl)
theorem dX6_change_128 : decode cX6_change 128 = .ok (.goto (-35), 3) := dk_167 255 221 (dk_at dksX6_change_5 9 rfl rfl)
theorem dX6_change_131 : decode cX6_change 131 = .ok (.iinc 3 1, 3) := dk_132 3 1 (dk_at dksX6_change_5 12 rfl rfl)
theorem dX6_change_134 : decode cX6_change 134 = .ok (.goto (-130), 3) := dk_167 255 126 (dk_at dksX6_change_5 15 rfl rfl)
theorem dX6_change_137 : decode cX6_change 137 = .ok (.iconst 0, 1) := dk_3 (dk_at dksX6_change_5 18 rfl rfl)
theorem dX6_change_138 : decode cX6_change 138 = .ok (.istore_n 3, 1) := dk_62 (dk_at dksX6_change_5 19 rfl rfl)
theorem dX6_change_139 : decode cX6_change 139 = .ok (.iload_n 3, 1) := dk_29 (dk_at dksX6_change_5 20 rfl rfl)
theorem dX6_change_140 : decode cX6_change 140 = .ok (.bipush 12, 2) := dk_16 12 (dk_at dksX6_change_5 21 rfl rfl)
theorem dX6_change_142 : decode cX6_change 142 = .ok (.if_icmp .ge 69, 3) := dk_162 0 69 (dk_at dksX6_change_6 0 rfl rfl)
theorem dX6_change_145 : decode cX6_change 145 = .ok (.aload_n 0, 1) := dk_42 (dk_at dksX6_change_6 3 rfl rfl)
theorem dX6_change_146 : decode cX6_change 146 = .ok (.iload_n 3, 1) := dk_29 (dk_at dksX6_change_6 4 rfl rfl)
theorem dX6_change_147 : decode cX6_change 147 = .ok (.invokevirtual 111, 3) := dk_182 0 111 (dk_at dksX6_change_6 5 rfl rfl)
theorem dX6_change_150 : decode cX6_change 150 = .ok (.ifCond .eq 55, 3) := dk_153 0 55 (dk_at dksX6_change_6 8 rfl rfl)
theorem dX6_change_153 : decode cX6_change 153 = .ok (.aload_n 0, 1) := dk_42 (dk_at dksX6_change_6 11 rfl rfl)
theorem dX6_change_154 : decode cX6_change 154 = .ok (.iload_n 3, 1) := dk_29 (dk_at dksX6_change_6 12 rfl rfl)
theorem dX6_change_155 : decode cX6_change 155 = .ok (.iconst 4, 1) := dk_7 (dk_at dksX6_change_6 13 rfl rfl)
theorem dX6_change_156 : decode cX6_change 156 = .ok (.invokevirtual 95, 3) := dk_182 0 95 (dk_at dksX6_change_6 14 rfl rfl)
theorem dX6_change_159 : decode cX6_change 159 = .ok (.iload_n 1, 1) := dk_27 (dk_at dksX6_change_6 17 rfl rfl)
theorem dX6_change_160 : decode cX6_change 160 = .ok (.iload_n 2, 1) := dk_28 (dk_at dksX6_change_6 18 rfl rfl)
theorem dX6_change_161 : decode cX6_change 161 = .ok (.invokestatic 135, 3) := dk_184 0 135 (dk_at dksX6_change_6 19 rfl rfl)
theorem dX6_change_164 : decode cX6_change 164 = .ok (.istore_n 2, 1) := dk_61 (dk_at dksX6_change_6 22 rfl rfl)
theorem dX6_change_165 : decode cX6_change 165 = .ok (.iconst 0, 1) := dk_3 (dk_at dksX6_change_6 23 rfl rfl)
theorem dX6_change_166 : decode cX6_change 166 = .ok (.istore 4, 2) := dk_54 4 (dk_at dksX6_change_7 0 rfl rfl)
theorem dX6_change_168 : decode cX6_change 168 = .ok (.iload 4, 2) := dk_21 4 (dk_at dksX6_change_7 2 rfl rfl)
theorem dX6_change_170 : decode cX6_change 170 = .ok (.aload_n 0, 1) := dk_42 (dk_at dksX6_change_7 4 rfl rfl)
theorem dX6_change_171 : decode cX6_change 171 = .ok (.getfield 122, 3) := dk_180 0 122 (dk_at dksX6_change_7 5 rfl rfl)
theorem dX6_change_174 : decode cX6_change 174 = .ok (.if_icmp .ge 31, 3) := dk_162 0 31 (dk_at dksX6_change_7 8 rfl rfl)
theorem dX6_change_177 : decode cX6_change 177 = .ok (.aload_n 0, 1) := dk_42 (dk_at dksX6_change_7 11 rfl rfl)
theorem dX6_change_178 : decode cX6_change 178 = .ok (.iload_n 3, 1) := dk_29 (dk_at dksX6_change_7 12 rfl rfl)
theorem dX6_change_179 : decode cX6_change 179 = .ok (.iconst 3, 1) := dk_6 (dk_at dksX6_change_7 13 rfl rfl)
theorem dX6_change_180 : decode cX6_change 180 = .ok (.invokevirtual 95, 3) := dk_182 0 95 (dk_at dksX6_change_7 14 rfl rfl)
theorem dX6_change_183 : decode cX6_change 183 = .ok (.aload_n 0, 1) := dk_42 (dk_at dksX6_change_7 17 rfl rfl)
theorem dX6_change_184 : decode cX6_change 184 = .ok (.getfield 36, 3) := dk_180 0 36 (dk_at dksX6_change_7 18 rfl rfl)
theorem dX6_change_187 : decode cX6_change 187 = .ok (.iload 4, 2) := dk_21 4 (dk_at dksX6_change_7 21 rfl rfl)
theorem dX6_change_189 : decode cX6_change 189 = .ok (.iaload, 1) := dk_46 (dk_at dksX6_change_7 23 rfl rfl)
theorem dX6_change_190 : decode cX6_change 190 = .ok (.isub, 1) := dk_100 (dk_at dksX6_change_8 0 rfl rfl)
theorem dX6_change_191 : decode cX6_change 191 = .ok (.iconst 1, 1) := dk_4 (dk_at dksX6_change_8 1 rfl rfl)
theorem dX6_change_192 : decode cX6_change 192 = .ok (.iadd, 1) := dk_96 (dk_at dksX6_change_8 2 rfl rfl)
theorem dX6_change_193 : decode cX6_change 193 = .ok (.iload_n 1, 1) := dk_27 (dk_at dksX6_change_8 3 rfl rfl)
theorem dX6_change_194 : decode cX6_change 194 = .ok (.iload_n 2, 1) := dk_28 (dk_at dksX6_change_8 4 rfl rfl)
theorem dX6_change_195 : decode cX6_change 195 = .ok (.invokestatic 135, 3) := dk_184 0 135 (dk_at dksX6_change_8 5 rfl rfl)
theorem dX6_change_198 : decode cX6_change 198 = .ok (.istore_n 2, 1) := dk_61 (dk_at dksX6_change_8 8 rfl rfl)
theorem dX6_change_199 : decode cX6_change 199 = .ok (.iinc 4 1, 3) := dk_132 4 1 (dk_at dksX6_change_8 9 rfl rfl)
theorem dX6_change_202 : decode cX6_change 202 = .ok (.goto (-34), 3) := dk_167 255 222 (dk_at dksX6_change_8 12 rfl rfl)
theorem dX6_change_205 : decode cX6_change 205 = .ok (.iinc 3 1, 3) := dk_132 3 1 (dk_at dksX6_change_8 15 rfl rfl)
theorem dX6_change_208 : decode cX6_change 208 = .ok (.goto (-69), 3) := dk_167 255 187 (dk_at dksX6_change_8 18 rfl rfl)
theorem dX6_change_211 : decode cX6_change 211 = .ok (.iload_n 2, 1) := dk_28 (dk_at dksX6_change_8 21 rfl rfl)
theorem dX6_change_212 : decode cX6_change 212 = .ok (.ireturn, 1) := dk_172 (dk_at dksX6_change_8 22 rfl rfl)
abbrev cX6_isFigure : ByteArray := prog_33_method_36_code
def dkwX6_isFigure_1 : List UInt8 := [20, 0, 176, 184, 0, 79, 153, 0, 7, 4, 167, 0, 4, 3, 172]
abbrev dktX6_isFigure_1 : List UInt8 := dkwX6_isFigure_1 ++ []
def dkwX6_isFigure_0 : List UInt8 := [42, 180, 0, 171, 42, 180, 0, 168, 162, 0, 29, 42, 180, 0, 29, 42, 180, 0, 171, 51, 133, 20, 0, 174]
abbrev dktX6_isFigure_0 : List UInt8 := dkwX6_isFigure_0 ++ dktX6_isFigure_1
theorem dksX6_isFigure_0 : cX6_isFigure.data.toList.drop 0 = dktX6_isFigure_0 := by decide +kernel
theorem dksX6_isFigure_1 : cX6_isFigure.data.toList.drop 24 = dktX6_isFigure_1 := dk_seg dksX6_isFigure_0 24 rfl rfl
theorem dX6_isFigure_0 : decode cX6_isFigure 0 = .ok (.aload_n 0, 1) := dk_42 (dk_at dksX6_isFigure_0 0 rfl rfl)
theorem dX6_isFigure_1 : decode cX6_isFigure 1 = .ok (.getfield 171, 3) := dk_180 0 171 (dk_at dksX6_isFigure_0 1 rfl rfl)
theorem dX6_isFigure_4 : decode cX6_isFigure 4 = .ok (.aload_n 0, 1) := dk_42 (dk_at dksX6_isFigure_0 4 rfl rfl)
theorem dX6_isFigure_5 : decode cX6_isFigure 5 = .ok (.getfield 168, 3) := dk_180 0 168 (dk_at dksX6_isFigure_0 5 rfl rfl)
theorem dX6_isFigure_8 : decode cX6_isFigure 8 = .ok (.if_icmp .ge 29, 3) := dk_162 0 29 (dk_at dksX6_isFigure_0 8 rfl rfl)
theorem dX6_isFigure_11 : decode cX6_isFigure 11 = .ok (.aload_n 0, 1) := dk_42 (dk_at dksX6_isFigure_0 11 rfl rfl)
theorem dX6_isFigure_12 : decode cX6_isFigure 12 = .ok (.getfield 29, 3) := dk_180 0 29 (dk_at dksX6_isFigure_0 12 rfl rfl)
theorem dX6_isFigure_15 : decode cX6_isFigure 15 = .ok (.aload_n 0, 1) := dk_42 (dk_at dksX6_isFigure_0 15 rfl rfl)
theorem dX6_isFigure_16 : decode cX6_isFigure 16 = .ok (.getfield 171, 3) := dk_180 0 171 (dk_at dksX6_isFigure_0 16 rfl rfl)
theorem dX6_isFigure_19 : decode cX6_isFigure 19 = .ok (.baload, 1) := dk_51 (dk_at dksX6_isFigure_0 19 rfl rfl)
theorem dX6_isFigure_20 : decode cX6_isFigure 20 = .ok (.i2l, 1) := dk_133 (dk_at dksX6_isFigure_0 20 rfl rfl)
theorem dX6_isFigure_21 : decode cX6_isFigure 21 = .ok (.ldc2_w 174, 3) := dk_20 0 174 (dk_at dksX6_isFigure_0 21 rfl rfl)
theorem dX6_isFigure_24 : decode cX6_isFigure 24 = .ok (.ldc2_w 176, 3) := dk_20 0 176 (dk_at dksX6_isFigure_1 0 rfl rfl)
theorem dX6_isFigure_27 : decode cX6_isFigure 27 = .ok (.invokestatic 79, 3) := dk_184 0 79 (dk_at dksX6_isFigure_1 3 rfl rfl)
theorem dX6_isFigure_30 : decode cX6_isFigure 30 = .ok (.ifCond .eq 7, 3) := dk_153 0 7 (dk_at dksX6_isFigure_1 6 rfl rfl)
theorem dX6_isFigure_33 : decode cX6_isFigure 33 = .ok (.iconst 1, 1) := dk_4 (dk_at dksX6_isFigure_1 9 rfl rfl)
theorem dX6_isFigure_34 : decode cX6_isFigure 34 = .ok (.goto 4, 3) := dk_167 0 4 (dk_at dksX6_isFigure_1 10 rfl rfl)
theorem dX6_isFigure_37 : decode cX6_isFigure 37 = .ok (.iconst 0, 1) := dk_3 (dk_at dksX6_isFigure_1 13 rfl rfl)
theorem dX6_isFigure_38 : decode cX6_isFigure 38 = .ok (.ireturn, 1) := dk_172 (dk_at dksX6_isFigure_1 14 rfl rfl)
abbrev cX6_moved : ByteArray := prog_33_method_86_code
def dkwX6_moved_6 : List UInt8 := [180, 0, 52, 27, 29, 128, 182, 1, 65, 153, 0, 7, 4, 167, 0, 4, 3, 172]
abbrev dktX6_moved_6 : List UInt8 := dkwX6_moved_6 ++ []
def dkwX6_moved_5 : List UInt8 := [153, 0, 7, 4, 167, 0, 4, 3, 172, 42, 28, 153, 0, 10, 42, 180, 0, 49, 167, 0, 7, 42]
abbrev dktX6_moved_5 : List UInt8 := dkwX6_moved_5 ++ dktX6_moved_6
def dkwX6_moved_4 : List UInt8 := [167, 0, 7, 42, 180, 0, 49, 27, 182, 1, 65, 62, 29, 153, 0, 10, 42, 180, 0, 52, 156, 0, 13, 29]
abbrev dktX6_moved_4 : List UInt8 := dkwX6_moved_4 ++ dktX6_moved_5
def dkwX6_moved_3 : List UInt8 := [96, 182, 0, 83, 164, 0, 7, 4, 167, 0, 4, 3, 61, 42, 28, 153, 0, 10, 42, 180, 0, 52]
abbrev dktX6_moved_3 : List UInt8 := dkwX6_moved_3 ++ dktX6_moved_4
def dkwX6_moved_2 : List UInt8 := [180, 0, 52, 7, 112, 96, 182, 0, 83, 42, 42, 180, 0, 49, 7, 108, 16, 12, 42, 180, 0, 49, 7, 112]
abbrev dktX6_moved_2 : List UInt8 := dkwX6_moved_2 ++ dktX6_moved_3
def dkwX6_moved_1 : List UInt8 := [156, 0, 5, 4, 172, 42, 180, 0, 52, 155, 0, 48, 42, 42, 180, 0, 52, 7, 108, 16, 12, 42]
abbrev dktX6_moved_1 : List UInt8 := dkwX6_moved_1 ++ dktX6_moved_2
def dkwX6_moved_0 : List UInt8 := [42, 42, 180, 0, 9, 3, 46, 182, 0, 139, 154, 0, 5, 3, 172, 42, 182, 1, 62, 60, 42, 180, 0, 49]
abbrev dktX6_moved_0 : List UInt8 := dkwX6_moved_0 ++ dktX6_moved_1
theorem dksX6_moved_0 : cX6_moved.data.toList.drop 0 = dktX6_moved_0 := by decide +kernel
theorem dksX6_moved_1 : cX6_moved.data.toList.drop 24 = dktX6_moved_1 := dk_seg dksX6_moved_0 24 rfl rfl
theorem dksX6_moved_2 : cX6_moved.data.toList.drop 46 = dktX6_moved_2 := dk_seg dksX6_moved_1 22 rfl rfl
theorem dksX6_moved_3 : cX6_moved.data.toList.drop 70 = dktX6_moved_3 := dk_seg dksX6_moved_2 24 rfl rfl
theorem dksX6_moved_4 : cX6_moved.data.toList.drop 92 = dktX6_moved_4 := dk_seg dksX6_moved_3 22 rfl rfl
theorem dksX6_moved_5 : cX6_moved.data.toList.drop 116 = dktX6_moved_5 := dk_seg dksX6_moved_4 24 rfl rfl
theorem dksX6_moved_6 : cX6_moved.data.toList.drop 138 = dktX6_moved_6 := dk_seg dksX6_moved_5 22 rfl rfl
theorem dX6_moved_0 : decode cX6_moved 0 = .ok (.aload_n 0, 1) := dk_42 (dk_at dksX6_moved_0 0 rfl rfl)
theorem dX6_moved_1 : decode cX6_moved 1 = .ok (.aload_n 0, 1) := dk_42 (dk_at dksX6_moved_0 1 rfl rfl)
theorem dX6_moved_2 : decode cX6_moved 2 = .ok (.getfield 9, 3) := dk_180 0 9 (dk_at dksX6_moved_0 2 rfl rfl)
theorem dX6_moved_5 : decode cX6_moved 5 = .ok (.iconst 0, 1) := dk_3 (dk_at dksX6_moved_0 5 rfl rfl)
theorem dX6_moved_6 : decode cX6_moved 6 = .ok (.iaload, 1) := dk_46 (dk_at dksX6_moved_0 6 rfl rfl)
theorem dX6_moved_7 : decode cX6_moved 7 = .ok (.invokevirtual 139, 3) := dk_182 0 139 (dk_at dksX6_moved_0 7 rfl rfl)
theorem dX6_moved_10 : decode cX6_moved 10 = .ok (.ifCond .ne 5, 3) := dk_154 0 5 (dk_at dksX6_moved_0 10 rfl rfl)
theorem dX6_moved_13 : decode cX6_moved 13 = .ok (.iconst 0, 1) := dk_3 (dk_at dksX6_moved_0 13 rfl rfl)
theorem dX6_moved_14 : decode cX6_moved 14 = .ok (.ireturn, 1) := dk_172 (dk_at dksX6_moved_0 14 rfl rfl)
theorem dX6_moved_15 : decode cX6_moved 15 = .ok (.aload_n 0, 1) := dk_42 (dk_at dksX6_moved_0 15 rfl rfl)
theorem dX6_moved_16 : decode cX6_moved 16 = .ok (.invokevirtual 318, 3) := dk_182 1 62 (dk_at dksX6_moved_0 16 rfl rfl)
theorem dX6_moved_19 : decode cX6_moved 19 = .ok (.istore_n 1, 1) := dk_60 (dk_at dksX6_moved_0 19 rfl rfl)
theorem dX6_moved_20 : decode cX6_moved 20 = .ok (.aload_n 0, 1) := dk_42 (dk_at dksX6_moved_0 20 rfl rfl)
theorem dX6_moved_21 : decode cX6_moved 21 = .ok (.getfield 49, 3) := dk_180 0 49 (dk_at dksX6_moved_0 21 rfl rfl)
theorem dX6_moved_24 : decode cX6_moved 24 = .ok (.ifCond .ge 5, 3) := dk_156 0 5 (dk_at dksX6_moved_1 0 rfl rfl)
theorem dX6_moved_27 : decode cX6_moved 27 = .ok (.iconst 1, 1) := dk_4 (dk_at dksX6_moved_1 3 rfl rfl)
theorem dX6_moved_28 : decode cX6_moved 28 = .ok (.ireturn, 1) := dk_172 (dk_at dksX6_moved_1 4 rfl rfl)
theorem dX6_moved_29 : decode cX6_moved 29 = .ok (.aload_n 0, 1) := dk_42 (dk_at dksX6_moved_1 5 rfl rfl)
theorem dX6_moved_30 : decode cX6_moved 30 = .ok (.getfield 52, 3) := dk_180 0 52 (dk_at dksX6_moved_1 6 rfl rfl)
theorem dX6_moved_33 : decode cX6_moved 33 = .ok (.ifCond .lt 48, 3) := dk_155 0 48 (dk_at dksX6_moved_1 9 rfl rfl)
theorem dX6_moved_36 : decode cX6_moved 36 = .ok (.aload_n 0, 1) := dk_42 (dk_at dksX6_moved_1 12 rfl rfl)
theorem dX6_moved_37 : decode cX6_moved 37 = .ok (.aload_n 0, 1) := dk_42 (dk_at dksX6_moved_1 13 rfl rfl)
theorem dX6_moved_38 : decode cX6_moved 38 = .ok (.getfield 52, 3) := dk_180 0 52 (dk_at dksX6_moved_1 14 rfl rfl)
theorem dX6_moved_41 : decode cX6_moved 41 = .ok (.iconst 4, 1) := dk_7 (dk_at dksX6_moved_1 17 rfl rfl)
theorem dX6_moved_42 : decode cX6_moved 42 = .ok (.idiv, 1) := dk_108 (dk_at dksX6_moved_1 18 rfl rfl)
theorem dX6_moved_43 : decode cX6_moved 43 = .ok (.bipush 12, 2) := dk_16 12 (dk_at dksX6_moved_1 19 rfl rfl)
theorem dX6_moved_45 : decode cX6_moved 45 = .ok (.aload_n 0, 1) := dk_42 (dk_at dksX6_moved_1 21 rfl rfl)
theorem dX6_moved_46 : decode cX6_moved 46 = .ok (.getfield 52, 3) := dk_180 0 52 (dk_at dksX6_moved_2 0 rfl rfl)
theorem dX6_moved_49 : decode cX6_moved 49 = .ok (.iconst 4, 1) := dk_7 (dk_at dksX6_moved_2 3 rfl rfl)
theorem dX6_moved_50 : decode cX6_moved 50 = .ok (.irem, 1) := dk_112 (dk_at dksX6_moved_2 4 rfl rfl)
theorem dX6_moved_51 : decode cX6_moved 51 = .ok (.iadd, 1) := dk_96 (dk_at dksX6_moved_2 5 rfl rfl)
theorem dX6_moved_52 : decode cX6_moved 52 = .ok (.invokevirtual 83, 3) := dk_182 0 83 (dk_at dksX6_moved_2 6 rfl rfl)
theorem dX6_moved_55 : decode cX6_moved 55 = .ok (.aload_n 0, 1) := dk_42 (dk_at dksX6_moved_2 9 rfl rfl)
theorem dX6_moved_56 : decode cX6_moved 56 = .ok (.aload_n 0, 1) := dk_42 (dk_at dksX6_moved_2 10 rfl rfl)
theorem dX6_moved_57 : decode cX6_moved 57 = .ok (.getfield 49, 3) := dk_180 0 49 (dk_at dksX6_moved_2 11 rfl rfl)
theorem dX6_moved_60 : decode cX6_moved 60 = .ok (.iconst 4, 1) := dk_7 (dk_at dksX6_moved_2 14 rfl rfl)
theorem dX6_moved_61 : decode cX6_moved 61 = .ok (.idiv, 1) := dk_108 (dk_at dksX6_moved_2 15 rfl rfl)
theorem dX6_moved_62 : decode cX6_moved 62 = .ok (.bipush 12, 2) := dk_16 12 (dk_at dksX6_moved_2 16 rfl rfl)
theorem dX6_moved_64 : decode cX6_moved 64 = .ok (.aload_n 0, 1) := dk_42 (dk_at dksX6_moved_2 18 rfl rfl)
theorem dX6_moved_65 : decode cX6_moved 65 = .ok (.getfield 49, 3) := dk_180 0 49 (dk_at dksX6_moved_2 19 rfl rfl)
theorem dX6_moved_68 : decode cX6_moved 68 = .ok (.iconst 4, 1) := dk_7 (dk_at dksX6_moved_2 22 rfl rfl)
theorem dX6_moved_69 : decode cX6_moved 69 = .ok (.irem, 1) := dk_112 (dk_at dksX6_moved_2 23 rfl rfl)
theorem dX6_moved_70 : decode cX6_moved 70 = .ok (.iadd, 1) := dk_96 (dk_at dksX6_moved_3 0 rfl rfl)
theorem dX6_moved_71 : decode cX6_moved 71 = .ok (.invokevirtual 83, 3) := dk_182 0 83 (dk_at dksX6_moved_3 1 rfl rfl)
theorem dX6_moved_74 : decode cX6_moved 74 = .ok (.if_icmp .le 7, 3) := dk_164 0 7 (dk_at dksX6_moved_3 4 rfl rfl)
theorem dX6_moved_77 : decode cX6_moved 77 = .ok (.iconst 1, 1) := dk_4 (dk_at dksX6_moved_3 7 rfl rfl)
theorem dX6_moved_78 : decode cX6_moved 78 = .ok (.goto 4, 3) := dk_167 0 4 (dk_at dksX6_moved_3 8 rfl rfl)
theorem dX6_moved_81 : decode cX6_moved 81 = .ok (.iconst 0, 1) := dk_3 (dk_at dksX6_moved_3 11 rfl rfl)
theorem dX6_moved_82 : decode cX6_moved 82 = .ok (.istore_n 2, 1) := dk_61 (dk_at dksX6_moved_3 12 rfl rfl)
theorem dX6_moved_83 : decode cX6_moved 83 = .ok (.aload_n 0, 1) := dk_42 (dk_at dksX6_moved_3 13 rfl rfl)
theorem dX6_moved_84 : decode cX6_moved 84 = .ok (.iload_n 2, 1) := dk_28 (dk_at dksX6_moved_3 14 rfl rfl)
theorem dX6_moved_85 : decode cX6_moved 85 = .ok (.ifCond .eq 10, 3) := dk_153 0 10 (dk_at dksX6_moved_3 15 rfl rfl)
theorem dX6_moved_88 : decode cX6_moved 88 = .ok (.aload_n 0, 1) := dk_42 (dk_at dksX6_moved_3 18 rfl rfl)
theorem dX6_moved_89 : decode cX6_moved 89 = .ok (.getfield 52, 3) := dk_180 0 52 (dk_at dksX6_moved_3 19 rfl rfl)
theorem dX6_moved_92 : decode cX6_moved 92 = .ok (.goto 7, 3) := dk_167 0 7 (dk_at dksX6_moved_4 0 rfl rfl)
theorem dX6_moved_95 : decode cX6_moved 95 = .ok (.aload_n 0, 1) := dk_42 (dk_at dksX6_moved_4 3 rfl rfl)
theorem dX6_moved_96 : decode cX6_moved 96 = .ok (.getfield 49, 3) := dk_180 0 49 (dk_at dksX6_moved_4 4 rfl rfl)
theorem dX6_moved_99 : decode cX6_moved 99 = .ok (.iload_n 1, 1) := dk_27 (dk_at dksX6_moved_4 7 rfl rfl)
theorem dX6_moved_100 : decode cX6_moved 100 = .ok (.invokevirtual 321, 3) := dk_182 1 65 (dk_at dksX6_moved_4 8 rfl rfl)
theorem dX6_moved_103 : decode cX6_moved 103 = .ok (.istore_n 3, 1) := dk_62 (dk_at dksX6_moved_4 11 rfl rfl)
theorem dX6_moved_104 : decode cX6_moved 104 = .ok (.iload_n 3, 1) := dk_29 (dk_at dksX6_moved_4 12 rfl rfl)
theorem dX6_moved_105 : decode cX6_moved 105 = .ok (.ifCond .eq 10, 3) := dk_153 0 10 (dk_at dksX6_moved_4 13 rfl rfl)
theorem dX6_moved_108 : decode cX6_moved 108 = .ok (.aload_n 0, 1) := dk_42 (dk_at dksX6_moved_4 16 rfl rfl)
theorem dX6_moved_109 : decode cX6_moved 109 = .ok (.getfield 52, 3) := dk_180 0 52 (dk_at dksX6_moved_4 17 rfl rfl)
theorem dX6_moved_112 : decode cX6_moved 112 = .ok (.ifCond .ge 13, 3) := dk_156 0 13 (dk_at dksX6_moved_4 20 rfl rfl)
theorem dX6_moved_115 : decode cX6_moved 115 = .ok (.iload_n 3, 1) := dk_29 (dk_at dksX6_moved_4 23 rfl rfl)
theorem dX6_moved_116 : decode cX6_moved 116 = .ok (.ifCond .eq 7, 3) := dk_153 0 7 (dk_at dksX6_moved_5 0 rfl rfl)
theorem dX6_moved_119 : decode cX6_moved 119 = .ok (.iconst 1, 1) := dk_4 (dk_at dksX6_moved_5 3 rfl rfl)
theorem dX6_moved_120 : decode cX6_moved 120 = .ok (.goto 4, 3) := dk_167 0 4 (dk_at dksX6_moved_5 4 rfl rfl)
theorem dX6_moved_123 : decode cX6_moved 123 = .ok (.iconst 0, 1) := dk_3 (dk_at dksX6_moved_5 7 rfl rfl)
theorem dX6_moved_124 : decode cX6_moved 124 = .ok (.ireturn, 1) := dk_172 (dk_at dksX6_moved_5 8 rfl rfl)
theorem dX6_moved_125 : decode cX6_moved 125 = .ok (.aload_n 0, 1) := dk_42 (dk_at dksX6_moved_5 9 rfl rfl)
theorem dX6_moved_126 : decode cX6_moved 126 = .ok (.iload_n 2, 1) := dk_28 (dk_at dksX6_moved_5 10 rfl rfl)
theorem dX6_moved_127 : decode cX6_moved 127 = .ok (.ifCond .eq 10, 3) := dk_153 0 10 (dk_at dksX6_moved_5 11 rfl rfl)
theorem dX6_moved_130 : decode cX6_moved 130 = .ok (.aload_n 0, 1) := dk_42 (dk_at dksX6_moved_5 14 rfl rfl)
theorem dX6_moved_131 : decode cX6_moved 131 = .ok (.getfield 49, 3) := dk_180 0 49 (dk_at dksX6_moved_5 15 rfl rfl)
theorem dX6_moved_134 : decode cX6_moved 134 = .ok (.goto 7, 3) := dk_167 0 7 (dk_at dksX6_moved_5 18 rfl rfl)
theorem dX6_moved_137 : decode cX6_moved 137 = .ok (.aload_n 0, 1) := dk_42 (dk_at dksX6_moved_5 21 rfl rfl)
theorem dX6_moved_138 : decode cX6_moved 138 = .ok (.getfield 52, 3) := dk_180 0 52 (dk_at dksX6_moved_6 0 rfl rfl)
theorem dX6_moved_141 : decode cX6_moved 141 = .ok (.iload_n 1, 1) := dk_27 (dk_at dksX6_moved_6 3 rfl rfl)
theorem dX6_moved_142 : decode cX6_moved 142 = .ok (.iload_n 3, 1) := dk_29 (dk_at dksX6_moved_6 4 rfl rfl)
theorem dX6_moved_143 : decode cX6_moved 143 = .ok (.ior, 1) := dk_128 (dk_at dksX6_moved_6 5 rfl rfl)
theorem dX6_moved_144 : decode cX6_moved 144 = .ok (.invokevirtual 321, 3) := dk_182 1 65 (dk_at dksX6_moved_6 6 rfl rfl)
theorem dX6_moved_147 : decode cX6_moved 147 = .ok (.ifCond .eq 7, 3) := dk_153 0 7 (dk_at dksX6_moved_6 9 rfl rfl)
theorem dX6_moved_150 : decode cX6_moved 150 = .ok (.iconst 1, 1) := dk_4 (dk_at dksX6_moved_6 12 rfl rfl)
theorem dX6_moved_151 : decode cX6_moved 151 = .ok (.goto 4, 3) := dk_167 0 4 (dk_at dksX6_moved_6 13 rfl rfl)
theorem dX6_moved_154 : decode cX6_moved 154 = .ok (.iconst 0, 1) := dk_3 (dk_at dksX6_moved_6 16 rfl rfl)
theorem dX6_moved_155 : decode cX6_moved 155 = .ok (.ireturn, 1) := dk_172 (dk_at dksX6_moved_6 17 rfl rfl)
abbrev cX6_foundBits : ByteArray := prog_33_method_23_code
def dkwX6_foundBits_1 : List UInt8 := [46, 184, 0, 92, 128, 60, 132, 2, 1, 167, 255, 227, 27, 172]
abbrev dktX6_foundBits_1 : List UInt8 := dkwX6_foundBits_1 ++ []
def dkwX6_foundBits_0 : List UInt8 := [3, 60, 3, 61, 28, 42, 180, 0, 122, 162, 0, 27, 27, 42, 180, 0, 39, 28, 46, 42, 180, 0, 33, 28]
abbrev dktX6_foundBits_0 : List UInt8 := dkwX6_foundBits_0 ++ dktX6_foundBits_1
theorem dksX6_foundBits_0 : cX6_foundBits.data.toList.drop 0 = dktX6_foundBits_0 := by decide +kernel
theorem dksX6_foundBits_1 : cX6_foundBits.data.toList.drop 24 = dktX6_foundBits_1 := dk_seg dksX6_foundBits_0 24 rfl rfl
theorem dX6_foundBits_0 : decode cX6_foundBits 0 = .ok (.iconst 0, 1) := dk_3 (dk_at dksX6_foundBits_0 0 rfl rfl)
theorem dX6_foundBits_1 : decode cX6_foundBits 1 = .ok (.istore_n 1, 1) := dk_60 (dk_at dksX6_foundBits_0 1 rfl rfl)
theorem dX6_foundBits_2 : decode cX6_foundBits 2 = .ok (.iconst 0, 1) := dk_3 (dk_at dksX6_foundBits_0 2 rfl rfl)
theorem dX6_foundBits_3 : decode cX6_foundBits 3 = .ok (.istore_n 2, 1) := dk_61 (dk_at dksX6_foundBits_0 3 rfl rfl)
theorem dX6_foundBits_4 : decode cX6_foundBits 4 = .ok (.iload_n 2, 1) := dk_28 (dk_at dksX6_foundBits_0 4 rfl rfl)
theorem dX6_foundBits_5 : decode cX6_foundBits 5 = .ok (.aload_n 0, 1) := dk_42 (dk_at dksX6_foundBits_0 5 rfl rfl)
theorem dX6_foundBits_6 : decode cX6_foundBits 6 = .ok (.getfield 122, 3) := dk_180 0 122 (dk_at dksX6_foundBits_0 6 rfl rfl)
theorem dX6_foundBits_9 : decode cX6_foundBits 9 = .ok (.if_icmp .ge 27, 3) := dk_162 0 27 (dk_at dksX6_foundBits_0 9 rfl rfl)
theorem dX6_foundBits_12 : decode cX6_foundBits 12 = .ok (.iload_n 1, 1) := dk_27 (dk_at dksX6_foundBits_0 12 rfl rfl)
theorem dX6_foundBits_13 : decode cX6_foundBits 13 = .ok (.aload_n 0, 1) := dk_42 (dk_at dksX6_foundBits_0 13 rfl rfl)
theorem dX6_foundBits_14 : decode cX6_foundBits 14 = .ok (.getfield 39, 3) := dk_180 0 39 (dk_at dksX6_foundBits_0 14 rfl rfl)
theorem dX6_foundBits_17 : decode cX6_foundBits 17 = .ok (.iload_n 2, 1) := dk_28 (dk_at dksX6_foundBits_0 17 rfl rfl)
theorem dX6_foundBits_18 : decode cX6_foundBits 18 = .ok (.iaload, 1) := dk_46 (dk_at dksX6_foundBits_0 18 rfl rfl)
theorem dX6_foundBits_19 : decode cX6_foundBits 19 = .ok (.aload_n 0, 1) := dk_42 (dk_at dksX6_foundBits_0 19 rfl rfl)
theorem dX6_foundBits_20 : decode cX6_foundBits 20 = .ok (.getfield 33, 3) := dk_180 0 33 (dk_at dksX6_foundBits_0 20 rfl rfl)
theorem dX6_foundBits_23 : decode cX6_foundBits 23 = .ok (.iload_n 2, 1) := dk_28 (dk_at dksX6_foundBits_0 23 rfl rfl)
theorem dX6_foundBits_24 : decode cX6_foundBits 24 = .ok (.iaload, 1) := dk_46 (dk_at dksX6_foundBits_1 0 rfl rfl)
theorem dX6_foundBits_25 : decode cX6_foundBits 25 = .ok (.invokestatic 92, 3) := dk_184 0 92 (dk_at dksX6_foundBits_1 1 rfl rfl)
theorem dX6_foundBits_28 : decode cX6_foundBits 28 = .ok (.ior, 1) := dk_128 (dk_at dksX6_foundBits_1 4 rfl rfl)
theorem dX6_foundBits_29 : decode cX6_foundBits 29 = .ok (.istore_n 1, 1) := dk_60 (dk_at dksX6_foundBits_1 5 rfl rfl)
theorem dX6_foundBits_30 : decode cX6_foundBits 30 = .ok (.iinc 2 1, 3) := dk_132 2 1 (dk_at dksX6_foundBits_1 6 rfl rfl)
theorem dX6_foundBits_33 : decode cX6_foundBits 33 = .ok (.goto (-29), 3) := dk_167 255 227 (dk_at dksX6_foundBits_1 9 rfl rfl)
theorem dX6_foundBits_36 : decode cX6_foundBits 36 = .ok (.iload_n 1, 1) := dk_27 (dk_at dksX6_foundBits_1 12 rfl rfl)
theorem dX6_foundBits_37 : decode cX6_foundBits 37 = .ok (.ireturn, 1) := dk_172 (dk_at dksX6_foundBits_1 13 rfl rfl)
abbrev cX6_elsewhere : ByteArray := prog_33_method_85_code
def dkwX6_elsewhere_3 : List UInt8 := [182, 0, 83, 184, 0, 92, 172]
abbrev dktX6_elsewhere_3 : List UInt8 := dkwX6_elsewhere_3 ++ []
def dkwX6_elsewhere_2 : List UInt8 := [184, 0, 132, 54, 5, 21, 5, 156, 0, 7, 3, 167, 0, 18, 21, 5, 42, 29, 16, 12, 21, 4, 96]
abbrev dktX6_elsewhere_2 : List UInt8 := dkwX6_elsewhere_2 ++ dktX6_elsewhere_3
def dkwX6_elsewhere_1 : List UInt8 := [133, 42, 29, 3, 182, 0, 83, 182, 0, 128, 28, 128, 42, 29, 16, 12, 21, 4, 96, 182, 0, 83]
abbrev dktX6_elsewhere_1 : List UInt8 := dkwX6_elsewhere_1 ++ dktX6_elsewhere_2
def dkwX6_elsewhere_0 : List UInt8 := [27, 7, 108, 62, 27, 7, 112, 54, 4, 42, 42, 180, 0, 9, 3, 46, 133, 42, 29, 21, 4, 182, 0, 102]
abbrev dktX6_elsewhere_0 : List UInt8 := dkwX6_elsewhere_0 ++ dktX6_elsewhere_1
theorem dksX6_elsewhere_0 : cX6_elsewhere.data.toList.drop 0 = dktX6_elsewhere_0 := by decide +kernel
theorem dksX6_elsewhere_1 : cX6_elsewhere.data.toList.drop 24 = dktX6_elsewhere_1 := dk_seg dksX6_elsewhere_0 24 rfl rfl
theorem dksX6_elsewhere_2 : cX6_elsewhere.data.toList.drop 46 = dktX6_elsewhere_2 := dk_seg dksX6_elsewhere_1 22 rfl rfl
theorem dksX6_elsewhere_3 : cX6_elsewhere.data.toList.drop 69 = dktX6_elsewhere_3 := dk_seg dksX6_elsewhere_2 23 rfl rfl
theorem dX6_elsewhere_0 : decode cX6_elsewhere 0 = .ok (.iload_n 1, 1) := dk_27 (dk_at dksX6_elsewhere_0 0 rfl rfl)
theorem dX6_elsewhere_1 : decode cX6_elsewhere 1 = .ok (.iconst 4, 1) := dk_7 (dk_at dksX6_elsewhere_0 1 rfl rfl)
theorem dX6_elsewhere_2 : decode cX6_elsewhere 2 = .ok (.idiv, 1) := dk_108 (dk_at dksX6_elsewhere_0 2 rfl rfl)
theorem dX6_elsewhere_3 : decode cX6_elsewhere 3 = .ok (.istore_n 3, 1) := dk_62 (dk_at dksX6_elsewhere_0 3 rfl rfl)
theorem dX6_elsewhere_4 : decode cX6_elsewhere 4 = .ok (.iload_n 1, 1) := dk_27 (dk_at dksX6_elsewhere_0 4 rfl rfl)
theorem dX6_elsewhere_5 : decode cX6_elsewhere 5 = .ok (.iconst 4, 1) := dk_7 (dk_at dksX6_elsewhere_0 5 rfl rfl)
theorem dX6_elsewhere_6 : decode cX6_elsewhere 6 = .ok (.irem, 1) := dk_112 (dk_at dksX6_elsewhere_0 6 rfl rfl)
theorem dX6_elsewhere_7 : decode cX6_elsewhere 7 = .ok (.istore 4, 2) := dk_54 4 (dk_at dksX6_elsewhere_0 7 rfl rfl)
theorem dX6_elsewhere_9 : decode cX6_elsewhere 9 = .ok (.aload_n 0, 1) := dk_42 (dk_at dksX6_elsewhere_0 9 rfl rfl)
theorem dX6_elsewhere_10 : decode cX6_elsewhere 10 = .ok (.aload_n 0, 1) := dk_42 (dk_at dksX6_elsewhere_0 10 rfl rfl)
theorem dX6_elsewhere_11 : decode cX6_elsewhere 11 = .ok (.getfield 9, 3) := dk_180 0 9 (dk_at dksX6_elsewhere_0 11 rfl rfl)
theorem dX6_elsewhere_14 : decode cX6_elsewhere 14 = .ok (.iconst 0, 1) := dk_3 (dk_at dksX6_elsewhere_0 14 rfl rfl)
theorem dX6_elsewhere_15 : decode cX6_elsewhere 15 = .ok (.iaload, 1) := dk_46 (dk_at dksX6_elsewhere_0 15 rfl rfl)
theorem dX6_elsewhere_16 : decode cX6_elsewhere 16 = .ok (.i2l, 1) := dk_133 (dk_at dksX6_elsewhere_0 16 rfl rfl)
theorem dX6_elsewhere_17 : decode cX6_elsewhere 17 = .ok (.aload_n 0, 1) := dk_42 (dk_at dksX6_elsewhere_0 17 rfl rfl)
theorem dX6_elsewhere_18 : decode cX6_elsewhere 18 = .ok (.iload_n 3, 1) := dk_29 (dk_at dksX6_elsewhere_0 18 rfl rfl)
theorem dX6_elsewhere_19 : decode cX6_elsewhere 19 = .ok (.iload 4, 2) := dk_21 4 (dk_at dksX6_elsewhere_0 19 rfl rfl)
theorem dX6_elsewhere_21 : decode cX6_elsewhere 21 = .ok (.invokevirtual 102, 3) := dk_182 0 102 (dk_at dksX6_elsewhere_0 21 rfl rfl)
theorem dX6_elsewhere_24 : decode cX6_elsewhere 24 = .ok (.i2l, 1) := dk_133 (dk_at dksX6_elsewhere_1 0 rfl rfl)
theorem dX6_elsewhere_25 : decode cX6_elsewhere 25 = .ok (.aload_n 0, 1) := dk_42 (dk_at dksX6_elsewhere_1 1 rfl rfl)
theorem dX6_elsewhere_26 : decode cX6_elsewhere 26 = .ok (.iload_n 3, 1) := dk_29 (dk_at dksX6_elsewhere_1 2 rfl rfl)
theorem dX6_elsewhere_27 : decode cX6_elsewhere 27 = .ok (.iconst 0, 1) := dk_3 (dk_at dksX6_elsewhere_1 3 rfl rfl)
theorem dX6_elsewhere_28 : decode cX6_elsewhere 28 = .ok (.invokevirtual 83, 3) := dk_182 0 83 (dk_at dksX6_elsewhere_1 4 rfl rfl)
theorem dX6_elsewhere_31 : decode cX6_elsewhere 31 = .ok (.invokevirtual 128, 3) := dk_182 0 128 (dk_at dksX6_elsewhere_1 7 rfl rfl)
theorem dX6_elsewhere_34 : decode cX6_elsewhere 34 = .ok (.iload_n 2, 1) := dk_28 (dk_at dksX6_elsewhere_1 10 rfl rfl)
theorem dX6_elsewhere_35 : decode cX6_elsewhere 35 = .ok (.ior, 1) := dk_128 (dk_at dksX6_elsewhere_1 11 rfl rfl)
theorem dX6_elsewhere_36 : decode cX6_elsewhere 36 = .ok (.aload_n 0, 1) := dk_42 (dk_at dksX6_elsewhere_1 12 rfl rfl)
theorem dX6_elsewhere_37 : decode cX6_elsewhere 37 = .ok (.iload_n 3, 1) := dk_29 (dk_at dksX6_elsewhere_1 13 rfl rfl)
theorem dX6_elsewhere_38 : decode cX6_elsewhere 38 = .ok (.bipush 12, 2) := dk_16 12 (dk_at dksX6_elsewhere_1 14 rfl rfl)
theorem dX6_elsewhere_40 : decode cX6_elsewhere 40 = .ok (.iload 4, 2) := dk_21 4 (dk_at dksX6_elsewhere_1 16 rfl rfl)
theorem dX6_elsewhere_42 : decode cX6_elsewhere 42 = .ok (.iadd, 1) := dk_96 (dk_at dksX6_elsewhere_1 18 rfl rfl)
theorem dX6_elsewhere_43 : decode cX6_elsewhere 43 = .ok (.invokevirtual 83, 3) := dk_182 0 83 (dk_at dksX6_elsewhere_1 19 rfl rfl)
theorem dX6_elsewhere_46 : decode cX6_elsewhere 46 = .ok (.invokestatic 132, 3) := dk_184 0 132 (dk_at dksX6_elsewhere_2 0 rfl rfl)
theorem dX6_elsewhere_49 : decode cX6_elsewhere 49 = .ok (.istore 5, 2) := dk_54 5 (dk_at dksX6_elsewhere_2 3 rfl rfl)
theorem dX6_elsewhere_51 : decode cX6_elsewhere 51 = .ok (.iload 5, 2) := dk_21 5 (dk_at dksX6_elsewhere_2 5 rfl rfl)
theorem dX6_elsewhere_53 : decode cX6_elsewhere 53 = .ok (.ifCond .ge 7, 3) := dk_156 0 7 (dk_at dksX6_elsewhere_2 7 rfl rfl)
theorem dX6_elsewhere_56 : decode cX6_elsewhere 56 = .ok (.iconst 0, 1) := dk_3 (dk_at dksX6_elsewhere_2 10 rfl rfl)
theorem dX6_elsewhere_57 : decode cX6_elsewhere 57 = .ok (.goto 18, 3) := dk_167 0 18 (dk_at dksX6_elsewhere_2 11 rfl rfl)
theorem dX6_elsewhere_60 : decode cX6_elsewhere 60 = .ok (.iload 5, 2) := dk_21 5 (dk_at dksX6_elsewhere_2 14 rfl rfl)
theorem dX6_elsewhere_62 : decode cX6_elsewhere 62 = .ok (.aload_n 0, 1) := dk_42 (dk_at dksX6_elsewhere_2 16 rfl rfl)
theorem dX6_elsewhere_63 : decode cX6_elsewhere 63 = .ok (.iload_n 3, 1) := dk_29 (dk_at dksX6_elsewhere_2 17 rfl rfl)
theorem dX6_elsewhere_64 : decode cX6_elsewhere 64 = .ok (.bipush 12, 2) := dk_16 12 (dk_at dksX6_elsewhere_2 18 rfl rfl)
theorem dX6_elsewhere_66 : decode cX6_elsewhere 66 = .ok (.iload 4, 2) := dk_21 4 (dk_at dksX6_elsewhere_2 20 rfl rfl)
theorem dX6_elsewhere_68 : decode cX6_elsewhere 68 = .ok (.iadd, 1) := dk_96 (dk_at dksX6_elsewhere_2 22 rfl rfl)
theorem dX6_elsewhere_69 : decode cX6_elsewhere 69 = .ok (.invokevirtual 83, 3) := dk_182 0 83 (dk_at dksX6_elsewhere_3 0 rfl rfl)
theorem dX6_elsewhere_72 : decode cX6_elsewhere 72 = .ok (.invokestatic 92, 3) := dk_184 0 92 (dk_at dksX6_elsewhere_3 3 rfl rfl)
theorem dX6_elsewhere_75 : decode cX6_elsewhere 75 = .ok (.ireturn, 1) := dk_172 (dk_at dksX6_elsewhere_3 6 rfl rfl)
