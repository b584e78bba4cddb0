/-! names and decode rows: J -/
set_option maxRecDepth 100000
abbrev cJ4_values : ByteArray := prog_83_method_52_code
def dkwJ4_values_1 : List UInt8 := [176]
abbrev dktJ4_values_1 : List UInt8 := dkwJ4_values_1 ++ []
def dkwJ4_values_0 : List UInt8 := [42, 180, 0, 233, 76, 43, 199, 0, 17, 187, 0, 237, 89, 42, 183, 0, 239, 76, 42, 43, 181, 0, 233, 43]
abbrev dktJ4_values_0 : List UInt8 := dkwJ4_values_0 ++ dktJ4_values_1
theorem dksJ4_values_0 : cJ4_values.data.toList.drop 0 = dktJ4_values_0 := by decide +kernel
theorem dksJ4_values_1 : cJ4_values.data.toList.drop 24 = dktJ4_values_1 := dk_seg dksJ4_values_0 24 rfl rfl
theorem dJ4_values_0 : decode cJ4_values 0 = .ok (.aload_n 0, 1) := dk_42 (dk_at dksJ4_values_0 0 rfl rfl)
theorem dJ4_values_1 : decode cJ4_values 1 = .ok (.getfield 233, 3) := dk_180 0 233 (dk_at dksJ4_values_0 1 rfl rfl)
theorem dJ4_values_4 : decode cJ4_values 4 = .ok (.astore_n 1, 1) := dk_76 (dk_at dksJ4_values_0 4 rfl rfl)
theorem dJ4_values_5 : decode cJ4_values 5 = .ok (.aload_n 1, 1) := dk_43 (dk_at dksJ4_values_0 5 rfl rfl)
theorem dJ4_values_6 : decode cJ4_values 6 = .ok (.ifnonnull 17, 3) := dk_199 0 17 (dk_at dksJ4_values_0 6 rfl rfl)
theorem dJ4_values_9 : decode cJ4_values 9 = .ok (.new 237, 3) := dk_187 0 237 (dk_at dksJ4_values_0 9 rfl rfl)
theorem dJ4_values_12 : decode cJ4_values 12 = .ok (.dup, 1) := dk_89 (dk_at dksJ4_values_0 12 rfl rfl)
theorem dJ4_values_13 : decode cJ4_values 13 = .ok (.aload_n 0, 1) := dk_42 (dk_at dksJ4_values_0 13 rfl rfl)
theorem dJ4_values_14 : decode cJ4_values 14 = .ok (.invokespecial 239, 3) := dk_183 0 239 (dk_at dksJ4_values_0 14 rfl rfl)
theorem dJ4_values_17 : decode cJ4_values 17 = .ok (.astore_n 1, 1) := dk_76 (dk_at dksJ4_values_0 17 rfl rfl)
theorem dJ4_values_18 : decode cJ4_values 18 = .ok (.aload_n 0, 1) := dk_42 (dk_at dksJ4_values_0 18 rfl rfl)
theorem dJ4_values_19 : decode cJ4_values 19 = .ok (.aload_n 1, 1) := dk_43 (dk_at dksJ4_values_0 19 rfl rfl)
theorem dJ4_values_20 : decode cJ4_values 20 = .ok (.putfield 233, 3) := dk_181 0 233 (dk_at dksJ4_values_0 20 rfl rfl)
theorem dJ4_values_23 : decode cJ4_values 23 = .ok (.aload_n 1, 1) := dk_43 (dk_at dksJ4_values_0 23 rfl rfl)
theorem dJ4_values_24 : decode cJ4_values 24 = .ok (.areturn, 1) := dk_176 (dk_at dksJ4_values_1 0 rfl rfl)
abbrev cJ2_iterator : ByteArray := prog_61_method_55_code
def dkwJ2_iterator_0 : List UInt8 := [187, 1, 11, 89, 42, 183, 1, 13, 176]
abbrev dktJ2_iterator_0 : List UInt8 := dkwJ2_iterator_0 ++ []
theorem dksJ2_iterator_0 : cJ2_iterator.data.toList.drop 0 = dktJ2_iterator_0 := by decide +kernel
theorem dJ2_iterator_0 : decode cJ2_iterator 0 = .ok (.new 267, 3) := dk_187 1 11 (dk_at dksJ2_iterator_0 0 rfl rfl)
theorem dJ2_iterator_3 : decode cJ2_iterator 3 = .ok (.dup, 1) := dk_89 (dk_at dksJ2_iterator_0 3 rfl rfl)
theorem dJ2_iterator_4 : decode cJ2_iterator 4 = .ok (.aload_n 0, 1) := dk_42 (dk_at dksJ2_iterator_0 4 rfl rfl)
theorem dJ2_iterator_5 : decode cJ2_iterator 5 = .ok (.invokespecial 269, 3) := dk_183 1 13 (dk_at dksJ2_iterator_0 5 rfl rfl)
theorem dJ2_iterator_8 : decode cJ2_iterator 8 = .ok (.areturn, 1) := dk_176 (dk_at dksJ2_iterator_0 8 rfl rfl)
abbrev cJ6_iterator : ByteArray := prog_73_method_22_code
def dkwJ6_iterator_0 : List UInt8 := [187, 0, 121, 89, 42, 183, 0, 123, 176]
abbrev dktJ6_iterator_0 : List UInt8 := dkwJ6_iterator_0 ++ []
theorem dksJ6_iterator_0 : cJ6_iterator.data.toList.drop 0 = dktJ6_iterator_0 := by decide +kernel
theorem dJ6_iterator_0 : decode cJ6_iterator 0 = .ok (.new 121, 3) := dk_187 0 121 (dk_at dksJ6_iterator_0 0 rfl rfl)
theorem dJ6_iterator_3 : decode cJ6_iterator 3 = .ok (.dup, 1) := dk_89 (dk_at dksJ6_iterator_0 3 rfl rfl)
theorem dJ6_iterator_4 : decode cJ6_iterator 4 = .ok (.aload_n 0, 1) := dk_42 (dk_at dksJ6_iterator_0 4 rfl rfl)
theorem dJ6_iterator_5 : decode cJ6_iterator 5 = .ok (.invokespecial 123, 3) := dk_183 0 123 (dk_at dksJ6_iterator_0 5 rfl rfl)
theorem dJ6_iterator_8 : decode cJ6_iterator 8 = .ok (.areturn, 1) := dk_176 (dk_at dksJ6_iterator_0 8 rfl rfl)
abbrev cJ35_iterator : ByteArray := prog_86_method_2_code
def dkwJ35_iterator_0 : List UInt8 := [187, 0, 13, 89, 42, 180, 0, 1, 42, 180, 0, 1, 182, 0, 15, 183, 0, 21, 176]
abbrev dktJ35_iterator_0 : List UInt8 := dkwJ35_iterator_0 ++ []
theorem dksJ35_iterator_0 : cJ35_iterator.data.toList.drop 0 = dktJ35_iterator_0 := by decide +kernel
theorem dJ35_iterator_0 : decode cJ35_iterator 0 = .ok (.new 13, 3) := dk_187 0 13 (dk_at dksJ35_iterator_0 0 rfl rfl)
theorem dJ35_iterator_3 : decode cJ35_iterator 3 = .ok (.dup, 1) := dk_89 (dk_at dksJ35_iterator_0 3 rfl rfl)
theorem dJ35_iterator_4 : decode cJ35_iterator 4 = .ok (.aload_n 0, 1) := dk_42 (dk_at dksJ35_iterator_0 4 rfl rfl)
theorem dJ35_iterator_5 : decode cJ35_iterator 5 = .ok (.getfield 1, 3) := dk_180 0 1 (dk_at dksJ35_iterator_0 5 rfl rfl)
theorem dJ35_iterator_8 : decode cJ35_iterator 8 = .ok (.aload_n 0, 1) := dk_42 (dk_at dksJ35_iterator_0 8 rfl rfl)
theorem dJ35_iterator_9 : decode cJ35_iterator 9 = .ok (.getfield 1, 3) := dk_180 0 1 (dk_at dksJ35_iterator_0 9 rfl rfl)
theorem dJ35_iterator_12 : decode cJ35_iterator 12 = .ok (.invokevirtual 15, 3) := dk_182 0 15 (dk_at dksJ35_iterator_0 12 rfl rfl)
theorem dJ35_iterator_15 : decode cJ35_iterator 15 = .ok (.invokespecial 21, 3) := dk_183 0 21 (dk_at dksJ35_iterator_0 15 rfl rfl)
theorem dJ35_iterator_18 : decode cJ35_iterator 18 = .ok (.areturn, 1) := dk_176 (dk_at dksJ35_iterator_0 18 rfl rfl)
abbrev cJ27_iterator : ByteArray := prog_88_method_2_code
def dkwJ27_iterator_1 : List UInt8 := [180, 0, 7, 192, 0, 19, 182, 0, 21, 176]
abbrev dktJ27_iterator_1 : List UInt8 := dkwJ27_iterator_1 ++ []
def dkwJ27_iterator_0 : List UInt8 := [42, 180, 0, 7, 193, 0, 13, 153, 0, 14, 42, 180, 0, 7, 192, 0, 13, 182, 0, 15, 176, 42]
abbrev dktJ27_iterator_0 : List UInt8 := dkwJ27_iterator_0 ++ dktJ27_iterator_1
theorem dksJ27_iterator_0 : cJ27_iterator.data.toList.drop 0 = dktJ27_iterator_0 := by decide +kernel
theorem dksJ27_iterator_1 : cJ27_iterator.data.toList.drop 22 = dktJ27_iterator_1 := dk_seg dksJ27_iterator_0 22 rfl rfl
theorem dJ27_iterator_0 : decode cJ27_iterator 0 = .ok (.aload_n 0, 1) := dk_42 (dk_at dksJ27_iterator_0 0 rfl rfl)
theorem dJ27_iterator_1 : decode cJ27_iterator 1 = .ok (.getfield 7, 3) := dk_180 0 7 (dk_at dksJ27_iterator_0 1 rfl rfl)
theorem dJ27_iterator_4 : decode cJ27_iterator 4 = .ok (.instanceof 13, 3) := dk_193 0 13 (dk_at dksJ27_iterator_0 4 rfl rfl)
theorem dJ27_iterator_7 : decode cJ27_iterator 7 = .ok (.ifCond .eq 14, 3) := dk_153 0 14 (dk_at dksJ27_iterator_0 7 rfl rfl)
theorem dJ27_iterator_10 : decode cJ27_iterator 10 = .ok (.aload_n 0, 1) := dk_42 (dk_at dksJ27_iterator_0 10 rfl rfl)
theorem dJ27_iterator_11 : decode cJ27_iterator 11 = .ok (.getfield 7, 3) := dk_180 0 7 (dk_at dksJ27_iterator_0 11 rfl rfl)
theorem dJ27_iterator_14 : decode cJ27_iterator 14 = .ok (.checkcast 13, 3) := dk_192 0 13 (dk_at dksJ27_iterator_0 14 rfl rfl)
theorem dJ27_iterator_17 : decode cJ27_iterator 17 = .ok (.invokevirtual 15, 3) := dk_182 0 15 (dk_at dksJ27_iterator_0 17 rfl rfl)
theorem dJ27_iterator_20 : decode cJ27_iterator 20 = .ok (.areturn, 1) := dk_176 (dk_at dksJ27_iterator_0 20 rfl rfl)
theorem dJ27_iterator_21 : decode cJ27_iterator 21 = .ok (.aload_n 0, 1) := dk_42 (dk_at dksJ27_iterator_0 21 rfl rfl)
theorem dJ27_iterator_22 : decode cJ27_iterator 22 = .ok (.getfield 7, 3) := dk_180 0 7 (dk_at dksJ27_iterator_1 0 rfl rfl)
theorem dJ27_iterator_25 : decode cJ27_iterator 25 = .ok (.checkcast 19, 3) := dk_192 0 19 (dk_at dksJ27_iterator_1 3 rfl rfl)
theorem dJ27_iterator_28 : decode cJ27_iterator 28 = .ok (.invokevirtual 21, 3) := dk_182 0 21 (dk_at dksJ27_iterator_1 6 rfl rfl)
theorem dJ27_iterator_31 : decode cJ27_iterator 31 = .ok (.areturn, 1) := dk_176 (dk_at dksJ27_iterator_1 9 rfl rfl)
abbrev cJ19_iterator : ByteArray := prog_92_method_2_code
def dkwJ19_iterator_0 : List UInt8 := [187, 0, 13, 89, 42, 180, 0, 1, 42, 180, 0, 1, 182, 0, 15, 183, 0, 21, 176]
abbrev dktJ19_iterator_0 : List UInt8 := dkwJ19_iterator_0 ++ []
theorem dksJ19_iterator_0 : cJ19_iterator.data.toList.drop 0 = dktJ19_iterator_0 := by decide +kernel
theorem dJ19_iterator_0 : decode cJ19_iterator 0 = .ok (.new 13, 3) := dk_187 0 13 (dk_at dksJ19_iterator_0 0 rfl rfl)
theorem dJ19_iterator_3 : decode cJ19_iterator 3 = .ok (.dup, 1) := dk_89 (dk_at dksJ19_iterator_0 3 rfl rfl)
theorem dJ19_iterator_4 : decode cJ19_iterator 4 = .ok (.aload_n 0, 1) := dk_42 (dk_at dksJ19_iterator_0 4 rfl rfl)
theorem dJ19_iterator_5 : decode cJ19_iterator 5 = .ok (.getfield 1, 3) := dk_180 0 1 (dk_at dksJ19_iterator_0 5 rfl rfl)
theorem dJ19_iterator_8 : decode cJ19_iterator 8 = .ok (.aload_n 0, 1) := dk_42 (dk_at dksJ19_iterator_0 8 rfl rfl)
theorem dJ19_iterator_9 : decode cJ19_iterator 9 = .ok (.getfield 1, 3) := dk_180 0 1 (dk_at dksJ19_iterator_0 9 rfl rfl)
theorem dJ19_iterator_12 : decode cJ19_iterator 12 = .ok (.invokevirtual 15, 3) := dk_182 0 15 (dk_at dksJ19_iterator_0 12 rfl rfl)
theorem dJ19_iterator_15 : decode cJ19_iterator 15 = .ok (.invokespecial 21, 3) := dk_183 0 21 (dk_at dksJ19_iterator_0 15 rfl rfl)
theorem dJ19_iterator_18 : decode cJ19_iterator 18 = .ok (.areturn, 1) := dk_176 (dk_at dksJ19_iterator_0 18 rfl rfl)
abbrev cJ32_iterator : ByteArray := prog_93_method_6_code
def dkwJ32_iterator_0 : List UInt8 := [42, 180, 0, 7, 185, 0, 34, 1, 0, 185, 0, 40, 1, 0, 176]
abbrev dktJ32_iterator_0 : List UInt8 := dkwJ32_iterator_0 ++ []
theorem dksJ32_iterator_0 : cJ32_iterator.data.toList.drop 0 = dktJ32_iterator_0 := by decide +kernel
theorem dJ32_iterator_0 : decode cJ32_iterator 0 = .ok (.aload_n 0, 1) := dk_42 (dk_at dksJ32_iterator_0 0 rfl rfl)
theorem dJ32_iterator_1 : decode cJ32_iterator 1 = .ok (.getfield 7, 3) := dk_180 0 7 (dk_at dksJ32_iterator_0 1 rfl rfl)
theorem dJ32_iterator_4 : decode cJ32_iterator 4 = .ok (.invokeinterface 34 1, 5) := by decide +kernel
theorem dJ32_iterator_9 : decode cJ32_iterator 9 = .ok (.invokeinterface 40 1, 5) := by decide +kernel
theorem dJ32_iterator_14 : decode cJ32_iterator 14 = .ok (.areturn, 1) := dk_176 (dk_at dksJ32_iterator_0 14 rfl rfl)
abbrev cJ20_hasNext : ByteArray := prog_62_method_2_code
def dkwJ20_hasNext_0 : List UInt8 := [42, 180, 0, 25, 42, 180, 0, 1, 180, 0, 28, 159, 0, 7, 4, 167, 0, 4, 3, 172]
abbrev dktJ20_hasNext_0 : List UInt8 := dkwJ20_hasNext_0 ++ []
theorem dksJ20_hasNext_0 : cJ20_hasNext.data.toList.drop 0 = dktJ20_hasNext_0 := by decide +kernel
theorem dJ20_hasNext_0 : decode cJ20_hasNext 0 = .ok (.aload_n 0, 1) := dk_42 (dk_at dksJ20_hasNext_0 0 rfl rfl)
theorem dJ20_hasNext_1 : decode cJ20_hasNext 1 = .ok (.getfield 25, 3) := dk_180 0 25 (dk_at dksJ20_hasNext_0 1 rfl rfl)
theorem dJ20_hasNext_4 : decode cJ20_hasNext 4 = .ok (.aload_n 0, 1) := dk_42 (dk_at dksJ20_hasNext_0 4 rfl rfl)
theorem dJ20_hasNext_5 : decode cJ20_hasNext 5 = .ok (.getfield 1, 3) := dk_180 0 1 (dk_at dksJ20_hasNext_0 5 rfl rfl)
theorem dJ20_hasNext_8 : decode cJ20_hasNext 8 = .ok (.getfield 28, 3) := dk_180 0 28 (dk_at dksJ20_hasNext_0 8 rfl rfl)
theorem dJ20_hasNext_11 : decode cJ20_hasNext 11 = .ok (.if_icmp .eq 7, 3) := dk_159 0 7 (dk_at dksJ20_hasNext_0 11 rfl rfl)
theorem dJ20_hasNext_14 : decode cJ20_hasNext 14 = .ok (.iconst 1, 1) := dk_4 (dk_at dksJ20_hasNext_0 14 rfl rfl)
theorem dJ20_hasNext_15 : decode cJ20_hasNext 15 = .ok (.goto 4, 3) := dk_167 0 4 (dk_at dksJ20_hasNext_0 15 rfl rfl)
theorem dJ20_hasNext_18 : decode cJ20_hasNext 18 = .ok (.iconst 0, 1) := dk_3 (dk_at dksJ20_hasNext_0 18 rfl rfl)
theorem dJ20_hasNext_19 : decode cJ20_hasNext 19 = .ok (.ireturn, 1) := dk_172 (dk_at dksJ20_hasNext_0 19 rfl rfl)
abbrev cJ21_hasNext : ByteArray := prog_74_method_2_code
def dkwJ21_hasNext_1 : List UInt8 := [180, 0, 31, 182, 0, 35, 154, 0, 7, 4, 167, 0, 4, 3, 172]
abbrev dktJ21_hasNext_1 : List UInt8 := dkwJ21_hasNext_1 ++ []
def dkwJ21_hasNext_0 : List UInt8 := [42, 180, 0, 25, 42, 180, 0, 1, 180, 0, 28, 161, 0, 20, 42, 180, 0, 31, 198, 0, 17, 42]
abbrev dktJ21_hasNext_0 : List UInt8 := dkwJ21_hasNext_0 ++ dktJ21_hasNext_1
theorem dksJ21_hasNext_0 : cJ21_hasNext.data.toList.drop 0 = dktJ21_hasNext_0 := by decide +kernel
theorem dksJ21_hasNext_1 : cJ21_hasNext.data.toList.drop 22 = dktJ21_hasNext_1 := dk_seg dksJ21_hasNext_0 22 rfl rfl
theorem dJ21_hasNext_0 : decode cJ21_hasNext 0 = .ok (.aload_n 0, 1) := dk_42 (dk_at dksJ21_hasNext_0 0 rfl rfl)
theorem dJ21_hasNext_1 : decode cJ21_hasNext 1 = .ok (.getfield 25, 3) := dk_180 0 25 (dk_at dksJ21_hasNext_0 1 rfl rfl)
theorem dJ21_hasNext_4 : decode cJ21_hasNext 4 = .ok (.aload_n 0, 1) := dk_42 (dk_at dksJ21_hasNext_0 4 rfl rfl)
theorem dJ21_hasNext_5 : decode cJ21_hasNext 5 = .ok (.getfield 1, 3) := dk_180 0 1 (dk_at dksJ21_hasNext_0 5 rfl rfl)
theorem dJ21_hasNext_8 : decode cJ21_hasNext 8 = .ok (.getfield 28, 3) := dk_180 0 28 (dk_at dksJ21_hasNext_0 8 rfl rfl)
theorem dJ21_hasNext_11 : decode cJ21_hasNext 11 = .ok (.if_icmp .lt 20, 3) := dk_161 0 20 (dk_at dksJ21_hasNext_0 11 rfl rfl)
theorem dJ21_hasNext_14 : decode cJ21_hasNext 14 = .ok (.aload_n 0, 1) := dk_42 (dk_at dksJ21_hasNext_0 14 rfl rfl)
theorem dJ21_hasNext_15 : decode cJ21_hasNext 15 = .ok (.getfield 31, 3) := dk_180 0 31 (dk_at dksJ21_hasNext_0 15 rfl rfl)
theorem dJ21_hasNext_18 : decode cJ21_hasNext 18 = .ok (.ifnull 17, 3) := dk_198 0 17 (dk_at dksJ21_hasNext_0 18 rfl rfl)
theorem dJ21_hasNext_21 : decode cJ21_hasNext 21 = .ok (.aload_n 0, 1) := dk_42 (dk_at dksJ21_hasNext_0 21 rfl rfl)
theorem dJ21_hasNext_22 : decode cJ21_hasNext 22 = .ok (.getfield 31, 3) := dk_180 0 31 (dk_at dksJ21_hasNext_1 0 rfl rfl)
theorem dJ21_hasNext_25 : decode cJ21_hasNext 25 = .ok (.invokevirtual 35, 3) := dk_182 0 35 (dk_at dksJ21_hasNext_1 3 rfl rfl)
theorem dJ21_hasNext_28 : decode cJ21_hasNext 28 = .ok (.ifCond .ne 7, 3) := dk_154 0 7 (dk_at dksJ21_hasNext_1 6 rfl rfl)
theorem dJ21_hasNext_31 : decode cJ21_hasNext 31 = .ok (.iconst 1, 1) := dk_4 (dk_at dksJ21_hasNext_1 9 rfl rfl)
theorem dJ21_hasNext_32 : decode cJ21_hasNext 32 = .ok (.goto 4, 3) := dk_167 0 4 (dk_at dksJ21_hasNext_1 10 rfl rfl)
theorem dJ21_hasNext_35 : decode cJ21_hasNext 35 = .ok (.iconst 0, 1) := dk_3 (dk_at dksJ21_hasNext_1 13 rfl rfl)
theorem dJ21_hasNext_36 : decode cJ21_hasNext 36 = .ok (.ireturn, 1) := dk_172 (dk_at dksJ21_hasNext_1 14 rfl rfl)
abbrev cJ22_hasNext : ByteArray := prog_90_method_2_code
def dkwJ22_hasNext_0 : List UInt8 := [42, 180, 0, 26, 198, 0, 7, 4, 167, 0, 4, 3, 172]
abbrev dktJ22_hasNext_0 : List UInt8 := dkwJ22_hasNext_0 ++ []
theorem dksJ22_hasNext_0 : cJ22_hasNext.data.toList.drop 0 = dktJ22_hasNext_0 := by decide +kernel
theorem dJ22_hasNext_0 : decode cJ22_hasNext 0 = .ok (.aload_n 0, 1) := dk_42 (dk_at dksJ22_hasNext_0 0 rfl rfl)
theorem dJ22_hasNext_1 : decode cJ22_hasNext 1 = .ok (.getfield 26, 3) := dk_180 0 26 (dk_at dksJ22_hasNext_0 1 rfl rfl)
theorem dJ22_hasNext_4 : decode cJ22_hasNext 4 = .ok (.ifnull 7, 3) := dk_198 0 7 (dk_at dksJ22_hasNext_0 4 rfl rfl)
theorem dJ22_hasNext_7 : decode cJ22_hasNext 7 = .ok (.iconst 1, 1) := dk_4 (dk_at dksJ22_hasNext_0 7 rfl rfl)
theorem dJ22_hasNext_8 : decode cJ22_hasNext 8 = .ok (.goto 4, 3) := dk_167 0 4 (dk_at dksJ22_hasNext_0 8 rfl rfl)
theorem dJ22_hasNext_11 : decode cJ22_hasNext 11 = .ok (.iconst 0, 1) := dk_3 (dk_at dksJ22_hasNext_0 11 rfl rfl)
theorem dJ22_hasNext_12 : decode cJ22_hasNext 12 = .ok (.ireturn, 1) := dk_172 (dk_at dksJ22_hasNext_0 12 rfl rfl)
abbrev cJ20_next : ByteArray := prog_62_method_3_code
def dkwJ20_next_2 : List UInt8 := [183, 0, 43, 191, 42, 27, 4, 96, 181, 0, 25, 44, 42, 27, 90, 181, 0, 13, 50, 176]
abbrev dktJ20_next_2 : List UInt8 := dkwJ20_next_2 ++ []
def dkwJ20_next_1 : List UInt8 := [183, 0, 36, 191, 42, 180, 0, 1, 180, 0, 37, 77, 27, 44, 190, 161, 0, 11, 187, 0, 41, 89]
abbrev dktJ20_next_1 : List UInt8 := dkwJ20_next_1 ++ dktJ20_next_2
def dkwJ20_next_0 : List UInt8 := [42, 182, 0, 31, 42, 180, 0, 25, 60, 27, 42, 180, 0, 1, 180, 0, 28, 161, 0, 11, 187, 0, 34, 89]
abbrev dktJ20_next_0 : List UInt8 := dkwJ20_next_0 ++ dktJ20_next_1
theorem dksJ20_next_0 : cJ20_next.data.toList.drop 0 = dktJ20_next_0 := by decide +kernel
theorem dksJ20_next_1 : cJ20_next.data.toList.drop 24 = dktJ20_next_1 := dk_seg dksJ20_next_0 24 rfl rfl
theorem dksJ20_next_2 : cJ20_next.data.toList.drop 46 = dktJ20_next_2 := dk_seg dksJ20_next_1 22 rfl rfl
theorem dJ20_next_0 : decode cJ20_next 0 = .ok (.aload_n 0, 1) := dk_42 (dk_at dksJ20_next_0 0 rfl rfl)
theorem dJ20_next_1 : decode cJ20_next 1 = .ok (.invokevirtual 31, 3) := dk_182 0 31 (dk_at dksJ20_next_0 1 rfl rfl)
theorem dJ20_next_4 : decode cJ20_next 4 = .ok (.aload_n 0, 1) := dk_42 (dk_at dksJ20_next_0 4 rfl rfl)
theorem dJ20_next_5 : decode cJ20_next 5 = .ok (.getfield 25, 3) := dk_180 0 25 (dk_at dksJ20_next_0 5 rfl rfl)
theorem dJ20_next_8 : decode cJ20_next 8 = .ok (.istore_n 1, 1) := dk_60 (dk_at dksJ20_next_0 8 rfl rfl)
theorem dJ20_next_9 : decode cJ20_next 9 = .ok (.iload_n 1, 1) := dk_27 (dk_at dksJ20_next_0 9 rfl rfl)
theorem dJ20_next_10 : decode cJ20_next 10 = .ok (.aload_n 0, 1) := dk_42 (dk_at dksJ20_next_0 10 rfl rfl)
theorem dJ20_next_11 : decode cJ20_next 11 = .ok (.getfield 1, 3) := dk_180 0 1 (dk_at dksJ20_next_0 11 rfl rfl)
theorem dJ20_next_14 : decode cJ20_next 14 = .ok (.getfield 28, 3) := dk_180 0 28 (dk_at dksJ20_next_0 14 rfl rfl)
theorem dJ20_next_17 : decode cJ20_next 17 = .ok (.if_icmp .lt 11, 3) := dk_161 0 11 (dk_at dksJ20_next_0 17 rfl rfl)
theorem dJ20_next_20 : decode cJ20_next 20 = .ok (.new 34, 3) := dk_187 0 34 (dk_at dksJ20_next_0 20 rfl rfl)
theorem dJ20_next_23 : decode cJ20_next 23 = .ok (.dup, 1) := dk_89 (dk_at dksJ20_next_0 23 rfl rfl)
theorem dJ20_next_24 : decode cJ20_next 24 = .ok (.invokespecial 36, 3) := dk_183 0 36 (dk_at dksJ20_next_1 0 rfl rfl)
theorem dJ20_next_27 : decode cJ20_next 27 = .ok (.athrow, 1) := dk_191 (dk_at dksJ20_next_1 3 rfl rfl)
theorem dJ20_next_28 : decode cJ20_next 28 = .ok (.aload_n 0, 1) := dk_42 (dk_at dksJ20_next_1 4 rfl rfl)
theorem dJ20_next_29 : decode cJ20_next 29 = .ok (.getfield 1, 3) := dk_180 0 1 (dk_at dksJ20_next_1 5 rfl rfl)
theorem dJ20_next_32 : decode cJ20_next 32 = .ok (.getfield 37, 3) := dk_180 0 37 (dk_at dksJ20_next_1 8 rfl rfl)
theorem dJ20_next_35 : decode cJ20_next 35 = .ok (.astore_n 2, 1) := dk_77 (dk_at dksJ20_next_1 11 rfl rfl)
theorem dJ20_next_36 : decode cJ20_next 36 = .ok (.iload_n 1, 1) := dk_27 (dk_at dksJ20_next_1 12 rfl rfl)
theorem dJ20_next_37 : decode cJ20_next 37 = .ok (.aload_n 2, 1) := dk_44 (dk_at dksJ20_next_1 13 rfl rfl)
theorem dJ20_next_38 : decode cJ20_next 38 = .ok (.arraylength, 1) := dk_190 (dk_at dksJ20_next_1 14 rfl rfl)
theorem dJ20_next_39 : decode cJ20_next 39 = .ok (.if_icmp .lt 11, 3) := dk_161 0 11 (dk_at dksJ20_next_1 15 rfl rfl)
theorem dJ20_next_42 : decode cJ20_next 42 = .ok (.new 41, 3) := dk_187 0 41 (dk_at dksJ20_next_1 18 rfl rfl)
theorem dJ20_next_45 : decode cJ20_next 45 = .ok (.dup, 1) := dk_89 (dk_at dksJ20_next_1 21 rfl rfl)
theorem dJ20_next_46 : decode cJ20_next 46 = .ok (.invokespecial 43, 3) := dk_183 0 43 (dk_at dksJ20_next_2 0 rfl rfl)
theorem dJ20_next_49 : decode cJ20_next 49 = .ok (.athrow, 1) := dk_191 (dk_at dksJ20_next_2 3 rfl rfl)
theorem dJ20_next_50 : decode cJ20_next 50 = .ok (.aload_n 0, 1) := dk_42 (dk_at dksJ20_next_2 4 rfl rfl)
theorem dJ20_next_51 : decode cJ20_next 51 = .ok (.iload_n 1, 1) := dk_27 (dk_at dksJ20_next_2 5 rfl rfl)
theorem dJ20_next_52 : decode cJ20_next 52 = .ok (.iconst 1, 1) := dk_4 (dk_at dksJ20_next_2 6 rfl rfl)
theorem dJ20_next_53 : decode cJ20_next 53 = .ok (.iadd, 1) := dk_96 (dk_at dksJ20_next_2 7 rfl rfl)
theorem dJ20_next_54 : decode cJ20_next 54 = .ok (.putfield 25, 3) := dk_181 0 25 (dk_at dksJ20_next_2 8 rfl rfl)
theorem dJ20_next_57 : decode cJ20_next 57 = .ok (.aload_n 2, 1) := dk_44 (dk_at dksJ20_next_2 11 rfl rfl)
theorem dJ20_next_58 : decode cJ20_next 58 = .ok (.aload_n 0, 1) := dk_42 (dk_at dksJ20_next_2 12 rfl rfl)
theorem dJ20_next_59 : decode cJ20_next 59 = .ok (.iload_n 1, 1) := dk_27 (dk_at dksJ20_next_2 13 rfl rfl)
theorem dJ20_next_60 : decode cJ20_next 60 = .ok (.dup_x1, 1) := dk_90 (dk_at dksJ20_next_2 14 rfl rfl)
theorem dJ20_next_61 : decode cJ20_next 61 = .ok (.putfield 13, 3) := dk_181 0 13 (dk_at dksJ20_next_2 15 rfl rfl)
theorem dJ20_next_64 : decode cJ20_next 64 = .ok (.aaload, 1) := dk_50 (dk_at dksJ20_next_2 18 rfl rfl)
theorem dJ20_next_65 : decode cJ20_next 65 = .ok (.areturn, 1) := dk_176 (dk_at dksJ20_next_2 19 rfl rfl)
abbrev cJ21_next : ByteArray := prog_74_method_3_code
def dkwJ21_next_4 : List UInt8 := [180, 0, 52, 176, 187, 0, 56, 89, 183, 0, 58, 191]
abbrev dktJ21_next_4 : List UInt8 := dkwJ21_next_4 ++ []
def dkwJ21_next_3 : List UInt8 := [181, 0, 13, 42, 42, 180, 0, 31, 182, 0, 48, 181, 0, 52, 42, 180, 0, 52, 198, 0, 8, 42]
abbrev dktJ21_next_3 : List UInt8 := dkwJ21_next_3 ++ dktJ21_next_4
def dkwJ21_next_2 : List UInt8 := [180, 0, 25, 90, 4, 96, 181, 0, 25, 90, 181, 0, 13, 50, 176, 42, 180, 0, 31, 198, 0, 31, 42, 2]
abbrev dktJ21_next_2 : List UInt8 := dkwJ21_next_2 ++ dktJ21_next_3
def dkwJ21_next_1 : List UInt8 := [180, 0, 25, 42, 180, 0, 1, 180, 0, 28, 162, 0, 28, 42, 180, 0, 1, 180, 0, 44, 42, 42, 89]
abbrev dktJ21_next_1 : List UInt8 := dkwJ21_next_1 ++ dktJ21_next_2
def dkwJ21_next_0 : List UInt8 := [42, 180, 0, 22, 42, 180, 0, 1, 180, 0, 17, 159, 0, 11, 187, 0, 41, 89, 183, 0, 43, 191, 42]
abbrev dktJ21_next_0 : List UInt8 := dkwJ21_next_0 ++ dktJ21_next_1
theorem dksJ21_next_0 : cJ21_next.data.toList.drop 0 = dktJ21_next_0 := by decide +kernel
theorem dksJ21_next_1 : cJ21_next.data.toList.drop 23 = dktJ21_next_1 := dk_seg dksJ21_next_0 23 rfl rfl
theorem dksJ21_next_2 : cJ21_next.data.toList.drop 46 = dktJ21_next_2 := dk_seg dksJ21_next_1 23 rfl rfl
theorem dksJ21_next_3 : cJ21_next.data.toList.drop 70 = dktJ21_next_3 := dk_seg dksJ21_next_2 24 rfl rfl
theorem dksJ21_next_4 : cJ21_next.data.toList.drop 92 = dktJ21_next_4 := dk_seg dksJ21_next_3 22 rfl rfl
theorem dJ21_next_0 : decode cJ21_next 0 = .ok (.aload_n 0, 1) := dk_42 (dk_at dksJ21_next_0 0 rfl rfl)
theorem dJ21_next_1 : decode cJ21_next 1 = .ok (.getfield 22, 3) := dk_180 0 22 (dk_at dksJ21_next_0 1 rfl rfl)
theorem dJ21_next_4 : decode cJ21_next 4 = .ok (.aload_n 0, 1) := dk_42 (dk_at dksJ21_next_0 4 rfl rfl)
theorem dJ21_next_5 : decode cJ21_next 5 = .ok (.getfield 1, 3) := dk_180 0 1 (dk_at dksJ21_next_0 5 rfl rfl)
theorem dJ21_next_8 : decode cJ21_next 8 = .ok (.getfield 17, 3) := dk_180 0 17 (dk_at dksJ21_next_0 8 rfl rfl)
theorem dJ21_next_11 : decode cJ21_next 11 = .ok (.if_icmp .eq 11, 3) := dk_159 0 11 (dk_at dksJ21_next_0 11 rfl rfl)
theorem dJ21_next_14 : decode cJ21_next 14 = .ok (.new 41, 3) := dk_187 0 41 (dk_at dksJ21_next_0 14 rfl rfl)
theorem dJ21_next_17 : decode cJ21_next 17 = .ok (.dup, 1) := dk_89 (dk_at dksJ21_next_0 17 rfl rfl)
theorem dJ21_next_18 : decode cJ21_next 18 = .ok (.invokespecial 43, 3) := dk_183 0 43 (dk_at dksJ21_next_0 18 rfl rfl)
theorem dJ21_next_21 : decode cJ21_next 21 = .ok (.athrow, 1) := dk_191 (dk_at dksJ21_next_0 21 rfl rfl)
theorem dJ21_next_22 : decode cJ21_next 22 = .ok (.aload_n 0, 1) := dk_42 (dk_at dksJ21_next_0 22 rfl rfl)
theorem dJ21_next_23 : decode cJ21_next 23 = .ok (.getfield 25, 3) := dk_180 0 25 (dk_at dksJ21_next_1 0 rfl rfl)
theorem dJ21_next_26 : decode cJ21_next 26 = .ok (.aload_n 0, 1) := dk_42 (dk_at dksJ21_next_1 3 rfl rfl)
theorem dJ21_next_27 : decode cJ21_next 27 = .ok (.getfield 1, 3) := dk_180 0 1 (dk_at dksJ21_next_1 4 rfl rfl)
theorem dJ21_next_30 : decode cJ21_next 30 = .ok (.getfield 28, 3) := dk_180 0 28 (dk_at dksJ21_next_1 7 rfl rfl)
theorem dJ21_next_33 : decode cJ21_next 33 = .ok (.if_icmp .ge 28, 3) := dk_162 0 28 (dk_at dksJ21_next_1 10 rfl rfl)
theorem dJ21_next_36 : decode cJ21_next 36 = .ok (.aload_n 0, 1) := dk_42 (dk_at dksJ21_next_1 13 rfl rfl)
theorem dJ21_next_37 : decode cJ21_next 37 = .ok (.getfield 1, 3) := dk_180 0 1 (dk_at dksJ21_next_1 14 rfl rfl)
theorem dJ21_next_40 : decode cJ21_next 40 = .ok (.getfield 44, 3) := dk_180 0 44 (dk_at dksJ21_next_1 17 rfl rfl)
theorem dJ21_next_43 : decode cJ21_next 43 = .ok (.aload_n 0, 1) := dk_42 (dk_at dksJ21_next_1 20 rfl rfl)
theorem dJ21_next_44 : decode cJ21_next 44 = .ok (.aload_n 0, 1) := dk_42 (dk_at dksJ21_next_1 21 rfl rfl)
theorem dJ21_next_45 : decode cJ21_next 45 = .ok (.dup, 1) := dk_89 (dk_at dksJ21_next_1 22 rfl rfl)
theorem dJ21_next_46 : decode cJ21_next 46 = .ok (.getfield 25, 3) := dk_180 0 25 (dk_at dksJ21_next_2 0 rfl rfl)
theorem dJ21_next_49 : decode cJ21_next 49 = .ok (.dup_x1, 1) := dk_90 (dk_at dksJ21_next_2 3 rfl rfl)
theorem dJ21_next_50 : decode cJ21_next 50 = .ok (.iconst 1, 1) := dk_4 (dk_at dksJ21_next_2 4 rfl rfl)
theorem dJ21_next_51 : decode cJ21_next 51 = .ok (.iadd, 1) := dk_96 (dk_at dksJ21_next_2 5 rfl rfl)
theorem dJ21_next_52 : decode cJ21_next 52 = .ok (.putfield 25, 3) := dk_181 0 25 (dk_at dksJ21_next_2 6 rfl rfl)
theorem dJ21_next_55 : decode cJ21_next 55 = .ok (.dup_x1, 1) := dk_90 (dk_at dksJ21_next_2 9 rfl rfl)
theorem dJ21_next_56 : decode cJ21_next 56 = .ok (.putfield 13, 3) := dk_181 0 13 (dk_at dksJ21_next_2 10 rfl rfl)
theorem dJ21_next_59 : decode cJ21_next 59 = .ok (.aaload, 1) := dk_50 (dk_at dksJ21_next_2 13 rfl rfl)
theorem dJ21_next_60 : decode cJ21_next 60 = .ok (.areturn, 1) := dk_176 (dk_at dksJ21_next_2 14 rfl rfl)
theorem dJ21_next_61 : decode cJ21_next 61 = .ok (.aload_n 0, 1) := dk_42 (dk_at dksJ21_next_2 15 rfl rfl)
theorem dJ21_next_62 : decode cJ21_next 62 = .ok (.getfield 31, 3) := dk_180 0 31 (dk_at dksJ21_next_2 16 rfl rfl)
theorem dJ21_next_65 : decode cJ21_next 65 = .ok (.ifnull 31, 3) := dk_198 0 31 (dk_at dksJ21_next_2 19 rfl rfl)
theorem dJ21_next_68 : decode cJ21_next 68 = .ok (.aload_n 0, 1) := dk_42 (dk_at dksJ21_next_2 22 rfl rfl)
theorem dJ21_next_69 : decode cJ21_next 69 = .ok (.iconst (-1), 1) := dk_2 (dk_at dksJ21_next_2 23 rfl rfl)
theorem dJ21_next_70 : decode cJ21_next 70 = .ok (.putfield 13, 3) := dk_181 0 13 (dk_at dksJ21_next_3 0 rfl rfl)
theorem dJ21_next_73 : decode cJ21_next 73 = .ok (.aload_n 0, 1) := dk_42 (dk_at dksJ21_next_3 3 rfl rfl)
theorem dJ21_next_74 : decode cJ21_next 74 = .ok (.aload_n 0, 1) := dk_42 (dk_at dksJ21_next_3 4 rfl rfl)
theorem dJ21_next_75 : decode cJ21_next 75 = .ok (.getfield 31, 3) := dk_180 0 31 (dk_at dksJ21_next_3 5 rfl rfl)
theorem dJ21_next_78 : decode cJ21_next 78 = .ok (.invokevirtual 48, 3) := dk_182 0 48 (dk_at dksJ21_next_3 8 rfl rfl)
theorem dJ21_next_81 : decode cJ21_next 81 = .ok (.putfield 52, 3) := dk_181 0 52 (dk_at dksJ21_next_3 11 rfl rfl)
theorem dJ21_next_84 : decode cJ21_next 84 = .ok (.aload_n 0, 1) := dk_42 (dk_at dksJ21_next_3 14 rfl rfl)
theorem dJ21_next_85 : decode cJ21_next 85 = .ok (.getfield 52, 3) := dk_180 0 52 (dk_at dksJ21_next_3 15 rfl rfl)
theorem dJ21_next_88 : decode cJ21_next 88 = .ok (.ifnull 8, 3) := dk_198 0 8 (dk_at dksJ21_next_3 18 rfl rfl)
theorem dJ21_next_91 : decode cJ21_next 91 = .ok (.aload_n 0, 1) := dk_42 (dk_at dksJ21_next_3 21 rfl rfl)
theorem dJ21_next_92 : decode cJ21_next 92 = .ok (.getfield 52, 3) := dk_180 0 52 (dk_at dksJ21_next_4 0 rfl rfl)
theorem dJ21_next_95 : decode cJ21_next 95 = .ok (.areturn, 1) := dk_176 (dk_at dksJ21_next_4 3 rfl rfl)
theorem dJ21_next_96 : decode cJ21_next 96 = .ok (.new 56, 3) := dk_187 0 56 (dk_at dksJ21_next_4 4 rfl rfl)
theorem dJ21_next_99 : decode cJ21_next 99 = .ok (.dup, 1) := dk_89 (dk_at dksJ21_next_4 7 rfl rfl)
theorem dJ21_next_100 : decode cJ21_next 100 = .ok (.invokespecial 58, 3) := dk_183 0 58 (dk_at dksJ21_next_4 8 rfl rfl)
theorem dJ21_next_103 : decode cJ21_next 103 = .ok (.athrow, 1) := dk_191 (dk_at dksJ21_next_4 11 rfl rfl)
abbrev cJ23_next : ByteArray := prog_85_method_3_code
theorem dJ23_next_0 : decode cJ23_next 0 = .ok (.aload_n 0, 1) := by decide +kernel
theorem dJ23_next_1 : decode cJ23_next 1 = .ok (.invokevirtual 13, 3) := by decide +kernel
theorem dJ23_next_4 : decode cJ23_next 4 = .ok (.areturn, 1) := by decide +kernel
abbrev cJ24_next : ByteArray := prog_87_method_2_code
def dkwJ24_next_0 : List UInt8 := [42, 182, 0, 7, 180, 0, 13, 176]
abbrev dktJ24_next_0 : List UInt8 := dkwJ24_next_0 ++ []
theorem dksJ24_next_0 : cJ24_next.data.toList.drop 0 = dktJ24_next_0 := by decide +kernel
theorem dJ24_next_0 : decode cJ24_next 0 = .ok (.aload_n 0, 1) := dk_42 (dk_at dksJ24_next_0 0 rfl rfl)
theorem dJ24_next_1 : decode cJ24_next 1 = .ok (.invokevirtual 7, 3) := dk_182 0 7 (dk_at dksJ24_next_0 1 rfl rfl)
theorem dJ24_next_4 : decode cJ24_next 4 = .ok (.getfield 13, 3) := dk_180 0 13 (dk_at dksJ24_next_0 4 rfl rfl)
theorem dJ24_next_7 : decode cJ24_next 7 = .ok (.areturn, 1) := dk_176 (dk_at dksJ24_next_0 7 rfl rfl)
abbrev cJ25_next : ByteArray := prog_91_method_2_code
def dkwJ25_next_0 : List UInt8 := [42, 182, 0, 7, 180, 0, 13, 176]
abbrev dktJ25_next_0 : List UInt8 := dkwJ25_next_0 ++ []
theorem dksJ25_next_0 : cJ25_next.data.toList.drop 0 = dktJ25_next_0 := by decide +kernel
theorem dJ25_next_0 : decode cJ25_next 0 = .ok (.aload_n 0, 1) := dk_42 (dk_at dksJ25_next_0 0 rfl rfl)
theorem dJ25_next_1 : decode cJ25_next 1 = .ok (.invokevirtual 7, 3) := dk_182 0 7 (dk_at dksJ25_next_0 1 rfl rfl)
theorem dJ25_next_4 : decode cJ25_next 4 = .ok (.getfield 13, 3) := dk_180 0 13 (dk_at dksJ25_next_0 4 rfl rfl)
theorem dJ25_next_7 : decode cJ25_next 7 = .ok (.areturn, 1) := dk_176 (dk_at dksJ25_next_0 7 rfl rfl)
abbrev cJ8_intValue : ByteArray := prog_41_method_27_code
theorem dJ8_intValue_0 : decode cJ8_intValue 0 = .ok (.aload_n 0, 1) := by decide +kernel
theorem dJ8_intValue_1 : decode cJ8_intValue 1 = .ok (.getfield 205, 3) := by decide +kernel
theorem dJ8_intValue_4 : decode cJ8_intValue 4 = .ok (.ireturn, 1) := by decide +kernel
abbrev cJ2_size : ByteArray := prog_61_method_8_code
theorem dJ2_size_0 : decode cJ2_size 0 = .ok (.aload_n 0, 1) := by decide +kernel
theorem dJ2_size_1 : decode cJ2_size 1 = .ok (.getfield 48, 3) := by decide +kernel
theorem dJ2_size_4 : decode cJ2_size 4 = .ok (.ireturn, 1) := by decide +kernel
abbrev cJ2_add : ByteArray := prog_61_method_25_code
def dkwJ2_add_1 : List UInt8 := [172]
abbrev dktJ2_add_1 : List UInt8 := dkwJ2_add_1 ++ []
def dkwJ2_add_0 : List UInt8 := [42, 89, 180, 0, 63, 4, 96, 181, 0, 63, 42, 43, 42, 180, 0, 9, 42, 180, 0, 48, 182, 0, 131, 4]
abbrev dktJ2_add_0 : List UInt8 := dkwJ2_add_0 ++ dktJ2_add_1
theorem dksJ2_add_0 : cJ2_add.data.toList.drop 0 = dktJ2_add_0 := by decide +kernel
theorem dksJ2_add_1 : cJ2_add.data.toList.drop 24 = dktJ2_add_1 := dk_seg dksJ2_add_0 24 rfl rfl
theorem dJ2_add_0 : decode cJ2_add 0 = .ok (.aload_n 0, 1) := dk_42 (dk_at dksJ2_add_0 0 rfl rfl)
theorem dJ2_add_1 : decode cJ2_add 1 = .ok (.dup, 1) := dk_89 (dk_at dksJ2_add_0 1 rfl rfl)
theorem dJ2_add_2 : decode cJ2_add 2 = .ok (.getfield 63, 3) := dk_180 0 63 (dk_at dksJ2_add_0 2 rfl rfl)
theorem dJ2_add_5 : decode cJ2_add 5 = .ok (.iconst 1, 1) := dk_4 (dk_at dksJ2_add_0 5 rfl rfl)
theorem dJ2_add_6 : decode cJ2_add 6 = .ok (.iadd, 1) := dk_96 (dk_at dksJ2_add_0 6 rfl rfl)
theorem dJ2_add_7 : decode cJ2_add 7 = .ok (.putfield 63, 3) := dk_181 0 63 (dk_at dksJ2_add_0 7 rfl rfl)
theorem dJ2_add_10 : decode cJ2_add 10 = .ok (.aload_n 0, 1) := dk_42 (dk_at dksJ2_add_0 10 rfl rfl)
theorem dJ2_add_11 : decode cJ2_add 11 = .ok (.aload_n 1, 1) := dk_43 (dk_at dksJ2_add_0 11 rfl rfl)
theorem dJ2_add_12 : decode cJ2_add 12 = .ok (.aload_n 0, 1) := dk_42 (dk_at dksJ2_add_0 12 rfl rfl)
theorem dJ2_add_13 : decode cJ2_add 13 = .ok (.getfield 9, 3) := dk_180 0 9 (dk_at dksJ2_add_0 13 rfl rfl)
theorem dJ2_add_16 : decode cJ2_add 16 = .ok (.aload_n 0, 1) := dk_42 (dk_at dksJ2_add_0 16 rfl rfl)
theorem dJ2_add_17 : decode cJ2_add 17 = .ok (.getfield 48, 3) := dk_180 0 48 (dk_at dksJ2_add_0 17 rfl rfl)
theorem dJ2_add_20 : decode cJ2_add 20 = .ok (.invokevirtual 131, 3) := dk_182 0 131 (dk_at dksJ2_add_0 20 rfl rfl)
theorem dJ2_add_23 : decode cJ2_add 23 = .ok (.iconst 1, 1) := dk_4 (dk_at dksJ2_add_0 23 rfl rfl)
theorem dJ2_add_24 : decode cJ2_add 24 = .ok (.ireturn, 1) := dk_172 (dk_at dksJ2_add_1 0 rfl rfl)
abbrev cJ32_size : ByteArray := prog_93_method_9_code
def dkwJ32_size_0 : List UInt8 := [42, 180, 0, 7, 185, 0, 53, 1, 0, 172]
abbrev dktJ32_size_0 : List UInt8 := dkwJ32_size_0 ++ []
theorem dksJ32_size_0 : cJ32_size.data.toList.drop 0 = dktJ32_size_0 := by decide +kernel
theorem dJ32_size_0 : decode cJ32_size 0 = .ok (.aload_n 0, 1) := dk_42 (dk_at dksJ32_size_0 0 rfl rfl)
theorem dJ32_size_1 : decode cJ32_size 1 = .ok (.getfield 7, 3) := dk_180 0 7 (dk_at dksJ32_size_0 1 rfl rfl)
theorem dJ32_size_4 : decode cJ32_size 4 = .ok (.invokeinterface 53 1, 5) := by decide +kernel
theorem dJ32_size_9 : decode cJ32_size 9 = .ok (.ireturn, 1) := dk_172 (dk_at dksJ32_size_0 9 rfl rfl)
abbrev cJ9_length : ByteArray := prog_47_method_54_code
def dkwJ9_length_0 : List UInt8 := [42, 180, 0, 9, 190, 42, 182, 1, 79, 122, 172]
abbrev dktJ9_length_0 : List UInt8 := dkwJ9_length_0 ++ []
theorem dksJ9_length_0 : cJ9_length.data.toList.drop 0 = dktJ9_length_0 := by decide +kernel
theorem dJ9_length_0 : decode cJ9_length 0 = .ok (.aload_n 0, 1) := dk_42 (dk_at dksJ9_length_0 0 rfl rfl)
theorem dJ9_length_1 : decode cJ9_length 1 = .ok (.getfield 9, 3) := dk_180 0 9 (dk_at dksJ9_length_0 1 rfl rfl)
theorem dJ9_length_4 : decode cJ9_length 4 = .ok (.arraylength, 1) := dk_190 (dk_at dksJ9_length_0 4 rfl rfl)
theorem dJ9_length_5 : decode cJ9_length 5 = .ok (.aload_n 0, 1) := dk_42 (dk_at dksJ9_length_0 5 rfl rfl)
theorem dJ9_length_6 : decode cJ9_length 6 = .ok (.invokevirtual 335, 3) := dk_182 1 79 (dk_at dksJ9_length_0 6 rfl rfl)
theorem dJ9_length_9 : decode cJ9_length 9 = .ok (.ishr, 1) := dk_122 (dk_at dksJ9_length_0 9 rfl rfl)
theorem dJ9_length_10 : decode cJ9_length 10 = .ok (.ireturn, 1) := dk_172 (dk_at dksJ9_length_0 10 rfl rfl)
abbrev cJ9_charAt : ByteArray := prog_47_method_56_code
def dkwJ9_charAt_1 : List UInt8 := [172]
abbrev dktJ9_charAt_1 : List UInt8 := dkwJ9_charAt_1 ++ []
def dkwJ9_charAt_0 : List UInt8 := [42, 182, 1, 236, 153, 0, 12, 42, 180, 0, 9, 27, 184, 1, 239, 172, 42, 180, 0, 9, 27, 184, 1, 242]
abbrev dktJ9_charAt_0 : List UInt8 := dkwJ9_charAt_0 ++ dktJ9_charAt_1
theorem dksJ9_charAt_0 : cJ9_charAt.data.toList.drop 0 = dktJ9_charAt_0 := by decide +kernel
theorem dksJ9_charAt_1 : cJ9_charAt.data.toList.drop 24 = dktJ9_charAt_1 := dk_seg dksJ9_charAt_0 24 rfl rfl
theorem dJ9_charAt_0 : decode cJ9_charAt 0 = .ok (.aload_n 0, 1) := dk_42 (dk_at dksJ9_charAt_0 0 rfl rfl)
theorem dJ9_charAt_1 : decode cJ9_charAt 1 = .ok (.invokevirtual 492, 3) := dk_182 1 236 (dk_at dksJ9_charAt_0 1 rfl rfl)
theorem dJ9_charAt_4 : decode cJ9_charAt 4 = .ok (.ifCond .eq 12, 3) := dk_153 0 12 (dk_at dksJ9_charAt_0 4 rfl rfl)
theorem dJ9_charAt_7 : decode cJ9_charAt 7 = .ok (.aload_n 0, 1) := dk_42 (dk_at dksJ9_charAt_0 7 rfl rfl)
theorem dJ9_charAt_8 : decode cJ9_charAt 8 = .ok (.getfield 9, 3) := dk_180 0 9 (dk_at dksJ9_charAt_0 8 rfl rfl)
theorem dJ9_charAt_11 : decode cJ9_charAt 11 = .ok (.iload_n 1, 1) := dk_27 (dk_at dksJ9_charAt_0 11 rfl rfl)
theorem dJ9_charAt_12 : decode cJ9_charAt 12 = .ok (.invokestatic 495, 3) := dk_184 1 239 (dk_at dksJ9_charAt_0 12 rfl rfl)
theorem dJ9_charAt_15 : decode cJ9_charAt 15 = .ok (.ireturn, 1) := dk_172 (dk_at dksJ9_charAt_0 15 rfl rfl)
theorem dJ9_charAt_16 : decode cJ9_charAt 16 = .ok (.aload_n 0, 1) := dk_42 (dk_at dksJ9_charAt_0 16 rfl rfl)
theorem dJ9_charAt_17 : decode cJ9_charAt 17 = .ok (.getfield 9, 3) := dk_180 0 9 (dk_at dksJ9_charAt_0 17 rfl rfl)
theorem dJ9_charAt_20 : decode cJ9_charAt 20 = .ok (.iload_n 1, 1) := dk_27 (dk_at dksJ9_charAt_0 20 rfl rfl)
theorem dJ9_charAt_21 : decode cJ9_charAt 21 = .ok (.invokestatic 498, 3) := dk_184 1 242 (dk_at dksJ9_charAt_0 21 rfl rfl)
theorem dJ9_charAt_24 : decode cJ9_charAt 24 = .ok (.ireturn, 1) := dk_172 (dk_at dksJ9_charAt_1 0 rfl rfl)
abbrev cJ4_size : ByteArray := prog_83_method_5_code
theorem dJ4_size_0 : decode cJ4_size 0 = .ok (.aload_n 0, 1) := by decide +kernel
theorem dJ4_size_1 : decode cJ4_size 1 = .ok (.getfield 7, 3) := by decide +kernel
theorem dJ4_size_4 : decode cJ4_size 4 = .ok (.ireturn, 1) := by decide +kernel
abbrev cJ8_valueOf : ByteArray := prog_41_method_22_code
def dkwJ8_valueOf_1 : List UInt8 := [187, 0, 1, 89, 26, 183, 0, 199, 176]
abbrev dktJ8_valueOf_1 : List UInt8 := dkwJ8_valueOf_1 ++ []
def dkwJ8_valueOf_0 : List UInt8 := [26, 16, 128, 161, 0, 20, 26, 178, 0, 191, 163, 0, 13, 178, 0, 195, 26, 17, 0, 128, 96, 50, 176]
abbrev dktJ8_valueOf_0 : List UInt8 := dkwJ8_valueOf_0 ++ dktJ8_valueOf_1
theorem dksJ8_valueOf_0 : cJ8_valueOf.data.toList.drop 0 = dktJ8_valueOf_0 := by decide +kernel
theorem dksJ8_valueOf_1 : cJ8_valueOf.data.toList.drop 23 = dktJ8_valueOf_1 := dk_seg dksJ8_valueOf_0 23 rfl rfl
theorem dJ8_valueOf_0 : decode cJ8_valueOf 0 = .ok (.iload_n 0, 1) := dk_26 (dk_at dksJ8_valueOf_0 0 rfl rfl)
theorem dJ8_valueOf_1 : decode cJ8_valueOf 1 = .ok (.bipush (-128), 2) := dk_16 128 (dk_at dksJ8_valueOf_0 1 rfl rfl)
theorem dJ8_valueOf_3 : decode cJ8_valueOf 3 = .ok (.if_icmp .lt 20, 3) := dk_161 0 20 (dk_at dksJ8_valueOf_0 3 rfl rfl)
theorem dJ8_valueOf_6 : decode cJ8_valueOf 6 = .ok (.iload_n 0, 1) := dk_26 (dk_at dksJ8_valueOf_0 6 rfl rfl)
theorem dJ8_valueOf_7 : decode cJ8_valueOf 7 = .ok (.getstatic 191, 3) := dk_178 0 191 (dk_at dksJ8_valueOf_0 7 rfl rfl)
theorem dJ8_valueOf_10 : decode cJ8_valueOf 10 = .ok (.if_icmp .gt 13, 3) := dk_163 0 13 (dk_at dksJ8_valueOf_0 10 rfl rfl)
theorem dJ8_valueOf_13 : decode cJ8_valueOf 13 = .ok (.getstatic 195, 3) := dk_178 0 195 (dk_at dksJ8_valueOf_0 13 rfl rfl)
theorem dJ8_valueOf_16 : decode cJ8_valueOf 16 = .ok (.iload_n 0, 1) := dk_26 (dk_at dksJ8_valueOf_0 16 rfl rfl)
theorem dJ8_valueOf_17 : decode cJ8_valueOf 17 = .ok (.sipush 128, 3) := dk_17 0 128 (dk_at dksJ8_valueOf_0 17 rfl rfl)
theorem dJ8_valueOf_20 : decode cJ8_valueOf 20 = .ok (.iadd, 1) := dk_96 (dk_at dksJ8_valueOf_0 20 rfl rfl)
theorem dJ8_valueOf_21 : decode cJ8_valueOf 21 = .ok (.aaload, 1) := dk_50 (dk_at dksJ8_valueOf_0 21 rfl rfl)
theorem dJ8_valueOf_22 : decode cJ8_valueOf 22 = .ok (.areturn, 1) := dk_176 (dk_at dksJ8_valueOf_0 22 rfl rfl)
theorem dJ8_valueOf_23 : decode cJ8_valueOf 23 = .ok (.new 1, 3) := dk_187 0 1 (dk_at dksJ8_valueOf_1 0 rfl rfl)
theorem dJ8_valueOf_26 : decode cJ8_valueOf 26 = .ok (.dup, 1) := dk_89 (dk_at dksJ8_valueOf_1 3 rfl rfl)
theorem dJ8_valueOf_27 : decode cJ8_valueOf 27 = .ok (.iload_n 0, 1) := dk_26 (dk_at dksJ8_valueOf_1 4 rfl rfl)
theorem dJ8_valueOf_28 : decode cJ8_valueOf 28 = .ok (.invokespecial 199, 3) := dk_183 0 199 (dk_at dksJ8_valueOf_1 5 rfl rfl)
theorem dJ8_valueOf_31 : decode cJ8_valueOf 31 = .ok (.areturn, 1) := dk_176 (dk_at dksJ8_valueOf_1 8 rfl rfl)
abbrev cJ4_get : ByteArray := prog_83_method_8_code
def dkwJ4_get_0 : List UInt8 := [42, 43, 182, 0, 50, 77, 44, 199, 0, 7, 1, 167, 0, 7, 44, 180, 0, 58, 176]
abbrev dktJ4_get_0 : List UInt8 := dkwJ4_get_0 ++ []
theorem dksJ4_get_0 : cJ4_get.data.toList.drop 0 = dktJ4_get_0 := by decide +kernel
theorem dJ4_get_0 : decode cJ4_get 0 = .ok (.aload_n 0, 1) := dk_42 (dk_at dksJ4_get_0 0 rfl rfl)
theorem dJ4_get_1 : decode cJ4_get 1 = .ok (.aload_n 1, 1) := dk_43 (dk_at dksJ4_get_0 1 rfl rfl)
theorem dJ4_get_2 : decode cJ4_get 2 = .ok (.invokevirtual 50, 3) := dk_182 0 50 (dk_at dksJ4_get_0 2 rfl rfl)
theorem dJ4_get_5 : decode cJ4_get 5 = .ok (.astore_n 2, 1) := dk_77 (dk_at dksJ4_get_0 5 rfl rfl)
theorem dJ4_get_6 : decode cJ4_get 6 = .ok (.aload_n 2, 1) := dk_44 (dk_at dksJ4_get_0 6 rfl rfl)
theorem dJ4_get_7 : decode cJ4_get 7 = .ok (.ifnonnull 7, 3) := dk_199 0 7 (dk_at dksJ4_get_0 7 rfl rfl)
theorem dJ4_get_10 : decode cJ4_get 10 = .ok (.aconst_null, 1) := dk_1 (dk_at dksJ4_get_0 10 rfl rfl)
theorem dJ4_get_11 : decode cJ4_get 11 = .ok (.goto 7, 3) := dk_167 0 7 (dk_at dksJ4_get_0 11 rfl rfl)
theorem dJ4_get_14 : decode cJ4_get 14 = .ok (.aload_n 2, 1) := dk_44 (dk_at dksJ4_get_0 14 rfl rfl)
theorem dJ4_get_15 : decode cJ4_get 15 = .ok (.getfield 58, 3) := dk_180 0 58 (dk_at dksJ4_get_0 15 rfl rfl)
theorem dJ4_get_18 : decode cJ4_get 18 = .ok (.areturn, 1) := dk_176 (dk_at dksJ4_get_0 18 rfl rfl)
abbrev cJ4_remove : ByteArray := prog_83_method_34_code
def dkwJ4_remove_0 : List UInt8 := [42, 43, 182, 0, 50, 77, 44, 199, 0, 5, 1, 176, 44, 180, 0, 58, 78, 42, 44, 182, 0, 174, 45, 176]
abbrev dktJ4_remove_0 : List UInt8 := dkwJ4_remove_0 ++ []
theorem dksJ4_remove_0 : cJ4_remove.data.toList.drop 0 = dktJ4_remove_0 := by decide +kernel
theorem dJ4_remove_0 : decode cJ4_remove 0 = .ok (.aload_n 0, 1) := dk_42 (dk_at dksJ4_remove_0 0 rfl rfl)
theorem dJ4_remove_1 : decode cJ4_remove 1 = .ok (.aload_n 1, 1) := dk_43 (dk_at dksJ4_remove_0 1 rfl rfl)
theorem dJ4_remove_2 : decode cJ4_remove 2 = .ok (.invokevirtual 50, 3) := dk_182 0 50 (dk_at dksJ4_remove_0 2 rfl rfl)
theorem dJ4_remove_5 : decode cJ4_remove 5 = .ok (.astore_n 2, 1) := dk_77 (dk_at dksJ4_remove_0 5 rfl rfl)
theorem dJ4_remove_6 : decode cJ4_remove 6 = .ok (.aload_n 2, 1) := dk_44 (dk_at dksJ4_remove_0 6 rfl rfl)
theorem dJ4_remove_7 : decode cJ4_remove 7 = .ok (.ifnonnull 5, 3) := dk_199 0 5 (dk_at dksJ4_remove_0 7 rfl rfl)
theorem dJ4_remove_10 : decode cJ4_remove 10 = .ok (.aconst_null, 1) := dk_1 (dk_at dksJ4_remove_0 10 rfl rfl)
theorem dJ4_remove_11 : decode cJ4_remove 11 = .ok (.areturn, 1) := dk_176 (dk_at dksJ4_remove_0 11 rfl rfl)
theorem dJ4_remove_12 : decode cJ4_remove 12 = .ok (.aload_n 2, 1) := dk_44 (dk_at dksJ4_remove_0 12 rfl rfl)
theorem dJ4_remove_13 : decode cJ4_remove 13 = .ok (.getfield 58, 3) := dk_180 0 58 (dk_at dksJ4_remove_0 13 rfl rfl)
theorem dJ4_remove_16 : decode cJ4_remove 16 = .ok (.astore_n 3, 1) := dk_78 (dk_at dksJ4_remove_0 16 rfl rfl)
theorem dJ4_remove_17 : decode cJ4_remove 17 = .ok (.aload_n 0, 1) := dk_42 (dk_at dksJ4_remove_0 17 rfl rfl)
theorem dJ4_remove_18 : decode cJ4_remove 18 = .ok (.aload_n 2, 1) := dk_44 (dk_at dksJ4_remove_0 18 rfl rfl)
theorem dJ4_remove_19 : decode cJ4_remove 19 = .ok (.invokevirtual 174, 3) := dk_182 0 174 (dk_at dksJ4_remove_0 19 rfl rfl)
theorem dJ4_remove_22 : decode cJ4_remove 22 = .ok (.aload_n 3, 1) := dk_45 (dk_at dksJ4_remove_0 22 rfl rfl)
theorem dJ4_remove_23 : decode cJ4_remove 23 = .ok (.areturn, 1) := dk_176 (dk_at dksJ4_remove_0 23 rfl rfl)
abbrev cJ11_max : ByteArray := prog_45_method_65_code
def dkwJ11_max_0 : List UInt8 := [26, 27, 161, 0, 7, 26, 167, 0, 4, 27, 172]
abbrev dktJ11_max_0 : List UInt8 := dkwJ11_max_0 ++ []
theorem dksJ11_max_0 : cJ11_max.data.toList.drop 0 = dktJ11_max_0 := by decide +kernel
theorem dJ11_max_0 : decode cJ11_max 0 = .ok (.iload_n 0, 1) := dk_26 (dk_at dksJ11_max_0 0 rfl rfl)
theorem dJ11_max_1 : decode cJ11_max 1 = .ok (.iload_n 1, 1) := dk_27 (dk_at dksJ11_max_0 1 rfl rfl)
theorem dJ11_max_2 : decode cJ11_max 2 = .ok (.if_icmp .lt 7, 3) := dk_161 0 7 (dk_at dksJ11_max_0 2 rfl rfl)
theorem dJ11_max_5 : decode cJ11_max 5 = .ok (.iload_n 0, 1) := dk_26 (dk_at dksJ11_max_0 5 rfl rfl)
theorem dJ11_max_6 : decode cJ11_max 6 = .ok (.goto 4, 3) := dk_167 0 4 (dk_at dksJ11_max_0 6 rfl rfl)
theorem dJ11_max_9 : decode cJ11_max 9 = .ok (.iload_n 1, 1) := dk_27 (dk_at dksJ11_max_0 9 rfl rfl)
theorem dJ11_max_10 : decode cJ11_max 10 = .ok (.ireturn, 1) := dk_172 (dk_at dksJ11_max_0 10 rfl rfl)
abbrev cJ2_init : ByteArray := prog_61_method_2_code
def dkwJ2_init_0 : List UInt8 := [42, 183, 0, 1, 42, 178, 0, 39, 181, 0, 9, 177]
abbrev dktJ2_init_0 : List UInt8 := dkwJ2_init_0 ++ []
theorem dksJ2_init_0 : cJ2_init.data.toList.drop 0 = dktJ2_init_0 := by decide +kernel
theorem dJ2_init_0 : decode cJ2_init 0 = .ok (.aload_n 0, 1) := dk_42 (dk_at dksJ2_init_0 0 rfl rfl)
theorem dJ2_init_1 : decode cJ2_init 1 = .ok (.invokespecial 1, 3) := dk_183 0 1 (dk_at dksJ2_init_0 1 rfl rfl)
theorem dJ2_init_4 : decode cJ2_init 4 = .ok (.aload_n 0, 1) := dk_42 (dk_at dksJ2_init_0 4 rfl rfl)
theorem dJ2_init_5 : decode cJ2_init 5 = .ok (.getstatic 39, 3) := dk_178 0 39 (dk_at dksJ2_init_0 5 rfl rfl)
theorem dJ2_init_8 : decode cJ2_init 8 = .ok (.putfield 9, 3) := dk_181 0 9 (dk_at dksJ2_init_0 8 rfl rfl)
theorem dJ2_init_11 : decode cJ2_init 11 = .ok (.return_, 1) := dk_177 (dk_at dksJ2_init_0 11 rfl rfl)
abbrev cJ2_get : ByteArray := prog_61_method_20_code
def dkwJ2_get_0 : List UInt8 := [27, 42, 180, 0, 48, 184, 0, 118, 87, 42, 27, 182, 0, 123, 176]
abbrev dktJ2_get_0 : List UInt8 := dkwJ2_get_0 ++ []
theorem dksJ2_get_0 : cJ2_get.data.toList.drop 0 = dktJ2_get_0 := by decide +kernel
theorem dJ2_get_0 : decode cJ2_get 0 = .ok (.iload_n 1, 1) := dk_27 (dk_at dksJ2_get_0 0 rfl rfl)
theorem dJ2_get_1 : decode cJ2_get 1 = .ok (.aload_n 0, 1) := dk_42 (dk_at dksJ2_get_0 1 rfl rfl)
theorem dJ2_get_2 : decode cJ2_get 2 = .ok (.getfield 48, 3) := dk_180 0 48 (dk_at dksJ2_get_0 2 rfl rfl)
theorem dJ2_get_5 : decode cJ2_get 5 = .ok (.invokestatic 118, 3) := dk_184 0 118 (dk_at dksJ2_get_0 5 rfl rfl)
theorem dJ2_get_8 : decode cJ2_get 8 = .ok (.pop, 1) := dk_87 (dk_at dksJ2_get_0 8 rfl rfl)
theorem dJ2_get_9 : decode cJ2_get 9 = .ok (.aload_n 0, 1) := dk_42 (dk_at dksJ2_get_0 9 rfl rfl)
theorem dJ2_get_10 : decode cJ2_get 10 = .ok (.iload_n 1, 1) := dk_27 (dk_at dksJ2_get_0 10 rfl rfl)
theorem dJ2_get_11 : decode cJ2_get 11 = .ok (.invokevirtual 123, 3) := dk_182 0 123 (dk_at dksJ2_get_0 11 rfl rfl)
theorem dJ2_get_14 : decode cJ2_get 14 = .ok (.areturn, 1) := dk_176 (dk_at dksJ2_get_0 14 rfl rfl)
abbrev cJ4_init : ByteArray := prog_83_method_1_code
def dkwJ4_init_0 : List UInt8 := [42, 183, 0, 1, 42, 3, 181, 0, 7, 42, 3, 181, 0, 13, 42, 1, 181, 0, 16, 177]
abbrev dktJ4_init_0 : List UInt8 := dkwJ4_init_0 ++ []
theorem dksJ4_init_0 : cJ4_init.data.toList.drop 0 = dktJ4_init_0 := by decide +kernel
theorem dJ4_init_0 : decode cJ4_init 0 = .ok (.aload_n 0, 1) := dk_42 (dk_at dksJ4_init_0 0 rfl rfl)
theorem dJ4_init_1 : decode cJ4_init 1 = .ok (.invokespecial 1, 3) := dk_183 0 1 (dk_at dksJ4_init_0 1 rfl rfl)
theorem dJ4_init_4 : decode cJ4_init 4 = .ok (.aload_n 0, 1) := dk_42 (dk_at dksJ4_init_0 4 rfl rfl)
theorem dJ4_init_5 : decode cJ4_init 5 = .ok (.iconst 0, 1) := dk_3 (dk_at dksJ4_init_0 5 rfl rfl)
theorem dJ4_init_6 : decode cJ4_init 6 = .ok (.putfield 7, 3) := dk_181 0 7 (dk_at dksJ4_init_0 6 rfl rfl)
theorem dJ4_init_9 : decode cJ4_init 9 = .ok (.aload_n 0, 1) := dk_42 (dk_at dksJ4_init_0 9 rfl rfl)
theorem dJ4_init_10 : decode cJ4_init 10 = .ok (.iconst 0, 1) := dk_3 (dk_at dksJ4_init_0 10 rfl rfl)
theorem dJ4_init_11 : decode cJ4_init 11 = .ok (.putfield 13, 3) := dk_181 0 13 (dk_at dksJ4_init_0 11 rfl rfl)
theorem dJ4_init_14 : decode cJ4_init 14 = .ok (.aload_n 0, 1) := dk_42 (dk_at dksJ4_init_0 14 rfl rfl)
theorem dJ4_init_15 : decode cJ4_init 15 = .ok (.aconst_null, 1) := dk_1 (dk_at dksJ4_init_0 15 rfl rfl)
theorem dJ4_init_16 : decode cJ4_init 16 = .ok (.putfield 16, 3) := dk_181 0 16 (dk_at dksJ4_init_0 16 rfl rfl)
theorem dJ4_init_19 : decode cJ4_init 19 = .ok (.return_, 1) := dk_177 (dk_at dksJ4_init_0 19 rfl rfl)
abbrev cJ6_init : ByteArray := prog_73_method_3_code
def dkwJ6_init_0 : List UInt8 := [42, 16, 11, 43, 183, 0, 3, 177]
abbrev dktJ6_init_0 : List UInt8 := dkwJ6_init_0 ++ []
theorem dksJ6_init_0 : cJ6_init.data.toList.drop 0 = dktJ6_init_0 := by decide +kernel
theorem dJ6_init_0 : decode cJ6_init 0 = .ok (.aload_n 0, 1) := dk_42 (dk_at dksJ6_init_0 0 rfl rfl)
theorem dJ6_init_1 : decode cJ6_init 1 = .ok (.bipush 11, 2) := dk_16 11 (dk_at dksJ6_init_0 1 rfl rfl)
theorem dJ6_init_3 : decode cJ6_init 3 = .ok (.aload_n 1, 1) := dk_43 (dk_at dksJ6_init_0 3 rfl rfl)
theorem dJ6_init_4 : decode cJ6_init 4 = .ok (.invokespecial 3, 3) := dk_183 0 3 (dk_at dksJ6_init_0 4 rfl rfl)
theorem dJ6_init_7 : decode cJ6_init 7 = .ok (.return_, 1) := dk_177 (dk_at dksJ6_init_0 7 rfl rfl)
abbrev cJ4_put : ByteArray := prog_83_method_21_code
def dkwJ4_put_0 : List UInt8 := [42, 43, 44, 4, 182, 0, 127, 176]
abbrev dktJ4_put_0 : List UInt8 := dkwJ4_put_0 ++ []
theorem dksJ4_put_0 : cJ4_put.data.toList.drop 0 = dktJ4_put_0 := by decide +kernel
theorem dJ4_put_0 : decode cJ4_put 0 = .ok (.aload_n 0, 1) := dk_42 (dk_at dksJ4_put_0 0 rfl rfl)
theorem dJ4_put_1 : decode cJ4_put 1 = .ok (.aload_n 1, 1) := dk_43 (dk_at dksJ4_put_0 1 rfl rfl)
theorem dJ4_put_2 : decode cJ4_put 2 = .ok (.aload_n 2, 1) := dk_44 (dk_at dksJ4_put_0 2 rfl rfl)
theorem dJ4_put_3 : decode cJ4_put 3 = .ok (.iconst 1, 1) := dk_4 (dk_at dksJ4_put_0 3 rfl rfl)
theorem dJ4_put_4 : decode cJ4_put 4 = .ok (.invokevirtual 127, 3) := dk_182 0 127 (dk_at dksJ4_put_0 4 rfl rfl)
theorem dJ4_put_7 : decode cJ4_put 7 = .ok (.areturn, 1) := dk_176 (dk_at dksJ4_put_0 7 rfl rfl)
abbrev cJ19_init : ByteArray := prog_92_method_1_code
def dkwJ19_init_0 : List UInt8 := [42, 43, 181, 0, 1, 42, 183, 0, 7, 177]
abbrev dktJ19_init_0 : List UInt8 := dkwJ19_init_0 ++ []
theorem dksJ19_init_0 : cJ19_init.data.toList.drop 0 = dktJ19_init_0 := by decide +kernel
theorem dJ19_init_0 : decode cJ19_init 0 = .ok (.aload_n 0, 1) := dk_42 (dk_at dksJ19_init_0 0 rfl rfl)
theorem dJ19_init_1 : decode cJ19_init 1 = .ok (.aload_n 1, 1) := dk_43 (dk_at dksJ19_init_0 1 rfl rfl)
theorem dJ19_init_2 : decode cJ19_init 2 = .ok (.putfield 1, 3) := dk_181 0 1 (dk_at dksJ19_init_0 2 rfl rfl)
theorem dJ19_init_5 : decode cJ19_init 5 = .ok (.aload_n 0, 1) := dk_42 (dk_at dksJ19_init_0 5 rfl rfl)
theorem dJ19_init_6 : decode cJ19_init 6 = .ok (.invokespecial 7, 3) := dk_183 0 7 (dk_at dksJ19_init_0 6 rfl rfl)
theorem dJ19_init_9 : decode cJ19_init 9 = .ok (.return_, 1) := dk_177 (dk_at dksJ19_init_0 9 rfl rfl)
abbrev cJ20_init : ByteArray := prog_62_method_1_code
def dkwJ20_init_1 : List UInt8 := [181, 0, 22, 177]
abbrev dktJ20_init_1 : List UInt8 := dkwJ20_init_1 ++ []
def dkwJ20_init_0 : List UInt8 := [42, 43, 181, 0, 1, 42, 183, 0, 7, 42, 2, 181, 0, 13, 42, 42, 180, 0, 1, 180, 0, 17]
abbrev dktJ20_init_0 : List UInt8 := dkwJ20_init_0 ++ dktJ20_init_1
theorem dksJ20_init_0 : cJ20_init.data.toList.drop 0 = dktJ20_init_0 := by decide +kernel
theorem dksJ20_init_1 : cJ20_init.data.toList.drop 22 = dktJ20_init_1 := dk_seg dksJ20_init_0 22 rfl rfl
theorem dJ20_init_0 : decode cJ20_init 0 = .ok (.aload_n 0, 1) := dk_42 (dk_at dksJ20_init_0 0 rfl rfl)
theorem dJ20_init_1 : decode cJ20_init 1 = .ok (.aload_n 1, 1) := dk_43 (dk_at dksJ20_init_0 1 rfl rfl)
theorem dJ20_init_2 : decode cJ20_init 2 = .ok (.putfield 1, 3) := dk_181 0 1 (dk_at dksJ20_init_0 2 rfl rfl)
theorem dJ20_init_5 : decode cJ20_init 5 = .ok (.aload_n 0, 1) := dk_42 (dk_at dksJ20_init_0 5 rfl rfl)
theorem dJ20_init_6 : decode cJ20_init 6 = .ok (.invokespecial 7, 3) := dk_183 0 7 (dk_at dksJ20_init_0 6 rfl rfl)
theorem dJ20_init_9 : decode cJ20_init 9 = .ok (.aload_n 0, 1) := dk_42 (dk_at dksJ20_init_0 9 rfl rfl)
theorem dJ20_init_10 : decode cJ20_init 10 = .ok (.iconst (-1), 1) := dk_2 (dk_at dksJ20_init_0 10 rfl rfl)
theorem dJ20_init_11 : decode cJ20_init 11 = .ok (.putfield 13, 3) := dk_181 0 13 (dk_at dksJ20_init_0 11 rfl rfl)
theorem dJ20_init_14 : decode cJ20_init 14 = .ok (.aload_n 0, 1) := dk_42 (dk_at dksJ20_init_0 14 rfl rfl)
theorem dJ20_init_15 : decode cJ20_init 15 = .ok (.aload_n 0, 1) := dk_42 (dk_at dksJ20_init_0 15 rfl rfl)
theorem dJ20_init_16 : decode cJ20_init 16 = .ok (.getfield 1, 3) := dk_180 0 1 (dk_at dksJ20_init_0 16 rfl rfl)
theorem dJ20_init_19 : decode cJ20_init 19 = .ok (.getfield 17, 3) := dk_180 0 17 (dk_at dksJ20_init_0 19 rfl rfl)
theorem dJ20_init_22 : decode cJ20_init 22 = .ok (.putfield 22, 3) := dk_181 0 22 (dk_at dksJ20_init_1 0 rfl rfl)
theorem dJ20_init_25 : decode cJ20_init 25 = .ok (.return_, 1) := dk_177 (dk_at dksJ20_init_1 3 rfl rfl)
abbrev cJ21_init : ByteArray := prog_74_method_1_code
def dkwJ21_init_1 : List UInt8 := [181, 0, 22, 177]
abbrev dktJ21_init_1 : List UInt8 := dkwJ21_init_1 ++ []
def dkwJ21_init_0 : List UInt8 := [42, 43, 181, 0, 1, 42, 183, 0, 7, 42, 2, 181, 0, 13, 42, 42, 180, 0, 1, 180, 0, 17]
abbrev dktJ21_init_0 : List UInt8 := dkwJ21_init_0 ++ dktJ21_init_1
theorem dksJ21_init_0 : cJ21_init.data.toList.drop 0 = dktJ21_init_0 := by decide +kernel
theorem dksJ21_init_1 : cJ21_init.data.toList.drop 22 = dktJ21_init_1 := dk_seg dksJ21_init_0 22 rfl rfl
theorem dJ21_init_0 : decode cJ21_init 0 = .ok (.aload_n 0, 1) := dk_42 (dk_at dksJ21_init_0 0 rfl rfl)
theorem dJ21_init_1 : decode cJ21_init 1 = .ok (.aload_n 1, 1) := dk_43 (dk_at dksJ21_init_0 1 rfl rfl)
theorem dJ21_init_2 : decode cJ21_init 2 = .ok (.putfield 1, 3) := dk_181 0 1 (dk_at dksJ21_init_0 2 rfl rfl)
theorem dJ21_init_5 : decode cJ21_init 5 = .ok (.aload_n 0, 1) := dk_42 (dk_at dksJ21_init_0 5 rfl rfl)
theorem dJ21_init_6 : decode cJ21_init 6 = .ok (.invokespecial 7, 3) := dk_183 0 7 (dk_at dksJ21_init_0 6 rfl rfl)
theorem dJ21_init_9 : decode cJ21_init 9 = .ok (.aload_n 0, 1) := dk_42 (dk_at dksJ21_init_0 9 rfl rfl)
theorem dJ21_init_10 : decode cJ21_init 10 = .ok (.iconst (-1), 1) := dk_2 (dk_at dksJ21_init_0 10 rfl rfl)
theorem dJ21_init_11 : decode cJ21_init 11 = .ok (.putfield 13, 3) := dk_181 0 13 (dk_at dksJ21_init_0 11 rfl rfl)
theorem dJ21_init_14 : decode cJ21_init 14 = .ok (.aload_n 0, 1) := dk_42 (dk_at dksJ21_init_0 14 rfl rfl)
theorem dJ21_init_15 : decode cJ21_init 15 = .ok (.aload_n 0, 1) := dk_42 (dk_at dksJ21_init_0 15 rfl rfl)
theorem dJ21_init_16 : decode cJ21_init 16 = .ok (.getfield 1, 3) := dk_180 0 1 (dk_at dksJ21_init_0 16 rfl rfl)
theorem dJ21_init_19 : decode cJ21_init 19 = .ok (.getfield 17, 3) := dk_180 0 17 (dk_at dksJ21_init_0 19 rfl rfl)
theorem dJ21_init_22 : decode cJ21_init 22 = .ok (.putfield 22, 3) := dk_181 0 22 (dk_at dksJ21_init_1 0 rfl rfl)
theorem dJ21_init_25 : decode cJ21_init 25 = .ok (.return_, 1) := dk_177 (dk_at dksJ21_init_1 3 rfl rfl)
abbrev cJ4_getFirstEntry : ByteArray := prog_83_method_72_code
def dkwJ4_getFirstEntry_1 : List UInt8 := [43, 176]
abbrev dktJ4_getFirstEntry_1 : List UInt8 := dkwJ4_getFirstEntry_1 ++ []
def dkwJ4_getFirstEntry_0 : List UInt8 := [42, 180, 0, 101, 76, 43, 198, 0, 18, 43, 180, 0, 111, 198, 0, 11, 43, 180, 0, 111, 76, 167, 255, 244]
abbrev dktJ4_getFirstEntry_0 : List UInt8 := dkwJ4_getFirstEntry_0 ++ dktJ4_getFirstEntry_1
theorem dksJ4_getFirstEntry_0 : cJ4_getFirstEntry.data.toList.drop 0 = dktJ4_getFirstEntry_0 := by decide +kernel
theorem dksJ4_getFirstEntry_1 : cJ4_getFirstEntry.data.toList.drop 24 = dktJ4_getFirstEntry_1 := dk_seg dksJ4_getFirstEntry_0 24 rfl rfl
theorem dJ4_getFirstEntry_0 : decode cJ4_getFirstEntry 0 = .ok (.aload_n 0, 1) := dk_42 (dk_at dksJ4_getFirstEntry_0 0 rfl rfl)
theorem dJ4_getFirstEntry_1 : decode cJ4_getFirstEntry 1 = .ok (.getfield 101, 3) := dk_180 0 101 (dk_at dksJ4_getFirstEntry_0 1 rfl rfl)
theorem dJ4_getFirstEntry_4 : decode cJ4_getFirstEntry 4 = .ok (.astore_n 1, 1) := dk_76 (dk_at dksJ4_getFirstEntry_0 4 rfl rfl)
theorem dJ4_getFirstEntry_5 : decode cJ4_getFirstEntry 5 = .ok (.aload_n 1, 1) := dk_43 (dk_at dksJ4_getFirstEntry_0 5 rfl rfl)
theorem dJ4_getFirstEntry_6 : decode cJ4_getFirstEntry 6 = .ok (.ifnull 18, 3) := dk_198 0 18 (dk_at dksJ4_getFirstEntry_0 6 rfl rfl)
theorem dJ4_getFirstEntry_9 : decode cJ4_getFirstEntry 9 = .ok (.aload_n 1, 1) := dk_43 (dk_at dksJ4_getFirstEntry_0 9 rfl rfl)
theorem dJ4_getFirstEntry_10 : decode cJ4_getFirstEntry 10 = .ok (.getfield 111, 3) := dk_180 0 111 (dk_at dksJ4_getFirstEntry_0 10 rfl rfl)
theorem dJ4_getFirstEntry_13 : decode cJ4_getFirstEntry 13 = .ok (.ifnull 11, 3) := dk_198 0 11 (dk_at dksJ4_getFirstEntry_0 13 rfl rfl)
theorem dJ4_getFirstEntry_16 : decode cJ4_getFirstEntry 16 = .ok (.aload_n 1, 1) := dk_43 (dk_at dksJ4_getFirstEntry_0 16 rfl rfl)
theorem dJ4_getFirstEntry_17 : decode cJ4_getFirstEntry 17 = .ok (.getfield 111, 3) := dk_180 0 111 (dk_at dksJ4_getFirstEntry_0 17 rfl rfl)
theorem dJ4_getFirstEntry_20 : decode cJ4_getFirstEntry 20 = .ok (.astore_n 1, 1) := dk_76 (dk_at dksJ4_getFirstEntry_0 20 rfl rfl)
theorem dJ4_getFirstEntry_21 : decode cJ4_getFirstEntry 21 = .ok (.goto (-12), 3) := dk_167 255 244 (dk_at dksJ4_getFirstEntry_0 21 rfl rfl)
theorem dJ4_getFirstEntry_24 : decode cJ4_getFirstEntry 24 = .ok (.aload_n 1, 1) := dk_43 (dk_at dksJ4_getFirstEntry_1 0 rfl rfl)
theorem dJ4_getFirstEntry_25 : decode cJ4_getFirstEntry 25 = .ok (.areturn, 1) := dk_176 (dk_at dksJ4_getFirstEntry_1 1 rfl rfl)
abbrev cJ23_init : ByteArray := prog_85_method_1_code
def dkwJ23_init_0 : List UInt8 := [42, 43, 44, 183, 0, 1, 177]
abbrev dktJ23_init_0 : List UInt8 := dkwJ23_init_0 ++ []
theorem dksJ23_init_0 : cJ23_init.data.toList.drop 0 = dktJ23_init_0 := by decide +kernel
theorem dJ23_init_0 : decode cJ23_init 0 = .ok (.aload_n 0, 1) := dk_42 (dk_at dksJ23_init_0 0 rfl rfl)
theorem dJ23_init_1 : decode cJ23_init 1 = .ok (.aload_n 1, 1) := dk_43 (dk_at dksJ23_init_0 1 rfl rfl)
theorem dJ23_init_2 : decode cJ23_init 2 = .ok (.aload_n 2, 1) := dk_44 (dk_at dksJ23_init_0 2 rfl rfl)
theorem dJ23_init_3 : decode cJ23_init 3 = .ok (.invokespecial 1, 3) := dk_183 0 1 (dk_at dksJ23_init_0 3 rfl rfl)
theorem dJ23_init_6 : decode cJ23_init 6 = .ok (.return_, 1) := dk_177 (dk_at dksJ23_init_0 6 rfl rfl)
abbrev cJ4_keyIterator : ByteArray := prog_83_method_65_code
def dkwJ4_keyIterator_0 : List UInt8 := [187, 1, 13, 89, 42, 42, 182, 0, 54, 183, 1, 15, 176]
abbrev dktJ4_keyIterator_0 : List UInt8 := dkwJ4_keyIterator_0 ++ []
theorem dksJ4_keyIterator_0 : cJ4_keyIterator.data.toList.drop 0 = dktJ4_keyIterator_0 := by decide +kernel
theorem dJ4_keyIterator_0 : decode cJ4_keyIterator 0 = .ok (.new 269, 3) := dk_187 1 13 (dk_at dksJ4_keyIterator_0 0 rfl rfl)
theorem dJ4_keyIterator_3 : decode cJ4_keyIterator 3 = .ok (.dup, 1) := dk_89 (dk_at dksJ4_keyIterator_0 3 rfl rfl)
theorem dJ4_keyIterator_4 : decode cJ4_keyIterator 4 = .ok (.aload_n 0, 1) := dk_42 (dk_at dksJ4_keyIterator_0 4 rfl rfl)
theorem dJ4_keyIterator_5 : decode cJ4_keyIterator 5 = .ok (.aload_n 0, 1) := dk_42 (dk_at dksJ4_keyIterator_0 5 rfl rfl)
theorem dJ4_keyIterator_6 : decode cJ4_keyIterator 6 = .ok (.invokevirtual 54, 3) := dk_182 0 54 (dk_at dksJ4_keyIterator_0 6 rfl rfl)
theorem dJ4_keyIterator_9 : decode cJ4_keyIterator 9 = .ok (.invokespecial 271, 3) := dk_183 1 15 (dk_at dksJ4_keyIterator_0 9 rfl rfl)
theorem dJ4_keyIterator_12 : decode cJ4_keyIterator 12 = .ok (.areturn, 1) := dk_176 (dk_at dksJ4_keyIterator_0 12 rfl rfl)
abbrev cJ25_init : ByteArray := prog_91_method_1_code
def dkwJ25_init_0 : List UInt8 := [42, 43, 44, 183, 0, 1, 177]
abbrev dktJ25_init_0 : List UInt8 := dkwJ25_init_0 ++ []
theorem dksJ25_init_0 : cJ25_init.data.toList.drop 0 = dktJ25_init_0 := by decide +kernel
theorem dJ25_init_0 : decode cJ25_init 0 = .ok (.aload_n 0, 1) := dk_42 (dk_at dksJ25_init_0 0 rfl rfl)
theorem dJ25_init_1 : decode cJ25_init 1 = .ok (.aload_n 1, 1) := dk_43 (dk_at dksJ25_init_0 1 rfl rfl)
theorem dJ25_init_2 : decode cJ25_init 2 = .ok (.aload_n 2, 1) := dk_44 (dk_at dksJ25_init_0 2 rfl rfl)
theorem dJ25_init_3 : decode cJ25_init 3 = .ok (.invokespecial 1, 3) := dk_183 0 1 (dk_at dksJ25_init_0 3 rfl rfl)
theorem dJ25_init_6 : decode cJ25_init 6 = .ok (.return_, 1) := dk_177 (dk_at dksJ25_init_0 6 rfl rfl)
abbrev cJ4_navigableKeySet : ByteArray := prog_83_method_50_code
def dkwJ4_navigableKeySet_1 : List UInt8 := [181, 0, 191, 176]
abbrev dktJ4_navigableKeySet_1 : List UInt8 := dkwJ4_navigableKeySet_1 ++ []
def dkwJ4_navigableKeySet_0 : List UInt8 := [42, 180, 0, 191, 76, 43, 198, 0, 7, 43, 167, 0, 16, 42, 187, 0, 222, 89, 42, 183, 0, 224, 90]
abbrev dktJ4_navigableKeySet_0 : List UInt8 := dkwJ4_navigableKeySet_0 ++ dktJ4_navigableKeySet_1
theorem dksJ4_navigableKeySet_0 : cJ4_navigableKeySet.data.toList.drop 0 = dktJ4_navigableKeySet_0 := by decide +kernel
theorem dksJ4_navigableKeySet_1 : cJ4_navigableKeySet.data.toList.drop 23 = dktJ4_navigableKeySet_1 := dk_seg dksJ4_navigableKeySet_0 23 rfl rfl
theorem dJ4_navigableKeySet_0 : decode cJ4_navigableKeySet 0 = .ok (.aload_n 0, 1) := dk_42 (dk_at dksJ4_navigableKeySet_0 0 rfl rfl)
theorem dJ4_navigableKeySet_1 : decode cJ4_navigableKeySet 1 = .ok (.getfield 191, 3) := dk_180 0 191 (dk_at dksJ4_navigableKeySet_0 1 rfl rfl)
theorem dJ4_navigableKeySet_4 : decode cJ4_navigableKeySet 4 = .ok (.astore_n 1, 1) := dk_76 (dk_at dksJ4_navigableKeySet_0 4 rfl rfl)
theorem dJ4_navigableKeySet_5 : decode cJ4_navigableKeySet 5 = .ok (.aload_n 1, 1) := dk_43 (dk_at dksJ4_navigableKeySet_0 5 rfl rfl)
theorem dJ4_navigableKeySet_6 : decode cJ4_navigableKeySet 6 = .ok (.ifnull 7, 3) := dk_198 0 7 (dk_at dksJ4_navigableKeySet_0 6 rfl rfl)
theorem dJ4_navigableKeySet_9 : decode cJ4_navigableKeySet 9 = .ok (.aload_n 1, 1) := dk_43 (dk_at dksJ4_navigableKeySet_0 9 rfl rfl)
theorem dJ4_navigableKeySet_10 : decode cJ4_navigableKeySet 10 = .ok (.goto 16, 3) := dk_167 0 16 (dk_at dksJ4_navigableKeySet_0 10 rfl rfl)
theorem dJ4_navigableKeySet_13 : decode cJ4_navigableKeySet 13 = .ok (.aload_n 0, 1) := dk_42 (dk_at dksJ4_navigableKeySet_0 13 rfl rfl)
theorem dJ4_navigableKeySet_14 : decode cJ4_navigableKeySet 14 = .ok (.new 222, 3) := dk_187 0 222 (dk_at dksJ4_navigableKeySet_0 14 rfl rfl)
theorem dJ4_navigableKeySet_17 : decode cJ4_navigableKeySet 17 = .ok (.dup, 1) := dk_89 (dk_at dksJ4_navigableKeySet_0 17 rfl rfl)
theorem dJ4_navigableKeySet_18 : decode cJ4_navigableKeySet 18 = .ok (.aload_n 0, 1) := dk_42 (dk_at dksJ4_navigableKeySet_0 18 rfl rfl)
theorem dJ4_navigableKeySet_19 : decode cJ4_navigableKeySet 19 = .ok (.invokespecial 224, 3) := dk_183 0 224 (dk_at dksJ4_navigableKeySet_0 19 rfl rfl)
theorem dJ4_navigableKeySet_22 : decode cJ4_navigableKeySet 22 = .ok (.dup_x1, 1) := dk_90 (dk_at dksJ4_navigableKeySet_0 22 rfl rfl)
theorem dJ4_navigableKeySet_23 : decode cJ4_navigableKeySet 23 = .ok (.putfield 191, 3) := dk_181 0 191 (dk_at dksJ4_navigableKeySet_1 0 rfl rfl)
theorem dJ4_navigableKeySet_26 : decode cJ4_navigableKeySet 26 = .ok (.areturn, 1) := dk_176 (dk_at dksJ4_navigableKeySet_1 3 rfl rfl)
abbrev cJ20_checkForComodification : ByteArray := prog_62_method_6_code
def dkwJ20_checkForComodification_0 : List UInt8 := [42, 180, 0, 1, 180, 0, 17, 42, 180, 0, 22, 159, 0, 11, 187, 0, 41, 89, 183, 0, 43, 191, 177]
abbrev dktJ20_checkForComodification_0 : List UInt8 := dkwJ20_checkForComodification_0 ++ []
theorem dksJ20_checkForComodification_0 : cJ20_checkForComodification.data.toList.drop 0 = dktJ20_checkForComodification_0 := by decide +kernel
theorem dJ20_checkForComodification_0 : decode cJ20_checkForComodification 0 = .ok (.aload_n 0, 1) := dk_42 (dk_at dksJ20_checkForComodification_0 0 rfl rfl)
theorem dJ20_checkForComodification_1 : decode cJ20_checkForComodification 1 = .ok (.getfield 1, 3) := dk_180 0 1 (dk_at dksJ20_checkForComodification_0 1 rfl rfl)
theorem dJ20_checkForComodification_4 : decode cJ20_checkForComodification 4 = .ok (.getfield 17, 3) := dk_180 0 17 (dk_at dksJ20_checkForComodification_0 4 rfl rfl)
theorem dJ20_checkForComodification_7 : decode cJ20_checkForComodification 7 = .ok (.aload_n 0, 1) := dk_42 (dk_at dksJ20_checkForComodification_0 7 rfl rfl)
theorem dJ20_checkForComodification_8 : decode cJ20_checkForComodification 8 = .ok (.getfield 22, 3) := dk_180 0 22 (dk_at dksJ20_checkForComodification_0 8 rfl rfl)
theorem dJ20_checkForComodification_11 : decode cJ20_checkForComodification 11 = .ok (.if_icmp .eq 11, 3) := dk_159 0 11 (dk_at dksJ20_checkForComodification_0 11 rfl rfl)
theorem dJ20_checkForComodification_14 : decode cJ20_checkForComodification 14 = .ok (.new 41, 3) := dk_187 0 41 (dk_at dksJ20_checkForComodification_0 14 rfl rfl)
theorem dJ20_checkForComodification_17 : decode cJ20_checkForComodification 17 = .ok (.dup, 1) := dk_89 (dk_at dksJ20_checkForComodification_0 17 rfl rfl)
theorem dJ20_checkForComodification_18 : decode cJ20_checkForComodification 18 = .ok (.invokespecial 43, 3) := dk_183 0 43 (dk_at dksJ20_checkForComodification_0 18 rfl rfl)
theorem dJ20_checkForComodification_21 : decode cJ20_checkForComodification 21 = .ok (.athrow, 1) := dk_191 (dk_at dksJ20_checkForComodification_0 21 rfl rfl)
theorem dJ20_checkForComodification_22 : decode cJ20_checkForComodification 22 = .ok (.return_, 1) := dk_177 (dk_at dksJ20_checkForComodification_0 22 rfl rfl)
abbrev cJ23_next_2 : ByteArray := prog_85_method_2_code
theorem dJ23_next_2_0 : decode cJ23_next_2 0 = .ok (.aload_n 0, 1) := by decide +kernel
theorem dJ23_next_2_1 : decode cJ23_next_2 1 = .ok (.invokevirtual 7, 3) := by decide +kernel
theorem dJ23_next_2_4 : decode cJ23_next_2 4 = .ok (.areturn, 1) := by decide +kernel
abbrev cJ22_nextEntry : ByteArray := prog_90_method_3_code
def dkwJ22_nextEntry_2 : List UInt8 := [43, 181, 0, 22, 43, 176]
abbrev dktJ22_nextEntry_2 : List UInt8 := dkwJ22_nextEntry_2 ++ []
def dkwJ22_nextEntry_1 : List UInt8 := [42, 180, 0, 19, 159, 0, 11, 187, 0, 32, 89, 183, 0, 34, 191, 42, 43, 184, 0, 35, 181, 0, 26, 42]
abbrev dktJ22_nextEntry_1 : List UInt8 := dkwJ22_nextEntry_1 ++ dktJ22_nextEntry_2
def dkwJ22_nextEntry_0 : List UInt8 := [42, 180, 0, 26, 76, 43, 199, 0, 11, 187, 0, 29, 89, 183, 0, 31, 191, 42, 180, 0, 1, 180, 0, 13]
abbrev dktJ22_nextEntry_0 : List UInt8 := dkwJ22_nextEntry_0 ++ dktJ22_nextEntry_1
theorem dksJ22_nextEntry_0 : cJ22_nextEntry.data.toList.drop 0 = dktJ22_nextEntry_0 := by decide +kernel
theorem dksJ22_nextEntry_1 : cJ22_nextEntry.data.toList.drop 24 = dktJ22_nextEntry_1 := dk_seg dksJ22_nextEntry_0 24 rfl rfl
theorem dksJ22_nextEntry_2 : cJ22_nextEntry.data.toList.drop 48 = dktJ22_nextEntry_2 := dk_seg dksJ22_nextEntry_1 24 rfl rfl
theorem dJ22_nextEntry_0 : decode cJ22_nextEntry 0 = .ok (.aload_n 0, 1) := dk_42 (dk_at dksJ22_nextEntry_0 0 rfl rfl)
theorem dJ22_nextEntry_1 : decode cJ22_nextEntry 1 = .ok (.getfield 26, 3) := dk_180 0 26 (dk_at dksJ22_nextEntry_0 1 rfl rfl)
theorem dJ22_nextEntry_4 : decode cJ22_nextEntry 4 = .ok (.astore_n 1, 1) := dk_76 (dk_at dksJ22_nextEntry_0 4 rfl rfl)
theorem dJ22_nextEntry_5 : decode cJ22_nextEntry 5 = .ok (.aload_n 1, 1) := dk_43 (dk_at dksJ22_nextEntry_0 5 rfl rfl)
theorem dJ22_nextEntry_6 : decode cJ22_nextEntry 6 = .ok (.ifnonnull 11, 3) := dk_199 0 11 (dk_at dksJ22_nextEntry_0 6 rfl rfl)
theorem dJ22_nextEntry_9 : decode cJ22_nextEntry 9 = .ok (.new 29, 3) := dk_187 0 29 (dk_at dksJ22_nextEntry_0 9 rfl rfl)
theorem dJ22_nextEntry_12 : decode cJ22_nextEntry 12 = .ok (.dup, 1) := dk_89 (dk_at dksJ22_nextEntry_0 12 rfl rfl)
theorem dJ22_nextEntry_13 : decode cJ22_nextEntry 13 = .ok (.invokespecial 31, 3) := dk_183 0 31 (dk_at dksJ22_nextEntry_0 13 rfl rfl)
theorem dJ22_nextEntry_16 : decode cJ22_nextEntry 16 = .ok (.athrow, 1) := dk_191 (dk_at dksJ22_nextEntry_0 16 rfl rfl)
theorem dJ22_nextEntry_17 : decode cJ22_nextEntry 17 = .ok (.aload_n 0, 1) := dk_42 (dk_at dksJ22_nextEntry_0 17 rfl rfl)
theorem dJ22_nextEntry_18 : decode cJ22_nextEntry 18 = .ok (.getfield 1, 3) := dk_180 0 1 (dk_at dksJ22_nextEntry_0 18 rfl rfl)
theorem dJ22_nextEntry_21 : decode cJ22_nextEntry 21 = .ok (.getfield 13, 3) := dk_180 0 13 (dk_at dksJ22_nextEntry_0 21 rfl rfl)
theorem dJ22_nextEntry_24 : decode cJ22_nextEntry 24 = .ok (.aload_n 0, 1) := dk_42 (dk_at dksJ22_nextEntry_1 0 rfl rfl)
theorem dJ22_nextEntry_25 : decode cJ22_nextEntry 25 = .ok (.getfield 19, 3) := dk_180 0 19 (dk_at dksJ22_nextEntry_1 1 rfl rfl)
theorem dJ22_nextEntry_28 : decode cJ22_nextEntry 28 = .ok (.if_icmp .eq 11, 3) := dk_159 0 11 (dk_at dksJ22_nextEntry_1 4 rfl rfl)
theorem dJ22_nextEntry_31 : decode cJ22_nextEntry 31 = .ok (.new 32, 3) := dk_187 0 32 (dk_at dksJ22_nextEntry_1 7 rfl rfl)
theorem dJ22_nextEntry_34 : decode cJ22_nextEntry 34 = .ok (.dup, 1) := dk_89 (dk_at dksJ22_nextEntry_1 10 rfl rfl)
theorem dJ22_nextEntry_35 : decode cJ22_nextEntry 35 = .ok (.invokespecial 34, 3) := dk_183 0 34 (dk_at dksJ22_nextEntry_1 11 rfl rfl)
theorem dJ22_nextEntry_38 : decode cJ22_nextEntry 38 = .ok (.athrow, 1) := dk_191 (dk_at dksJ22_nextEntry_1 14 rfl rfl)
theorem dJ22_nextEntry_39 : decode cJ22_nextEntry 39 = .ok (.aload_n 0, 1) := dk_42 (dk_at dksJ22_nextEntry_1 15 rfl rfl)
theorem dJ22_nextEntry_40 : decode cJ22_nextEntry 40 = .ok (.aload_n 1, 1) := dk_43 (dk_at dksJ22_nextEntry_1 16 rfl rfl)
theorem dJ22_nextEntry_41 : decode cJ22_nextEntry 41 = .ok (.invokestatic 35, 3) := dk_184 0 35 (dk_at dksJ22_nextEntry_1 17 rfl rfl)
theorem dJ22_nextEntry_44 : decode cJ22_nextEntry 44 = .ok (.putfield 26, 3) := dk_181 0 26 (dk_at dksJ22_nextEntry_1 20 rfl rfl)
theorem dJ22_nextEntry_47 : decode cJ22_nextEntry 47 = .ok (.aload_n 0, 1) := dk_42 (dk_at dksJ22_nextEntry_1 23 rfl rfl)
theorem dJ22_nextEntry_48 : decode cJ22_nextEntry 48 = .ok (.aload_n 1, 1) := dk_43 (dk_at dksJ22_nextEntry_2 0 rfl rfl)
theorem dJ22_nextEntry_49 : decode cJ22_nextEntry 49 = .ok (.putfield 22, 3) := dk_181 0 22 (dk_at dksJ22_nextEntry_2 1 rfl rfl)
theorem dJ22_nextEntry_52 : decode cJ22_nextEntry 52 = .ok (.aload_n 1, 1) := dk_43 (dk_at dksJ22_nextEntry_2 4 rfl rfl)
theorem dJ22_nextEntry_53 : decode cJ22_nextEntry 53 = .ok (.areturn, 1) := dk_176 (dk_at dksJ22_nextEntry_2 5 rfl rfl)
abbrev cJ2_add_2 : ByteArray := prog_61_method_24_code
def dkwJ2_add_2_0 : List UInt8 := [29, 44, 190, 160, 0, 8, 42, 182, 0, 129, 77, 44, 29, 43, 83, 42, 29, 4, 96, 181, 0, 48, 177]
abbrev dktJ2_add_2_0 : List UInt8 := dkwJ2_add_2_0 ++ []
theorem dksJ2_add_2_0 : cJ2_add_2.data.toList.drop 0 = dktJ2_add_2_0 := by decide +kernel
theorem dJ2_add_2_0 : decode cJ2_add_2 0 = .ok (.iload_n 3, 1) := dk_29 (dk_at dksJ2_add_2_0 0 rfl rfl)
theorem dJ2_add_2_1 : decode cJ2_add_2 1 = .ok (.aload_n 2, 1) := dk_44 (dk_at dksJ2_add_2_0 1 rfl rfl)
theorem dJ2_add_2_2 : decode cJ2_add_2 2 = .ok (.arraylength, 1) := dk_190 (dk_at dksJ2_add_2_0 2 rfl rfl)
theorem dJ2_add_2_3 : decode cJ2_add_2 3 = .ok (.if_icmp .ne 8, 3) := dk_160 0 8 (dk_at dksJ2_add_2_0 3 rfl rfl)
theorem dJ2_add_2_6 : decode cJ2_add_2 6 = .ok (.aload_n 0, 1) := dk_42 (dk_at dksJ2_add_2_0 6 rfl rfl)
theorem dJ2_add_2_7 : decode cJ2_add_2 7 = .ok (.invokevirtual 129, 3) := dk_182 0 129 (dk_at dksJ2_add_2_0 7 rfl rfl)
theorem dJ2_add_2_10 : decode cJ2_add_2 10 = .ok (.astore_n 2, 1) := dk_77 (dk_at dksJ2_add_2_0 10 rfl rfl)
theorem dJ2_add_2_11 : decode cJ2_add_2 11 = .ok (.aload_n 2, 1) := dk_44 (dk_at dksJ2_add_2_0 11 rfl rfl)
theorem dJ2_add_2_12 : decode cJ2_add_2 12 = .ok (.iload_n 3, 1) := dk_29 (dk_at dksJ2_add_2_0 12 rfl rfl)
theorem dJ2_add_2_13 : decode cJ2_add_2 13 = .ok (.aload_n 1, 1) := dk_43 (dk_at dksJ2_add_2_0 13 rfl rfl)
theorem dJ2_add_2_14 : decode cJ2_add_2 14 = .ok (.aastore, 1) := dk_83 (dk_at dksJ2_add_2_0 14 rfl rfl)
theorem dJ2_add_2_15 : decode cJ2_add_2 15 = .ok (.aload_n 0, 1) := dk_42 (dk_at dksJ2_add_2_0 15 rfl rfl)
theorem dJ2_add_2_16 : decode cJ2_add_2 16 = .ok (.iload_n 3, 1) := dk_29 (dk_at dksJ2_add_2_0 16 rfl rfl)
theorem dJ2_add_2_17 : decode cJ2_add_2 17 = .ok (.iconst 1, 1) := dk_4 (dk_at dksJ2_add_2_0 17 rfl rfl)
theorem dJ2_add_2_18 : decode cJ2_add_2 18 = .ok (.iadd, 1) := dk_96 (dk_at dksJ2_add_2_0 18 rfl rfl)
theorem dJ2_add_2_19 : decode cJ2_add_2 19 = .ok (.putfield 48, 3) := dk_181 0 48 (dk_at dksJ2_add_2_0 19 rfl rfl)
theorem dJ2_add_2_22 : decode cJ2_add_2 22 = .ok (.return_, 1) := dk_177 (dk_at dksJ2_add_2_0 22 rfl rfl)
abbrev cJ2_remove : ByteArray := prog_61_method_29_code
def dkwJ2_remove_1 : List UInt8 := [45, 176]
abbrev dktJ2_remove_1 : List UInt8 := dkwJ2_remove_1 ++ []
def dkwJ2_remove_0 : List UInt8 := [27, 42, 180, 0, 48, 184, 0, 118, 87, 42, 180, 0, 9, 77, 44, 27, 50, 78, 42, 44, 27, 182, 0, 144]
abbrev dktJ2_remove_0 : List UInt8 := dkwJ2_remove_0 ++ dktJ2_remove_1
theorem dksJ2_remove_0 : cJ2_remove.data.toList.drop 0 = dktJ2_remove_0 := by decide +kernel
theorem dksJ2_remove_1 : cJ2_remove.data.toList.drop 24 = dktJ2_remove_1 := dk_seg dksJ2_remove_0 24 rfl rfl
theorem dJ2_remove_0 : decode cJ2_remove 0 = .ok (.iload_n 1, 1) := dk_27 (dk_at dksJ2_remove_0 0 rfl rfl)
theorem dJ2_remove_1 : decode cJ2_remove 1 = .ok (.aload_n 0, 1) := dk_42 (dk_at dksJ2_remove_0 1 rfl rfl)
theorem dJ2_remove_2 : decode cJ2_remove 2 = .ok (.getfield 48, 3) := dk_180 0 48 (dk_at dksJ2_remove_0 2 rfl rfl)
theorem dJ2_remove_5 : decode cJ2_remove 5 = .ok (.invokestatic 118, 3) := dk_184 0 118 (dk_at dksJ2_remove_0 5 rfl rfl)
theorem dJ2_remove_8 : decode cJ2_remove 8 = .ok (.pop, 1) := dk_87 (dk_at dksJ2_remove_0 8 rfl rfl)
theorem dJ2_remove_9 : decode cJ2_remove 9 = .ok (.aload_n 0, 1) := dk_42 (dk_at dksJ2_remove_0 9 rfl rfl)
theorem dJ2_remove_10 : decode cJ2_remove 10 = .ok (.getfield 9, 3) := dk_180 0 9 (dk_at dksJ2_remove_0 10 rfl rfl)
theorem dJ2_remove_13 : decode cJ2_remove 13 = .ok (.astore_n 2, 1) := dk_77 (dk_at dksJ2_remove_0 13 rfl rfl)
theorem dJ2_remove_14 : decode cJ2_remove 14 = .ok (.aload_n 2, 1) := dk_44 (dk_at dksJ2_remove_0 14 rfl rfl)
theorem dJ2_remove_15 : decode cJ2_remove 15 = .ok (.iload_n 1, 1) := dk_27 (dk_at dksJ2_remove_0 15 rfl rfl)
theorem dJ2_remove_16 : decode cJ2_remove 16 = .ok (.aaload, 1) := dk_50 (dk_at dksJ2_remove_0 16 rfl rfl)
theorem dJ2_remove_17 : decode cJ2_remove 17 = .ok (.astore_n 3, 1) := dk_78 (dk_at dksJ2_remove_0 17 rfl rfl)
theorem dJ2_remove_18 : decode cJ2_remove 18 = .ok (.aload_n 0, 1) := dk_42 (dk_at dksJ2_remove_0 18 rfl rfl)
theorem dJ2_remove_19 : decode cJ2_remove 19 = .ok (.aload_n 2, 1) := dk_44 (dk_at dksJ2_remove_0 19 rfl rfl)
theorem dJ2_remove_20 : decode cJ2_remove 20 = .ok (.iload_n 1, 1) := dk_27 (dk_at dksJ2_remove_0 20 rfl rfl)
theorem dJ2_remove_21 : decode cJ2_remove 21 = .ok (.invokevirtual 144, 3) := dk_182 0 144 (dk_at dksJ2_remove_0 21 rfl rfl)
theorem dJ2_remove_24 : decode cJ2_remove 24 = .ok (.aload_n 3, 1) := dk_45 (dk_at dksJ2_remove_1 0 rfl rfl)
theorem dJ2_remove_25 : decode cJ2_remove 25 = .ok (.areturn, 1) := dk_176 (dk_at dksJ2_remove_1 1 rfl rfl)
abbrev cJ32_init : ByteArray := prog_93_method_3_code
def dkwJ32_init_0 : List UInt8 := [42, 187, 0, 13, 89, 43, 183, 0, 19, 183, 0, 16, 177]
abbrev dktJ32_init_0 : List UInt8 := dkwJ32_init_0 ++ []
theorem dksJ32_init_0 : cJ32_init.data.toList.drop 0 = dktJ32_init_0 := by decide +kernel
theorem dJ32_init_0 : decode cJ32_init 0 = .ok (.aload_n 0, 1) := dk_42 (dk_at dksJ32_init_0 0 rfl rfl)
theorem dJ32_init_1 : decode cJ32_init 1 = .ok (.new 13, 3) := dk_187 0 13 (dk_at dksJ32_init_0 1 rfl rfl)
theorem dJ32_init_4 : decode cJ32_init 4 = .ok (.dup, 1) := dk_89 (dk_at dksJ32_init_0 4 rfl rfl)
theorem dJ32_init_5 : decode cJ32_init 5 = .ok (.aload_n 1, 1) := dk_43 (dk_at dksJ32_init_0 5 rfl rfl)
theorem dJ32_init_6 : decode cJ32_init 6 = .ok (.invokespecial 19, 3) := dk_183 0 19 (dk_at dksJ32_init_0 6 rfl rfl)
theorem dJ32_init_9 : decode cJ32_init 9 = .ok (.invokespecial 16, 3) := dk_183 0 16 (dk_at dksJ32_init_0 9 rfl rfl)
theorem dJ32_init_12 : decode cJ32_init 12 = .ok (.return_, 1) := dk_177 (dk_at dksJ32_init_0 12 rfl rfl)
abbrev cJ32_add : ByteArray := prog_93_method_12_code
def dkwJ32_add_0 : List UInt8 := [42, 180, 0, 7, 43, 178, 0, 65, 185, 0, 69, 3, 0, 199, 0, 7, 4, 167, 0, 4, 3, 172]
abbrev dktJ32_add_0 : List UInt8 := dkwJ32_add_0 ++ []
theorem dksJ32_add_0 : cJ32_add.data.toList.drop 0 = dktJ32_add_0 := by decide +kernel
theorem dJ32_add_0 : decode cJ32_add 0 = .ok (.aload_n 0, 1) := dk_42 (dk_at dksJ32_add_0 0 rfl rfl)
theorem dJ32_add_1 : decode cJ32_add 1 = .ok (.getfield 7, 3) := dk_180 0 7 (dk_at dksJ32_add_0 1 rfl rfl)
theorem dJ32_add_4 : decode cJ32_add 4 = .ok (.aload_n 1, 1) := dk_43 (dk_at dksJ32_add_0 4 rfl rfl)
theorem dJ32_add_5 : decode cJ32_add 5 = .ok (.getstatic 65, 3) := dk_178 0 65 (dk_at dksJ32_add_0 5 rfl rfl)
theorem dJ32_add_8 : decode cJ32_add 8 = .ok (.invokeinterface 69 3, 5) := by decide +kernel
theorem dJ32_add_13 : decode cJ32_add 13 = .ok (.ifnonnull 7, 3) := dk_199 0 7 (dk_at dksJ32_add_0 13 rfl rfl)
theorem dJ32_add_16 : decode cJ32_add 16 = .ok (.iconst 1, 1) := dk_4 (dk_at dksJ32_add_0 16 rfl rfl)
theorem dJ32_add_17 : decode cJ32_add 17 = .ok (.goto 4, 3) := dk_167 0 4 (dk_at dksJ32_add_0 17 rfl rfl)
theorem dJ32_add_20 : decode cJ32_add 20 = .ok (.iconst 0, 1) := dk_3 (dk_at dksJ32_add_0 20 rfl rfl)
theorem dJ32_add_21 : decode cJ32_add 21 = .ok (.ireturn, 1) := dk_172 (dk_at dksJ32_add_0 21 rfl rfl)
abbrev cJ34_init : ByteArray := prog_48_method_1_code
def dkwJ34_init_0 : List UInt8 := [42, 16, 16, 183, 0, 1, 177]
abbrev dktJ34_init_0 : List UInt8 := dkwJ34_init_0 ++ []
theorem dksJ34_init_0 : cJ34_init.data.toList.drop 0 = dktJ34_init_0 := by decide +kernel
theorem dJ34_init_0 : decode cJ34_init 0 = .ok (.aload_n 0, 1) := dk_42 (dk_at dksJ34_init_0 0 rfl rfl)
theorem dJ34_init_1 : decode cJ34_init 1 = .ok (.bipush 16, 2) := dk_16 16 (dk_at dksJ34_init_0 1 rfl rfl)
theorem dJ34_init_3 : decode cJ34_init 3 = .ok (.invokespecial 1, 3) := dk_183 0 1 (dk_at dksJ34_init_0 3 rfl rfl)
theorem dJ34_init_6 : decode cJ34_init 6 = .ok (.return_, 1) := dk_177 (dk_at dksJ34_init_0 6 rfl rfl)
abbrev cJ34_append : ByteArray := prog_48_method_15_code
def dkwJ34_append_0 : List UInt8 := [42, 27, 183, 0, 53, 87, 42, 176]
abbrev dktJ34_append_0 : List UInt8 := dkwJ34_append_0 ++ []
theorem dksJ34_append_0 : cJ34_append.data.toList.drop 0 = dktJ34_append_0 := by decide +kernel
theorem dJ34_append_0 : decode cJ34_append 0 = .ok (.aload_n 0, 1) := dk_42 (dk_at dksJ34_append_0 0 rfl rfl)
theorem dJ34_append_1 : decode cJ34_append 1 = .ok (.iload_n 1, 1) := dk_27 (dk_at dksJ34_append_0 1 rfl rfl)
theorem dJ34_append_2 : decode cJ34_append 2 = .ok (.invokespecial 53, 3) := dk_183 0 53 (dk_at dksJ34_append_0 2 rfl rfl)
theorem dJ34_append_5 : decode cJ34_append 5 = .ok (.pop, 1) := dk_87 (dk_at dksJ34_append_0 5 rfl rfl)
theorem dJ34_append_6 : decode cJ34_append 6 = .ok (.aload_n 0, 1) := dk_42 (dk_at dksJ34_append_0 6 rfl rfl)
theorem dJ34_append_7 : decode cJ34_append 7 = .ok (.areturn, 1) := dk_176 (dk_at dksJ34_append_0 7 rfl rfl)
abbrev cJ34_append_2 : ByteArray := prog_48_method_7_code
def dkwJ34_append_2_0 : List UInt8 := [42, 43, 183, 0, 29, 87, 42, 176]
abbrev dktJ34_append_2_0 : List UInt8 := dkwJ34_append_2_0 ++ []
theorem dksJ34_append_2_0 : cJ34_append_2.data.toList.drop 0 = dktJ34_append_2_0 := by decide +kernel
theorem dJ34_append_2_0 : decode cJ34_append_2 0 = .ok (.aload_n 0, 1) := dk_42 (dk_at dksJ34_append_2_0 0 rfl rfl)
theorem dJ34_append_2_1 : decode cJ34_append_2 1 = .ok (.aload_n 1, 1) := dk_43 (dk_at dksJ34_append_2_0 1 rfl rfl)
theorem dJ34_append_2_2 : decode cJ34_append_2 2 = .ok (.invokespecial 29, 3) := dk_183 0 29 (dk_at dksJ34_append_2_0 2 rfl rfl)
theorem dJ34_append_2_5 : decode cJ34_append_2 5 = .ok (.pop, 1) := dk_87 (dk_at dksJ34_append_2_0 5 rfl rfl)
theorem dJ34_append_2_6 : decode cJ34_append_2 6 = .ok (.aload_n 0, 1) := dk_42 (dk_at dksJ34_append_2_0 6 rfl rfl)
theorem dJ34_append_2_7 : decode cJ34_append_2 7 = .ok (.areturn, 1) := dk_176 (dk_at dksJ34_append_2_0 7 rfl rfl)
abbrev cJ34_append_3 : ByteArray := prog_48_method_14_code
def dkwJ34_append_3_0 : List UInt8 := [42, 27, 183, 0, 50, 87, 42, 176]
abbrev dktJ34_append_3_0 : List UInt8 := dkwJ34_append_3_0 ++ []
theorem dksJ34_append_3_0 : cJ34_append_3.data.toList.drop 0 = dktJ34_append_3_0 := by decide +kernel
theorem dJ34_append_3_0 : decode cJ34_append_3 0 = .ok (.aload_n 0, 1) := dk_42 (dk_at dksJ34_append_3_0 0 rfl rfl)
theorem dJ34_append_3_1 : decode cJ34_append_3 1 = .ok (.iload_n 1, 1) := dk_27 (dk_at dksJ34_append_3_0 1 rfl rfl)
theorem dJ34_append_3_2 : decode cJ34_append_3 2 = .ok (.invokespecial 50, 3) := dk_183 0 50 (dk_at dksJ34_append_3_0 2 rfl rfl)
theorem dJ34_append_3_5 : decode cJ34_append_3 5 = .ok (.pop, 1) := dk_87 (dk_at dksJ34_append_3_0 5 rfl rfl)
theorem dJ34_append_3_6 : decode cJ34_append_3 6 = .ok (.aload_n 0, 1) := dk_42 (dk_at dksJ34_append_3_0 6 rfl rfl)
theorem dJ34_append_3_7 : decode cJ34_append_3 7 = .ok (.areturn, 1) := dk_176 (dk_at dksJ34_append_3_0 7 rfl rfl)
abbrev cJ34_toString : ByteArray := prog_48_method_42_code
def dkwJ34_toString_0 : List UInt8 := [187, 0, 18, 89, 42, 183, 0, 137, 176]
abbrev dktJ34_toString_0 : List UInt8 := dkwJ34_toString_0 ++ []
theorem dksJ34_toString_0 : cJ34_toString.data.toList.drop 0 = dktJ34_toString_0 := by decide +kernel
theorem dJ34_toString_0 : decode cJ34_toString 0 = .ok (.new 18, 3) := dk_187 0 18 (dk_at dksJ34_toString_0 0 rfl rfl)
theorem dJ34_toString_3 : decode cJ34_toString 3 = .ok (.dup, 1) := dk_89 (dk_at dksJ34_toString_0 3 rfl rfl)
theorem dJ34_toString_4 : decode cJ34_toString 4 = .ok (.aload_n 0, 1) := dk_42 (dk_at dksJ34_toString_0 4 rfl rfl)
theorem dJ34_toString_5 : decode cJ34_toString 5 = .ok (.invokespecial 137, 3) := dk_183 0 137 (dk_at dksJ34_toString_0 5 rfl rfl)
theorem dJ34_toString_8 : decode cJ34_toString 8 = .ok (.areturn, 1) := dk_176 (dk_at dksJ34_toString_0 8 rfl rfl)
abbrev cJ34_append_4 : ByteArray := prog_48_method_6_code
def dkwJ34_append_4_0 : List UInt8 := [42, 43, 184, 0, 17, 182, 0, 23, 176]
abbrev dktJ34_append_4_0 : List UInt8 := dkwJ34_append_4_0 ++ []
theorem dksJ34_append_4_0 : cJ34_append_4.data.toList.drop 0 = dktJ34_append_4_0 := by decide +kernel
theorem dJ34_append_4_0 : decode cJ34_append_4 0 = .ok (.aload_n 0, 1) := dk_42 (dk_at dksJ34_append_4_0 0 rfl rfl)
theorem dJ34_append_4_1 : decode cJ34_append_4 1 = .ok (.aload_n 1, 1) := dk_43 (dk_at dksJ34_append_4_0 1 rfl rfl)
theorem dJ34_append_4_2 : decode cJ34_append_4 2 = .ok (.invokestatic 17, 3) := dk_184 0 17 (dk_at dksJ34_append_4_0 2 rfl rfl)
theorem dJ34_append_4_5 : decode cJ34_append_4 5 = .ok (.invokevirtual 23, 3) := dk_182 0 23 (dk_at dksJ34_append_4_0 5 rfl rfl)
theorem dJ34_append_4_8 : decode cJ34_append_4 8 = .ok (.areturn, 1) := dk_176 (dk_at dksJ34_append_4_0 8 rfl rfl)
abbrev cJ9_coder : ByteArray := prog_47_method_152_code
def dkwJ9_coder_0 : List UInt8 := [178, 0, 38, 153, 0, 10, 42, 180, 0, 15, 167, 0, 4, 4, 172]
abbrev dktJ9_coder_0 : List UInt8 := dkwJ9_coder_0 ++ []
theorem dksJ9_coder_0 : cJ9_coder.data.toList.drop 0 = dktJ9_coder_0 := by decide +kernel
theorem dJ9_coder_0 : decode cJ9_coder 0 = .ok (.getstatic 38, 3) := dk_178 0 38 (dk_at dksJ9_coder_0 0 rfl rfl)
theorem dJ9_coder_3 : decode cJ9_coder 3 = .ok (.ifCond .eq 10, 3) := dk_153 0 10 (dk_at dksJ9_coder_0 3 rfl rfl)
theorem dJ9_coder_6 : decode cJ9_coder 6 = .ok (.aload_n 0, 1) := dk_42 (dk_at dksJ9_coder_0 6 rfl rfl)
theorem dJ9_coder_7 : decode cJ9_coder 7 = .ok (.getfield 15, 3) := dk_180 0 15 (dk_at dksJ9_coder_0 7 rfl rfl)
theorem dJ9_coder_10 : decode cJ9_coder 10 = .ok (.goto 4, 3) := dk_167 0 4 (dk_at dksJ9_coder_0 10 rfl rfl)
theorem dJ9_coder_13 : decode cJ9_coder 13 = .ok (.iconst 1, 1) := dk_4 (dk_at dksJ9_coder_0 13 rfl rfl)
theorem dJ9_coder_14 : decode cJ9_coder 14 = .ok (.ireturn, 1) := dk_172 (dk_at dksJ9_coder_0 14 rfl rfl)
abbrev cJ9_isLatin1 : ByteArray := prog_47_method_154_code
def dkwJ9_isLatin1_0 : List UInt8 := [178, 0, 38, 153, 0, 14, 42, 180, 0, 15, 154, 0, 7, 4, 167, 0, 4, 3, 172]
abbrev dktJ9_isLatin1_0 : List UInt8 := dkwJ9_isLatin1_0 ++ []
theorem dksJ9_isLatin1_0 : cJ9_isLatin1.data.toList.drop 0 = dktJ9_isLatin1_0 := by decide +kernel
theorem dJ9_isLatin1_0 : decode cJ9_isLatin1 0 = .ok (.getstatic 38, 3) := dk_178 0 38 (dk_at dksJ9_isLatin1_0 0 rfl rfl)
theorem dJ9_isLatin1_3 : decode cJ9_isLatin1 3 = .ok (.ifCond .eq 14, 3) := dk_153 0 14 (dk_at dksJ9_isLatin1_0 3 rfl rfl)
theorem dJ9_isLatin1_6 : decode cJ9_isLatin1 6 = .ok (.aload_n 0, 1) := dk_42 (dk_at dksJ9_isLatin1_0 6 rfl rfl)
theorem dJ9_isLatin1_7 : decode cJ9_isLatin1 7 = .ok (.getfield 15, 3) := dk_180 0 15 (dk_at dksJ9_isLatin1_0 7 rfl rfl)
theorem dJ9_isLatin1_10 : decode cJ9_isLatin1 10 = .ok (.ifCond .ne 7, 3) := dk_154 0 7 (dk_at dksJ9_isLatin1_0 10 rfl rfl)
theorem dJ9_isLatin1_13 : decode cJ9_isLatin1 13 = .ok (.iconst 1, 1) := dk_4 (dk_at dksJ9_isLatin1_0 13 rfl rfl)
theorem dJ9_isLatin1_14 : decode cJ9_isLatin1 14 = .ok (.goto 4, 3) := dk_167 0 4 (dk_at dksJ9_isLatin1_0 14 rfl rfl)
theorem dJ9_isLatin1_17 : decode cJ9_isLatin1 17 = .ok (.iconst 0, 1) := dk_3 (dk_at dksJ9_isLatin1_0 17 rfl rfl)
theorem dJ9_isLatin1_18 : decode cJ9_isLatin1 18 = .ok (.ireturn, 1) := dk_172 (dk_at dksJ9_isLatin1_0 18 rfl rfl)
abbrev cJ10_charAt : ByteArray := prog_49_method_2_code
def dkwJ10_charAt_0 : List UInt8 := [27, 42, 190, 184, 0, 9, 42, 27, 51, 17, 0, 255, 126, 146, 172]
abbrev dktJ10_charAt_0 : List UInt8 := dkwJ10_charAt_0 ++ []
theorem dksJ10_charAt_0 : cJ10_charAt.data.toList.drop 0 = dktJ10_charAt_0 := by decide +kernel
theorem dJ10_charAt_0 : decode cJ10_charAt 0 = .ok (.iload_n 1, 1) := dk_27 (dk_at dksJ10_charAt_0 0 rfl rfl)
theorem dJ10_charAt_1 : decode cJ10_charAt 1 = .ok (.aload_n 0, 1) := dk_42 (dk_at dksJ10_charAt_0 1 rfl rfl)
theorem dJ10_charAt_2 : decode cJ10_charAt 2 = .ok (.arraylength, 1) := dk_190 (dk_at dksJ10_charAt_0 2 rfl rfl)
theorem dJ10_charAt_3 : decode cJ10_charAt 3 = .ok (.invokestatic 9, 3) := dk_184 0 9 (dk_at dksJ10_charAt_0 3 rfl rfl)
theorem dJ10_charAt_6 : decode cJ10_charAt 6 = .ok (.aload_n 0, 1) := dk_42 (dk_at dksJ10_charAt_0 6 rfl rfl)
theorem dJ10_charAt_7 : decode cJ10_charAt 7 = .ok (.iload_n 1, 1) := dk_27 (dk_at dksJ10_charAt_0 7 rfl rfl)
theorem dJ10_charAt_8 : decode cJ10_charAt 8 = .ok (.baload, 1) := dk_51 (dk_at dksJ10_charAt_0 8 rfl rfl)
theorem dJ10_charAt_9 : decode cJ10_charAt 9 = .ok (.sipush 255, 3) := dk_17 0 255 (dk_at dksJ10_charAt_0 9 rfl rfl)
theorem dJ10_charAt_12 : decode cJ10_charAt 12 = .ok (.iand, 1) := dk_126 (dk_at dksJ10_charAt_0 12 rfl rfl)
theorem dJ10_charAt_13 : decode cJ10_charAt 13 = .ok (.i2c, 1) := dk_146 (dk_at dksJ10_charAt_0 13 rfl rfl)
theorem dJ10_charAt_14 : decode cJ10_charAt 14 = .ok (.ireturn, 1) := dk_172 (dk_at dksJ10_charAt_0 14 rfl rfl)
abbrev cJ8_init : ByteArray := prog_41_method_23_code
def dkwJ8_init_0 : List UInt8 := [42, 183, 0, 202, 42, 27, 181, 0, 205, 177]
abbrev dktJ8_init_0 : List UInt8 := dkwJ8_init_0 ++ []
theorem dksJ8_init_0 : cJ8_init.data.toList.drop 0 = dktJ8_init_0 := by decide +kernel
theorem dJ8_init_0 : decode cJ8_init 0 = .ok (.aload_n 0, 1) := dk_42 (dk_at dksJ8_init_0 0 rfl rfl)
theorem dJ8_init_1 : decode cJ8_init 1 = .ok (.invokespecial 202, 3) := dk_183 0 202 (dk_at dksJ8_init_0 1 rfl rfl)
theorem dJ8_init_4 : decode cJ8_init 4 = .ok (.aload_n 0, 1) := dk_42 (dk_at dksJ8_init_0 4 rfl rfl)
theorem dJ8_init_5 : decode cJ8_init 5 = .ok (.iload_n 1, 1) := dk_27 (dk_at dksJ8_init_0 5 rfl rfl)
theorem dJ8_init_6 : decode cJ8_init 6 = .ok (.putfield 205, 3) := dk_181 0 205 (dk_at dksJ8_init_0 6 rfl rfl)
theorem dJ8_init_9 : decode cJ8_init 9 = .ok (.return_, 1) := dk_177 (dk_at dksJ8_init_0 9 rfl rfl)
abbrev cJ4_getEntry : ByteArray := prog_83_method_15_code
def dkwJ4_getEntry_3 : List UInt8 := [45, 176, 167, 255, 212, 1, 176]
abbrev dktJ4_getEntry_3 : List UInt8 := dkwJ4_getEntry_3 ++ []
def dkwJ4_getEntry_2 : List UInt8 := [156, 0, 11, 45, 180, 0, 111, 78, 167, 0, 18, 21, 4, 158, 0, 11, 45, 180, 0, 114, 78, 167, 0, 5]
abbrev dktJ4_getEntry_2 : List UInt8 := dkwJ4_getEntry_2 ++ dktJ4_getEntry_3
def dkwJ4_getEntry_1 : List UInt8 := [180, 0, 101, 78, 45, 198, 0, 46, 44, 45, 180, 0, 105, 185, 0, 107, 2, 0, 54, 4, 21, 4]
abbrev dktJ4_getEntry_1 : List UInt8 := dkwJ4_getEntry_1 ++ dktJ4_getEntry_2
def dkwJ4_getEntry_0 : List UInt8 := [42, 180, 0, 16, 198, 0, 9, 42, 43, 182, 0, 92, 176, 43, 184, 0, 95, 87, 43, 192, 0, 99, 77, 42]
abbrev dktJ4_getEntry_0 : List UInt8 := dkwJ4_getEntry_0 ++ dktJ4_getEntry_1
theorem dksJ4_getEntry_0 : cJ4_getEntry.data.toList.drop 0 = dktJ4_getEntry_0 := by decide +kernel
theorem dksJ4_getEntry_1 : cJ4_getEntry.data.toList.drop 24 = dktJ4_getEntry_1 := dk_seg dksJ4_getEntry_0 24 rfl rfl
theorem dksJ4_getEntry_2 : cJ4_getEntry.data.toList.drop 46 = dktJ4_getEntry_2 := dk_seg dksJ4_getEntry_1 22 rfl rfl
theorem dksJ4_getEntry_3 : cJ4_getEntry.data.toList.drop 70 = dktJ4_getEntry_3 := dk_seg dksJ4_getEntry_2 24 rfl rfl
theorem dJ4_getEntry_0 : decode cJ4_getEntry 0 = .ok (.aload_n 0, 1) := dk_42 (dk_at dksJ4_getEntry_0 0 rfl rfl)
theorem dJ4_getEntry_1 : decode cJ4_getEntry 1 = .ok (.getfield 16, 3) := dk_180 0 16 (dk_at dksJ4_getEntry_0 1 rfl rfl)
theorem dJ4_getEntry_4 : decode cJ4_getEntry 4 = .ok (.ifnull 9, 3) := dk_198 0 9 (dk_at dksJ4_getEntry_0 4 rfl rfl)
theorem dJ4_getEntry_7 : decode cJ4_getEntry 7 = .ok (.aload_n 0, 1) := dk_42 (dk_at dksJ4_getEntry_0 7 rfl rfl)
theorem dJ4_getEntry_8 : decode cJ4_getEntry 8 = .ok (.aload_n 1, 1) := dk_43 (dk_at dksJ4_getEntry_0 8 rfl rfl)
theorem dJ4_getEntry_9 : decode cJ4_getEntry 9 = .ok (.invokevirtual 92, 3) := dk_182 0 92 (dk_at dksJ4_getEntry_0 9 rfl rfl)
theorem dJ4_getEntry_12 : decode cJ4_getEntry 12 = .ok (.areturn, 1) := dk_176 (dk_at dksJ4_getEntry_0 12 rfl rfl)
theorem dJ4_getEntry_13 : decode cJ4_getEntry 13 = .ok (.aload_n 1, 1) := dk_43 (dk_at dksJ4_getEntry_0 13 rfl rfl)
theorem dJ4_getEntry_14 : decode cJ4_getEntry 14 = .ok (.invokestatic 95, 3) := dk_184 0 95 (dk_at dksJ4_getEntry_0 14 rfl rfl)
theorem dJ4_getEntry_17 : decode cJ4_getEntry 17 = .ok (.pop, 1) := dk_87 (dk_at dksJ4_getEntry_0 17 rfl rfl)
theorem dJ4_getEntry_18 : decode cJ4_getEntry 18 = .ok (.aload_n 1, 1) := dk_43 (dk_at dksJ4_getEntry_0 18 rfl rfl)
theorem dJ4_getEntry_19 : decode cJ4_getEntry 19 = .ok (.checkcast 99, 3) := dk_192 0 99 (dk_at dksJ4_getEntry_0 19 rfl rfl)
theorem dJ4_getEntry_22 : decode cJ4_getEntry 22 = .ok (.astore_n 2, 1) := dk_77 (dk_at dksJ4_getEntry_0 22 rfl rfl)
theorem dJ4_getEntry_23 : decode cJ4_getEntry 23 = .ok (.aload_n 0, 1) := dk_42 (dk_at dksJ4_getEntry_0 23 rfl rfl)
theorem dJ4_getEntry_24 : decode cJ4_getEntry 24 = .ok (.getfield 101, 3) := dk_180 0 101 (dk_at dksJ4_getEntry_1 0 rfl rfl)
theorem dJ4_getEntry_27 : decode cJ4_getEntry 27 = .ok (.astore_n 3, 1) := dk_78 (dk_at dksJ4_getEntry_1 3 rfl rfl)
theorem dJ4_getEntry_28 : decode cJ4_getEntry 28 = .ok (.aload_n 3, 1) := dk_45 (dk_at dksJ4_getEntry_1 4 rfl rfl)
theorem dJ4_getEntry_29 : decode cJ4_getEntry 29 = .ok (.ifnull 46, 3) := dk_198 0 46 (dk_at dksJ4_getEntry_1 5 rfl rfl)
theorem dJ4_getEntry_32 : decode cJ4_getEntry 32 = .ok (.aload_n 2, 1) := dk_44 (dk_at dksJ4_getEntry_1 8 rfl rfl)
theorem dJ4_getEntry_33 : decode cJ4_getEntry 33 = .ok (.aload_n 3, 1) := dk_45 (dk_at dksJ4_getEntry_1 9 rfl rfl)
theorem dJ4_getEntry_34 : decode cJ4_getEntry 34 = .ok (.getfield 105, 3) := dk_180 0 105 (dk_at dksJ4_getEntry_1 10 rfl rfl)
theorem dJ4_getEntry_37 : decode cJ4_getEntry 37 = .ok (.invokeinterface 107 2, 5) := by decide +kernel
theorem dJ4_getEntry_42 : decode cJ4_getEntry 42 = .ok (.istore 4, 2) := dk_54 4 (dk_at dksJ4_getEntry_1 18 rfl rfl)
theorem dJ4_getEntry_44 : decode cJ4_getEntry 44 = .ok (.iload 4, 2) := dk_21 4 (dk_at dksJ4_getEntry_1 20 rfl rfl)
theorem dJ4_getEntry_46 : decode cJ4_getEntry 46 = .ok (.ifCond .ge 11, 3) := dk_156 0 11 (dk_at dksJ4_getEntry_2 0 rfl rfl)
theorem dJ4_getEntry_49 : decode cJ4_getEntry 49 = .ok (.aload_n 3, 1) := dk_45 (dk_at dksJ4_getEntry_2 3 rfl rfl)
theorem dJ4_getEntry_50 : decode cJ4_getEntry 50 = .ok (.getfield 111, 3) := dk_180 0 111 (dk_at dksJ4_getEntry_2 4 rfl rfl)
theorem dJ4_getEntry_53 : decode cJ4_getEntry 53 = .ok (.astore_n 3, 1) := dk_78 (dk_at dksJ4_getEntry_2 7 rfl rfl)
theorem dJ4_getEntry_54 : decode cJ4_getEntry 54 = .ok (.goto 18, 3) := dk_167 0 18 (dk_at dksJ4_getEntry_2 8 rfl rfl)
theorem dJ4_getEntry_57 : decode cJ4_getEntry 57 = .ok (.iload 4, 2) := dk_21 4 (dk_at dksJ4_getEntry_2 11 rfl rfl)
theorem dJ4_getEntry_59 : decode cJ4_getEntry 59 = .ok (.ifCond .le 11, 3) := dk_158 0 11 (dk_at dksJ4_getEntry_2 13 rfl rfl)
theorem dJ4_getEntry_62 : decode cJ4_getEntry 62 = .ok (.aload_n 3, 1) := dk_45 (dk_at dksJ4_getEntry_2 16 rfl rfl)
theorem dJ4_getEntry_63 : decode cJ4_getEntry 63 = .ok (.getfield 114, 3) := dk_180 0 114 (dk_at dksJ4_getEntry_2 17 rfl rfl)
theorem dJ4_getEntry_66 : decode cJ4_getEntry 66 = .ok (.astore_n 3, 1) := dk_78 (dk_at dksJ4_getEntry_2 20 rfl rfl)
theorem dJ4_getEntry_67 : decode cJ4_getEntry 67 = .ok (.goto 5, 3) := dk_167 0 5 (dk_at dksJ4_getEntry_2 21 rfl rfl)
theorem dJ4_getEntry_70 : decode cJ4_getEntry 70 = .ok (.aload_n 3, 1) := dk_45 (dk_at dksJ4_getEntry_3 0 rfl rfl)
theorem dJ4_getEntry_71 : decode cJ4_getEntry 71 = .ok (.areturn, 1) := dk_176 (dk_at dksJ4_getEntry_3 1 rfl rfl)
theorem dJ4_getEntry_72 : decode cJ4_getEntry 72 = .ok (.goto (-44), 3) := dk_167 255 212 (dk_at dksJ4_getEntry_3 2 rfl rfl)
theorem dJ4_getEntry_75 : decode cJ4_getEntry 75 = .ok (.aconst_null, 1) := dk_1 (dk_at dksJ4_getEntry_3 5 rfl rfl)
theorem dJ4_getEntry_76 : decode cJ4_getEntry 76 = .ok (.areturn, 1) := dk_176 (dk_at dksJ4_getEntry_3 6 rfl rfl)
abbrev cJ4_deleteEntry : ByteArray := prog_83_method_84_code
def dkwJ4_deleteEntry_10 : List UInt8 := [180, 0, 124, 1, 181, 0, 114, 43, 1, 181, 0, 124, 177]
abbrev dktJ4_deleteEntry_10 : List UInt8 := dkwJ4_deleteEntry_10 ++ []
def dkwJ4_deleteEntry_9 : List UInt8 := [180, 0, 124, 1, 181, 0, 111, 167, 0, 22, 43, 43, 180, 0, 124, 180, 0, 114, 166, 0, 11, 43]
abbrev dktJ4_deleteEntry_9 : List UInt8 := dkwJ4_deleteEntry_9 ++ dktJ4_deleteEntry_10
def dkwJ4_deleteEntry_8 : List UInt8 := [182, 1, 61, 43, 180, 0, 124, 198, 0, 49, 43, 43, 180, 0, 124, 180, 0, 111, 166, 0, 14, 43]
abbrev dktJ4_deleteEntry_8 : List UInt8 := dkwJ4_deleteEntry_8 ++ dktJ4_deleteEntry_9
def dkwJ4_deleteEntry_7 : List UInt8 := [180, 0, 124, 199, 0, 11, 42, 1, 181, 0, 101, 167, 0, 69, 43, 180, 1, 34, 4, 160, 0, 8, 42, 43]
abbrev dktJ4_deleteEntry_7 : List UInt8 := dkwJ4_deleteEntry_7 ++ dktJ4_deleteEntry_8
def dkwJ4_deleteEntry_6 : List UInt8 := [181, 0, 114, 181, 0, 111, 43, 180, 1, 34, 4, 160, 0, 92, 42, 44, 182, 1, 61, 167, 0, 84, 43]
abbrev dktJ4_deleteEntry_6 : List UInt8 := dkwJ4_deleteEntry_6 ++ dktJ4_deleteEntry_7
def dkwJ4_deleteEntry_5 : List UInt8 := [181, 0, 111, 167, 0, 11, 43, 180, 0, 124, 44, 181, 0, 114, 43, 43, 43, 1, 90, 181, 0, 124, 90]
abbrev dktJ4_deleteEntry_5 : List UInt8 := dkwJ4_deleteEntry_5 ++ dktJ4_deleteEntry_6
def dkwJ4_deleteEntry_4 : List UInt8 := [44, 181, 0, 101, 167, 0, 33, 43, 43, 180, 0, 124, 180, 0, 111, 166, 0, 14, 43, 180, 0, 124, 44]
abbrev dktJ4_deleteEntry_4 : List UInt8 := dkwJ4_deleteEntry_4 ++ dktJ4_deleteEntry_5
def dkwJ4_deleteEntry_3 : List UInt8 := [180, 0, 114, 77, 44, 198, 0, 87, 44, 43, 180, 0, 124, 181, 0, 124, 43, 180, 0, 124, 199, 0, 11, 42]
abbrev dktJ4_deleteEntry_3 : List UInt8 := dkwJ4_deleteEntry_3 ++ dktJ4_deleteEntry_4
def dkwJ4_deleteEntry_2 : List UInt8 := [44, 180, 0, 58, 181, 0, 58, 44, 76, 43, 180, 0, 111, 198, 0, 10, 43, 180, 0, 111, 167, 0, 7, 43]
abbrev dktJ4_deleteEntry_2 : List UInt8 := dkwJ4_deleteEntry_2 ++ dktJ4_deleteEntry_3
def dkwJ4_deleteEntry_1 : List UInt8 := [198, 0, 33, 43, 180, 0, 114, 198, 0, 26, 43, 184, 0, 68, 77, 43, 44, 180, 0, 105, 181, 0, 105, 43]
abbrev dktJ4_deleteEntry_1 : List UInt8 := dkwJ4_deleteEntry_1 ++ dktJ4_deleteEntry_2
def dkwJ4_deleteEntry_0 : List UInt8 := [42, 89, 180, 0, 13, 4, 96, 181, 0, 13, 42, 89, 180, 0, 7, 4, 100, 181, 0, 7, 43, 180, 0, 111]
abbrev dktJ4_deleteEntry_0 : List UInt8 := dkwJ4_deleteEntry_0 ++ dktJ4_deleteEntry_1
theorem dksJ4_deleteEntry_0 : cJ4_deleteEntry.data.toList.drop 0 = dktJ4_deleteEntry_0 := by decide +kernel
theorem dksJ4_deleteEntry_1 : cJ4_deleteEntry.data.toList.drop 24 = dktJ4_deleteEntry_1 := dk_seg dksJ4_deleteEntry_0 24 rfl rfl
theorem dksJ4_deleteEntry_2 : cJ4_deleteEntry.data.toList.drop 48 = dktJ4_deleteEntry_2 := dk_seg dksJ4_deleteEntry_1 24 rfl rfl
theorem dksJ4_deleteEntry_3 : cJ4_deleteEntry.data.toList.drop 72 = dktJ4_deleteEntry_3 := dk_seg dksJ4_deleteEntry_2 24 rfl rfl
theorem dksJ4_deleteEntry_4 : cJ4_deleteEntry.data.toList.drop 96 = dktJ4_deleteEntry_4 := dk_seg dksJ4_deleteEntry_3 24 rfl rfl
theorem dksJ4_deleteEntry_5 : cJ4_deleteEntry.data.toList.drop 119 = dktJ4_deleteEntry_5 := dk_seg dksJ4_deleteEntry_4 23 rfl rfl
theorem dksJ4_deleteEntry_6 : cJ4_deleteEntry.data.toList.drop 142 = dktJ4_deleteEntry_6 := dk_seg dksJ4_deleteEntry_5 23 rfl rfl
theorem dksJ4_deleteEntry_7 : cJ4_deleteEntry.data.toList.drop 165 = dktJ4_deleteEntry_7 := dk_seg dksJ4_deleteEntry_6 23 rfl rfl
theorem dksJ4_deleteEntry_8 : cJ4_deleteEntry.data.toList.drop 189 = dktJ4_deleteEntry_8 := dk_seg dksJ4_deleteEntry_7 24 rfl rfl
theorem dksJ4_deleteEntry_9 : cJ4_deleteEntry.data.toList.drop 211 = dktJ4_deleteEntry_9 := dk_seg dksJ4_deleteEntry_8 22 rfl rfl
theorem dksJ4_deleteEntry_10 : cJ4_deleteEntry.data.toList.drop 233 = dktJ4_deleteEntry_10 := dk_seg dksJ4_deleteEntry_9 22 rfl rfl
theorem dJ4_deleteEntry_0 : decode cJ4_deleteEntry 0 = .ok (.aload_n 0, 1) := dk_42 (dk_at dksJ4_deleteEntry_0 0 rfl rfl)
theorem dJ4_deleteEntry_1 : decode cJ4_deleteEntry 1 = .ok (.dup, 1) := dk_89 (dk_at dksJ4_deleteEntry_0 1 rfl rfl)
theorem dJ4_deleteEntry_2 : decode cJ4_deleteEntry 2 = .ok (.getfield 13, 3) := dk_180 0 13 (dk_at dksJ4_deleteEntry_0 2 rfl rfl)
theorem dJ4_deleteEntry_5 : decode cJ4_deleteEntry 5 = .ok (.iconst 1, 1) := dk_4 (dk_at dksJ4_deleteEntry_0 5 rfl rfl)
theorem dJ4_deleteEntry_6 : decode cJ4_deleteEntry 6 = .ok (.iadd, 1) := dk_96 (dk_at dksJ4_deleteEntry_0 6 rfl rfl)
theorem dJ4_deleteEntry_7 : decode cJ4_deleteEntry 7 = .ok (.putfield 13, 3) := dk_181 0 13 (dk_at dksJ4_deleteEntry_0 7 rfl rfl)
theorem dJ4_deleteEntry_10 : decode cJ4_deleteEntry 10 = .ok (.aload_n 0, 1) := dk_42 (dk_at dksJ4_deleteEntry_0 10 rfl rfl)
theorem dJ4_deleteEntry_11 : decode cJ4_deleteEntry 11 = .ok (.dup, 1) := dk_89 (dk_at dksJ4_deleteEntry_0 11 rfl rfl)
theorem dJ4_deleteEntry_12 : decode cJ4_deleteEntry 12 = .ok (.getfield 7, 3) := dk_180 0 7 (dk_at dksJ4_deleteEntry_0 12 rfl rfl)
theorem dJ4_deleteEntry_15 : decode cJ4_deleteEntry 15 = .ok (.iconst 1, 1) := dk_4 (dk_at dksJ4_deleteEntry_0 15 rfl rfl)
theorem dJ4_deleteEntry_16 : decode cJ4_deleteEntry 16 = .ok (.isub, 1) := dk_100 (dk_at dksJ4_deleteEntry_0 16 rfl rfl)
theorem dJ4_deleteEntry_17 : decode cJ4_deleteEntry 17 = .ok (.putfield 7, 3) := dk_181 0 7 (dk_at dksJ4_deleteEntry_0 17 rfl rfl)
theorem dJ4_deleteEntry_20 : decode cJ4_deleteEntry 20 = .ok (.aload_n 1, 1) := dk_43 (dk_at dksJ4_deleteEntry_0 20 rfl rfl)
theorem dJ4_deleteEntry_21 : decode cJ4_deleteEntry 21 = .ok (.getfield 111, 3) := dk_180 0 111 (dk_at dksJ4_deleteEntry_0 21 rfl rfl)
theorem dJ4_deleteEntry_24 : decode cJ4_deleteEntry 24 = .ok (.ifnull 33, 3) := dk_198 0 33 (dk_at dksJ4_deleteEntry_1 0 rfl rfl)
theorem dJ4_deleteEntry_27 : decode cJ4_deleteEntry 27 = .ok (.aload_n 1, 1) := dk_43 (dk_at dksJ4_deleteEntry_1 3 rfl rfl)
theorem dJ4_deleteEntry_28 : decode cJ4_deleteEntry 28 = .ok (.getfield 114, 3) := dk_180 0 114 (dk_at dksJ4_deleteEntry_1 4 rfl rfl)
theorem dJ4_deleteEntry_31 : decode cJ4_deleteEntry 31 = .ok (.ifnull 26, 3) := dk_198 0 26 (dk_at dksJ4_deleteEntry_1 7 rfl rfl)
theorem dJ4_deleteEntry_34 : decode cJ4_deleteEntry 34 = .ok (.aload_n 1, 1) := dk_43 (dk_at dksJ4_deleteEntry_1 10 rfl rfl)
theorem dJ4_deleteEntry_35 : decode cJ4_deleteEntry 35 = .ok (.invokestatic 68, 3) := dk_184 0 68 (dk_at dksJ4_deleteEntry_1 11 rfl rfl)
theorem dJ4_deleteEntry_38 : decode cJ4_deleteEntry 38 = .ok (.astore_n 2, 1) := dk_77 (dk_at dksJ4_deleteEntry_1 14 rfl rfl)
theorem dJ4_deleteEntry_39 : decode cJ4_deleteEntry 39 = .ok (.aload_n 1, 1) := dk_43 (dk_at dksJ4_deleteEntry_1 15 rfl rfl)
theorem dJ4_deleteEntry_40 : decode cJ4_deleteEntry 40 = .ok (.aload_n 2, 1) := dk_44 (dk_at dksJ4_deleteEntry_1 16 rfl rfl)
theorem dJ4_deleteEntry_41 : decode cJ4_deleteEntry 41 = .ok (.getfield 105, 3) := dk_180 0 105 (dk_at dksJ4_deleteEntry_1 17 rfl rfl)
theorem dJ4_deleteEntry_44 : decode cJ4_deleteEntry 44 = .ok (.putfield 105, 3) := dk_181 0 105 (dk_at dksJ4_deleteEntry_1 20 rfl rfl)
theorem dJ4_deleteEntry_47 : decode cJ4_deleteEntry 47 = .ok (.aload_n 1, 1) := dk_43 (dk_at dksJ4_deleteEntry_1 23 rfl rfl)
theorem dJ4_deleteEntry_48 : decode cJ4_deleteEntry 48 = .ok (.aload_n 2, 1) := dk_44 (dk_at dksJ4_deleteEntry_2 0 rfl rfl)
theorem dJ4_deleteEntry_49 : decode cJ4_deleteEntry 49 = .ok (.getfield 58, 3) := dk_180 0 58 (dk_at dksJ4_deleteEntry_2 1 rfl rfl)
theorem dJ4_deleteEntry_52 : decode cJ4_deleteEntry 52 = .ok (.putfield 58, 3) := dk_181 0 58 (dk_at dksJ4_deleteEntry_2 4 rfl rfl)
theorem dJ4_deleteEntry_55 : decode cJ4_deleteEntry 55 = .ok (.aload_n 2, 1) := dk_44 (dk_at dksJ4_deleteEntry_2 7 rfl rfl)
theorem dJ4_deleteEntry_56 : decode cJ4_deleteEntry 56 = .ok (.astore_n 1, 1) := dk_76 (dk_at dksJ4_deleteEntry_2 8 rfl rfl)
theorem dJ4_deleteEntry_57 : decode cJ4_deleteEntry 57 = .ok (.aload_n 1, 1) := dk_43 (dk_at dksJ4_deleteEntry_2 9 rfl rfl)
theorem dJ4_deleteEntry_58 : decode cJ4_deleteEntry 58 = .ok (.getfield 111, 3) := dk_180 0 111 (dk_at dksJ4_deleteEntry_2 10 rfl rfl)
theorem dJ4_deleteEntry_61 : decode cJ4_deleteEntry 61 = .ok (.ifnull 10, 3) := dk_198 0 10 (dk_at dksJ4_deleteEntry_2 13 rfl rfl)
theorem dJ4_deleteEntry_64 : decode cJ4_deleteEntry 64 = .ok (.aload_n 1, 1) := dk_43 (dk_at dksJ4_deleteEntry_2 16 rfl rfl)
theorem dJ4_deleteEntry_65 : decode cJ4_deleteEntry 65 = .ok (.getfield 111, 3) := dk_180 0 111 (dk_at dksJ4_deleteEntry_2 17 rfl rfl)
theorem dJ4_deleteEntry_68 : decode cJ4_deleteEntry 68 = .ok (.goto 7, 3) := dk_167 0 7 (dk_at dksJ4_deleteEntry_2 20 rfl rfl)
theorem dJ4_deleteEntry_71 : decode cJ4_deleteEntry 71 = .ok (.aload_n 1, 1) := dk_43 (dk_at dksJ4_deleteEntry_2 23 rfl rfl)
theorem dJ4_deleteEntry_72 : decode cJ4_deleteEntry 72 = .ok (.getfield 114, 3) := dk_180 0 114 (dk_at dksJ4_deleteEntry_3 0 rfl rfl)
theorem dJ4_deleteEntry_75 : decode cJ4_deleteEntry 75 = .ok (.astore_n 2, 1) := dk_77 (dk_at dksJ4_deleteEntry_3 3 rfl rfl)
theorem dJ4_deleteEntry_76 : decode cJ4_deleteEntry 76 = .ok (.aload_n 2, 1) := dk_44 (dk_at dksJ4_deleteEntry_3 4 rfl rfl)
theorem dJ4_deleteEntry_77 : decode cJ4_deleteEntry 77 = .ok (.ifnull 87, 3) := dk_198 0 87 (dk_at dksJ4_deleteEntry_3 5 rfl rfl)
theorem dJ4_deleteEntry_80 : decode cJ4_deleteEntry 80 = .ok (.aload_n 2, 1) := dk_44 (dk_at dksJ4_deleteEntry_3 8 rfl rfl)
theorem dJ4_deleteEntry_81 : decode cJ4_deleteEntry 81 = .ok (.aload_n 1, 1) := dk_43 (dk_at dksJ4_deleteEntry_3 9 rfl rfl)
theorem dJ4_deleteEntry_82 : decode cJ4_deleteEntry 82 = .ok (.getfield 124, 3) := dk_180 0 124 (dk_at dksJ4_deleteEntry_3 10 rfl rfl)
theorem dJ4_deleteEntry_85 : decode cJ4_deleteEntry 85 = .ok (.putfield 124, 3) := dk_181 0 124 (dk_at dksJ4_deleteEntry_3 13 rfl rfl)
theorem dJ4_deleteEntry_88 : decode cJ4_deleteEntry 88 = .ok (.aload_n 1, 1) := dk_43 (dk_at dksJ4_deleteEntry_3 16 rfl rfl)
theorem dJ4_deleteEntry_89 : decode cJ4_deleteEntry 89 = .ok (.getfield 124, 3) := dk_180 0 124 (dk_at dksJ4_deleteEntry_3 17 rfl rfl)
theorem dJ4_deleteEntry_92 : decode cJ4_deleteEntry 92 = .ok (.ifnonnull 11, 3) := dk_199 0 11 (dk_at dksJ4_deleteEntry_3 20 rfl rfl)
theorem dJ4_deleteEntry_95 : decode cJ4_deleteEntry 95 = .ok (.aload_n 0, 1) := dk_42 (dk_at dksJ4_deleteEntry_3 23 rfl rfl)
theorem dJ4_deleteEntry_96 : decode cJ4_deleteEntry 96 = .ok (.aload_n 2, 1) := dk_44 (dk_at dksJ4_deleteEntry_4 0 rfl rfl)
theorem dJ4_deleteEntry_97 : decode cJ4_deleteEntry 97 = .ok (.putfield 101, 3) := dk_181 0 101 (dk_at dksJ4_deleteEntry_4 1 rfl rfl)
theorem dJ4_deleteEntry_100 : decode cJ4_deleteEntry 100 = .ok (.goto 33, 3) := dk_167 0 33 (dk_at dksJ4_deleteEntry_4 4 rfl rfl)
theorem dJ4_deleteEntry_103 : decode cJ4_deleteEntry 103 = .ok (.aload_n 1, 1) := dk_43 (dk_at dksJ4_deleteEntry_4 7 rfl rfl)
theorem dJ4_deleteEntry_104 : decode cJ4_deleteEntry 104 = .ok (.aload_n 1, 1) := dk_43 (dk_at dksJ4_deleteEntry_4 8 rfl rfl)
theorem dJ4_deleteEntry_105 : decode cJ4_deleteEntry 105 = .ok (.getfield 124, 3) := dk_180 0 124 (dk_at dksJ4_deleteEntry_4 9 rfl rfl)
theorem dJ4_deleteEntry_108 : decode cJ4_deleteEntry 108 = .ok (.getfield 111, 3) := dk_180 0 111 (dk_at dksJ4_deleteEntry_4 12 rfl rfl)
theorem dJ4_deleteEntry_111 : decode cJ4_deleteEntry 111 = .ok (.if_acmp .ne 14, 3) := dk_166 0 14 (dk_at dksJ4_deleteEntry_4 15 rfl rfl)
theorem dJ4_deleteEntry_114 : decode cJ4_deleteEntry 114 = .ok (.aload_n 1, 1) := dk_43 (dk_at dksJ4_deleteEntry_4 18 rfl rfl)
theorem dJ4_deleteEntry_115 : decode cJ4_deleteEntry 115 = .ok (.getfield 124, 3) := dk_180 0 124 (dk_at dksJ4_deleteEntry_4 19 rfl rfl)
theorem dJ4_deleteEntry_118 : decode cJ4_deleteEntry 118 = .ok (.aload_n 2, 1) := dk_44 (dk_at dksJ4_deleteEntry_4 22 rfl rfl)
theorem dJ4_deleteEntry_119 : decode cJ4_deleteEntry 119 = .ok (.putfield 111, 3) := dk_181 0 111 (dk_at dksJ4_deleteEntry_5 0 rfl rfl)
theorem dJ4_deleteEntry_122 : decode cJ4_deleteEntry 122 = .ok (.goto 11, 3) := dk_167 0 11 (dk_at dksJ4_deleteEntry_5 3 rfl rfl)
theorem dJ4_deleteEntry_125 : decode cJ4_deleteEntry 125 = .ok (.aload_n 1, 1) := dk_43 (dk_at dksJ4_deleteEntry_5 6 rfl rfl)
theorem dJ4_deleteEntry_126 : decode cJ4_deleteEntry 126 = .ok (.getfield 124, 3) := dk_180 0 124 (dk_at dksJ4_deleteEntry_5 7 rfl rfl)
theorem dJ4_deleteEntry_129 : decode cJ4_deleteEntry 129 = .ok (.aload_n 2, 1) := dk_44 (dk_at dksJ4_deleteEntry_5 10 rfl rfl)
theorem dJ4_deleteEntry_130 : decode cJ4_deleteEntry 130 = .ok (.putfield 114, 3) := dk_181 0 114 (dk_at dksJ4_deleteEntry_5 11 rfl rfl)
theorem dJ4_deleteEntry_133 : decode cJ4_deleteEntry 133 = .ok (.aload_n 1, 1) := dk_43 (dk_at dksJ4_deleteEntry_5 14 rfl rfl)
theorem dJ4_deleteEntry_134 : decode cJ4_deleteEntry 134 = .ok (.aload_n 1, 1) := dk_43 (dk_at dksJ4_deleteEntry_5 15 rfl rfl)
theorem dJ4_deleteEntry_135 : decode cJ4_deleteEntry 135 = .ok (.aload_n 1, 1) := dk_43 (dk_at dksJ4_deleteEntry_5 16 rfl rfl)
theorem dJ4_deleteEntry_136 : decode cJ4_deleteEntry 136 = .ok (.aconst_null, 1) := dk_1 (dk_at dksJ4_deleteEntry_5 17 rfl rfl)
theorem dJ4_deleteEntry_137 : decode cJ4_deleteEntry 137 = .ok (.dup_x1, 1) := dk_90 (dk_at dksJ4_deleteEntry_5 18 rfl rfl)
theorem dJ4_deleteEntry_138 : decode cJ4_deleteEntry 138 = .ok (.putfield 124, 3) := dk_181 0 124 (dk_at dksJ4_deleteEntry_5 19 rfl rfl)
theorem dJ4_deleteEntry_141 : decode cJ4_deleteEntry 141 = .ok (.dup_x1, 1) := dk_90 (dk_at dksJ4_deleteEntry_5 22 rfl rfl)
theorem dJ4_deleteEntry_142 : decode cJ4_deleteEntry 142 = .ok (.putfield 114, 3) := dk_181 0 114 (dk_at dksJ4_deleteEntry_6 0 rfl rfl)
theorem dJ4_deleteEntry_145 : decode cJ4_deleteEntry 145 = .ok (.putfield 111, 3) := dk_181 0 111 (dk_at dksJ4_deleteEntry_6 3 rfl rfl)
theorem dJ4_deleteEntry_148 : decode cJ4_deleteEntry 148 = .ok (.aload_n 1, 1) := dk_43 (dk_at dksJ4_deleteEntry_6 6 rfl rfl)
theorem dJ4_deleteEntry_149 : decode cJ4_deleteEntry 149 = .ok (.getfield 290, 3) := dk_180 1 34 (dk_at dksJ4_deleteEntry_6 7 rfl rfl)
theorem dJ4_deleteEntry_152 : decode cJ4_deleteEntry 152 = .ok (.iconst 1, 1) := dk_4 (dk_at dksJ4_deleteEntry_6 10 rfl rfl)
theorem dJ4_deleteEntry_153 : decode cJ4_deleteEntry 153 = .ok (.if_icmp .ne 92, 3) := dk_160 0 92 (dk_at dksJ4_deleteEntry_6 11 rfl rfl)
theorem dJ4_deleteEntry_156 : decode cJ4_deleteEntry 156 = .ok (.aload_n 0, 1) := dk_42 (dk_at dksJ4_deleteEntry_6 14 rfl rfl)
theorem dJ4_deleteEntry_157 : decode cJ4_deleteEntry 157 = .ok (.aload_n 2, 1) := dk_44 (dk_at dksJ4_deleteEntry_6 15 rfl rfl)
theorem dJ4_deleteEntry_158 : decode cJ4_deleteEntry 158 = .ok (.invokevirtual 317, 3) := dk_182 1 61 (dk_at dksJ4_deleteEntry_6 16 rfl rfl)
theorem dJ4_deleteEntry_161 : decode cJ4_deleteEntry 161 = .ok (.goto 84, 3) := dk_167 0 84 (dk_at dksJ4_deleteEntry_6 19 rfl rfl)
theorem dJ4_deleteEntry_164 : decode cJ4_deleteEntry 164 = .ok (.aload_n 1, 1) := dk_43 (dk_at dksJ4_deleteEntry_6 22 rfl rfl)
theorem dJ4_deleteEntry_165 : decode cJ4_deleteEntry 165 = .ok (.getfield 124, 3) := dk_180 0 124 (dk_at dksJ4_deleteEntry_7 0 rfl rfl)
theorem dJ4_deleteEntry_168 : decode cJ4_deleteEntry 168 = .ok (.ifnonnull 11, 3) := dk_199 0 11 (dk_at dksJ4_deleteEntry_7 3 rfl rfl)
theorem dJ4_deleteEntry_171 : decode cJ4_deleteEntry 171 = .ok (.aload_n 0, 1) := dk_42 (dk_at dksJ4_deleteEntry_7 6 rfl rfl)
theorem dJ4_deleteEntry_172 : decode cJ4_deleteEntry 172 = .ok (.aconst_null, 1) := dk_1 (dk_at dksJ4_deleteEntry_7 7 rfl rfl)
theorem dJ4_deleteEntry_173 : decode cJ4_deleteEntry 173 = .ok (.putfield 101, 3) := dk_181 0 101 (dk_at dksJ4_deleteEntry_7 8 rfl rfl)
theorem dJ4_deleteEntry_176 : decode cJ4_deleteEntry 176 = .ok (.goto 69, 3) := dk_167 0 69 (dk_at dksJ4_deleteEntry_7 11 rfl rfl)
theorem dJ4_deleteEntry_179 : decode cJ4_deleteEntry 179 = .ok (.aload_n 1, 1) := dk_43 (dk_at dksJ4_deleteEntry_7 14 rfl rfl)
theorem dJ4_deleteEntry_180 : decode cJ4_deleteEntry 180 = .ok (.getfield 290, 3) := dk_180 1 34 (dk_at dksJ4_deleteEntry_7 15 rfl rfl)
theorem dJ4_deleteEntry_183 : decode cJ4_deleteEntry 183 = .ok (.iconst 1, 1) := dk_4 (dk_at dksJ4_deleteEntry_7 18 rfl rfl)
theorem dJ4_deleteEntry_184 : decode cJ4_deleteEntry 184 = .ok (.if_icmp .ne 8, 3) := dk_160 0 8 (dk_at dksJ4_deleteEntry_7 19 rfl rfl)
theorem dJ4_deleteEntry_187 : decode cJ4_deleteEntry 187 = .ok (.aload_n 0, 1) := dk_42 (dk_at dksJ4_deleteEntry_7 22 rfl rfl)
theorem dJ4_deleteEntry_188 : decode cJ4_deleteEntry 188 = .ok (.aload_n 1, 1) := dk_43 (dk_at dksJ4_deleteEntry_7 23 rfl rfl)
theorem dJ4_deleteEntry_189 : decode cJ4_deleteEntry 189 = .ok (.invokevirtual 317, 3) := dk_182 1 61 (dk_at dksJ4_deleteEntry_8 0 rfl rfl)
theorem dJ4_deleteEntry_192 : decode cJ4_deleteEntry 192 = .ok (.aload_n 1, 1) := dk_43 (dk_at dksJ4_deleteEntry_8 3 rfl rfl)
theorem dJ4_deleteEntry_193 : decode cJ4_deleteEntry 193 = .ok (.getfield 124, 3) := dk_180 0 124 (dk_at dksJ4_deleteEntry_8 4 rfl rfl)
theorem dJ4_deleteEntry_196 : decode cJ4_deleteEntry 196 = .ok (.ifnull 49, 3) := dk_198 0 49 (dk_at dksJ4_deleteEntry_8 7 rfl rfl)
theorem dJ4_deleteEntry_199 : decode cJ4_deleteEntry 199 = .ok (.aload_n 1, 1) := dk_43 (dk_at dksJ4_deleteEntry_8 10 rfl rfl)
theorem dJ4_deleteEntry_200 : decode cJ4_deleteEntry 200 = .ok (.aload_n 1, 1) := dk_43 (dk_at dksJ4_deleteEntry_8 11 rfl rfl)
theorem dJ4_deleteEntry_201 : decode cJ4_deleteEntry 201 = .ok (.getfield 124, 3) := dk_180 0 124 (dk_at dksJ4_deleteEntry_8 12 rfl rfl)
theorem dJ4_deleteEntry_204 : decode cJ4_deleteEntry 204 = .ok (.getfield 111, 3) := dk_180 0 111 (dk_at dksJ4_deleteEntry_8 15 rfl rfl)
theorem dJ4_deleteEntry_207 : decode cJ4_deleteEntry 207 = .ok (.if_acmp .ne 14, 3) := dk_166 0 14 (dk_at dksJ4_deleteEntry_8 18 rfl rfl)
theorem dJ4_deleteEntry_210 : decode cJ4_deleteEntry 210 = .ok (.aload_n 1, 1) := dk_43 (dk_at dksJ4_deleteEntry_8 21 rfl rfl)
theorem dJ4_deleteEntry_211 : decode cJ4_deleteEntry 211 = .ok (.getfield 124, 3) := dk_180 0 124 (dk_at dksJ4_deleteEntry_9 0 rfl rfl)
theorem dJ4_deleteEntry_214 : decode cJ4_deleteEntry 214 = .ok (.aconst_null, 1) := dk_1 (dk_at dksJ4_deleteEntry_9 3 rfl rfl)
theorem dJ4_deleteEntry_215 : decode cJ4_deleteEntry 215 = .ok (.putfield 111, 3) := dk_181 0 111 (dk_at dksJ4_deleteEntry_9 4 rfl rfl)
theorem dJ4_deleteEntry_218 : decode cJ4_deleteEntry 218 = .ok (.goto 22, 3) := dk_167 0 22 (dk_at dksJ4_deleteEntry_9 7 rfl rfl)
theorem dJ4_deleteEntry_221 : decode cJ4_deleteEntry 221 = .ok (.aload_n 1, 1) := dk_43 (dk_at dksJ4_deleteEntry_9 10 rfl rfl)
theorem dJ4_deleteEntry_222 : decode cJ4_deleteEntry 222 = .ok (.aload_n 1, 1) := dk_43 (dk_at dksJ4_deleteEntry_9 11 rfl rfl)
theorem dJ4_deleteEntry_223 : decode cJ4_deleteEntry 223 = .ok (.getfield 124, 3) := dk_180 0 124 (dk_at dksJ4_deleteEntry_9 12 rfl rfl)
theorem dJ4_deleteEntry_226 : decode cJ4_deleteEntry 226 = .ok (.getfield 114, 3) := dk_180 0 114 (dk_at dksJ4_deleteEntry_9 15 rfl rfl)
theorem dJ4_deleteEntry_229 : decode cJ4_deleteEntry 229 = .ok (.if_acmp .ne 11, 3) := dk_166 0 11 (dk_at dksJ4_deleteEntry_9 18 rfl rfl)
theorem dJ4_deleteEntry_232 : decode cJ4_deleteEntry 232 = .ok (.aload_n 1, 1) := dk_43 (dk_at dksJ4_deleteEntry_9 21 rfl rfl)
theorem dJ4_deleteEntry_233 : decode cJ4_deleteEntry 233 = .ok (.getfield 124, 3) := dk_180 0 124 (dk_at dksJ4_deleteEntry_10 0 rfl rfl)
theorem dJ4_deleteEntry_236 : decode cJ4_deleteEntry 236 = .ok (.aconst_null, 1) := dk_1 (dk_at dksJ4_deleteEntry_10 3 rfl rfl)
theorem dJ4_deleteEntry_237 : decode cJ4_deleteEntry 237 = .ok (.putfield 114, 3) := dk_181 0 114 (dk_at dksJ4_deleteEntry_10 4 rfl rfl)
theorem dJ4_deleteEntry_240 : decode cJ4_deleteEntry 240 = .ok (.aload_n 1, 1) := dk_43 (dk_at dksJ4_deleteEntry_10 7 rfl rfl)
theorem dJ4_deleteEntry_241 : decode cJ4_deleteEntry 241 = .ok (.aconst_null, 1) := dk_1 (dk_at dksJ4_deleteEntry_10 8 rfl rfl)
theorem dJ4_deleteEntry_242 : decode cJ4_deleteEntry 242 = .ok (.putfield 124, 3) := dk_181 0 124 (dk_at dksJ4_deleteEntry_10 9 rfl rfl)
theorem dJ4_deleteEntry_245 : decode cJ4_deleteEntry 245 = .ok (.return_, 1) := dk_177 (dk_at dksJ4_deleteEntry_10 12 rfl rfl)
abbrev cJ0_isEmpty : ByteArray := prog_55_method_4_code
def dkwJ0_isEmpty_0 : List UInt8 := [42, 182, 0, 7, 154, 0, 7, 4, 167, 0, 4, 3, 172]
abbrev dktJ0_isEmpty_0 : List UInt8 := dkwJ0_isEmpty_0 ++ []
theorem dksJ0_isEmpty_0 : cJ0_isEmpty.data.toList.drop 0 = dktJ0_isEmpty_0 := by decide +kernel
theorem dJ0_isEmpty_0 : decode cJ0_isEmpty 0 = .ok (.aload_n 0, 1) := dk_42 (dk_at dksJ0_isEmpty_0 0 rfl rfl)
theorem dJ0_isEmpty_1 : decode cJ0_isEmpty 1 = .ok (.invokevirtual 7, 3) := dk_182 0 7 (dk_at dksJ0_isEmpty_0 1 rfl rfl)
theorem dJ0_isEmpty_4 : decode cJ0_isEmpty 4 = .ok (.ifCond .ne 7, 3) := dk_154 0 7 (dk_at dksJ0_isEmpty_0 4 rfl rfl)
theorem dJ0_isEmpty_7 : decode cJ0_isEmpty 7 = .ok (.iconst 1, 1) := dk_4 (dk_at dksJ0_isEmpty_0 7 rfl rfl)
theorem dJ0_isEmpty_8 : decode cJ0_isEmpty 8 = .ok (.goto 4, 3) := dk_167 0 4 (dk_at dksJ0_isEmpty_0 8 rfl rfl)
theorem dJ0_isEmpty_11 : decode cJ0_isEmpty 11 = .ok (.iconst 0, 1) := dk_3 (dk_at dksJ0_isEmpty_0 11 rfl rfl)
theorem dJ0_isEmpty_12 : decode cJ0_isEmpty 12 = .ok (.ireturn, 1) := dk_172 (dk_at dksJ0_isEmpty_0 12 rfl rfl)
abbrev cJ6_peek : ByteArray := prog_73_method_15_code
def dkwJ6_peek_0 : List UInt8 := [42, 180, 0, 17, 3, 50, 176]
abbrev dktJ6_peek_0 : List UInt8 := dkwJ6_peek_0 ++ []
theorem dksJ6_peek_0 : cJ6_peek.data.toList.drop 0 = dktJ6_peek_0 := by decide +kernel
theorem dJ6_peek_0 : decode cJ6_peek 0 = .ok (.aload_n 0, 1) := dk_42 (dk_at dksJ6_peek_0 0 rfl rfl)
theorem dJ6_peek_1 : decode cJ6_peek 1 = .ok (.getfield 17, 3) := dk_180 0 17 (dk_at dksJ6_peek_0 1 rfl rfl)
theorem dJ6_peek_4 : decode cJ6_peek 4 = .ok (.iconst 0, 1) := dk_3 (dk_at dksJ6_peek_0 4 rfl rfl)
theorem dJ6_peek_5 : decode cJ6_peek 5 = .ok (.aaload, 1) := dk_50 (dk_at dksJ6_peek_0 5 rfl rfl)
theorem dJ6_peek_6 : decode cJ6_peek 6 = .ok (.areturn, 1) := dk_176 (dk_at dksJ6_peek_0 6 rfl rfl)
abbrev cJ6_poll : ByteArray := prog_73_method_25_code
def dkwJ6_poll_3 : List UInt8 := [43, 29, 25, 5, 184, 0, 129, 44, 176]
abbrev dktJ6_poll_3 : List UInt8 := dkwJ6_poll_3 ++ []
def dkwJ6_poll_2 : List UInt8 := [42, 180, 0, 21, 89, 58, 5, 199, 0, 14, 3, 25, 4, 43, 29, 184, 0, 125, 167, 0, 13, 3, 25, 4]
abbrev dktJ6_poll_2 : List UInt8 := dkwJ6_poll_2 ++ dktJ6_poll_3
def dkwJ6_poll_1 : List UInt8 := [42, 89, 180, 0, 58, 4, 100, 90, 181, 0, 58, 89, 62, 50, 58, 4, 43, 29, 1, 83, 29, 158, 0, 34]
abbrev dktJ6_poll_1 : List UInt8 := dkwJ6_poll_1 ++ dktJ6_poll_2
def dkwJ6_poll_0 : List UInt8 := [42, 180, 0, 17, 89, 76, 3, 50, 89, 77, 198, 0, 69, 42, 89, 180, 0, 93, 4, 96, 181, 0, 93, 43]
abbrev dktJ6_poll_0 : List UInt8 := dkwJ6_poll_0 ++ dktJ6_poll_1
theorem dksJ6_poll_0 : cJ6_poll.data.toList.drop 0 = dktJ6_poll_0 := by decide +kernel
theorem dksJ6_poll_1 : cJ6_poll.data.toList.drop 24 = dktJ6_poll_1 := dk_seg dksJ6_poll_0 24 rfl rfl
theorem dksJ6_poll_2 : cJ6_poll.data.toList.drop 48 = dktJ6_poll_2 := dk_seg dksJ6_poll_1 24 rfl rfl
theorem dksJ6_poll_3 : cJ6_poll.data.toList.drop 72 = dktJ6_poll_3 := dk_seg dksJ6_poll_2 24 rfl rfl
theorem dJ6_poll_0 : decode cJ6_poll 0 = .ok (.aload_n 0, 1) := dk_42 (dk_at dksJ6_poll_0 0 rfl rfl)
theorem dJ6_poll_1 : decode cJ6_poll 1 = .ok (.getfield 17, 3) := dk_180 0 17 (dk_at dksJ6_poll_0 1 rfl rfl)
theorem dJ6_poll_4 : decode cJ6_poll 4 = .ok (.dup, 1) := dk_89 (dk_at dksJ6_poll_0 4 rfl rfl)
theorem dJ6_poll_5 : decode cJ6_poll 5 = .ok (.astore_n 1, 1) := dk_76 (dk_at dksJ6_poll_0 5 rfl rfl)
theorem dJ6_poll_6 : decode cJ6_poll 6 = .ok (.iconst 0, 1) := dk_3 (dk_at dksJ6_poll_0 6 rfl rfl)
theorem dJ6_poll_7 : decode cJ6_poll 7 = .ok (.aaload, 1) := dk_50 (dk_at dksJ6_poll_0 7 rfl rfl)
theorem dJ6_poll_8 : decode cJ6_poll 8 = .ok (.dup, 1) := dk_89 (dk_at dksJ6_poll_0 8 rfl rfl)
theorem dJ6_poll_9 : decode cJ6_poll 9 = .ok (.astore_n 2, 1) := dk_77 (dk_at dksJ6_poll_0 9 rfl rfl)
theorem dJ6_poll_10 : decode cJ6_poll 10 = .ok (.ifnull 69, 3) := dk_198 0 69 (dk_at dksJ6_poll_0 10 rfl rfl)
theorem dJ6_poll_13 : decode cJ6_poll 13 = .ok (.aload_n 0, 1) := dk_42 (dk_at dksJ6_poll_0 13 rfl rfl)
theorem dJ6_poll_14 : decode cJ6_poll 14 = .ok (.dup, 1) := dk_89 (dk_at dksJ6_poll_0 14 rfl rfl)
theorem dJ6_poll_15 : decode cJ6_poll 15 = .ok (.getfield 93, 3) := dk_180 0 93 (dk_at dksJ6_poll_0 15 rfl rfl)
theorem dJ6_poll_18 : decode cJ6_poll 18 = .ok (.iconst 1, 1) := dk_4 (dk_at dksJ6_poll_0 18 rfl rfl)
theorem dJ6_poll_19 : decode cJ6_poll 19 = .ok (.iadd, 1) := dk_96 (dk_at dksJ6_poll_0 19 rfl rfl)
theorem dJ6_poll_20 : decode cJ6_poll 20 = .ok (.putfield 93, 3) := dk_181 0 93 (dk_at dksJ6_poll_0 20 rfl rfl)
theorem dJ6_poll_23 : decode cJ6_poll 23 = .ok (.aload_n 1, 1) := dk_43 (dk_at dksJ6_poll_0 23 rfl rfl)
theorem dJ6_poll_24 : decode cJ6_poll 24 = .ok (.aload_n 0, 1) := dk_42 (dk_at dksJ6_poll_1 0 rfl rfl)
theorem dJ6_poll_25 : decode cJ6_poll 25 = .ok (.dup, 1) := dk_89 (dk_at dksJ6_poll_1 1 rfl rfl)
theorem dJ6_poll_26 : decode cJ6_poll 26 = .ok (.getfield 58, 3) := dk_180 0 58 (dk_at dksJ6_poll_1 2 rfl rfl)
theorem dJ6_poll_29 : decode cJ6_poll 29 = .ok (.iconst 1, 1) := dk_4 (dk_at dksJ6_poll_1 5 rfl rfl)
theorem dJ6_poll_30 : decode cJ6_poll 30 = .ok (.isub, 1) := dk_100 (dk_at dksJ6_poll_1 6 rfl rfl)
theorem dJ6_poll_31 : decode cJ6_poll 31 = .ok (.dup_x1, 1) := dk_90 (dk_at dksJ6_poll_1 7 rfl rfl)
theorem dJ6_poll_32 : decode cJ6_poll 32 = .ok (.putfield 58, 3) := dk_181 0 58 (dk_at dksJ6_poll_1 8 rfl rfl)
theorem dJ6_poll_35 : decode cJ6_poll 35 = .ok (.dup, 1) := dk_89 (dk_at dksJ6_poll_1 11 rfl rfl)
theorem dJ6_poll_36 : decode cJ6_poll 36 = .ok (.istore_n 3, 1) := dk_62 (dk_at dksJ6_poll_1 12 rfl rfl)
theorem dJ6_poll_37 : decode cJ6_poll 37 = .ok (.aaload, 1) := dk_50 (dk_at dksJ6_poll_1 13 rfl rfl)
theorem dJ6_poll_38 : decode cJ6_poll 38 = .ok (.astore 4, 2) := dk_58 4 (dk_at dksJ6_poll_1 14 rfl rfl)
theorem dJ6_poll_40 : decode cJ6_poll 40 = .ok (.aload_n 1, 1) := dk_43 (dk_at dksJ6_poll_1 16 rfl rfl)
theorem dJ6_poll_41 : decode cJ6_poll 41 = .ok (.iload_n 3, 1) := dk_29 (dk_at dksJ6_poll_1 17 rfl rfl)
theorem dJ6_poll_42 : decode cJ6_poll 42 = .ok (.aconst_null, 1) := dk_1 (dk_at dksJ6_poll_1 18 rfl rfl)
theorem dJ6_poll_43 : decode cJ6_poll 43 = .ok (.aastore, 1) := dk_83 (dk_at dksJ6_poll_1 19 rfl rfl)
theorem dJ6_poll_44 : decode cJ6_poll 44 = .ok (.iload_n 3, 1) := dk_29 (dk_at dksJ6_poll_1 20 rfl rfl)
theorem dJ6_poll_45 : decode cJ6_poll 45 = .ok (.ifCond .le 34, 3) := dk_158 0 34 (dk_at dksJ6_poll_1 21 rfl rfl)
theorem dJ6_poll_48 : decode cJ6_poll 48 = .ok (.aload_n 0, 1) := dk_42 (dk_at dksJ6_poll_2 0 rfl rfl)
theorem dJ6_poll_49 : decode cJ6_poll 49 = .ok (.getfield 21, 3) := dk_180 0 21 (dk_at dksJ6_poll_2 1 rfl rfl)
theorem dJ6_poll_52 : decode cJ6_poll 52 = .ok (.dup, 1) := dk_89 (dk_at dksJ6_poll_2 4 rfl rfl)
theorem dJ6_poll_53 : decode cJ6_poll 53 = .ok (.astore 5, 2) := dk_58 5 (dk_at dksJ6_poll_2 5 rfl rfl)
theorem dJ6_poll_55 : decode cJ6_poll 55 = .ok (.ifnonnull 14, 3) := dk_199 0 14 (dk_at dksJ6_poll_2 7 rfl rfl)
theorem dJ6_poll_58 : decode cJ6_poll 58 = .ok (.iconst 0, 1) := dk_3 (dk_at dksJ6_poll_2 10 rfl rfl)
theorem dJ6_poll_59 : decode cJ6_poll 59 = .ok (.aload 4, 2) := dk_25 4 (dk_at dksJ6_poll_2 11 rfl rfl)
theorem dJ6_poll_61 : decode cJ6_poll 61 = .ok (.aload_n 1, 1) := dk_43 (dk_at dksJ6_poll_2 13 rfl rfl)
theorem dJ6_poll_62 : decode cJ6_poll 62 = .ok (.iload_n 3, 1) := dk_29 (dk_at dksJ6_poll_2 14 rfl rfl)
theorem dJ6_poll_63 : decode cJ6_poll 63 = .ok (.invokestatic 125, 3) := dk_184 0 125 (dk_at dksJ6_poll_2 15 rfl rfl)
theorem dJ6_poll_66 : decode cJ6_poll 66 = .ok (.goto 13, 3) := dk_167 0 13 (dk_at dksJ6_poll_2 18 rfl rfl)
theorem dJ6_poll_69 : decode cJ6_poll 69 = .ok (.iconst 0, 1) := dk_3 (dk_at dksJ6_poll_2 21 rfl rfl)
theorem dJ6_poll_70 : decode cJ6_poll 70 = .ok (.aload 4, 2) := dk_25 4 (dk_at dksJ6_poll_2 22 rfl rfl)
theorem dJ6_poll_72 : decode cJ6_poll 72 = .ok (.aload_n 1, 1) := dk_43 (dk_at dksJ6_poll_3 0 rfl rfl)
theorem dJ6_poll_73 : decode cJ6_poll 73 = .ok (.iload_n 3, 1) := dk_29 (dk_at dksJ6_poll_3 1 rfl rfl)
theorem dJ6_poll_74 : decode cJ6_poll 74 = .ok (.aload 5, 2) := dk_25 5 (dk_at dksJ6_poll_3 2 rfl rfl)
theorem dJ6_poll_76 : decode cJ6_poll 76 = .ok (.invokestatic 129, 3) := dk_184 0 129 (dk_at dksJ6_poll_3 4 rfl rfl)
theorem dJ6_poll_79 : decode cJ6_poll 79 = .ok (.aload_n 2, 1) := dk_44 (dk_at dksJ6_poll_3 7 rfl rfl)
theorem dJ6_poll_80 : decode cJ6_poll 80 = .ok (.areturn, 1) := dk_176 (dk_at dksJ6_poll_3 8 rfl rfl)
abbrev cJ1_init : ByteArray := prog_56_method_1_code
def dkwJ1_init_0 : List UInt8 := [42, 183, 0, 1, 42, 3, 181, 0, 7, 177]
abbrev dktJ1_init_0 : List UInt8 := dkwJ1_init_0 ++ []
theorem dksJ1_init_0 : cJ1_init.data.toList.drop 0 = dktJ1_init_0 := by decide +kernel
theorem dJ1_init_0 : decode cJ1_init 0 = .ok (.aload_n 0, 1) := dk_42 (dk_at dksJ1_init_0 0 rfl rfl)
theorem dJ1_init_1 : decode cJ1_init 1 = .ok (.invokespecial 1, 3) := dk_183 0 1 (dk_at dksJ1_init_0 1 rfl rfl)
theorem dJ1_init_4 : decode cJ1_init 4 = .ok (.aload_n 0, 1) := dk_42 (dk_at dksJ1_init_0 4 rfl rfl)
theorem dJ1_init_5 : decode cJ1_init 5 = .ok (.iconst 0, 1) := dk_3 (dk_at dksJ1_init_0 5 rfl rfl)
theorem dJ1_init_6 : decode cJ1_init 6 = .ok (.putfield 7, 3) := dk_181 0 7 (dk_at dksJ1_init_0 6 rfl rfl)
theorem dJ1_init_9 : decode cJ1_init 9 = .ok (.return_, 1) := dk_177 (dk_at dksJ1_init_0 9 rfl rfl)
abbrev cJ2_contains : ByteArray := prog_61_method_10_code
def dkwJ2_contains_0 : List UInt8 := [42, 43, 182, 0, 85, 155, 0, 7, 4, 167, 0, 4, 3, 172]
abbrev dktJ2_contains_0 : List UInt8 := dkwJ2_contains_0 ++ []
theorem dksJ2_contains_0 : cJ2_contains.data.toList.drop 0 = dktJ2_contains_0 := by decide +kernel
theorem dJ2_contains_0 : decode cJ2_contains 0 = .ok (.aload_n 0, 1) := dk_42 (dk_at dksJ2_contains_0 0 rfl rfl)
theorem dJ2_contains_1 : decode cJ2_contains 1 = .ok (.aload_n 1, 1) := dk_43 (dk_at dksJ2_contains_0 1 rfl rfl)
theorem dJ2_contains_2 : decode cJ2_contains 2 = .ok (.invokevirtual 85, 3) := dk_182 0 85 (dk_at dksJ2_contains_0 2 rfl rfl)
theorem dJ2_contains_5 : decode cJ2_contains 5 = .ok (.ifCond .lt 7, 3) := dk_155 0 7 (dk_at dksJ2_contains_0 5 rfl rfl)
theorem dJ2_contains_8 : decode cJ2_contains 8 = .ok (.iconst 1, 1) := dk_4 (dk_at dksJ2_contains_0 8 rfl rfl)
theorem dJ2_contains_9 : decode cJ2_contains 9 = .ok (.goto 4, 3) := dk_167 0 4 (dk_at dksJ2_contains_0 9 rfl rfl)
theorem dJ2_contains_12 : decode cJ2_contains 12 = .ok (.iconst 0, 1) := dk_3 (dk_at dksJ2_contains_0 12 rfl rfl)
theorem dJ2_contains_13 : decode cJ2_contains 13 = .ok (.ireturn, 1) := dk_172 (dk_at dksJ2_contains_0 13 rfl rfl)
abbrev cJ11_min : ByteArray := prog_45_method_69_code
def dkwJ11_min_0 : List UInt8 := [26, 27, 163, 0, 7, 26, 167, 0, 4, 27, 172]
abbrev dktJ11_min_0 : List UInt8 := dkwJ11_min_0 ++ []
theorem dksJ11_min_0 : cJ11_min.data.toList.drop 0 = dktJ11_min_0 := by decide +kernel
theorem dJ11_min_0 : decode cJ11_min 0 = .ok (.iload_n 0, 1) := dk_26 (dk_at dksJ11_min_0 0 rfl rfl)
theorem dJ11_min_1 : decode cJ11_min 1 = .ok (.iload_n 1, 1) := dk_27 (dk_at dksJ11_min_0 1 rfl rfl)
theorem dJ11_min_2 : decode cJ11_min 2 = .ok (.if_icmp .gt 7, 3) := dk_163 0 7 (dk_at dksJ11_min_0 2 rfl rfl)
theorem dJ11_min_5 : decode cJ11_min 5 = .ok (.iload_n 0, 1) := dk_26 (dk_at dksJ11_min_0 5 rfl rfl)
theorem dJ11_min_6 : decode cJ11_min 6 = .ok (.goto 4, 3) := dk_167 0 4 (dk_at dksJ11_min_0 6 rfl rfl)
theorem dJ11_min_9 : decode cJ11_min 9 = .ok (.iload_n 1, 1) := dk_27 (dk_at dksJ11_min_0 9 rfl rfl)
theorem dJ11_min_10 : decode cJ11_min 10 = .ok (.ireturn, 1) := dk_172 (dk_at dksJ11_min_0 10 rfl rfl)
abbrev cJ18_checkIndex : ByteArray := prog_72_method_17_code
def dkwJ18_checkIndex_0 : List UInt8 := [26, 27, 1, 184, 0, 105, 172]
abbrev dktJ18_checkIndex_0 : List UInt8 := dkwJ18_checkIndex_0 ++ []
theorem dksJ18_checkIndex_0 : cJ18_checkIndex.data.toList.drop 0 = dktJ18_checkIndex_0 := by decide +kernel
theorem dJ18_checkIndex_0 : decode cJ18_checkIndex 0 = .ok (.iload_n 0, 1) := dk_26 (dk_at dksJ18_checkIndex_0 0 rfl rfl)
theorem dJ18_checkIndex_1 : decode cJ18_checkIndex 1 = .ok (.iload_n 1, 1) := dk_27 (dk_at dksJ18_checkIndex_0 1 rfl rfl)
theorem dJ18_checkIndex_2 : decode cJ18_checkIndex 2 = .ok (.aconst_null, 1) := dk_1 (dk_at dksJ18_checkIndex_0 2 rfl rfl)
theorem dJ18_checkIndex_3 : decode cJ18_checkIndex 3 = .ok (.invokestatic 105, 3) := dk_184 0 105 (dk_at dksJ18_checkIndex_0 3 rfl rfl)
theorem dJ18_checkIndex_6 : decode cJ18_checkIndex 6 = .ok (.ireturn, 1) := dk_172 (dk_at dksJ18_checkIndex_0 6 rfl rfl)
abbrev cJ2_elementData : ByteArray := prog_61_method_18_code
def dkwJ2_elementData_0 : List UInt8 := [42, 180, 0, 9, 27, 50, 176]
abbrev dktJ2_elementData_0 : List UInt8 := dkwJ2_elementData_0 ++ []
theorem dksJ2_elementData_0 : cJ2_elementData.data.toList.drop 0 = dktJ2_elementData_0 := by decide +kernel
theorem dJ2_elementData_0 : decode cJ2_elementData 0 = .ok (.aload_n 0, 1) := dk_42 (dk_at dksJ2_elementData_0 0 rfl rfl)
theorem dJ2_elementData_1 : decode cJ2_elementData 1 = .ok (.getfield 9, 3) := dk_180 0 9 (dk_at dksJ2_elementData_0 1 rfl rfl)
theorem dJ2_elementData_4 : decode cJ2_elementData 4 = .ok (.iload_n 1, 1) := dk_27 (dk_at dksJ2_elementData_0 4 rfl rfl)
theorem dJ2_elementData_5 : decode cJ2_elementData 5 = .ok (.aaload, 1) := dk_50 (dk_at dksJ2_elementData_0 5 rfl rfl)
theorem dJ2_elementData_6 : decode cJ2_elementData 6 = .ok (.areturn, 1) := dk_176 (dk_at dksJ2_elementData_0 6 rfl rfl)
abbrev cJ2_addAll : ByteArray := prog_61_method_41_code
def dkwJ2_addAll_3 : List UInt8 := [181, 0, 48, 4, 172]
abbrev dktJ2_addAll_3 : List UInt8 := dkwJ2_addAll_3 ++ []
def dkwJ2_addAll_2 : List UInt8 := [21, 5, 29, 96, 182, 0, 69, 58, 4, 44, 3, 25, 4, 21, 5, 29, 184, 0, 112, 42, 21, 5, 29, 96]
abbrev dktJ2_addAll_2 : List UInt8 := dkwJ2_addAll_2 ++ dktJ2_addAll_3
def dkwJ2_addAll_1 : List UInt8 := [3, 172, 29, 42, 180, 0, 9, 89, 58, 4, 190, 42, 180, 0, 48, 89, 54, 5, 100, 164, 0, 13, 42]
abbrev dktJ2_addAll_1 : List UInt8 := dkwJ2_addAll_1 ++ dktJ2_addAll_2
def dkwJ2_addAll_0 : List UInt8 := [43, 185, 0, 42, 1, 0, 77, 42, 89, 180, 0, 63, 4, 96, 181, 0, 63, 44, 190, 62, 29, 154, 0, 5]
abbrev dktJ2_addAll_0 : List UInt8 := dkwJ2_addAll_0 ++ dktJ2_addAll_1
theorem dksJ2_addAll_0 : cJ2_addAll.data.toList.drop 0 = dktJ2_addAll_0 := by decide +kernel
theorem dksJ2_addAll_1 : cJ2_addAll.data.toList.drop 24 = dktJ2_addAll_1 := dk_seg dksJ2_addAll_0 24 rfl rfl
theorem dksJ2_addAll_2 : cJ2_addAll.data.toList.drop 47 = dktJ2_addAll_2 := dk_seg dksJ2_addAll_1 23 rfl rfl
theorem dksJ2_addAll_3 : cJ2_addAll.data.toList.drop 71 = dktJ2_addAll_3 := dk_seg dksJ2_addAll_2 24 rfl rfl
theorem dJ2_addAll_0 : decode cJ2_addAll 0 = .ok (.aload_n 1, 1) := dk_43 (dk_at dksJ2_addAll_0 0 rfl rfl)
theorem dJ2_addAll_1 : decode cJ2_addAll 1 = .ok (.invokeinterface 42 1, 5) := by decide +kernel
theorem dJ2_addAll_6 : decode cJ2_addAll 6 = .ok (.astore_n 2, 1) := dk_77 (dk_at dksJ2_addAll_0 6 rfl rfl)
theorem dJ2_addAll_7 : decode cJ2_addAll 7 = .ok (.aload_n 0, 1) := dk_42 (dk_at dksJ2_addAll_0 7 rfl rfl)
theorem dJ2_addAll_8 : decode cJ2_addAll 8 = .ok (.dup, 1) := dk_89 (dk_at dksJ2_addAll_0 8 rfl rfl)
theorem dJ2_addAll_9 : decode cJ2_addAll 9 = .ok (.getfield 63, 3) := dk_180 0 63 (dk_at dksJ2_addAll_0 9 rfl rfl)
theorem dJ2_addAll_12 : decode cJ2_addAll 12 = .ok (.iconst 1, 1) := dk_4 (dk_at dksJ2_addAll_0 12 rfl rfl)
theorem dJ2_addAll_13 : decode cJ2_addAll 13 = .ok (.iadd, 1) := dk_96 (dk_at dksJ2_addAll_0 13 rfl rfl)
theorem dJ2_addAll_14 : decode cJ2_addAll 14 = .ok (.putfield 63, 3) := dk_181 0 63 (dk_at dksJ2_addAll_0 14 rfl rfl)
theorem dJ2_addAll_17 : decode cJ2_addAll 17 = .ok (.aload_n 2, 1) := dk_44 (dk_at dksJ2_addAll_0 17 rfl rfl)
theorem dJ2_addAll_18 : decode cJ2_addAll 18 = .ok (.arraylength, 1) := dk_190 (dk_at dksJ2_addAll_0 18 rfl rfl)
theorem dJ2_addAll_19 : decode cJ2_addAll 19 = .ok (.istore_n 3, 1) := dk_62 (dk_at dksJ2_addAll_0 19 rfl rfl)
theorem dJ2_addAll_20 : decode cJ2_addAll 20 = .ok (.iload_n 3, 1) := dk_29 (dk_at dksJ2_addAll_0 20 rfl rfl)
theorem dJ2_addAll_21 : decode cJ2_addAll 21 = .ok (.ifCond .ne 5, 3) := dk_154 0 5 (dk_at dksJ2_addAll_0 21 rfl rfl)
theorem dJ2_addAll_24 : decode cJ2_addAll 24 = .ok (.iconst 0, 1) := dk_3 (dk_at dksJ2_addAll_1 0 rfl rfl)
theorem dJ2_addAll_25 : decode cJ2_addAll 25 = .ok (.ireturn, 1) := dk_172 (dk_at dksJ2_addAll_1 1 rfl rfl)
theorem dJ2_addAll_26 : decode cJ2_addAll 26 = .ok (.iload_n 3, 1) := dk_29 (dk_at dksJ2_addAll_1 2 rfl rfl)
theorem dJ2_addAll_27 : decode cJ2_addAll 27 = .ok (.aload_n 0, 1) := dk_42 (dk_at dksJ2_addAll_1 3 rfl rfl)
theorem dJ2_addAll_28 : decode cJ2_addAll 28 = .ok (.getfield 9, 3) := dk_180 0 9 (dk_at dksJ2_addAll_1 4 rfl rfl)
theorem dJ2_addAll_31 : decode cJ2_addAll 31 = .ok (.dup, 1) := dk_89 (dk_at dksJ2_addAll_1 7 rfl rfl)
theorem dJ2_addAll_32 : decode cJ2_addAll 32 = .ok (.astore 4, 2) := dk_58 4 (dk_at dksJ2_addAll_1 8 rfl rfl)
theorem dJ2_addAll_34 : decode cJ2_addAll 34 = .ok (.arraylength, 1) := dk_190 (dk_at dksJ2_addAll_1 10 rfl rfl)
theorem dJ2_addAll_35 : decode cJ2_addAll 35 = .ok (.aload_n 0, 1) := dk_42 (dk_at dksJ2_addAll_1 11 rfl rfl)
theorem dJ2_addAll_36 : decode cJ2_addAll 36 = .ok (.getfield 48, 3) := dk_180 0 48 (dk_at dksJ2_addAll_1 12 rfl rfl)
theorem dJ2_addAll_39 : decode cJ2_addAll 39 = .ok (.dup, 1) := dk_89 (dk_at dksJ2_addAll_1 15 rfl rfl)
theorem dJ2_addAll_40 : decode cJ2_addAll 40 = .ok (.istore 5, 2) := dk_54 5 (dk_at dksJ2_addAll_1 16 rfl rfl)
theorem dJ2_addAll_42 : decode cJ2_addAll 42 = .ok (.isub, 1) := dk_100 (dk_at dksJ2_addAll_1 18 rfl rfl)
theorem dJ2_addAll_43 : decode cJ2_addAll 43 = .ok (.if_icmp .le 13, 3) := dk_164 0 13 (dk_at dksJ2_addAll_1 19 rfl rfl)
theorem dJ2_addAll_46 : decode cJ2_addAll 46 = .ok (.aload_n 0, 1) := dk_42 (dk_at dksJ2_addAll_1 22 rfl rfl)
theorem dJ2_addAll_47 : decode cJ2_addAll 47 = .ok (.iload 5, 2) := dk_21 5 (dk_at dksJ2_addAll_2 0 rfl rfl)
theorem dJ2_addAll_49 : decode cJ2_addAll 49 = .ok (.iload_n 3, 1) := dk_29 (dk_at dksJ2_addAll_2 2 rfl rfl)
theorem dJ2_addAll_50 : decode cJ2_addAll 50 = .ok (.iadd, 1) := dk_96 (dk_at dksJ2_addAll_2 3 rfl rfl)
theorem dJ2_addAll_51 : decode cJ2_addAll 51 = .ok (.invokevirtual 69, 3) := dk_182 0 69 (dk_at dksJ2_addAll_2 4 rfl rfl)
theorem dJ2_addAll_54 : decode cJ2_addAll 54 = .ok (.astore 4, 2) := dk_58 4 (dk_at dksJ2_addAll_2 7 rfl rfl)
theorem dJ2_addAll_56 : decode cJ2_addAll 56 = .ok (.aload_n 2, 1) := dk_44 (dk_at dksJ2_addAll_2 9 rfl rfl)
theorem dJ2_addAll_57 : decode cJ2_addAll 57 = .ok (.iconst 0, 1) := dk_3 (dk_at dksJ2_addAll_2 10 rfl rfl)
theorem dJ2_addAll_58 : decode cJ2_addAll 58 = .ok (.aload 4, 2) := dk_25 4 (dk_at dksJ2_addAll_2 11 rfl rfl)
theorem dJ2_addAll_60 : decode cJ2_addAll 60 = .ok (.iload 5, 2) := dk_21 5 (dk_at dksJ2_addAll_2 13 rfl rfl)
theorem dJ2_addAll_62 : decode cJ2_addAll 62 = .ok (.iload_n 3, 1) := dk_29 (dk_at dksJ2_addAll_2 15 rfl rfl)
theorem dJ2_addAll_63 : decode cJ2_addAll 63 = .ok (.invokestatic 112, 3) := dk_184 0 112 (dk_at dksJ2_addAll_2 16 rfl rfl)
theorem dJ2_addAll_66 : decode cJ2_addAll 66 = .ok (.aload_n 0, 1) := dk_42 (dk_at dksJ2_addAll_2 19 rfl rfl)
theorem dJ2_addAll_67 : decode cJ2_addAll 67 = .ok (.iload 5, 2) := dk_21 5 (dk_at dksJ2_addAll_2 20 rfl rfl)
theorem dJ2_addAll_69 : decode cJ2_addAll 69 = .ok (.iload_n 3, 1) := dk_29 (dk_at dksJ2_addAll_2 22 rfl rfl)
theorem dJ2_addAll_70 : decode cJ2_addAll 70 = .ok (.iadd, 1) := dk_96 (dk_at dksJ2_addAll_2 23 rfl rfl)
theorem dJ2_addAll_71 : decode cJ2_addAll 71 = .ok (.putfield 48, 3) := dk_181 0 48 (dk_at dksJ2_addAll_3 0 rfl rfl)
theorem dJ2_addAll_74 : decode cJ2_addAll 74 = .ok (.iconst 1, 1) := dk_4 (dk_at dksJ2_addAll_3 3 rfl rfl)
theorem dJ2_addAll_75 : decode cJ2_addAll 75 = .ok (.ireturn, 1) := dk_172 (dk_at dksJ2_addAll_3 4 rfl rfl)
abbrev cJ6_add : ByteArray := prog_73_method_13_code
def dkwJ6_add_0 : List UInt8 := [42, 43, 182, 0, 89, 172]
abbrev dktJ6_add_0 : List UInt8 := dkwJ6_add_0 ++ []
theorem dksJ6_add_0 : cJ6_add.data.toList.drop 0 = dktJ6_add_0 := by decide +kernel
theorem dJ6_add_0 : decode cJ6_add 0 = .ok (.aload_n 0, 1) := dk_42 (dk_at dksJ6_add_0 0 rfl rfl)
theorem dJ6_add_1 : decode cJ6_add 1 = .ok (.aload_n 1, 1) := dk_43 (dk_at dksJ6_add_0 1 rfl rfl)
theorem dJ6_add_2 : decode cJ6_add 2 = .ok (.invokevirtual 89, 3) := dk_182 0 89 (dk_at dksJ6_add_0 2 rfl rfl)
theorem dJ6_add_5 : decode cJ6_add 5 = .ok (.ireturn, 1) := dk_172 (dk_at dksJ6_add_0 5 rfl rfl)
abbrev cJ3_init : ByteArray := prog_57_method_1_code
theorem dJ3_init_0 : decode cJ3_init 0 = .ok (.aload_n 0, 1) := by decide +kernel
theorem dJ3_init_1 : decode cJ3_init 1 = .ok (.invokespecial 1, 3) := by decide +kernel
theorem dJ3_init_4 : decode cJ3_init 4 = .ok (.return_, 1) := by decide +kernel
abbrev cJ6_init_2 : ByteArray := prog_73_method_4_code
def dkwJ6_init_2_1 : List UInt8 := [181, 0, 17, 42, 44, 181, 0, 21, 177]
abbrev dktJ6_init_2_1 : List UInt8 := dkwJ6_init_2_1 ++ []
def dkwJ6_init_2_0 : List UInt8 := [42, 183, 0, 7, 27, 4, 162, 0, 11, 187, 0, 12, 89, 183, 0, 14, 191, 42, 27, 189, 0, 15]
abbrev dktJ6_init_2_0 : List UInt8 := dkwJ6_init_2_0 ++ dktJ6_init_2_1
theorem dksJ6_init_2_0 : cJ6_init_2.data.toList.drop 0 = dktJ6_init_2_0 := by decide +kernel
theorem dksJ6_init_2_1 : cJ6_init_2.data.toList.drop 22 = dktJ6_init_2_1 := dk_seg dksJ6_init_2_0 22 rfl rfl
theorem dJ6_init_2_0 : decode cJ6_init_2 0 = .ok (.aload_n 0, 1) := dk_42 (dk_at dksJ6_init_2_0 0 rfl rfl)
theorem dJ6_init_2_1 : decode cJ6_init_2 1 = .ok (.invokespecial 7, 3) := dk_183 0 7 (dk_at dksJ6_init_2_0 1 rfl rfl)
theorem dJ6_init_2_4 : decode cJ6_init_2 4 = .ok (.iload_n 1, 1) := dk_27 (dk_at dksJ6_init_2_0 4 rfl rfl)
theorem dJ6_init_2_5 : decode cJ6_init_2 5 = .ok (.iconst 1, 1) := dk_4 (dk_at dksJ6_init_2_0 5 rfl rfl)
theorem dJ6_init_2_6 : decode cJ6_init_2 6 = .ok (.if_icmp .ge 11, 3) := dk_162 0 11 (dk_at dksJ6_init_2_0 6 rfl rfl)
theorem dJ6_init_2_9 : decode cJ6_init_2 9 = .ok (.new 12, 3) := dk_187 0 12 (dk_at dksJ6_init_2_0 9 rfl rfl)
theorem dJ6_init_2_12 : decode cJ6_init_2 12 = .ok (.dup, 1) := dk_89 (dk_at dksJ6_init_2_0 12 rfl rfl)
theorem dJ6_init_2_13 : decode cJ6_init_2 13 = .ok (.invokespecial 14, 3) := dk_183 0 14 (dk_at dksJ6_init_2_0 13 rfl rfl)
theorem dJ6_init_2_16 : decode cJ6_init_2 16 = .ok (.athrow, 1) := dk_191 (dk_at dksJ6_init_2_0 16 rfl rfl)
theorem dJ6_init_2_17 : decode cJ6_init_2 17 = .ok (.aload_n 0, 1) := dk_42 (dk_at dksJ6_init_2_0 17 rfl rfl)
theorem dJ6_init_2_18 : decode cJ6_init_2 18 = .ok (.iload_n 1, 1) := dk_27 (dk_at dksJ6_init_2_0 18 rfl rfl)
theorem dJ6_init_2_19 : decode cJ6_init_2 19 = .ok (.anewarray 15, 3) := dk_189 0 15 (dk_at dksJ6_init_2_0 19 rfl rfl)
theorem dJ6_init_2_22 : decode cJ6_init_2 22 = .ok (.putfield 17, 3) := dk_181 0 17 (dk_at dksJ6_init_2_1 0 rfl rfl)
theorem dJ6_init_2_25 : decode cJ6_init_2 25 = .ok (.aload_n 0, 1) := dk_42 (dk_at dksJ6_init_2_1 3 rfl rfl)
theorem dJ6_init_2_26 : decode cJ6_init_2 26 = .ok (.aload_n 2, 1) := dk_44 (dk_at dksJ6_init_2_1 4 rfl rfl)
theorem dJ6_init_2_27 : decode cJ6_init_2 27 = .ok (.putfield 21, 3) := dk_181 0 21 (dk_at dksJ6_init_2_1 5 rfl rfl)
theorem dJ6_init_2_30 : decode cJ6_init_2 30 = .ok (.return_, 1) := dk_177 (dk_at dksJ6_init_2_1 8 rfl rfl)
abbrev cJ4_put_2 : ByteArray := prog_83_method_31_code
def dkwJ4_put_2_9 : List UInt8 := [4, 167, 0, 4, 3, 182, 0, 139, 1, 176]
abbrev dktJ4_put_2_9 : List UInt8 := dkwJ4_put_2_9 ++ []
def dkwJ4_put_2_8 : List UInt8 := [25, 4, 44, 181, 0, 58, 25, 9, 176, 25, 4, 199, 255, 181, 42, 43, 44, 25, 6, 21, 5, 156, 0, 7]
abbrev dktJ4_put_2_8 : List UInt8 := dkwJ4_put_2_8 ++ dktJ4_put_2_9
def dkwJ4_put_2_7 : List UInt8 := [180, 0, 114, 58, 4, 167, 0, 28, 25, 4, 180, 0, 58, 58, 9, 29, 154, 0, 8, 25, 9, 199, 0, 9]
abbrev dktJ4_put_2_7 : List UInt8 := dkwJ4_put_2_7 ++ dktJ4_put_2_8
def dkwJ4_put_2_6 : List UInt8 := [21, 5, 156, 0, 13, 25, 4, 180, 0, 111, 58, 4, 167, 0, 43, 21, 5, 158, 0, 13, 25, 4]
abbrev dktJ4_put_2_6 : List UInt8 := dkwJ4_put_2_6 ++ dktJ4_put_2_7
def dkwJ4_put_2_5 : List UInt8 := [192, 0, 99, 58, 8, 25, 4, 58, 6, 25, 8, 25, 4, 180, 0, 105, 185, 0, 107, 2, 0, 54, 5]
abbrev dktJ4_put_2_5 : List UInt8 := dkwJ4_put_2_5 ++ dktJ4_put_2_6
def dkwJ4_put_2_4 : List UInt8 := [25, 4, 44, 181, 0, 58, 25, 8, 176, 25, 4, 199, 255, 180, 167, 0, 92, 43, 184, 0, 95, 87, 43]
abbrev dktJ4_put_2_4 : List UInt8 := dkwJ4_put_2_4 ++ dktJ4_put_2_5
def dkwJ4_put_2_3 : List UInt8 := [180, 0, 114, 58, 4, 167, 0, 28, 25, 4, 180, 0, 58, 58, 8, 29, 154, 0, 8, 25, 8, 199, 0, 9]
abbrev dktJ4_put_2_3 : List UInt8 := dkwJ4_put_2_3 ++ dktJ4_put_2_4
def dkwJ4_put_2_2 : List UInt8 := [54, 5, 21, 5, 156, 0, 13, 25, 4, 180, 0, 111, 58, 4, 167, 0, 43, 21, 5, 158, 0, 13, 25, 4]
abbrev dktJ4_put_2_2 : List UInt8 := dkwJ4_put_2_2 ++ dktJ4_put_2_3
def dkwJ4_put_2_1 : List UInt8 := [58, 7, 25, 7, 198, 0, 85, 25, 4, 58, 6, 25, 7, 43, 25, 4, 180, 0, 105, 185, 0, 117, 3, 0]
abbrev dktJ4_put_2_1 : List UInt8 := dkwJ4_put_2_1 ++ dktJ4_put_2_2
def dkwJ4_put_2_0 : List UInt8 := [42, 180, 0, 101, 58, 4, 25, 4, 199, 0, 11, 42, 43, 44, 182, 0, 135, 1, 176, 42, 180, 0, 16]
abbrev dktJ4_put_2_0 : List UInt8 := dkwJ4_put_2_0 ++ dktJ4_put_2_1
theorem dksJ4_put_2_0 : cJ4_put_2.data.toList.drop 0 = dktJ4_put_2_0 := by decide +kernel
theorem dksJ4_put_2_1 : cJ4_put_2.data.toList.drop 23 = dktJ4_put_2_1 := dk_seg dksJ4_put_2_0 23 rfl rfl
theorem dksJ4_put_2_2 : cJ4_put_2.data.toList.drop 47 = dktJ4_put_2_2 := dk_seg dksJ4_put_2_1 24 rfl rfl
theorem dksJ4_put_2_3 : cJ4_put_2.data.toList.drop 71 = dktJ4_put_2_3 := dk_seg dksJ4_put_2_2 24 rfl rfl
theorem dksJ4_put_2_4 : cJ4_put_2.data.toList.drop 95 = dktJ4_put_2_4 := dk_seg dksJ4_put_2_3 24 rfl rfl
theorem dksJ4_put_2_5 : cJ4_put_2.data.toList.drop 118 = dktJ4_put_2_5 := dk_seg dksJ4_put_2_4 23 rfl rfl
theorem dksJ4_put_2_6 : cJ4_put_2.data.toList.drop 141 = dktJ4_put_2_6 := dk_seg dksJ4_put_2_5 23 rfl rfl
theorem dksJ4_put_2_7 : cJ4_put_2.data.toList.drop 163 = dktJ4_put_2_7 := dk_seg dksJ4_put_2_6 22 rfl rfl
theorem dksJ4_put_2_8 : cJ4_put_2.data.toList.drop 187 = dktJ4_put_2_8 := dk_seg dksJ4_put_2_7 24 rfl rfl
theorem dksJ4_put_2_9 : cJ4_put_2.data.toList.drop 211 = dktJ4_put_2_9 := dk_seg dksJ4_put_2_8 24 rfl rfl
theorem dJ4_put_2_0 : decode cJ4_put_2 0 = .ok (.aload_n 0, 1) := dk_42 (dk_at dksJ4_put_2_0 0 rfl rfl)
theorem dJ4_put_2_1 : decode cJ4_put_2 1 = .ok (.getfield 101, 3) := dk_180 0 101 (dk_at dksJ4_put_2_0 1 rfl rfl)
theorem dJ4_put_2_4 : decode cJ4_put_2 4 = .ok (.astore 4, 2) := dk_58 4 (dk_at dksJ4_put_2_0 4 rfl rfl)
theorem dJ4_put_2_6 : decode cJ4_put_2 6 = .ok (.aload 4, 2) := dk_25 4 (dk_at dksJ4_put_2_0 6 rfl rfl)
theorem dJ4_put_2_8 : decode cJ4_put_2 8 = .ok (.ifnonnull 11, 3) := dk_199 0 11 (dk_at dksJ4_put_2_0 8 rfl rfl)
theorem dJ4_put_2_11 : decode cJ4_put_2 11 = .ok (.aload_n 0, 1) := dk_42 (dk_at dksJ4_put_2_0 11 rfl rfl)
theorem dJ4_put_2_12 : decode cJ4_put_2 12 = .ok (.aload_n 1, 1) := dk_43 (dk_at dksJ4_put_2_0 12 rfl rfl)
theorem dJ4_put_2_13 : decode cJ4_put_2 13 = .ok (.aload_n 2, 1) := dk_44 (dk_at dksJ4_put_2_0 13 rfl rfl)
theorem dJ4_put_2_14 : decode cJ4_put_2 14 = .ok (.invokevirtual 135, 3) := dk_182 0 135 (dk_at dksJ4_put_2_0 14 rfl rfl)
theorem dJ4_put_2_17 : decode cJ4_put_2 17 = .ok (.aconst_null, 1) := dk_1 (dk_at dksJ4_put_2_0 17 rfl rfl)
theorem dJ4_put_2_18 : decode cJ4_put_2 18 = .ok (.areturn, 1) := dk_176 (dk_at dksJ4_put_2_0 18 rfl rfl)
theorem dJ4_put_2_19 : decode cJ4_put_2 19 = .ok (.aload_n 0, 1) := dk_42 (dk_at dksJ4_put_2_0 19 rfl rfl)
theorem dJ4_put_2_20 : decode cJ4_put_2 20 = .ok (.getfield 16, 3) := dk_180 0 16 (dk_at dksJ4_put_2_0 20 rfl rfl)
theorem dJ4_put_2_23 : decode cJ4_put_2 23 = .ok (.astore 7, 2) := dk_58 7 (dk_at dksJ4_put_2_1 0 rfl rfl)
theorem dJ4_put_2_25 : decode cJ4_put_2 25 = .ok (.aload 7, 2) := dk_25 7 (dk_at dksJ4_put_2_1 2 rfl rfl)
theorem dJ4_put_2_27 : decode cJ4_put_2 27 = .ok (.ifnull 85, 3) := dk_198 0 85 (dk_at dksJ4_put_2_1 4 rfl rfl)
theorem dJ4_put_2_30 : decode cJ4_put_2 30 = .ok (.aload 4, 2) := dk_25 4 (dk_at dksJ4_put_2_1 7 rfl rfl)
theorem dJ4_put_2_32 : decode cJ4_put_2 32 = .ok (.astore 6, 2) := dk_58 6 (dk_at dksJ4_put_2_1 9 rfl rfl)
theorem dJ4_put_2_34 : decode cJ4_put_2 34 = .ok (.aload 7, 2) := dk_25 7 (dk_at dksJ4_put_2_1 11 rfl rfl)
theorem dJ4_put_2_36 : decode cJ4_put_2 36 = .ok (.aload_n 1, 1) := dk_43 (dk_at dksJ4_put_2_1 13 rfl rfl)
theorem dJ4_put_2_37 : decode cJ4_put_2 37 = .ok (.aload 4, 2) := dk_25 4 (dk_at dksJ4_put_2_1 14 rfl rfl)
theorem dJ4_put_2_39 : decode cJ4_put_2 39 = .ok (.getfield 105, 3) := dk_180 0 105 (dk_at dksJ4_put_2_1 16 rfl rfl)
theorem dJ4_put_2_42 : decode cJ4_put_2 42 = .ok (.invokeinterface 117 3, 5) := by decide +kernel
theorem dJ4_put_2_47 : decode cJ4_put_2 47 = .ok (.istore 5, 2) := dk_54 5 (dk_at dksJ4_put_2_2 0 rfl rfl)
theorem dJ4_put_2_49 : decode cJ4_put_2 49 = .ok (.iload 5, 2) := dk_21 5 (dk_at dksJ4_put_2_2 2 rfl rfl)
theorem dJ4_put_2_51 : decode cJ4_put_2 51 = .ok (.ifCond .ge 13, 3) := dk_156 0 13 (dk_at dksJ4_put_2_2 4 rfl rfl)
theorem dJ4_put_2_54 : decode cJ4_put_2 54 = .ok (.aload 4, 2) := dk_25 4 (dk_at dksJ4_put_2_2 7 rfl rfl)
theorem dJ4_put_2_56 : decode cJ4_put_2 56 = .ok (.getfield 111, 3) := dk_180 0 111 (dk_at dksJ4_put_2_2 9 rfl rfl)
theorem dJ4_put_2_59 : decode cJ4_put_2 59 = .ok (.astore 4, 2) := dk_58 4 (dk_at dksJ4_put_2_2 12 rfl rfl)
theorem dJ4_put_2_61 : decode cJ4_put_2 61 = .ok (.goto 43, 3) := dk_167 0 43 (dk_at dksJ4_put_2_2 14 rfl rfl)
theorem dJ4_put_2_64 : decode cJ4_put_2 64 = .ok (.iload 5, 2) := dk_21 5 (dk_at dksJ4_put_2_2 17 rfl rfl)
theorem dJ4_put_2_66 : decode cJ4_put_2 66 = .ok (.ifCond .le 13, 3) := dk_158 0 13 (dk_at dksJ4_put_2_2 19 rfl rfl)
theorem dJ4_put_2_69 : decode cJ4_put_2 69 = .ok (.aload 4, 2) := dk_25 4 (dk_at dksJ4_put_2_2 22 rfl rfl)
theorem dJ4_put_2_71 : decode cJ4_put_2 71 = .ok (.getfield 114, 3) := dk_180 0 114 (dk_at dksJ4_put_2_3 0 rfl rfl)
theorem dJ4_put_2_74 : decode cJ4_put_2 74 = .ok (.astore 4, 2) := dk_58 4 (dk_at dksJ4_put_2_3 3 rfl rfl)
theorem dJ4_put_2_76 : decode cJ4_put_2 76 = .ok (.goto 28, 3) := dk_167 0 28 (dk_at dksJ4_put_2_3 5 rfl rfl)
theorem dJ4_put_2_79 : decode cJ4_put_2 79 = .ok (.aload 4, 2) := dk_25 4 (dk_at dksJ4_put_2_3 8 rfl rfl)
theorem dJ4_put_2_81 : decode cJ4_put_2 81 = .ok (.getfield 58, 3) := dk_180 0 58 (dk_at dksJ4_put_2_3 10 rfl rfl)
theorem dJ4_put_2_84 : decode cJ4_put_2 84 = .ok (.astore 8, 2) := dk_58 8 (dk_at dksJ4_put_2_3 13 rfl rfl)
theorem dJ4_put_2_86 : decode cJ4_put_2 86 = .ok (.iload_n 3, 1) := dk_29 (dk_at dksJ4_put_2_3 15 rfl rfl)
theorem dJ4_put_2_87 : decode cJ4_put_2 87 = .ok (.ifCond .ne 8, 3) := dk_154 0 8 (dk_at dksJ4_put_2_3 16 rfl rfl)
theorem dJ4_put_2_90 : decode cJ4_put_2 90 = .ok (.aload 8, 2) := dk_25 8 (dk_at dksJ4_put_2_3 19 rfl rfl)
theorem dJ4_put_2_92 : decode cJ4_put_2 92 = .ok (.ifnonnull 9, 3) := dk_199 0 9 (dk_at dksJ4_put_2_3 21 rfl rfl)
theorem dJ4_put_2_95 : decode cJ4_put_2 95 = .ok (.aload 4, 2) := dk_25 4 (dk_at dksJ4_put_2_4 0 rfl rfl)
theorem dJ4_put_2_97 : decode cJ4_put_2 97 = .ok (.aload_n 2, 1) := dk_44 (dk_at dksJ4_put_2_4 2 rfl rfl)
theorem dJ4_put_2_98 : decode cJ4_put_2 98 = .ok (.putfield 58, 3) := dk_181 0 58 (dk_at dksJ4_put_2_4 3 rfl rfl)
theorem dJ4_put_2_101 : decode cJ4_put_2 101 = .ok (.aload 8, 2) := dk_25 8 (dk_at dksJ4_put_2_4 6 rfl rfl)
theorem dJ4_put_2_103 : decode cJ4_put_2 103 = .ok (.areturn, 1) := dk_176 (dk_at dksJ4_put_2_4 8 rfl rfl)
theorem dJ4_put_2_104 : decode cJ4_put_2 104 = .ok (.aload 4, 2) := dk_25 4 (dk_at dksJ4_put_2_4 9 rfl rfl)
theorem dJ4_put_2_106 : decode cJ4_put_2 106 = .ok (.ifnonnull (-76), 3) := dk_199 255 180 (dk_at dksJ4_put_2_4 11 rfl rfl)
theorem dJ4_put_2_109 : decode cJ4_put_2 109 = .ok (.goto 92, 3) := dk_167 0 92 (dk_at dksJ4_put_2_4 14 rfl rfl)
theorem dJ4_put_2_112 : decode cJ4_put_2 112 = .ok (.aload_n 1, 1) := dk_43 (dk_at dksJ4_put_2_4 17 rfl rfl)
theorem dJ4_put_2_113 : decode cJ4_put_2 113 = .ok (.invokestatic 95, 3) := dk_184 0 95 (dk_at dksJ4_put_2_4 18 rfl rfl)
theorem dJ4_put_2_116 : decode cJ4_put_2 116 = .ok (.pop, 1) := dk_87 (dk_at dksJ4_put_2_4 21 rfl rfl)
theorem dJ4_put_2_117 : decode cJ4_put_2 117 = .ok (.aload_n 1, 1) := dk_43 (dk_at dksJ4_put_2_4 22 rfl rfl)
theorem dJ4_put_2_118 : decode cJ4_put_2 118 = .ok (.checkcast 99, 3) := dk_192 0 99 (dk_at dksJ4_put_2_5 0 rfl rfl)
theorem dJ4_put_2_121 : decode cJ4_put_2 121 = .ok (.astore 8, 2) := dk_58 8 (dk_at dksJ4_put_2_5 3 rfl rfl)
theorem dJ4_put_2_123 : decode cJ4_put_2 123 = .ok (.aload 4, 2) := dk_25 4 (dk_at dksJ4_put_2_5 5 rfl rfl)
theorem dJ4_put_2_125 : decode cJ4_put_2 125 = .ok (.astore 6, 2) := dk_58 6 (dk_at dksJ4_put_2_5 7 rfl rfl)
theorem dJ4_put_2_127 : decode cJ4_put_2 127 = .ok (.aload 8, 2) := dk_25 8 (dk_at dksJ4_put_2_5 9 rfl rfl)
theorem dJ4_put_2_129 : decode cJ4_put_2 129 = .ok (.aload 4, 2) := dk_25 4 (dk_at dksJ4_put_2_5 11 rfl rfl)
theorem dJ4_put_2_131 : decode cJ4_put_2 131 = .ok (.getfield 105, 3) := dk_180 0 105 (dk_at dksJ4_put_2_5 13 rfl rfl)
theorem dJ4_put_2_134 : decode cJ4_put_2 134 = .ok (.invokeinterface 107 2, 5) := by decide +kernel
theorem dJ4_put_2_139 : decode cJ4_put_2 139 = .ok (.istore 5, 2) := dk_54 5 (dk_at dksJ4_put_2_5 21 rfl rfl)
theorem dJ4_put_2_141 : decode cJ4_put_2 141 = .ok (.iload 5, 2) := dk_21 5 (dk_at dksJ4_put_2_6 0 rfl rfl)
theorem dJ4_put_2_143 : decode cJ4_put_2 143 = .ok (.ifCond .ge 13, 3) := dk_156 0 13 (dk_at dksJ4_put_2_6 2 rfl rfl)
theorem dJ4_put_2_146 : decode cJ4_put_2 146 = .ok (.aload 4, 2) := dk_25 4 (dk_at dksJ4_put_2_6 5 rfl rfl)
theorem dJ4_put_2_148 : decode cJ4_put_2 148 = .ok (.getfield 111, 3) := dk_180 0 111 (dk_at dksJ4_put_2_6 7 rfl rfl)
theorem dJ4_put_2_151 : decode cJ4_put_2 151 = .ok (.astore 4, 2) := dk_58 4 (dk_at dksJ4_put_2_6 10 rfl rfl)
theorem dJ4_put_2_153 : decode cJ4_put_2 153 = .ok (.goto 43, 3) := dk_167 0 43 (dk_at dksJ4_put_2_6 12 rfl rfl)
theorem dJ4_put_2_156 : decode cJ4_put_2 156 = .ok (.iload 5, 2) := dk_21 5 (dk_at dksJ4_put_2_6 15 rfl rfl)
theorem dJ4_put_2_158 : decode cJ4_put_2 158 = .ok (.ifCond .le 13, 3) := dk_158 0 13 (dk_at dksJ4_put_2_6 17 rfl rfl)
theorem dJ4_put_2_161 : decode cJ4_put_2 161 = .ok (.aload 4, 2) := dk_25 4 (dk_at dksJ4_put_2_6 20 rfl rfl)
theorem dJ4_put_2_163 : decode cJ4_put_2 163 = .ok (.getfield 114, 3) := dk_180 0 114 (dk_at dksJ4_put_2_7 0 rfl rfl)
theorem dJ4_put_2_166 : decode cJ4_put_2 166 = .ok (.astore 4, 2) := dk_58 4 (dk_at dksJ4_put_2_7 3 rfl rfl)
theorem dJ4_put_2_168 : decode cJ4_put_2 168 = .ok (.goto 28, 3) := dk_167 0 28 (dk_at dksJ4_put_2_7 5 rfl rfl)
theorem dJ4_put_2_171 : decode cJ4_put_2 171 = .ok (.aload 4, 2) := dk_25 4 (dk_at dksJ4_put_2_7 8 rfl rfl)
theorem dJ4_put_2_173 : decode cJ4_put_2 173 = .ok (.getfield 58, 3) := dk_180 0 58 (dk_at dksJ4_put_2_7 10 rfl rfl)
theorem dJ4_put_2_176 : decode cJ4_put_2 176 = .ok (.astore 9, 2) := dk_58 9 (dk_at dksJ4_put_2_7 13 rfl rfl)
theorem dJ4_put_2_178 : decode cJ4_put_2 178 = .ok (.iload_n 3, 1) := dk_29 (dk_at dksJ4_put_2_7 15 rfl rfl)
theorem dJ4_put_2_179 : decode cJ4_put_2 179 = .ok (.ifCond .ne 8, 3) := dk_154 0 8 (dk_at dksJ4_put_2_7 16 rfl rfl)
theorem dJ4_put_2_182 : decode cJ4_put_2 182 = .ok (.aload 9, 2) := dk_25 9 (dk_at dksJ4_put_2_7 19 rfl rfl)
theorem dJ4_put_2_184 : decode cJ4_put_2 184 = .ok (.ifnonnull 9, 3) := dk_199 0 9 (dk_at dksJ4_put_2_7 21 rfl rfl)
theorem dJ4_put_2_187 : decode cJ4_put_2 187 = .ok (.aload 4, 2) := dk_25 4 (dk_at dksJ4_put_2_8 0 rfl rfl)
theorem dJ4_put_2_189 : decode cJ4_put_2 189 = .ok (.aload_n 2, 1) := dk_44 (dk_at dksJ4_put_2_8 2 rfl rfl)
theorem dJ4_put_2_190 : decode cJ4_put_2 190 = .ok (.putfield 58, 3) := dk_181 0 58 (dk_at dksJ4_put_2_8 3 rfl rfl)
theorem dJ4_put_2_193 : decode cJ4_put_2 193 = .ok (.aload 9, 2) := dk_25 9 (dk_at dksJ4_put_2_8 6 rfl rfl)
theorem dJ4_put_2_195 : decode cJ4_put_2 195 = .ok (.areturn, 1) := dk_176 (dk_at dksJ4_put_2_8 8 rfl rfl)
theorem dJ4_put_2_196 : decode cJ4_put_2 196 = .ok (.aload 4, 2) := dk_25 4 (dk_at dksJ4_put_2_8 9 rfl rfl)
theorem dJ4_put_2_198 : decode cJ4_put_2 198 = .ok (.ifnonnull (-75), 3) := dk_199 255 181 (dk_at dksJ4_put_2_8 11 rfl rfl)
theorem dJ4_put_2_201 : decode cJ4_put_2 201 = .ok (.aload_n 0, 1) := dk_42 (dk_at dksJ4_put_2_8 14 rfl rfl)
theorem dJ4_put_2_202 : decode cJ4_put_2 202 = .ok (.aload_n 1, 1) := dk_43 (dk_at dksJ4_put_2_8 15 rfl rfl)
theorem dJ4_put_2_203 : decode cJ4_put_2 203 = .ok (.aload_n 2, 1) := dk_44 (dk_at dksJ4_put_2_8 16 rfl rfl)
theorem dJ4_put_2_204 : decode cJ4_put_2 204 = .ok (.aload 6, 2) := dk_25 6 (dk_at dksJ4_put_2_8 17 rfl rfl)
theorem dJ4_put_2_206 : decode cJ4_put_2 206 = .ok (.iload 5, 2) := dk_21 5 (dk_at dksJ4_put_2_8 19 rfl rfl)
theorem dJ4_put_2_208 : decode cJ4_put_2 208 = .ok (.ifCond .ge 7, 3) := dk_156 0 7 (dk_at dksJ4_put_2_8 21 rfl rfl)
theorem dJ4_put_2_211 : decode cJ4_put_2 211 = .ok (.iconst 1, 1) := dk_4 (dk_at dksJ4_put_2_9 0 rfl rfl)
theorem dJ4_put_2_212 : decode cJ4_put_2 212 = .ok (.goto 4, 3) := dk_167 0 4 (dk_at dksJ4_put_2_9 1 rfl rfl)
theorem dJ4_put_2_215 : decode cJ4_put_2 215 = .ok (.iconst 0, 1) := dk_3 (dk_at dksJ4_put_2_9 4 rfl rfl)
theorem dJ4_put_2_216 : decode cJ4_put_2 216 = .ok (.invokevirtual 139, 3) := dk_182 0 139 (dk_at dksJ4_put_2_9 5 rfl rfl)
theorem dJ4_put_2_219 : decode cJ4_put_2 219 = .ok (.aconst_null, 1) := dk_1 (dk_at dksJ4_put_2_9 8 rfl rfl)
theorem dJ4_put_2_220 : decode cJ4_put_2 220 = .ok (.areturn, 1) := dk_176 (dk_at dksJ4_put_2_9 9 rfl rfl)
abbrev cJ0_init : ByteArray := prog_55_method_1_code
theorem dJ0_init_0 : decode cJ0_init 0 = .ok (.aload_n 0, 1) := by decide +kernel
theorem dJ0_init_1 : decode cJ0_init 1 = .ok (.invokespecial 1, 3) := by decide +kernel
theorem dJ0_init_4 : decode cJ0_init 4 = .ok (.return_, 1) := by decide +kernel
abbrev cJ22_init : ByteArray := prog_90_method_1_code
def dkwJ22_init_1 : List UInt8 := [181, 0, 26, 177]
abbrev dktJ22_init_1 : List UInt8 := dkwJ22_init_1 ++ []
def dkwJ22_init_0 : List UInt8 := [42, 43, 181, 0, 1, 42, 183, 0, 7, 42, 43, 180, 0, 13, 181, 0, 19, 42, 1, 181, 0, 22, 42, 44]
abbrev dktJ22_init_0 : List UInt8 := dkwJ22_init_0 ++ dktJ22_init_1
theorem dksJ22_init_0 : cJ22_init.data.toList.drop 0 = dktJ22_init_0 := by decide +kernel
theorem dksJ22_init_1 : cJ22_init.data.toList.drop 24 = dktJ22_init_1 := dk_seg dksJ22_init_0 24 rfl rfl
theorem dJ22_init_0 : decode cJ22_init 0 = .ok (.aload_n 0, 1) := dk_42 (dk_at dksJ22_init_0 0 rfl rfl)
theorem dJ22_init_1 : decode cJ22_init 1 = .ok (.aload_n 1, 1) := dk_43 (dk_at dksJ22_init_0 1 rfl rfl)
theorem dJ22_init_2 : decode cJ22_init 2 = .ok (.putfield 1, 3) := dk_181 0 1 (dk_at dksJ22_init_0 2 rfl rfl)
theorem dJ22_init_5 : decode cJ22_init 5 = .ok (.aload_n 0, 1) := dk_42 (dk_at dksJ22_init_0 5 rfl rfl)
theorem dJ22_init_6 : decode cJ22_init 6 = .ok (.invokespecial 7, 3) := dk_183 0 7 (dk_at dksJ22_init_0 6 rfl rfl)
theorem dJ22_init_9 : decode cJ22_init 9 = .ok (.aload_n 0, 1) := dk_42 (dk_at dksJ22_init_0 9 rfl rfl)
theorem dJ22_init_10 : decode cJ22_init 10 = .ok (.aload_n 1, 1) := dk_43 (dk_at dksJ22_init_0 10 rfl rfl)
theorem dJ22_init_11 : decode cJ22_init 11 = .ok (.getfield 13, 3) := dk_180 0 13 (dk_at dksJ22_init_0 11 rfl rfl)
theorem dJ22_init_14 : decode cJ22_init 14 = .ok (.putfield 19, 3) := dk_181 0 19 (dk_at dksJ22_init_0 14 rfl rfl)
theorem dJ22_init_17 : decode cJ22_init 17 = .ok (.aload_n 0, 1) := dk_42 (dk_at dksJ22_init_0 17 rfl rfl)
theorem dJ22_init_18 : decode cJ22_init 18 = .ok (.aconst_null, 1) := dk_1 (dk_at dksJ22_init_0 18 rfl rfl)
theorem dJ22_init_19 : decode cJ22_init 19 = .ok (.putfield 22, 3) := dk_181 0 22 (dk_at dksJ22_init_0 19 rfl rfl)
theorem dJ22_init_22 : decode cJ22_init 22 = .ok (.aload_n 0, 1) := dk_42 (dk_at dksJ22_init_0 22 rfl rfl)
theorem dJ22_init_23 : decode cJ22_init 23 = .ok (.aload_n 2, 1) := dk_44 (dk_at dksJ22_init_0 23 rfl rfl)
theorem dJ22_init_24 : decode cJ22_init 24 = .ok (.putfield 26, 3) := dk_181 0 26 (dk_at dksJ22_init_1 0 rfl rfl)
theorem dJ22_init_27 : decode cJ22_init 27 = .ok (.return_, 1) := dk_177 (dk_at dksJ22_init_1 3 rfl rfl)
abbrev cJ24_init : ByteArray := prog_87_method_1_code
def dkwJ24_init_0 : List UInt8 := [42, 43, 44, 183, 0, 1, 177]
abbrev dktJ24_init_0 : List UInt8 := dkwJ24_init_0 ++ []
theorem dksJ24_init_0 : cJ24_init.data.toList.drop 0 = dktJ24_init_0 := by decide +kernel
theorem dJ24_init_0 : decode cJ24_init 0 = .ok (.aload_n 0, 1) := dk_42 (dk_at dksJ24_init_0 0 rfl rfl)
theorem dJ24_init_1 : decode cJ24_init 1 = .ok (.aload_n 1, 1) := dk_43 (dk_at dksJ24_init_0 1 rfl rfl)
theorem dJ24_init_2 : decode cJ24_init 2 = .ok (.aload_n 2, 1) := dk_44 (dk_at dksJ24_init_0 2 rfl rfl)
theorem dJ24_init_3 : decode cJ24_init 3 = .ok (.invokespecial 1, 3) := dk_183 0 1 (dk_at dksJ24_init_0 3 rfl rfl)
theorem dJ24_init_6 : decode cJ24_init 6 = .ok (.return_, 1) := dk_177 (dk_at dksJ24_init_0 6 rfl rfl)
abbrev cJ27_init : ByteArray := prog_88_method_1_code
def dkwJ27_init_0 : List UInt8 := [42, 183, 0, 1, 42, 43, 181, 0, 7, 177]
abbrev dktJ27_init_0 : List UInt8 := dkwJ27_init_0 ++ []
theorem dksJ27_init_0 : cJ27_init.data.toList.drop 0 = dktJ27_init_0 := by decide +kernel
theorem dJ27_init_0 : decode cJ27_init 0 = .ok (.aload_n 0, 1) := dk_42 (dk_at dksJ27_init_0 0 rfl rfl)
theorem dJ27_init_1 : decode cJ27_init 1 = .ok (.invokespecial 1, 3) := dk_183 0 1 (dk_at dksJ27_init_0 1 rfl rfl)
theorem dJ27_init_4 : decode cJ27_init 4 = .ok (.aload_n 0, 1) := dk_42 (dk_at dksJ27_init_0 4 rfl rfl)
theorem dJ27_init_5 : decode cJ27_init 5 = .ok (.aload_n 1, 1) := dk_43 (dk_at dksJ27_init_0 5 rfl rfl)
theorem dJ27_init_6 : decode cJ27_init 6 = .ok (.putfield 7, 3) := dk_181 0 7 (dk_at dksJ27_init_0 6 rfl rfl)
theorem dJ27_init_9 : decode cJ27_init 9 = .ok (.return_, 1) := dk_177 (dk_at dksJ27_init_0 9 rfl rfl)
abbrev cJ4_successor : ByteArray := prog_83_method_74_code
def dkwJ4_successor_2 : List UInt8 := [44, 43, 180, 0, 114, 166, 0, 13, 43, 77, 43, 180, 0, 124, 76, 167, 255, 237, 43, 176]
abbrev dktJ4_successor_2 : List UInt8 := dkwJ4_successor_2 ++ []
def dkwJ4_successor_1 : List UInt8 := [198, 0, 11, 43, 180, 0, 111, 76, 167, 255, 244, 43, 176, 42, 180, 0, 124, 76, 42, 77, 43, 198, 0, 21]
abbrev dktJ4_successor_1 : List UInt8 := dkwJ4_successor_1 ++ dktJ4_successor_2
def dkwJ4_successor_0 : List UInt8 := [42, 199, 0, 5, 1, 176, 42, 180, 0, 114, 198, 0, 25, 42, 180, 0, 114, 76, 43, 180, 0, 111]
abbrev dktJ4_successor_0 : List UInt8 := dkwJ4_successor_0 ++ dktJ4_successor_1
theorem dksJ4_successor_0 : cJ4_successor.data.toList.drop 0 = dktJ4_successor_0 := by decide +kernel
theorem dksJ4_successor_1 : cJ4_successor.data.toList.drop 22 = dktJ4_successor_1 := dk_seg dksJ4_successor_0 22 rfl rfl
theorem dksJ4_successor_2 : cJ4_successor.data.toList.drop 46 = dktJ4_successor_2 := dk_seg dksJ4_successor_1 24 rfl rfl
theorem dJ4_successor_0 : decode cJ4_successor 0 = .ok (.aload_n 0, 1) := dk_42 (dk_at dksJ4_successor_0 0 rfl rfl)
theorem dJ4_successor_1 : decode cJ4_successor 1 = .ok (.ifnonnull 5, 3) := dk_199 0 5 (dk_at dksJ4_successor_0 1 rfl rfl)
theorem dJ4_successor_4 : decode cJ4_successor 4 = .ok (.aconst_null, 1) := dk_1 (dk_at dksJ4_successor_0 4 rfl rfl)
theorem dJ4_successor_5 : decode cJ4_successor 5 = .ok (.areturn, 1) := dk_176 (dk_at dksJ4_successor_0 5 rfl rfl)
theorem dJ4_successor_6 : decode cJ4_successor 6 = .ok (.aload_n 0, 1) := dk_42 (dk_at dksJ4_successor_0 6 rfl rfl)
theorem dJ4_successor_7 : decode cJ4_successor 7 = .ok (.getfield 114, 3) := dk_180 0 114 (dk_at dksJ4_successor_0 7 rfl rfl)
theorem dJ4_successor_10 : decode cJ4_successor 10 = .ok (.ifnull 25, 3) := dk_198 0 25 (dk_at dksJ4_successor_0 10 rfl rfl)
theorem dJ4_successor_13 : decode cJ4_successor 13 = .ok (.aload_n 0, 1) := dk_42 (dk_at dksJ4_successor_0 13 rfl rfl)
theorem dJ4_successor_14 : decode cJ4_successor 14 = .ok (.getfield 114, 3) := dk_180 0 114 (dk_at dksJ4_successor_0 14 rfl rfl)
theorem dJ4_successor_17 : decode cJ4_successor 17 = .ok (.astore_n 1, 1) := dk_76 (dk_at dksJ4_successor_0 17 rfl rfl)
theorem dJ4_successor_18 : decode cJ4_successor 18 = .ok (.aload_n 1, 1) := dk_43 (dk_at dksJ4_successor_0 18 rfl rfl)
theorem dJ4_successor_19 : decode cJ4_successor 19 = .ok (.getfield 111, 3) := dk_180 0 111 (dk_at dksJ4_successor_0 19 rfl rfl)
theorem dJ4_successor_22 : decode cJ4_successor 22 = .ok (.ifnull 11, 3) := dk_198 0 11 (dk_at dksJ4_successor_1 0 rfl rfl)
theorem dJ4_successor_25 : decode cJ4_successor 25 = .ok (.aload_n 1, 1) := dk_43 (dk_at dksJ4_successor_1 3 rfl rfl)
theorem dJ4_successor_26 : decode cJ4_successor 26 = .ok (.getfield 111, 3) := dk_180 0 111 (dk_at dksJ4_successor_1 4 rfl rfl)
theorem dJ4_successor_29 : decode cJ4_successor 29 = .ok (.astore_n 1, 1) := dk_76 (dk_at dksJ4_successor_1 7 rfl rfl)
theorem dJ4_successor_30 : decode cJ4_successor 30 = .ok (.goto (-12), 3) := dk_167 255 244 (dk_at dksJ4_successor_1 8 rfl rfl)
theorem dJ4_successor_33 : decode cJ4_successor 33 = .ok (.aload_n 1, 1) := dk_43 (dk_at dksJ4_successor_1 11 rfl rfl)
theorem dJ4_successor_34 : decode cJ4_successor 34 = .ok (.areturn, 1) := dk_176 (dk_at dksJ4_successor_1 12 rfl rfl)
theorem dJ4_successor_35 : decode cJ4_successor 35 = .ok (.aload_n 0, 1) := dk_42 (dk_at dksJ4_successor_1 13 rfl rfl)
theorem dJ4_successor_36 : decode cJ4_successor 36 = .ok (.getfield 124, 3) := dk_180 0 124 (dk_at dksJ4_successor_1 14 rfl rfl)
theorem dJ4_successor_39 : decode cJ4_successor 39 = .ok (.astore_n 1, 1) := dk_76 (dk_at dksJ4_successor_1 17 rfl rfl)
theorem dJ4_successor_40 : decode cJ4_successor 40 = .ok (.aload_n 0, 1) := dk_42 (dk_at dksJ4_successor_1 18 rfl rfl)
theorem dJ4_successor_41 : decode cJ4_successor 41 = .ok (.astore_n 2, 1) := dk_77 (dk_at dksJ4_successor_1 19 rfl rfl)
theorem dJ4_successor_42 : decode cJ4_successor 42 = .ok (.aload_n 1, 1) := dk_43 (dk_at dksJ4_successor_1 20 rfl rfl)
theorem dJ4_successor_43 : decode cJ4_successor 43 = .ok (.ifnull 21, 3) := dk_198 0 21 (dk_at dksJ4_successor_1 21 rfl rfl)
theorem dJ4_successor_46 : decode cJ4_successor 46 = .ok (.aload_n 2, 1) := dk_44 (dk_at dksJ4_successor_2 0 rfl rfl)
theorem dJ4_successor_47 : decode cJ4_successor 47 = .ok (.aload_n 1, 1) := dk_43 (dk_at dksJ4_successor_2 1 rfl rfl)
theorem dJ4_successor_48 : decode cJ4_successor 48 = .ok (.getfield 114, 3) := dk_180 0 114 (dk_at dksJ4_successor_2 2 rfl rfl)
theorem dJ4_successor_51 : decode cJ4_successor 51 = .ok (.if_acmp .ne 13, 3) := dk_166 0 13 (dk_at dksJ4_successor_2 5 rfl rfl)
theorem dJ4_successor_54 : decode cJ4_successor 54 = .ok (.aload_n 1, 1) := dk_43 (dk_at dksJ4_successor_2 8 rfl rfl)
theorem dJ4_successor_55 : decode cJ4_successor 55 = .ok (.astore_n 2, 1) := dk_77 (dk_at dksJ4_successor_2 9 rfl rfl)
theorem dJ4_successor_56 : decode cJ4_successor 56 = .ok (.aload_n 1, 1) := dk_43 (dk_at dksJ4_successor_2 10 rfl rfl)
theorem dJ4_successor_57 : decode cJ4_successor 57 = .ok (.getfield 124, 3) := dk_180 0 124 (dk_at dksJ4_successor_2 11 rfl rfl)
theorem dJ4_successor_60 : decode cJ4_successor 60 = .ok (.astore_n 1, 1) := dk_76 (dk_at dksJ4_successor_2 14 rfl rfl)
theorem dJ4_successor_61 : decode cJ4_successor 61 = .ok (.goto (-19), 3) := dk_167 255 237 (dk_at dksJ4_successor_2 15 rfl rfl)
theorem dJ4_successor_64 : decode cJ4_successor 64 = .ok (.aload_n 1, 1) := dk_43 (dk_at dksJ4_successor_2 18 rfl rfl)
theorem dJ4_successor_65 : decode cJ4_successor 65 = .ok (.areturn, 1) := dk_176 (dk_at dksJ4_successor_2 19 rfl rfl)
abbrev cJ2_grow : ByteArray := prog_61_method_7_code
def dkwJ2_grow_0 : List UInt8 := [42, 42, 180, 0, 48, 4, 96, 182, 0, 69, 176]
abbrev dktJ2_grow_0 : List UInt8 := dkwJ2_grow_0 ++ []
theorem dksJ2_grow_0 : cJ2_grow.data.toList.drop 0 = dktJ2_grow_0 := by decide +kernel
theorem dJ2_grow_0 : decode cJ2_grow 0 = .ok (.aload_n 0, 1) := dk_42 (dk_at dksJ2_grow_0 0 rfl rfl)
theorem dJ2_grow_1 : decode cJ2_grow 1 = .ok (.aload_n 0, 1) := dk_42 (dk_at dksJ2_grow_0 1 rfl rfl)
theorem dJ2_grow_2 : decode cJ2_grow 2 = .ok (.getfield 48, 3) := dk_180 0 48 (dk_at dksJ2_grow_0 2 rfl rfl)
theorem dJ2_grow_5 : decode cJ2_grow 5 = .ok (.iconst 1, 1) := dk_4 (dk_at dksJ2_grow_0 5 rfl rfl)
theorem dJ2_grow_6 : decode cJ2_grow 6 = .ok (.iadd, 1) := dk_96 (dk_at dksJ2_grow_0 6 rfl rfl)
theorem dJ2_grow_7 : decode cJ2_grow 7 = .ok (.invokevirtual 69, 3) := dk_182 0 69 (dk_at dksJ2_grow_0 7 rfl rfl)
theorem dJ2_grow_10 : decode cJ2_grow 10 = .ok (.areturn, 1) := dk_176 (dk_at dksJ2_grow_0 10 rfl rfl)
abbrev cJ2_fastRemove : ByteArray := prog_61_method_39_code
def dkwJ2_fastRemove_1 : List UInt8 := [4, 96, 43, 28, 29, 28, 100, 184, 0, 112, 43, 42, 29, 90, 181, 0, 48, 1, 83, 177]
abbrev dktJ2_fastRemove_1 : List UInt8 := dkwJ2_fastRemove_1 ++ []
def dkwJ2_fastRemove_0 : List UInt8 := [42, 89, 180, 0, 63, 4, 96, 181, 0, 63, 42, 180, 0, 48, 4, 100, 89, 62, 28, 164, 0, 15, 43, 28]
abbrev dktJ2_fastRemove_0 : List UInt8 := dkwJ2_fastRemove_0 ++ dktJ2_fastRemove_1
theorem dksJ2_fastRemove_0 : cJ2_fastRemove.data.toList.drop 0 = dktJ2_fastRemove_0 := by decide +kernel
theorem dksJ2_fastRemove_1 : cJ2_fastRemove.data.toList.drop 24 = dktJ2_fastRemove_1 := dk_seg dksJ2_fastRemove_0 24 rfl rfl
theorem dJ2_fastRemove_0 : decode cJ2_fastRemove 0 = .ok (.aload_n 0, 1) := dk_42 (dk_at dksJ2_fastRemove_0 0 rfl rfl)
theorem dJ2_fastRemove_1 : decode cJ2_fastRemove 1 = .ok (.dup, 1) := dk_89 (dk_at dksJ2_fastRemove_0 1 rfl rfl)
theorem dJ2_fastRemove_2 : decode cJ2_fastRemove 2 = .ok (.getfield 63, 3) := dk_180 0 63 (dk_at dksJ2_fastRemove_0 2 rfl rfl)
theorem dJ2_fastRemove_5 : decode cJ2_fastRemove 5 = .ok (.iconst 1, 1) := dk_4 (dk_at dksJ2_fastRemove_0 5 rfl rfl)
theorem dJ2_fastRemove_6 : decode cJ2_fastRemove 6 = .ok (.iadd, 1) := dk_96 (dk_at dksJ2_fastRemove_0 6 rfl rfl)
theorem dJ2_fastRemove_7 : decode cJ2_fastRemove 7 = .ok (.putfield 63, 3) := dk_181 0 63 (dk_at dksJ2_fastRemove_0 7 rfl rfl)
theorem dJ2_fastRemove_10 : decode cJ2_fastRemove 10 = .ok (.aload_n 0, 1) := dk_42 (dk_at dksJ2_fastRemove_0 10 rfl rfl)
theorem dJ2_fastRemove_11 : decode cJ2_fastRemove 11 = .ok (.getfield 48, 3) := dk_180 0 48 (dk_at dksJ2_fastRemove_0 11 rfl rfl)
theorem dJ2_fastRemove_14 : decode cJ2_fastRemove 14 = .ok (.iconst 1, 1) := dk_4 (dk_at dksJ2_fastRemove_0 14 rfl rfl)
theorem dJ2_fastRemove_15 : decode cJ2_fastRemove 15 = .ok (.isub, 1) := dk_100 (dk_at dksJ2_fastRemove_0 15 rfl rfl)
theorem dJ2_fastRemove_16 : decode cJ2_fastRemove 16 = .ok (.dup, 1) := dk_89 (dk_at dksJ2_fastRemove_0 16 rfl rfl)
theorem dJ2_fastRemove_17 : decode cJ2_fastRemove 17 = .ok (.istore_n 3, 1) := dk_62 (dk_at dksJ2_fastRemove_0 17 rfl rfl)
theorem dJ2_fastRemove_18 : decode cJ2_fastRemove 18 = .ok (.iload_n 2, 1) := dk_28 (dk_at dksJ2_fastRemove_0 18 rfl rfl)
theorem dJ2_fastRemove_19 : decode cJ2_fastRemove 19 = .ok (.if_icmp .le 15, 3) := dk_164 0 15 (dk_at dksJ2_fastRemove_0 19 rfl rfl)
theorem dJ2_fastRemove_22 : decode cJ2_fastRemove 22 = .ok (.aload_n 1, 1) := dk_43 (dk_at dksJ2_fastRemove_0 22 rfl rfl)
theorem dJ2_fastRemove_23 : decode cJ2_fastRemove 23 = .ok (.iload_n 2, 1) := dk_28 (dk_at dksJ2_fastRemove_0 23 rfl rfl)
theorem dJ2_fastRemove_24 : decode cJ2_fastRemove 24 = .ok (.iconst 1, 1) := dk_4 (dk_at dksJ2_fastRemove_1 0 rfl rfl)
theorem dJ2_fastRemove_25 : decode cJ2_fastRemove 25 = .ok (.iadd, 1) := dk_96 (dk_at dksJ2_fastRemove_1 1 rfl rfl)
theorem dJ2_fastRemove_26 : decode cJ2_fastRemove 26 = .ok (.aload_n 1, 1) := dk_43 (dk_at dksJ2_fastRemove_1 2 rfl rfl)
theorem dJ2_fastRemove_27 : decode cJ2_fastRemove 27 = .ok (.iload_n 2, 1) := dk_28 (dk_at dksJ2_fastRemove_1 3 rfl rfl)
theorem dJ2_fastRemove_28 : decode cJ2_fastRemove 28 = .ok (.iload_n 3, 1) := dk_29 (dk_at dksJ2_fastRemove_1 4 rfl rfl)
theorem dJ2_fastRemove_29 : decode cJ2_fastRemove 29 = .ok (.iload_n 2, 1) := dk_28 (dk_at dksJ2_fastRemove_1 5 rfl rfl)
theorem dJ2_fastRemove_30 : decode cJ2_fastRemove 30 = .ok (.isub, 1) := dk_100 (dk_at dksJ2_fastRemove_1 6 rfl rfl)
theorem dJ2_fastRemove_31 : decode cJ2_fastRemove 31 = .ok (.invokestatic 112, 3) := dk_184 0 112 (dk_at dksJ2_fastRemove_1 7 rfl rfl)
theorem dJ2_fastRemove_34 : decode cJ2_fastRemove 34 = .ok (.aload_n 1, 1) := dk_43 (dk_at dksJ2_fastRemove_1 10 rfl rfl)
theorem dJ2_fastRemove_35 : decode cJ2_fastRemove 35 = .ok (.aload_n 0, 1) := dk_42 (dk_at dksJ2_fastRemove_1 11 rfl rfl)
theorem dJ2_fastRemove_36 : decode cJ2_fastRemove 36 = .ok (.iload_n 3, 1) := dk_29 (dk_at dksJ2_fastRemove_1 12 rfl rfl)
theorem dJ2_fastRemove_37 : decode cJ2_fastRemove 37 = .ok (.dup_x1, 1) := dk_90 (dk_at dksJ2_fastRemove_1 13 rfl rfl)
theorem dJ2_fastRemove_38 : decode cJ2_fastRemove 38 = .ok (.putfield 48, 3) := dk_181 0 48 (dk_at dksJ2_fastRemove_1 14 rfl rfl)
theorem dJ2_fastRemove_41 : decode cJ2_fastRemove 41 = .ok (.aconst_null, 1) := dk_1 (dk_at dksJ2_fastRemove_1 17 rfl rfl)
theorem dJ2_fastRemove_42 : decode cJ2_fastRemove 42 = .ok (.aastore, 1) := dk_83 (dk_at dksJ2_fastRemove_1 18 rfl rfl)
theorem dJ2_fastRemove_43 : decode cJ2_fastRemove 43 = .ok (.return_, 1) := dk_177 (dk_at dksJ2_fastRemove_1 19 rfl rfl)
abbrev cJ4_init_2 : ByteArray := prog_83_method_2_code
def dkwJ4_init_2_0 : List UInt8 := [42, 183, 0, 1, 42, 3, 181, 0, 7, 42, 3, 181, 0, 13, 42, 43, 181, 0, 16, 177]
abbrev dktJ4_init_2_0 : List UInt8 := dkwJ4_init_2_0 ++ []
theorem dksJ4_init_2_0 : cJ4_init_2.data.toList.drop 0 = dktJ4_init_2_0 := by decide +kernel
theorem dJ4_init_2_0 : decode cJ4_init_2 0 = .ok (.aload_n 0, 1) := dk_42 (dk_at dksJ4_init_2_0 0 rfl rfl)
theorem dJ4_init_2_1 : decode cJ4_init_2 1 = .ok (.invokespecial 1, 3) := dk_183 0 1 (dk_at dksJ4_init_2_0 1 rfl rfl)
theorem dJ4_init_2_4 : decode cJ4_init_2 4 = .ok (.aload_n 0, 1) := dk_42 (dk_at dksJ4_init_2_0 4 rfl rfl)
theorem dJ4_init_2_5 : decode cJ4_init_2 5 = .ok (.iconst 0, 1) := dk_3 (dk_at dksJ4_init_2_0 5 rfl rfl)
theorem dJ4_init_2_6 : decode cJ4_init_2 6 = .ok (.putfield 7, 3) := dk_181 0 7 (dk_at dksJ4_init_2_0 6 rfl rfl)
theorem dJ4_init_2_9 : decode cJ4_init_2 9 = .ok (.aload_n 0, 1) := dk_42 (dk_at dksJ4_init_2_0 9 rfl rfl)
theorem dJ4_init_2_10 : decode cJ4_init_2 10 = .ok (.iconst 0, 1) := dk_3 (dk_at dksJ4_init_2_0 10 rfl rfl)
theorem dJ4_init_2_11 : decode cJ4_init_2 11 = .ok (.putfield 13, 3) := dk_181 0 13 (dk_at dksJ4_init_2_0 11 rfl rfl)
theorem dJ4_init_2_14 : decode cJ4_init_2 14 = .ok (.aload_n 0, 1) := dk_42 (dk_at dksJ4_init_2_0 14 rfl rfl)
theorem dJ4_init_2_15 : decode cJ4_init_2 15 = .ok (.aload_n 1, 1) := dk_43 (dk_at dksJ4_init_2_0 15 rfl rfl)
theorem dJ4_init_2_16 : decode cJ4_init_2 16 = .ok (.putfield 16, 3) := dk_181 0 16 (dk_at dksJ4_init_2_0 16 rfl rfl)
theorem dJ4_init_2_19 : decode cJ4_init_2 19 = .ok (.return_, 1) := dk_177 (dk_at dksJ4_init_2_0 19 rfl rfl)
abbrev cJ32_init_2 : ByteArray := prog_93_method_1_code
def dkwJ32_init_2_0 : List UInt8 := [42, 183, 0, 1, 42, 43, 181, 0, 7, 177]
abbrev dktJ32_init_2_0 : List UInt8 := dkwJ32_init_2_0 ++ []
theorem dksJ32_init_2_0 : cJ32_init_2.data.toList.drop 0 = dktJ32_init_2_0 := by decide +kernel
theorem dJ32_init_2_0 : decode cJ32_init_2 0 = .ok (.aload_n 0, 1) := dk_42 (dk_at dksJ32_init_2_0 0 rfl rfl)
theorem dJ32_init_2_1 : decode cJ32_init_2 1 = .ok (.invokespecial 1, 3) := dk_183 0 1 (dk_at dksJ32_init_2_0 1 rfl rfl)
theorem dJ32_init_2_4 : decode cJ32_init_2 4 = .ok (.aload_n 0, 1) := dk_42 (dk_at dksJ32_init_2_0 4 rfl rfl)
theorem dJ32_init_2_5 : decode cJ32_init_2 5 = .ok (.aload_n 1, 1) := dk_43 (dk_at dksJ32_init_2_0 5 rfl rfl)
theorem dJ32_init_2_6 : decode cJ32_init_2 6 = .ok (.putfield 7, 3) := dk_181 0 7 (dk_at dksJ32_init_2_0 6 rfl rfl)
theorem dJ32_init_2_9 : decode cJ32_init_2 9 = .ok (.return_, 1) := dk_177 (dk_at dksJ32_init_2_0 9 rfl rfl)
abbrev cJ33_init : ByteArray := prog_35_method_2_code
def dkwJ33_init_1 : List UInt8 := [167, 0, 16, 42, 27, 184, 0, 26, 181, 0, 15, 42, 4, 181, 0, 22, 177]
abbrev dktJ33_init_1 : List UInt8 := dkwJ33_init_1 ++ []
def dkwJ33_init_0 : List UInt8 := [42, 183, 0, 3, 178, 0, 18, 153, 0, 18, 42, 27, 188, 8, 181, 0, 15, 42, 3, 181, 0, 22]
abbrev dktJ33_init_0 : List UInt8 := dkwJ33_init_0 ++ dktJ33_init_1
theorem dksJ33_init_0 : cJ33_init.data.toList.drop 0 = dktJ33_init_0 := by decide +kernel
theorem dksJ33_init_1 : cJ33_init.data.toList.drop 22 = dktJ33_init_1 := dk_seg dksJ33_init_0 22 rfl rfl
theorem dJ33_init_0 : decode cJ33_init 0 = .ok (.aload_n 0, 1) := dk_42 (dk_at dksJ33_init_0 0 rfl rfl)
theorem dJ33_init_1 : decode cJ33_init 1 = .ok (.invokespecial 3, 3) := dk_183 0 3 (dk_at dksJ33_init_0 1 rfl rfl)
theorem dJ33_init_4 : decode cJ33_init 4 = .ok (.getstatic 18, 3) := dk_178 0 18 (dk_at dksJ33_init_0 4 rfl rfl)
theorem dJ33_init_7 : decode cJ33_init 7 = .ok (.ifCond .eq 18, 3) := dk_153 0 18 (dk_at dksJ33_init_0 7 rfl rfl)
theorem dJ33_init_10 : decode cJ33_init 10 = .ok (.aload_n 0, 1) := dk_42 (dk_at dksJ33_init_0 10 rfl rfl)
theorem dJ33_init_11 : decode cJ33_init 11 = .ok (.iload_n 1, 1) := dk_27 (dk_at dksJ33_init_0 11 rfl rfl)
theorem dJ33_init_12 : decode cJ33_init 12 = .ok (.newarray .byte, 2) := dk_188_8 (dk_at dksJ33_init_0 12 rfl rfl)
theorem dJ33_init_14 : decode cJ33_init 14 = .ok (.putfield 15, 3) := dk_181 0 15 (dk_at dksJ33_init_0 14 rfl rfl)
theorem dJ33_init_17 : decode cJ33_init 17 = .ok (.aload_n 0, 1) := dk_42 (dk_at dksJ33_init_0 17 rfl rfl)
theorem dJ33_init_18 : decode cJ33_init 18 = .ok (.iconst 0, 1) := dk_3 (dk_at dksJ33_init_0 18 rfl rfl)
theorem dJ33_init_19 : decode cJ33_init 19 = .ok (.putfield 22, 3) := dk_181 0 22 (dk_at dksJ33_init_0 19 rfl rfl)
theorem dJ33_init_22 : decode cJ33_init 22 = .ok (.goto 16, 3) := dk_167 0 16 (dk_at dksJ33_init_1 0 rfl rfl)
theorem dJ33_init_25 : decode cJ33_init 25 = .ok (.aload_n 0, 1) := dk_42 (dk_at dksJ33_init_1 3 rfl rfl)
theorem dJ33_init_26 : decode cJ33_init 26 = .ok (.iload_n 1, 1) := dk_27 (dk_at dksJ33_init_1 4 rfl rfl)
theorem dJ33_init_27 : decode cJ33_init 27 = .ok (.invokestatic 26, 3) := dk_184 0 26 (dk_at dksJ33_init_1 5 rfl rfl)
theorem dJ33_init_30 : decode cJ33_init 30 = .ok (.putfield 15, 3) := dk_181 0 15 (dk_at dksJ33_init_1 8 rfl rfl)
theorem dJ33_init_33 : decode cJ33_init 33 = .ok (.aload_n 0, 1) := dk_42 (dk_at dksJ33_init_1 11 rfl rfl)
theorem dJ33_init_34 : decode cJ33_init 34 = .ok (.iconst 1, 1) := dk_4 (dk_at dksJ33_init_1 12 rfl rfl)
theorem dJ33_init_35 : decode cJ33_init 35 = .ok (.putfield 22, 3) := dk_181 0 22 (dk_at dksJ33_init_1 13 rfl rfl)
theorem dJ33_init_38 : decode cJ33_init 38 = .ok (.return_, 1) := dk_177 (dk_at dksJ33_init_1 16 rfl rfl)
abbrev cJ33_append : ByteArray := prog_35_method_32_code
def dkwJ33_append_2 : List UInt8 := [42, 29, 181, 0, 79, 42, 176]
abbrev dktJ33_append_2 : List UInt8 := dkwJ33_append_2 ++ []
def dkwJ33_append_1 : List UInt8 := [27, 29, 42, 180, 0, 15, 184, 0, 248, 87, 167, 0, 14, 27, 28, 29, 42, 180, 0, 15, 184, 0, 251, 87]
abbrev dktJ33_append_1 : List UInt8 := dkwJ33_append_1 ++ dktJ33_append_2
def dkwJ33_append_0 : List UInt8 := [42, 180, 0, 79, 61, 28, 27, 184, 0, 245, 96, 62, 42, 29, 182, 0, 100, 42, 182, 0, 83, 153, 0, 16]
abbrev dktJ33_append_0 : List UInt8 := dkwJ33_append_0 ++ dktJ33_append_1
theorem dksJ33_append_0 : cJ33_append.data.toList.drop 0 = dktJ33_append_0 := by decide +kernel
theorem dksJ33_append_1 : cJ33_append.data.toList.drop 24 = dktJ33_append_1 := dk_seg dksJ33_append_0 24 rfl rfl
theorem dksJ33_append_2 : cJ33_append.data.toList.drop 48 = dktJ33_append_2 := dk_seg dksJ33_append_1 24 rfl rfl
theorem dJ33_append_0 : decode cJ33_append 0 = .ok (.aload_n 0, 1) := dk_42 (dk_at dksJ33_append_0 0 rfl rfl)
theorem dJ33_append_1 : decode cJ33_append 1 = .ok (.getfield 79, 3) := dk_180 0 79 (dk_at dksJ33_append_0 1 rfl rfl)
theorem dJ33_append_4 : decode cJ33_append 4 = .ok (.istore_n 2, 1) := dk_61 (dk_at dksJ33_append_0 4 rfl rfl)
theorem dJ33_append_5 : decode cJ33_append 5 = .ok (.iload_n 2, 1) := dk_28 (dk_at dksJ33_append_0 5 rfl rfl)
theorem dJ33_append_6 : decode cJ33_append 6 = .ok (.iload_n 1, 1) := dk_27 (dk_at dksJ33_append_0 6 rfl rfl)
theorem dJ33_append_7 : decode cJ33_append 7 = .ok (.invokestatic 245, 3) := dk_184 0 245 (dk_at dksJ33_append_0 7 rfl rfl)
theorem dJ33_append_10 : decode cJ33_append 10 = .ok (.iadd, 1) := dk_96 (dk_at dksJ33_append_0 10 rfl rfl)
theorem dJ33_append_11 : decode cJ33_append 11 = .ok (.istore_n 3, 1) := dk_62 (dk_at dksJ33_append_0 11 rfl rfl)
theorem dJ33_append_12 : decode cJ33_append 12 = .ok (.aload_n 0, 1) := dk_42 (dk_at dksJ33_append_0 12 rfl rfl)
theorem dJ33_append_13 : decode cJ33_append 13 = .ok (.iload_n 3, 1) := dk_29 (dk_at dksJ33_append_0 13 rfl rfl)
theorem dJ33_append_14 : decode cJ33_append 14 = .ok (.invokevirtual 100, 3) := dk_182 0 100 (dk_at dksJ33_append_0 14 rfl rfl)
theorem dJ33_append_17 : decode cJ33_append 17 = .ok (.aload_n 0, 1) := dk_42 (dk_at dksJ33_append_0 17 rfl rfl)
theorem dJ33_append_18 : decode cJ33_append 18 = .ok (.invokevirtual 83, 3) := dk_182 0 83 (dk_at dksJ33_append_0 18 rfl rfl)
theorem dJ33_append_21 : decode cJ33_append 21 = .ok (.ifCond .eq 16, 3) := dk_153 0 16 (dk_at dksJ33_append_0 21 rfl rfl)
theorem dJ33_append_24 : decode cJ33_append 24 = .ok (.iload_n 1, 1) := dk_27 (dk_at dksJ33_append_1 0 rfl rfl)
theorem dJ33_append_25 : decode cJ33_append 25 = .ok (.iload_n 3, 1) := dk_29 (dk_at dksJ33_append_1 1 rfl rfl)
theorem dJ33_append_26 : decode cJ33_append 26 = .ok (.aload_n 0, 1) := dk_42 (dk_at dksJ33_append_1 2 rfl rfl)
theorem dJ33_append_27 : decode cJ33_append 27 = .ok (.getfield 15, 3) := dk_180 0 15 (dk_at dksJ33_append_1 3 rfl rfl)
theorem dJ33_append_30 : decode cJ33_append 30 = .ok (.invokestatic 248, 3) := dk_184 0 248 (dk_at dksJ33_append_1 6 rfl rfl)
theorem dJ33_append_33 : decode cJ33_append 33 = .ok (.pop, 1) := dk_87 (dk_at dksJ33_append_1 9 rfl rfl)
theorem dJ33_append_34 : decode cJ33_append 34 = .ok (.goto 14, 3) := dk_167 0 14 (dk_at dksJ33_append_1 10 rfl rfl)
theorem dJ33_append_37 : decode cJ33_append 37 = .ok (.iload_n 1, 1) := dk_27 (dk_at dksJ33_append_1 13 rfl rfl)
theorem dJ33_append_38 : decode cJ33_append 38 = .ok (.iload_n 2, 1) := dk_28 (dk_at dksJ33_append_1 14 rfl rfl)
theorem dJ33_append_39 : decode cJ33_append 39 = .ok (.iload_n 3, 1) := dk_29 (dk_at dksJ33_append_1 15 rfl rfl)
theorem dJ33_append_40 : decode cJ33_append 40 = .ok (.aload_n 0, 1) := dk_42 (dk_at dksJ33_append_1 16 rfl rfl)
theorem dJ33_append_41 : decode cJ33_append 41 = .ok (.getfield 15, 3) := dk_180 0 15 (dk_at dksJ33_append_1 17 rfl rfl)
theorem dJ33_append_44 : decode cJ33_append 44 = .ok (.invokestatic 251, 3) := dk_184 0 251 (dk_at dksJ33_append_1 20 rfl rfl)
theorem dJ33_append_47 : decode cJ33_append 47 = .ok (.pop, 1) := dk_87 (dk_at dksJ33_append_1 23 rfl rfl)
theorem dJ33_append_48 : decode cJ33_append 48 = .ok (.aload_n 0, 1) := dk_42 (dk_at dksJ33_append_2 0 rfl rfl)
theorem dJ33_append_49 : decode cJ33_append 49 = .ok (.iload_n 3, 1) := dk_29 (dk_at dksJ33_append_2 1 rfl rfl)
theorem dJ33_append_50 : decode cJ33_append 50 = .ok (.putfield 79, 3) := dk_181 0 79 (dk_at dksJ33_append_2 2 rfl rfl)
theorem dJ33_append_53 : decode cJ33_append 53 = .ok (.aload_n 0, 1) := dk_42 (dk_at dksJ33_append_2 5 rfl rfl)
theorem dJ33_append_54 : decode cJ33_append 54 = .ok (.areturn, 1) := dk_176 (dk_at dksJ33_append_2 6 rfl rfl)
abbrev cJ33_append_2 : ByteArray := prog_35_method_22_code
def dkwJ33_append_2_1 : List UInt8 := [42, 42, 180, 0, 79, 43, 182, 0, 208, 42, 89, 180, 0, 79, 28, 96, 181, 0, 79, 42, 176]
abbrev dktJ33_append_2_1 : List UInt8 := dkwJ33_append_2_1 ++ []
def dkwJ33_append_2_0 : List UInt8 := [43, 199, 0, 8, 42, 182, 0, 204, 176, 43, 182, 0, 32, 61, 42, 42, 180, 0, 79, 28, 96, 182, 0, 100]
abbrev dktJ33_append_2_0 : List UInt8 := dkwJ33_append_2_0 ++ dktJ33_append_2_1
theorem dksJ33_append_2_0 : cJ33_append_2.data.toList.drop 0 = dktJ33_append_2_0 := by decide +kernel
theorem dksJ33_append_2_1 : cJ33_append_2.data.toList.drop 24 = dktJ33_append_2_1 := dk_seg dksJ33_append_2_0 24 rfl rfl
theorem dJ33_append_2_0 : decode cJ33_append_2 0 = .ok (.aload_n 1, 1) := dk_43 (dk_at dksJ33_append_2_0 0 rfl rfl)
theorem dJ33_append_2_1 : decode cJ33_append_2 1 = .ok (.ifnonnull 8, 3) := dk_199 0 8 (dk_at dksJ33_append_2_0 1 rfl rfl)
theorem dJ33_append_2_4 : decode cJ33_append_2 4 = .ok (.aload_n 0, 1) := dk_42 (dk_at dksJ33_append_2_0 4 rfl rfl)
theorem dJ33_append_2_5 : decode cJ33_append_2 5 = .ok (.invokevirtual 204, 3) := dk_182 0 204 (dk_at dksJ33_append_2_0 5 rfl rfl)
theorem dJ33_append_2_8 : decode cJ33_append_2 8 = .ok (.areturn, 1) := dk_176 (dk_at dksJ33_append_2_0 8 rfl rfl)
theorem dJ33_append_2_9 : decode cJ33_append_2 9 = .ok (.aload_n 1, 1) := dk_43 (dk_at dksJ33_append_2_0 9 rfl rfl)
theorem dJ33_append_2_10 : decode cJ33_append_2 10 = .ok (.invokevirtual 32, 3) := dk_182 0 32 (dk_at dksJ33_append_2_0 10 rfl rfl)
theorem dJ33_append_2_13 : decode cJ33_append_2 13 = .ok (.istore_n 2, 1) := dk_61 (dk_at dksJ33_append_2_0 13 rfl rfl)
theorem dJ33_append_2_14 : decode cJ33_append_2 14 = .ok (.aload_n 0, 1) := dk_42 (dk_at dksJ33_append_2_0 14 rfl rfl)
theorem dJ33_append_2_15 : decode cJ33_append_2 15 = .ok (.aload_n 0, 1) := dk_42 (dk_at dksJ33_append_2_0 15 rfl rfl)
theorem dJ33_append_2_16 : decode cJ33_append_2 16 = .ok (.getfield 79, 3) := dk_180 0 79 (dk_at dksJ33_append_2_0 16 rfl rfl)
theorem dJ33_append_2_19 : decode cJ33_append_2 19 = .ok (.iload_n 2, 1) := dk_28 (dk_at dksJ33_append_2_0 19 rfl rfl)
theorem dJ33_append_2_20 : decode cJ33_append_2 20 = .ok (.iadd, 1) := dk_96 (dk_at dksJ33_append_2_0 20 rfl rfl)
theorem dJ33_append_2_21 : decode cJ33_append_2 21 = .ok (.invokevirtual 100, 3) := dk_182 0 100 (dk_at dksJ33_append_2_0 21 rfl rfl)
theorem dJ33_append_2_24 : decode cJ33_append_2 24 = .ok (.aload_n 0, 1) := dk_42 (dk_at dksJ33_append_2_1 0 rfl rfl)
theorem dJ33_append_2_25 : decode cJ33_append_2 25 = .ok (.aload_n 0, 1) := dk_42 (dk_at dksJ33_append_2_1 1 rfl rfl)
theorem dJ33_append_2_26 : decode cJ33_append_2 26 = .ok (.getfield 79, 3) := dk_180 0 79 (dk_at dksJ33_append_2_1 2 rfl rfl)
theorem dJ33_append_2_29 : decode cJ33_append_2 29 = .ok (.aload_n 1, 1) := dk_43 (dk_at dksJ33_append_2_1 5 rfl rfl)
theorem dJ33_append_2_30 : decode cJ33_append_2 30 = .ok (.invokevirtual 208, 3) := dk_182 0 208 (dk_at dksJ33_append_2_1 6 rfl rfl)
theorem dJ33_append_2_33 : decode cJ33_append_2 33 = .ok (.aload_n 0, 1) := dk_42 (dk_at dksJ33_append_2_1 9 rfl rfl)
theorem dJ33_append_2_34 : decode cJ33_append_2 34 = .ok (.dup, 1) := dk_89 (dk_at dksJ33_append_2_1 10 rfl rfl)
theorem dJ33_append_2_35 : decode cJ33_append_2 35 = .ok (.getfield 79, 3) := dk_180 0 79 (dk_at dksJ33_append_2_1 11 rfl rfl)
theorem dJ33_append_2_38 : decode cJ33_append_2 38 = .ok (.iload_n 2, 1) := dk_28 (dk_at dksJ33_append_2_1 14 rfl rfl)
theorem dJ33_append_2_39 : decode cJ33_append_2 39 = .ok (.iadd, 1) := dk_96 (dk_at dksJ33_append_2_1 15 rfl rfl)
theorem dJ33_append_2_40 : decode cJ33_append_2 40 = .ok (.putfield 79, 3) := dk_181 0 79 (dk_at dksJ33_append_2_1 16 rfl rfl)
theorem dJ33_append_2_43 : decode cJ33_append_2 43 = .ok (.aload_n 0, 1) := dk_42 (dk_at dksJ33_append_2_1 19 rfl rfl)
theorem dJ33_append_2_44 : decode cJ33_append_2 44 = .ok (.areturn, 1) := dk_176 (dk_at dksJ33_append_2_1 20 rfl rfl)
abbrev cJ33_append_3 : ByteArray := prog_35_method_31_code
def dkwJ33_append_3_3 : List UInt8 := [181, 0, 79, 27, 184, 0, 197, 42, 176]
abbrev dktJ33_append_3_3 : List UInt8 := dkwJ33_append_3_3 ++ []
def dkwJ33_append_3_2 : List UInt8 := [182, 0, 83, 153, 0, 7, 42, 182, 0, 195, 42, 180, 0, 15, 42, 89, 180, 0, 79, 90, 4, 96]
abbrev dktJ33_append_3_2 : List UInt8 := dkwJ33_append_3_2 ++ dktJ33_append_3_3
def dkwJ33_append_3_1 : List UInt8 := [42, 180, 0, 15, 42, 89, 180, 0, 79, 90, 4, 96, 181, 0, 79, 27, 145, 84, 167, 0, 33, 42]
abbrev dktJ33_append_3_1 : List UInt8 := dkwJ33_append_3_1 ++ dktJ33_append_3_2
def dkwJ33_append_3_0 : List UInt8 := [42, 42, 180, 0, 79, 4, 96, 182, 0, 100, 42, 182, 0, 83, 153, 0, 31, 27, 184, 0, 191, 153, 0, 24]
abbrev dktJ33_append_3_0 : List UInt8 := dkwJ33_append_3_0 ++ dktJ33_append_3_1
theorem dksJ33_append_3_0 : cJ33_append_3.data.toList.drop 0 = dktJ33_append_3_0 := by decide +kernel
theorem dksJ33_append_3_1 : cJ33_append_3.data.toList.drop 24 = dktJ33_append_3_1 := dk_seg dksJ33_append_3_0 24 rfl rfl
theorem dksJ33_append_3_2 : cJ33_append_3.data.toList.drop 46 = dktJ33_append_3_2 := dk_seg dksJ33_append_3_1 22 rfl rfl
theorem dksJ33_append_3_3 : cJ33_append_3.data.toList.drop 68 = dktJ33_append_3_3 := dk_seg dksJ33_append_3_2 22 rfl rfl
theorem dJ33_append_3_0 : decode cJ33_append_3 0 = .ok (.aload_n 0, 1) := dk_42 (dk_at dksJ33_append_3_0 0 rfl rfl)
theorem dJ33_append_3_1 : decode cJ33_append_3 1 = .ok (.aload_n 0, 1) := dk_42 (dk_at dksJ33_append_3_0 1 rfl rfl)
theorem dJ33_append_3_2 : decode cJ33_append_3 2 = .ok (.getfield 79, 3) := dk_180 0 79 (dk_at dksJ33_append_3_0 2 rfl rfl)
theorem dJ33_append_3_5 : decode cJ33_append_3 5 = .ok (.iconst 1, 1) := dk_4 (dk_at dksJ33_append_3_0 5 rfl rfl)
theorem dJ33_append_3_6 : decode cJ33_append_3 6 = .ok (.iadd, 1) := dk_96 (dk_at dksJ33_append_3_0 6 rfl rfl)
theorem dJ33_append_3_7 : decode cJ33_append_3 7 = .ok (.invokevirtual 100, 3) := dk_182 0 100 (dk_at dksJ33_append_3_0 7 rfl rfl)
theorem dJ33_append_3_10 : decode cJ33_append_3 10 = .ok (.aload_n 0, 1) := dk_42 (dk_at dksJ33_append_3_0 10 rfl rfl)
theorem dJ33_append_3_11 : decode cJ33_append_3 11 = .ok (.invokevirtual 83, 3) := dk_182 0 83 (dk_at dksJ33_append_3_0 11 rfl rfl)
theorem dJ33_append_3_14 : decode cJ33_append_3 14 = .ok (.ifCond .eq 31, 3) := dk_153 0 31 (dk_at dksJ33_append_3_0 14 rfl rfl)
theorem dJ33_append_3_17 : decode cJ33_append_3 17 = .ok (.iload_n 1, 1) := dk_27 (dk_at dksJ33_append_3_0 17 rfl rfl)
theorem dJ33_append_3_18 : decode cJ33_append_3 18 = .ok (.invokestatic 191, 3) := dk_184 0 191 (dk_at dksJ33_append_3_0 18 rfl rfl)
theorem dJ33_append_3_21 : decode cJ33_append_3 21 = .ok (.ifCond .eq 24, 3) := dk_153 0 24 (dk_at dksJ33_append_3_0 21 rfl rfl)
theorem dJ33_append_3_24 : decode cJ33_append_3 24 = .ok (.aload_n 0, 1) := dk_42 (dk_at dksJ33_append_3_1 0 rfl rfl)
theorem dJ33_append_3_25 : decode cJ33_append_3 25 = .ok (.getfield 15, 3) := dk_180 0 15 (dk_at dksJ33_append_3_1 1 rfl rfl)
theorem dJ33_append_3_28 : decode cJ33_append_3 28 = .ok (.aload_n 0, 1) := dk_42 (dk_at dksJ33_append_3_1 4 rfl rfl)
theorem dJ33_append_3_29 : decode cJ33_append_3 29 = .ok (.dup, 1) := dk_89 (dk_at dksJ33_append_3_1 5 rfl rfl)
theorem dJ33_append_3_30 : decode cJ33_append_3 30 = .ok (.getfield 79, 3) := dk_180 0 79 (dk_at dksJ33_append_3_1 6 rfl rfl)
theorem dJ33_append_3_33 : decode cJ33_append_3 33 = .ok (.dup_x1, 1) := dk_90 (dk_at dksJ33_append_3_1 9 rfl rfl)
theorem dJ33_append_3_34 : decode cJ33_append_3 34 = .ok (.iconst 1, 1) := dk_4 (dk_at dksJ33_append_3_1 10 rfl rfl)
theorem dJ33_append_3_35 : decode cJ33_append_3 35 = .ok (.iadd, 1) := dk_96 (dk_at dksJ33_append_3_1 11 rfl rfl)
theorem dJ33_append_3_36 : decode cJ33_append_3 36 = .ok (.putfield 79, 3) := dk_181 0 79 (dk_at dksJ33_append_3_1 12 rfl rfl)
theorem dJ33_append_3_39 : decode cJ33_append_3 39 = .ok (.iload_n 1, 1) := dk_27 (dk_at dksJ33_append_3_1 15 rfl rfl)
theorem dJ33_append_3_40 : decode cJ33_append_3 40 = .ok (.i2b, 1) := dk_145 (dk_at dksJ33_append_3_1 16 rfl rfl)
theorem dJ33_append_3_41 : decode cJ33_append_3 41 = .ok (.bastore, 1) := dk_84 (dk_at dksJ33_append_3_1 17 rfl rfl)
theorem dJ33_append_3_42 : decode cJ33_append_3 42 = .ok (.goto 33, 3) := dk_167 0 33 (dk_at dksJ33_append_3_1 18 rfl rfl)
theorem dJ33_append_3_45 : decode cJ33_append_3 45 = .ok (.aload_n 0, 1) := dk_42 (dk_at dksJ33_append_3_1 21 rfl rfl)
theorem dJ33_append_3_46 : decode cJ33_append_3 46 = .ok (.invokevirtual 83, 3) := dk_182 0 83 (dk_at dksJ33_append_3_2 0 rfl rfl)
theorem dJ33_append_3_49 : decode cJ33_append_3 49 = .ok (.ifCond .eq 7, 3) := dk_153 0 7 (dk_at dksJ33_append_3_2 3 rfl rfl)
theorem dJ33_append_3_52 : decode cJ33_append_3 52 = .ok (.aload_n 0, 1) := dk_42 (dk_at dksJ33_append_3_2 6 rfl rfl)
theorem dJ33_append_3_53 : decode cJ33_append_3 53 = .ok (.invokevirtual 195, 3) := dk_182 0 195 (dk_at dksJ33_append_3_2 7 rfl rfl)
theorem dJ33_append_3_56 : decode cJ33_append_3 56 = .ok (.aload_n 0, 1) := dk_42 (dk_at dksJ33_append_3_2 10 rfl rfl)
theorem dJ33_append_3_57 : decode cJ33_append_3 57 = .ok (.getfield 15, 3) := dk_180 0 15 (dk_at dksJ33_append_3_2 11 rfl rfl)
theorem dJ33_append_3_60 : decode cJ33_append_3 60 = .ok (.aload_n 0, 1) := dk_42 (dk_at dksJ33_append_3_2 14 rfl rfl)
theorem dJ33_append_3_61 : decode cJ33_append_3 61 = .ok (.dup, 1) := dk_89 (dk_at dksJ33_append_3_2 15 rfl rfl)
theorem dJ33_append_3_62 : decode cJ33_append_3 62 = .ok (.getfield 79, 3) := dk_180 0 79 (dk_at dksJ33_append_3_2 16 rfl rfl)
theorem dJ33_append_3_65 : decode cJ33_append_3 65 = .ok (.dup_x1, 1) := dk_90 (dk_at dksJ33_append_3_2 19 rfl rfl)
theorem dJ33_append_3_66 : decode cJ33_append_3 66 = .ok (.iconst 1, 1) := dk_4 (dk_at dksJ33_append_3_2 20 rfl rfl)
theorem dJ33_append_3_67 : decode cJ33_append_3 67 = .ok (.iadd, 1) := dk_96 (dk_at dksJ33_append_3_2 21 rfl rfl)
theorem dJ33_append_3_68 : decode cJ33_append_3 68 = .ok (.putfield 79, 3) := dk_181 0 79 (dk_at dksJ33_append_3_3 0 rfl rfl)
theorem dJ33_append_3_71 : decode cJ33_append_3 71 = .ok (.iload_n 1, 1) := dk_27 (dk_at dksJ33_append_3_3 3 rfl rfl)
theorem dJ33_append_3_72 : decode cJ33_append_3 72 = .ok (.invokestatic 197, 3) := dk_184 0 197 (dk_at dksJ33_append_3_3 4 rfl rfl)
theorem dJ33_append_3_75 : decode cJ33_append_3 75 = .ok (.aload_n 0, 1) := dk_42 (dk_at dksJ33_append_3_3 7 rfl rfl)
theorem dJ33_append_3_76 : decode cJ33_append_3 76 = .ok (.areturn, 1) := dk_176 (dk_at dksJ33_append_3_3 8 rfl rfl)
abbrev cJ9_init : ByteArray := prog_47_method_53_code
def dkwJ9_init_0 : List UInt8 := [42, 43, 1, 183, 1, 233, 177]
abbrev dktJ9_init_0 : List UInt8 := dkwJ9_init_0 ++ []
theorem dksJ9_init_0 : cJ9_init.data.toList.drop 0 = dktJ9_init_0 := by decide +kernel
theorem dJ9_init_0 : decode cJ9_init 0 = .ok (.aload_n 0, 1) := dk_42 (dk_at dksJ9_init_0 0 rfl rfl)
theorem dJ9_init_1 : decode cJ9_init 1 = .ok (.aload_n 1, 1) := dk_43 (dk_at dksJ9_init_0 1 rfl rfl)
theorem dJ9_init_2 : decode cJ9_init 2 = .ok (.aconst_null, 1) := dk_1 (dk_at dksJ9_init_0 2 rfl rfl)
theorem dJ9_init_3 : decode cJ9_init 3 = .ok (.invokespecial 489, 3) := dk_183 1 233 (dk_at dksJ9_init_0 3 rfl rfl)
theorem dJ9_init_6 : decode cJ9_init 6 = .ok (.return_, 1) := dk_177 (dk_at dksJ9_init_0 6 rfl rfl)
abbrev cJ9_valueOf : ByteArray := prog_47_method_133_code
def dkwJ9_valueOf_0 : List UInt8 := [42, 199, 0, 9, 19, 3, 237, 167, 0, 7, 42, 182, 3, 239, 176]
abbrev dktJ9_valueOf_0 : List UInt8 := dkwJ9_valueOf_0 ++ []
theorem dksJ9_valueOf_0 : cJ9_valueOf.data.toList.drop 0 = dktJ9_valueOf_0 := by decide +kernel
theorem dJ9_valueOf_0 : decode cJ9_valueOf 0 = .ok (.aload_n 0, 1) := dk_42 (dk_at dksJ9_valueOf_0 0 rfl rfl)
theorem dJ9_valueOf_1 : decode cJ9_valueOf 1 = .ok (.ifnonnull 9, 3) := dk_199 0 9 (dk_at dksJ9_valueOf_0 1 rfl rfl)
theorem dJ9_valueOf_4 : decode cJ9_valueOf 4 = .ok (.ldc_w 1005, 3) := dk_19 3 237 (dk_at dksJ9_valueOf_0 4 rfl rfl)
theorem dJ9_valueOf_7 : decode cJ9_valueOf 7 = .ok (.goto 7, 3) := dk_167 0 7 (dk_at dksJ9_valueOf_0 7 rfl rfl)
theorem dJ9_valueOf_10 : decode cJ9_valueOf 10 = .ok (.aload_n 0, 1) := dk_42 (dk_at dksJ9_valueOf_0 10 rfl rfl)
theorem dJ9_valueOf_11 : decode cJ9_valueOf 11 = .ok (.invokevirtual 1007, 3) := dk_182 3 239 (dk_at dksJ9_valueOf_0 11 rfl rfl)
theorem dJ9_valueOf_14 : decode cJ9_valueOf 14 = .ok (.areturn, 1) := dk_176 (dk_at dksJ9_valueOf_0 14 rfl rfl)
abbrev cJ9_checkIndex : ByteArray := prog_47_method_155_code
def dkwJ9_checkIndex_0 : List UInt8 := [26, 27, 178, 4, 29, 184, 4, 35, 87, 177]
abbrev dktJ9_checkIndex_0 : List UInt8 := dkwJ9_checkIndex_0 ++ []
theorem dksJ9_checkIndex_0 : cJ9_checkIndex.data.toList.drop 0 = dktJ9_checkIndex_0 := by decide +kernel
theorem dJ9_checkIndex_0 : decode cJ9_checkIndex 0 = .ok (.iload_n 0, 1) := dk_26 (dk_at dksJ9_checkIndex_0 0 rfl rfl)
theorem dJ9_checkIndex_1 : decode cJ9_checkIndex 1 = .ok (.iload_n 1, 1) := dk_27 (dk_at dksJ9_checkIndex_0 1 rfl rfl)
theorem dJ9_checkIndex_2 : decode cJ9_checkIndex 2 = .ok (.getstatic 1053, 3) := dk_178 4 29 (dk_at dksJ9_checkIndex_0 2 rfl rfl)
theorem dJ9_checkIndex_5 : decode cJ9_checkIndex 5 = .ok (.invokestatic 1059, 3) := dk_184 4 35 (dk_at dksJ9_checkIndex_0 5 rfl rfl)
theorem dJ9_checkIndex_8 : decode cJ9_checkIndex 8 = .ok (.pop, 1) := dk_87 (dk_at dksJ9_checkIndex_0 8 rfl rfl)
theorem dJ9_checkIndex_9 : decode cJ9_checkIndex 9 = .ok (.return_, 1) := dk_177 (dk_at dksJ9_checkIndex_0 9 rfl rfl)
abbrev cJ7_init : ByteArray := prog_46_method_1_code
theorem dJ7_init_0 : decode cJ7_init 0 = .ok (.aload_n 0, 1) := by decide +kernel
theorem dJ7_init_1 : decode cJ7_init 1 = .ok (.invokespecial 1, 3) := by decide +kernel
theorem dJ7_init_4 : decode cJ7_init 4 = .ok (.return_, 1) := by decide +kernel
abbrev cJ4_getEntryUsingComparator : ByteArray := prog_83_method_16_code
def dkwJ4_getEntryUsingComparator_3 : List UInt8 := [1, 176]
abbrev dktJ4_getEntryUsingComparator_3 : List UInt8 := dkwJ4_getEntryUsingComparator_3 ++ []
def dkwJ4_getEntryUsingComparator_2 : List UInt8 := [167, 0, 21, 21, 5, 158, 0, 13, 25, 4, 180, 0, 114, 58, 4, 167, 0, 6, 25, 4, 176, 167, 255, 204]
abbrev dktJ4_getEntryUsingComparator_2 : List UInt8 := dkwJ4_getEntryUsingComparator_2 ++ dktJ4_getEntryUsingComparator_3
def dkwJ4_getEntryUsingComparator_1 : List UInt8 := [25, 4, 180, 0, 105, 185, 0, 117, 3, 0, 54, 5, 21, 5, 156, 0, 13, 25, 4, 180, 0, 111, 58, 4]
abbrev dktJ4_getEntryUsingComparator_1 : List UInt8 := dkwJ4_getEntryUsingComparator_1 ++ dktJ4_getEntryUsingComparator_2
def dkwJ4_getEntryUsingComparator_0 : List UInt8 := [43, 77, 42, 180, 0, 16, 78, 45, 198, 0, 64, 42, 180, 0, 101, 58, 4, 25, 4, 198, 0, 53, 45, 44]
abbrev dktJ4_getEntryUsingComparator_0 : List UInt8 := dkwJ4_getEntryUsingComparator_0 ++ dktJ4_getEntryUsingComparator_1
theorem dksJ4_getEntryUsingComparator_0 : cJ4_getEntryUsingComparator.data.toList.drop 0 = dktJ4_getEntryUsingComparator_0 := by decide +kernel
theorem dksJ4_getEntryUsingComparator_1 : cJ4_getEntryUsingComparator.data.toList.drop 24 = dktJ4_getEntryUsingComparator_1 := dk_seg dksJ4_getEntryUsingComparator_0 24 rfl rfl
theorem dksJ4_getEntryUsingComparator_2 : cJ4_getEntryUsingComparator.data.toList.drop 48 = dktJ4_getEntryUsingComparator_2 := dk_seg dksJ4_getEntryUsingComparator_1 24 rfl rfl
theorem dksJ4_getEntryUsingComparator_3 : cJ4_getEntryUsingComparator.data.toList.drop 72 = dktJ4_getEntryUsingComparator_3 := dk_seg dksJ4_getEntryUsingComparator_2 24 rfl rfl
theorem dJ4_getEntryUsingComparator_0 : decode cJ4_getEntryUsingComparator 0 = .ok (.aload_n 1, 1) := dk_43 (dk_at dksJ4_getEntryUsingComparator_0 0 rfl rfl)
theorem dJ4_getEntryUsingComparator_1 : decode cJ4_getEntryUsingComparator 1 = .ok (.astore_n 2, 1) := dk_77 (dk_at dksJ4_getEntryUsingComparator_0 1 rfl rfl)
theorem dJ4_getEntryUsingComparator_2 : decode cJ4_getEntryUsingComparator 2 = .ok (.aload_n 0, 1) := dk_42 (dk_at dksJ4_getEntryUsingComparator_0 2 rfl rfl)
theorem dJ4_getEntryUsingComparator_3 : decode cJ4_getEntryUsingComparator 3 = .ok (.getfield 16, 3) := dk_180 0 16 (dk_at dksJ4_getEntryUsingComparator_0 3 rfl rfl)
theorem dJ4_getEntryUsingComparator_6 : decode cJ4_getEntryUsingComparator 6 = .ok (.astore_n 3, 1) := dk_78 (dk_at dksJ4_getEntryUsingComparator_0 6 rfl rfl)
theorem dJ4_getEntryUsingComparator_7 : decode cJ4_getEntryUsingComparator 7 = .ok (.aload_n 3, 1) := dk_45 (dk_at dksJ4_getEntryUsingComparator_0 7 rfl rfl)
theorem dJ4_getEntryUsingComparator_8 : decode cJ4_getEntryUsingComparator 8 = .ok (.ifnull 64, 3) := dk_198 0 64 (dk_at dksJ4_getEntryUsingComparator_0 8 rfl rfl)
theorem dJ4_getEntryUsingComparator_11 : decode cJ4_getEntryUsingComparator 11 = .ok (.aload_n 0, 1) := dk_42 (dk_at dksJ4_getEntryUsingComparator_0 11 rfl rfl)
theorem dJ4_getEntryUsingComparator_12 : decode cJ4_getEntryUsingComparator 12 = .ok (.getfield 101, 3) := dk_180 0 101 (dk_at dksJ4_getEntryUsingComparator_0 12 rfl rfl)
theorem dJ4_getEntryUsingComparator_15 : decode cJ4_getEntryUsingComparator 15 = .ok (.astore 4, 2) := dk_58 4 (dk_at dksJ4_getEntryUsingComparator_0 15 rfl rfl)
theorem dJ4_getEntryUsingComparator_17 : decode cJ4_getEntryUsingComparator 17 = .ok (.aload 4, 2) := dk_25 4 (dk_at dksJ4_getEntryUsingComparator_0 17 rfl rfl)
theorem dJ4_getEntryUsingComparator_19 : decode cJ4_getEntryUsingComparator 19 = .ok (.ifnull 53, 3) := dk_198 0 53 (dk_at dksJ4_getEntryUsingComparator_0 19 rfl rfl)
theorem dJ4_getEntryUsingComparator_22 : decode cJ4_getEntryUsingComparator 22 = .ok (.aload_n 3, 1) := dk_45 (dk_at dksJ4_getEntryUsingComparator_0 22 rfl rfl)
theorem dJ4_getEntryUsingComparator_23 : decode cJ4_getEntryUsingComparator 23 = .ok (.aload_n 2, 1) := dk_44 (dk_at dksJ4_getEntryUsingComparator_0 23 rfl rfl)
theorem dJ4_getEntryUsingComparator_24 : decode cJ4_getEntryUsingComparator 24 = .ok (.aload 4, 2) := dk_25 4 (dk_at dksJ4_getEntryUsingComparator_1 0 rfl rfl)
theorem dJ4_getEntryUsingComparator_26 : decode cJ4_getEntryUsingComparator 26 = .ok (.getfield 105, 3) := dk_180 0 105 (dk_at dksJ4_getEntryUsingComparator_1 2 rfl rfl)
theorem dJ4_getEntryUsingComparator_29 : decode cJ4_getEntryUsingComparator 29 = .ok (.invokeinterface 117 3, 5) := by decide +kernel
theorem dJ4_getEntryUsingComparator_34 : decode cJ4_getEntryUsingComparator 34 = .ok (.istore 5, 2) := dk_54 5 (dk_at dksJ4_getEntryUsingComparator_1 10 rfl rfl)
theorem dJ4_getEntryUsingComparator_36 : decode cJ4_getEntryUsingComparator 36 = .ok (.iload 5, 2) := dk_21 5 (dk_at dksJ4_getEntryUsingComparator_1 12 rfl rfl)
theorem dJ4_getEntryUsingComparator_38 : decode cJ4_getEntryUsingComparator 38 = .ok (.ifCond .ge 13, 3) := dk_156 0 13 (dk_at dksJ4_getEntryUsingComparator_1 14 rfl rfl)
theorem dJ4_getEntryUsingComparator_41 : decode cJ4_getEntryUsingComparator 41 = .ok (.aload 4, 2) := dk_25 4 (dk_at dksJ4_getEntryUsingComparator_1 17 rfl rfl)
theorem dJ4_getEntryUsingComparator_43 : decode cJ4_getEntryUsingComparator 43 = .ok (.getfield 111, 3) := dk_180 0 111 (dk_at dksJ4_getEntryUsingComparator_1 19 rfl rfl)
theorem dJ4_getEntryUsingComparator_46 : decode cJ4_getEntryUsingComparator 46 = .ok (.astore 4, 2) := dk_58 4 (dk_at dksJ4_getEntryUsingComparator_1 22 rfl rfl)
theorem dJ4_getEntryUsingComparator_48 : decode cJ4_getEntryUsingComparator 48 = .ok (.goto 21, 3) := dk_167 0 21 (dk_at dksJ4_getEntryUsingComparator_2 0 rfl rfl)
theorem dJ4_getEntryUsingComparator_51 : decode cJ4_getEntryUsingComparator 51 = .ok (.iload 5, 2) := dk_21 5 (dk_at dksJ4_getEntryUsingComparator_2 3 rfl rfl)
theorem dJ4_getEntryUsingComparator_53 : decode cJ4_getEntryUsingComparator 53 = .ok (.ifCond .le 13, 3) := dk_158 0 13 (dk_at dksJ4_getEntryUsingComparator_2 5 rfl rfl)
theorem dJ4_getEntryUsingComparator_56 : decode cJ4_getEntryUsingComparator 56 = .ok (.aload 4, 2) := dk_25 4 (dk_at dksJ4_getEntryUsingComparator_2 8 rfl rfl)
theorem dJ4_getEntryUsingComparator_58 : decode cJ4_getEntryUsingComparator 58 = .ok (.getfield 114, 3) := dk_180 0 114 (dk_at dksJ4_getEntryUsingComparator_2 10 rfl rfl)
theorem dJ4_getEntryUsingComparator_61 : decode cJ4_getEntryUsingComparator 61 = .ok (.astore 4, 2) := dk_58 4 (dk_at dksJ4_getEntryUsingComparator_2 13 rfl rfl)
theorem dJ4_getEntryUsingComparator_63 : decode cJ4_getEntryUsingComparator 63 = .ok (.goto 6, 3) := dk_167 0 6 (dk_at dksJ4_getEntryUsingComparator_2 15 rfl rfl)
theorem dJ4_getEntryUsingComparator_66 : decode cJ4_getEntryUsingComparator 66 = .ok (.aload 4, 2) := dk_25 4 (dk_at dksJ4_getEntryUsingComparator_2 18 rfl rfl)
theorem dJ4_getEntryUsingComparator_68 : decode cJ4_getEntryUsingComparator 68 = .ok (.areturn, 1) := dk_176 (dk_at dksJ4_getEntryUsingComparator_2 20 rfl rfl)
theorem dJ4_getEntryUsingComparator_69 : decode cJ4_getEntryUsingComparator 69 = .ok (.goto (-52), 3) := dk_167 255 204 (dk_at dksJ4_getEntryUsingComparator_2 21 rfl rfl)
theorem dJ4_getEntryUsingComparator_72 : decode cJ4_getEntryUsingComparator 72 = .ok (.aconst_null, 1) := dk_1 (dk_at dksJ4_getEntryUsingComparator_3 0 rfl rfl)
theorem dJ4_getEntryUsingComparator_73 : decode cJ4_getEntryUsingComparator 73 = .ok (.areturn, 1) := dk_176 (dk_at dksJ4_getEntryUsingComparator_3 1 rfl rfl)
abbrev cJ18_requireNonNull : ByteArray := prog_72_method_10_code
def dkwJ18_requireNonNull_0 : List UInt8 := [42, 199, 0, 11, 187, 0, 84, 89, 183, 0, 86, 191, 42, 176]
abbrev dktJ18_requireNonNull_0 : List UInt8 := dkwJ18_requireNonNull_0 ++ []
theorem dksJ18_requireNonNull_0 : cJ18_requireNonNull.data.toList.drop 0 = dktJ18_requireNonNull_0 := by decide +kernel
theorem dJ18_requireNonNull_0 : decode cJ18_requireNonNull 0 = .ok (.aload_n 0, 1) := dk_42 (dk_at dksJ18_requireNonNull_0 0 rfl rfl)
theorem dJ18_requireNonNull_1 : decode cJ18_requireNonNull 1 = .ok (.ifnonnull 11, 3) := dk_199 0 11 (dk_at dksJ18_requireNonNull_0 1 rfl rfl)
theorem dJ18_requireNonNull_4 : decode cJ18_requireNonNull 4 = .ok (.new 84, 3) := dk_187 0 84 (dk_at dksJ18_requireNonNull_0 4 rfl rfl)
theorem dJ18_requireNonNull_7 : decode cJ18_requireNonNull 7 = .ok (.dup, 1) := dk_89 (dk_at dksJ18_requireNonNull_0 7 rfl rfl)
theorem dJ18_requireNonNull_8 : decode cJ18_requireNonNull 8 = .ok (.invokespecial 86, 3) := dk_183 0 86 (dk_at dksJ18_requireNonNull_0 8 rfl rfl)
theorem dJ18_requireNonNull_11 : decode cJ18_requireNonNull 11 = .ok (.athrow, 1) := dk_191 (dk_at dksJ18_requireNonNull_0 11 rfl rfl)
theorem dJ18_requireNonNull_12 : decode cJ18_requireNonNull 12 = .ok (.aload_n 0, 1) := dk_42 (dk_at dksJ18_requireNonNull_0 12 rfl rfl)
theorem dJ18_requireNonNull_13 : decode cJ18_requireNonNull 13 = .ok (.areturn, 1) := dk_176 (dk_at dksJ18_requireNonNull_0 13 rfl rfl)
abbrev cJ8_compareTo : ByteArray := prog_41_method_63_code
def dkwJ8_compareTo_0 : List UInt8 := [42, 43, 192, 0, 1, 182, 1, 28, 172]
abbrev dktJ8_compareTo_0 : List UInt8 := dkwJ8_compareTo_0 ++ []
theorem dksJ8_compareTo_0 : cJ8_compareTo.data.toList.drop 0 = dktJ8_compareTo_0 := by decide +kernel
theorem dJ8_compareTo_0 : decode cJ8_compareTo 0 = .ok (.aload_n 0, 1) := dk_42 (dk_at dksJ8_compareTo_0 0 rfl rfl)
theorem dJ8_compareTo_1 : decode cJ8_compareTo 1 = .ok (.aload_n 1, 1) := dk_43 (dk_at dksJ8_compareTo_0 1 rfl rfl)
theorem dJ8_compareTo_2 : decode cJ8_compareTo 2 = .ok (.checkcast 1, 3) := dk_192 0 1 (dk_at dksJ8_compareTo_0 2 rfl rfl)
theorem dJ8_compareTo_5 : decode cJ8_compareTo 5 = .ok (.invokevirtual 284, 3) := dk_182 1 28 (dk_at dksJ8_compareTo_0 5 rfl rfl)
theorem dJ8_compareTo_8 : decode cJ8_compareTo 8 = .ok (.ireturn, 1) := dk_172 (dk_at dksJ8_compareTo_0 8 rfl rfl)
abbrev cJ9_compareTo : ByteArray := prog_47_method_162_code
def dkwJ9_compareTo_0 : List UInt8 := [42, 43, 192, 0, 10, 182, 4, 60, 172]
abbrev dktJ9_compareTo_0 : List UInt8 := dkwJ9_compareTo_0 ++ []
theorem dksJ9_compareTo_0 : cJ9_compareTo.data.toList.drop 0 = dktJ9_compareTo_0 := by decide +kernel
theorem dJ9_compareTo_0 : decode cJ9_compareTo 0 = .ok (.aload_n 0, 1) := dk_42 (dk_at dksJ9_compareTo_0 0 rfl rfl)
theorem dJ9_compareTo_1 : decode cJ9_compareTo 1 = .ok (.aload_n 1, 1) := dk_43 (dk_at dksJ9_compareTo_0 1 rfl rfl)
theorem dJ9_compareTo_2 : decode cJ9_compareTo 2 = .ok (.checkcast 10, 3) := dk_192 0 10 (dk_at dksJ9_compareTo_0 2 rfl rfl)
theorem dJ9_compareTo_5 : decode cJ9_compareTo 5 = .ok (.invokevirtual 1084, 3) := dk_182 4 60 (dk_at dksJ9_compareTo_0 5 rfl rfl)
theorem dJ9_compareTo_8 : decode cJ9_compareTo 8 = .ok (.ireturn, 1) := dk_172 (dk_at dksJ9_compareTo_0 8 rfl rfl)
abbrev cJ34_compareTo : ByteArray := prog_48_method_97_code
def dkwJ34_compareTo_0 : List UInt8 := [42, 43, 192, 0, 24, 182, 1, 90, 172]
abbrev dktJ34_compareTo_0 : List UInt8 := dkwJ34_compareTo_0 ++ []
theorem dksJ34_compareTo_0 : cJ34_compareTo.data.toList.drop 0 = dktJ34_compareTo_0 := by decide +kernel
theorem dJ34_compareTo_0 : decode cJ34_compareTo 0 = .ok (.aload_n 0, 1) := dk_42 (dk_at dksJ34_compareTo_0 0 rfl rfl)
theorem dJ34_compareTo_1 : decode cJ34_compareTo 1 = .ok (.aload_n 1, 1) := dk_43 (dk_at dksJ34_compareTo_0 1 rfl rfl)
theorem dJ34_compareTo_2 : decode cJ34_compareTo 2 = .ok (.checkcast 24, 3) := dk_192 0 24 (dk_at dksJ34_compareTo_0 2 rfl rfl)
theorem dJ34_compareTo_5 : decode cJ34_compareTo 5 = .ok (.invokevirtual 346, 3) := dk_182 1 90 (dk_at dksJ34_compareTo_0 5 rfl rfl)
theorem dJ34_compareTo_8 : decode cJ34_compareTo 8 = .ok (.ireturn, 1) := dk_172 (dk_at dksJ34_compareTo_0 8 rfl rfl)
abbrev cJ4_fixAfterDeletion : ByteArray := prog_83_method_85_code
def dkwJ4_fixAfterDeletion_14 : List UInt8 := [182, 1, 58, 42, 180, 0, 101, 76, 167, 254, 170, 43, 4, 184, 1, 51, 177]
abbrev dktJ4_fixAfterDeletion_14 : List UInt8 := dkwJ4_fixAfterDeletion_14 ++ []
def dkwJ4_fixAfterDeletion_13 : List UInt8 := [184, 1, 51, 43, 184, 1, 38, 4, 184, 1, 51, 44, 184, 1, 41, 4, 184, 1, 51, 42, 43, 184, 1, 38]
abbrev dktJ4_fixAfterDeletion_13 : List UInt8 := dkwJ4_fixAfterDeletion_13 ++ dktJ4_fixAfterDeletion_14
def dkwJ4_fixAfterDeletion_12 : List UInt8 := [184, 1, 51, 42, 44, 182, 1, 55, 43, 184, 1, 38, 184, 1, 41, 77, 44, 43, 184, 1, 38, 184, 1, 47]
abbrev dktJ4_fixAfterDeletion_12 : List UInt8 := dkwJ4_fixAfterDeletion_12 ++ dktJ4_fixAfterDeletion_13
def dkwJ4_fixAfterDeletion_11 : List UInt8 := [167, 0, 80, 44, 184, 1, 41, 184, 1, 47, 4, 160, 0, 29, 44, 184, 1, 44, 4, 184, 1, 51, 44, 3]
abbrev dktJ4_fixAfterDeletion_11 : List UInt8 := dkwJ4_fixAfterDeletion_11 ++ dktJ4_fixAfterDeletion_12
def dkwJ4_fixAfterDeletion_10 : List UInt8 := [160, 0, 27, 44, 184, 1, 41, 184, 1, 47, 4, 160, 0, 16, 44, 3, 184, 1, 51, 43, 184, 1, 38, 76]
abbrev dktJ4_fixAfterDeletion_10 : List UInt8 := dkwJ4_fixAfterDeletion_10 ++ dktJ4_fixAfterDeletion_11
def dkwJ4_fixAfterDeletion_9 : List UInt8 := [42, 43, 184, 1, 38, 182, 1, 58, 43, 184, 1, 38, 184, 1, 41, 77, 44, 184, 1, 44, 184, 1, 47, 4]
abbrev dktJ4_fixAfterDeletion_9 : List UInt8 := dkwJ4_fixAfterDeletion_9 ++ dktJ4_fixAfterDeletion_10
def dkwJ4_fixAfterDeletion_8 : List UInt8 := [184, 1, 41, 77, 44, 184, 1, 47, 154, 0, 32, 44, 4, 184, 1, 51, 43, 184, 1, 38, 3, 184, 1, 51]
abbrev dktJ4_fixAfterDeletion_8 : List UInt8 := dkwJ4_fixAfterDeletion_8 ++ dktJ4_fixAfterDeletion_9
def dkwJ4_fixAfterDeletion_7 : List UInt8 := [4, 184, 1, 51, 42, 43, 184, 1, 38, 182, 1, 55, 42, 180, 0, 101, 76, 167, 255, 73, 43, 184, 1, 38]
abbrev dktJ4_fixAfterDeletion_7 : List UInt8 := dkwJ4_fixAfterDeletion_7 ++ dktJ4_fixAfterDeletion_8
def dkwJ4_fixAfterDeletion_6 : List UInt8 := [77, 44, 43, 184, 1, 38, 184, 1, 47, 184, 1, 51, 43, 184, 1, 38, 4, 184, 1, 51, 44, 184, 1, 44]
abbrev dktJ4_fixAfterDeletion_6 : List UInt8 := dkwJ4_fixAfterDeletion_6 ++ dktJ4_fixAfterDeletion_7
def dkwJ4_fixAfterDeletion_5 : List UInt8 := [184, 1, 41, 4, 184, 1, 51, 44, 3, 184, 1, 51, 42, 44, 182, 1, 58, 43, 184, 1, 38, 184, 1, 44]
abbrev dktJ4_fixAfterDeletion_5 : List UInt8 := dkwJ4_fixAfterDeletion_5 ++ dktJ4_fixAfterDeletion_6
def dkwJ4_fixAfterDeletion_4 : List UInt8 := [184, 1, 51, 43, 184, 1, 38, 76, 167, 0, 80, 44, 184, 1, 44, 184, 1, 47, 4, 160, 0, 29, 44]
abbrev dktJ4_fixAfterDeletion_4 : List UInt8 := dkwJ4_fixAfterDeletion_4 ++ dktJ4_fixAfterDeletion_5
def dkwJ4_fixAfterDeletion_3 : List UInt8 := [184, 1, 41, 184, 1, 47, 4, 160, 0, 27, 44, 184, 1, 44, 184, 1, 47, 4, 160, 0, 16, 44, 3]
abbrev dktJ4_fixAfterDeletion_3 : List UInt8 := dkwJ4_fixAfterDeletion_3 ++ dktJ4_fixAfterDeletion_4
def dkwJ4_fixAfterDeletion_2 : List UInt8 := [184, 1, 38, 3, 184, 1, 51, 42, 43, 184, 1, 38, 182, 1, 55, 43, 184, 1, 38, 184, 1, 44, 77, 44]
abbrev dktJ4_fixAfterDeletion_2 : List UInt8 := dkwJ4_fixAfterDeletion_2 ++ dktJ4_fixAfterDeletion_3
def dkwJ4_fixAfterDeletion_1 : List UInt8 := [166, 0, 162, 43, 184, 1, 38, 184, 1, 44, 77, 44, 184, 1, 47, 154, 0, 32, 44, 4, 184, 1, 51, 43]
abbrev dktJ4_fixAfterDeletion_1 : List UInt8 := dkwJ4_fixAfterDeletion_1 ++ dktJ4_fixAfterDeletion_2
def dkwJ4_fixAfterDeletion_0 : List UInt8 := [43, 42, 180, 0, 101, 165, 1, 84, 43, 184, 1, 47, 4, 160, 1, 76, 43, 43, 184, 1, 38, 184, 1, 41]
abbrev dktJ4_fixAfterDeletion_0 : List UInt8 := dkwJ4_fixAfterDeletion_0 ++ dktJ4_fixAfterDeletion_1
theorem dksJ4_fixAfterDeletion_0 : cJ4_fixAfterDeletion.data.toList.drop 0 = dktJ4_fixAfterDeletion_0 := by decide +kernel
theorem dksJ4_fixAfterDeletion_1 : cJ4_fixAfterDeletion.data.toList.drop 24 = dktJ4_fixAfterDeletion_1 := dk_seg dksJ4_fixAfterDeletion_0 24 rfl rfl
theorem dksJ4_fixAfterDeletion_2 : cJ4_fixAfterDeletion.data.toList.drop 48 = dktJ4_fixAfterDeletion_2 := dk_seg dksJ4_fixAfterDeletion_1 24 rfl rfl
theorem dksJ4_fixAfterDeletion_3 : cJ4_fixAfterDeletion.data.toList.drop 72 = dktJ4_fixAfterDeletion_3 := dk_seg dksJ4_fixAfterDeletion_2 24 rfl rfl
theorem dksJ4_fixAfterDeletion_4 : cJ4_fixAfterDeletion.data.toList.drop 95 = dktJ4_fixAfterDeletion_4 := dk_seg dksJ4_fixAfterDeletion_3 23 rfl rfl
theorem dksJ4_fixAfterDeletion_5 : cJ4_fixAfterDeletion.data.toList.drop 118 = dktJ4_fixAfterDeletion_5 := dk_seg dksJ4_fixAfterDeletion_4 23 rfl rfl
theorem dksJ4_fixAfterDeletion_6 : cJ4_fixAfterDeletion.data.toList.drop 142 = dktJ4_fixAfterDeletion_6 := dk_seg dksJ4_fixAfterDeletion_5 24 rfl rfl
theorem dksJ4_fixAfterDeletion_7 : cJ4_fixAfterDeletion.data.toList.drop 166 = dktJ4_fixAfterDeletion_7 := dk_seg dksJ4_fixAfterDeletion_6 24 rfl rfl
theorem dksJ4_fixAfterDeletion_8 : cJ4_fixAfterDeletion.data.toList.drop 190 = dktJ4_fixAfterDeletion_8 := dk_seg dksJ4_fixAfterDeletion_7 24 rfl rfl
theorem dksJ4_fixAfterDeletion_9 : cJ4_fixAfterDeletion.data.toList.drop 214 = dktJ4_fixAfterDeletion_9 := dk_seg dksJ4_fixAfterDeletion_8 24 rfl rfl
theorem dksJ4_fixAfterDeletion_10 : cJ4_fixAfterDeletion.data.toList.drop 238 = dktJ4_fixAfterDeletion_10 := dk_seg dksJ4_fixAfterDeletion_9 24 rfl rfl
theorem dksJ4_fixAfterDeletion_11 : cJ4_fixAfterDeletion.data.toList.drop 262 = dktJ4_fixAfterDeletion_11 := dk_seg dksJ4_fixAfterDeletion_10 24 rfl rfl
theorem dksJ4_fixAfterDeletion_12 : cJ4_fixAfterDeletion.data.toList.drop 286 = dktJ4_fixAfterDeletion_12 := dk_seg dksJ4_fixAfterDeletion_11 24 rfl rfl
theorem dksJ4_fixAfterDeletion_13 : cJ4_fixAfterDeletion.data.toList.drop 310 = dktJ4_fixAfterDeletion_13 := dk_seg dksJ4_fixAfterDeletion_12 24 rfl rfl
theorem dksJ4_fixAfterDeletion_14 : cJ4_fixAfterDeletion.data.toList.drop 334 = dktJ4_fixAfterDeletion_14 := dk_seg dksJ4_fixAfterDeletion_13 24 rfl rfl
theorem dJ4_fixAfterDeletion_0 : decode cJ4_fixAfterDeletion 0 = .ok (.aload_n 1, 1) := dk_43 (dk_at dksJ4_fixAfterDeletion_0 0 rfl rfl)
theorem dJ4_fixAfterDeletion_1 : decode cJ4_fixAfterDeletion 1 = .ok (.aload_n 0, 1) := dk_42 (dk_at dksJ4_fixAfterDeletion_0 1 rfl rfl)
theorem dJ4_fixAfterDeletion_2 : decode cJ4_fixAfterDeletion 2 = .ok (.getfield 101, 3) := dk_180 0 101 (dk_at dksJ4_fixAfterDeletion_0 2 rfl rfl)
theorem dJ4_fixAfterDeletion_5 : decode cJ4_fixAfterDeletion 5 = .ok (.if_acmp .eq 340, 3) := dk_165 1 84 (dk_at dksJ4_fixAfterDeletion_0 5 rfl rfl)
theorem dJ4_fixAfterDeletion_8 : decode cJ4_fixAfterDeletion 8 = .ok (.aload_n 1, 1) := dk_43 (dk_at dksJ4_fixAfterDeletion_0 8 rfl rfl)
theorem dJ4_fixAfterDeletion_9 : decode cJ4_fixAfterDeletion 9 = .ok (.invokestatic 303, 3) := dk_184 1 47 (dk_at dksJ4_fixAfterDeletion_0 9 rfl rfl)
theorem dJ4_fixAfterDeletion_12 : decode cJ4_fixAfterDeletion 12 = .ok (.iconst 1, 1) := dk_4 (dk_at dksJ4_fixAfterDeletion_0 12 rfl rfl)
theorem dJ4_fixAfterDeletion_13 : decode cJ4_fixAfterDeletion 13 = .ok (.if_icmp .ne 332, 3) := dk_160 1 76 (dk_at dksJ4_fixAfterDeletion_0 13 rfl rfl)
theorem dJ4_fixAfterDeletion_16 : decode cJ4_fixAfterDeletion 16 = .ok (.aload_n 1, 1) := dk_43 (dk_at dksJ4_fixAfterDeletion_0 16 rfl rfl)
theorem dJ4_fixAfterDeletion_17 : decode cJ4_fixAfterDeletion 17 = .ok (.aload_n 1, 1) := dk_43 (dk_at dksJ4_fixAfterDeletion_0 17 rfl rfl)
theorem dJ4_fixAfterDeletion_18 : decode cJ4_fixAfterDeletion 18 = .ok (.invokestatic 294, 3) := dk_184 1 38 (dk_at dksJ4_fixAfterDeletion_0 18 rfl rfl)
theorem dJ4_fixAfterDeletion_21 : decode cJ4_fixAfterDeletion 21 = .ok (.invokestatic 297, 3) := dk_184 1 41 (dk_at dksJ4_fixAfterDeletion_0 21 rfl rfl)
theorem dJ4_fixAfterDeletion_24 : decode cJ4_fixAfterDeletion 24 = .ok (.if_acmp .ne 162, 3) := dk_166 0 162 (dk_at dksJ4_fixAfterDeletion_1 0 rfl rfl)
theorem dJ4_fixAfterDeletion_27 : decode cJ4_fixAfterDeletion 27 = .ok (.aload_n 1, 1) := dk_43 (dk_at dksJ4_fixAfterDeletion_1 3 rfl rfl)
theorem dJ4_fixAfterDeletion_28 : decode cJ4_fixAfterDeletion 28 = .ok (.invokestatic 294, 3) := dk_184 1 38 (dk_at dksJ4_fixAfterDeletion_1 4 rfl rfl)
theorem dJ4_fixAfterDeletion_31 : decode cJ4_fixAfterDeletion 31 = .ok (.invokestatic 300, 3) := dk_184 1 44 (dk_at dksJ4_fixAfterDeletion_1 7 rfl rfl)
theorem dJ4_fixAfterDeletion_34 : decode cJ4_fixAfterDeletion 34 = .ok (.astore_n 2, 1) := dk_77 (dk_at dksJ4_fixAfterDeletion_1 10 rfl rfl)
theorem dJ4_fixAfterDeletion_35 : decode cJ4_fixAfterDeletion 35 = .ok (.aload_n 2, 1) := dk_44 (dk_at dksJ4_fixAfterDeletion_1 11 rfl rfl)
theorem dJ4_fixAfterDeletion_36 : decode cJ4_fixAfterDeletion 36 = .ok (.invokestatic 303, 3) := dk_184 1 47 (dk_at dksJ4_fixAfterDeletion_1 12 rfl rfl)
theorem dJ4_fixAfterDeletion_39 : decode cJ4_fixAfterDeletion 39 = .ok (.ifCond .ne 32, 3) := dk_154 0 32 (dk_at dksJ4_fixAfterDeletion_1 15 rfl rfl)
theorem dJ4_fixAfterDeletion_42 : decode cJ4_fixAfterDeletion 42 = .ok (.aload_n 2, 1) := dk_44 (dk_at dksJ4_fixAfterDeletion_1 18 rfl rfl)
theorem dJ4_fixAfterDeletion_43 : decode cJ4_fixAfterDeletion 43 = .ok (.iconst 1, 1) := dk_4 (dk_at dksJ4_fixAfterDeletion_1 19 rfl rfl)
theorem dJ4_fixAfterDeletion_44 : decode cJ4_fixAfterDeletion 44 = .ok (.invokestatic 307, 3) := dk_184 1 51 (dk_at dksJ4_fixAfterDeletion_1 20 rfl rfl)
theorem dJ4_fixAfterDeletion_47 : decode cJ4_fixAfterDeletion 47 = .ok (.aload_n 1, 1) := dk_43 (dk_at dksJ4_fixAfterDeletion_1 23 rfl rfl)
theorem dJ4_fixAfterDeletion_48 : decode cJ4_fixAfterDeletion 48 = .ok (.invokestatic 294, 3) := dk_184 1 38 (dk_at dksJ4_fixAfterDeletion_2 0 rfl rfl)
theorem dJ4_fixAfterDeletion_51 : decode cJ4_fixAfterDeletion 51 = .ok (.iconst 0, 1) := dk_3 (dk_at dksJ4_fixAfterDeletion_2 3 rfl rfl)
theorem dJ4_fixAfterDeletion_52 : decode cJ4_fixAfterDeletion 52 = .ok (.invokestatic 307, 3) := dk_184 1 51 (dk_at dksJ4_fixAfterDeletion_2 4 rfl rfl)
theorem dJ4_fixAfterDeletion_55 : decode cJ4_fixAfterDeletion 55 = .ok (.aload_n 0, 1) := dk_42 (dk_at dksJ4_fixAfterDeletion_2 7 rfl rfl)
theorem dJ4_fixAfterDeletion_56 : decode cJ4_fixAfterDeletion 56 = .ok (.aload_n 1, 1) := dk_43 (dk_at dksJ4_fixAfterDeletion_2 8 rfl rfl)
theorem dJ4_fixAfterDeletion_57 : decode cJ4_fixAfterDeletion 57 = .ok (.invokestatic 294, 3) := dk_184 1 38 (dk_at dksJ4_fixAfterDeletion_2 9 rfl rfl)
theorem dJ4_fixAfterDeletion_60 : decode cJ4_fixAfterDeletion 60 = .ok (.invokevirtual 311, 3) := dk_182 1 55 (dk_at dksJ4_fixAfterDeletion_2 12 rfl rfl)
theorem dJ4_fixAfterDeletion_63 : decode cJ4_fixAfterDeletion 63 = .ok (.aload_n 1, 1) := dk_43 (dk_at dksJ4_fixAfterDeletion_2 15 rfl rfl)
theorem dJ4_fixAfterDeletion_64 : decode cJ4_fixAfterDeletion 64 = .ok (.invokestatic 294, 3) := dk_184 1 38 (dk_at dksJ4_fixAfterDeletion_2 16 rfl rfl)
theorem dJ4_fixAfterDeletion_67 : decode cJ4_fixAfterDeletion 67 = .ok (.invokestatic 300, 3) := dk_184 1 44 (dk_at dksJ4_fixAfterDeletion_2 19 rfl rfl)
theorem dJ4_fixAfterDeletion_70 : decode cJ4_fixAfterDeletion 70 = .ok (.astore_n 2, 1) := dk_77 (dk_at dksJ4_fixAfterDeletion_2 22 rfl rfl)
theorem dJ4_fixAfterDeletion_71 : decode cJ4_fixAfterDeletion 71 = .ok (.aload_n 2, 1) := dk_44 (dk_at dksJ4_fixAfterDeletion_2 23 rfl rfl)
theorem dJ4_fixAfterDeletion_72 : decode cJ4_fixAfterDeletion 72 = .ok (.invokestatic 297, 3) := dk_184 1 41 (dk_at dksJ4_fixAfterDeletion_3 0 rfl rfl)
theorem dJ4_fixAfterDeletion_75 : decode cJ4_fixAfterDeletion 75 = .ok (.invokestatic 303, 3) := dk_184 1 47 (dk_at dksJ4_fixAfterDeletion_3 3 rfl rfl)
theorem dJ4_fixAfterDeletion_78 : decode cJ4_fixAfterDeletion 78 = .ok (.iconst 1, 1) := dk_4 (dk_at dksJ4_fixAfterDeletion_3 6 rfl rfl)
theorem dJ4_fixAfterDeletion_79 : decode cJ4_fixAfterDeletion 79 = .ok (.if_icmp .ne 27, 3) := dk_160 0 27 (dk_at dksJ4_fixAfterDeletion_3 7 rfl rfl)
theorem dJ4_fixAfterDeletion_82 : decode cJ4_fixAfterDeletion 82 = .ok (.aload_n 2, 1) := dk_44 (dk_at dksJ4_fixAfterDeletion_3 10 rfl rfl)
theorem dJ4_fixAfterDeletion_83 : decode cJ4_fixAfterDeletion 83 = .ok (.invokestatic 300, 3) := dk_184 1 44 (dk_at dksJ4_fixAfterDeletion_3 11 rfl rfl)
theorem dJ4_fixAfterDeletion_86 : decode cJ4_fixAfterDeletion 86 = .ok (.invokestatic 303, 3) := dk_184 1 47 (dk_at dksJ4_fixAfterDeletion_3 14 rfl rfl)
theorem dJ4_fixAfterDeletion_89 : decode cJ4_fixAfterDeletion 89 = .ok (.iconst 1, 1) := dk_4 (dk_at dksJ4_fixAfterDeletion_3 17 rfl rfl)
theorem dJ4_fixAfterDeletion_90 : decode cJ4_fixAfterDeletion 90 = .ok (.if_icmp .ne 16, 3) := dk_160 0 16 (dk_at dksJ4_fixAfterDeletion_3 18 rfl rfl)
theorem dJ4_fixAfterDeletion_93 : decode cJ4_fixAfterDeletion 93 = .ok (.aload_n 2, 1) := dk_44 (dk_at dksJ4_fixAfterDeletion_3 21 rfl rfl)
theorem dJ4_fixAfterDeletion_94 : decode cJ4_fixAfterDeletion 94 = .ok (.iconst 0, 1) := dk_3 (dk_at dksJ4_fixAfterDeletion_3 22 rfl rfl)
theorem dJ4_fixAfterDeletion_95 : decode cJ4_fixAfterDeletion 95 = .ok (.invokestatic 307, 3) := dk_184 1 51 (dk_at dksJ4_fixAfterDeletion_4 0 rfl rfl)
theorem dJ4_fixAfterDeletion_98 : decode cJ4_fixAfterDeletion 98 = .ok (.aload_n 1, 1) := dk_43 (dk_at dksJ4_fixAfterDeletion_4 3 rfl rfl)
theorem dJ4_fixAfterDeletion_99 : decode cJ4_fixAfterDeletion 99 = .ok (.invokestatic 294, 3) := dk_184 1 38 (dk_at dksJ4_fixAfterDeletion_4 4 rfl rfl)
theorem dJ4_fixAfterDeletion_102 : decode cJ4_fixAfterDeletion 102 = .ok (.astore_n 1, 1) := dk_76 (dk_at dksJ4_fixAfterDeletion_4 7 rfl rfl)
theorem dJ4_fixAfterDeletion_103 : decode cJ4_fixAfterDeletion 103 = .ok (.goto 80, 3) := dk_167 0 80 (dk_at dksJ4_fixAfterDeletion_4 8 rfl rfl)
theorem dJ4_fixAfterDeletion_106 : decode cJ4_fixAfterDeletion 106 = .ok (.aload_n 2, 1) := dk_44 (dk_at dksJ4_fixAfterDeletion_4 11 rfl rfl)
theorem dJ4_fixAfterDeletion_107 : decode cJ4_fixAfterDeletion 107 = .ok (.invokestatic 300, 3) := dk_184 1 44 (dk_at dksJ4_fixAfterDeletion_4 12 rfl rfl)
theorem dJ4_fixAfterDeletion_110 : decode cJ4_fixAfterDeletion 110 = .ok (.invokestatic 303, 3) := dk_184 1 47 (dk_at dksJ4_fixAfterDeletion_4 15 rfl rfl)
theorem dJ4_fixAfterDeletion_113 : decode cJ4_fixAfterDeletion 113 = .ok (.iconst 1, 1) := dk_4 (dk_at dksJ4_fixAfterDeletion_4 18 rfl rfl)
theorem dJ4_fixAfterDeletion_114 : decode cJ4_fixAfterDeletion 114 = .ok (.if_icmp .ne 29, 3) := dk_160 0 29 (dk_at dksJ4_fixAfterDeletion_4 19 rfl rfl)
theorem dJ4_fixAfterDeletion_117 : decode cJ4_fixAfterDeletion 117 = .ok (.aload_n 2, 1) := dk_44 (dk_at dksJ4_fixAfterDeletion_4 22 rfl rfl)
theorem dJ4_fixAfterDeletion_118 : decode cJ4_fixAfterDeletion 118 = .ok (.invokestatic 297, 3) := dk_184 1 41 (dk_at dksJ4_fixAfterDeletion_5 0 rfl rfl)
theorem dJ4_fixAfterDeletion_121 : decode cJ4_fixAfterDeletion 121 = .ok (.iconst 1, 1) := dk_4 (dk_at dksJ4_fixAfterDeletion_5 3 rfl rfl)
theorem dJ4_fixAfterDeletion_122 : decode cJ4_fixAfterDeletion 122 = .ok (.invokestatic 307, 3) := dk_184 1 51 (dk_at dksJ4_fixAfterDeletion_5 4 rfl rfl)
theorem dJ4_fixAfterDeletion_125 : decode cJ4_fixAfterDeletion 125 = .ok (.aload_n 2, 1) := dk_44 (dk_at dksJ4_fixAfterDeletion_5 7 rfl rfl)
theorem dJ4_fixAfterDeletion_126 : decode cJ4_fixAfterDeletion 126 = .ok (.iconst 0, 1) := dk_3 (dk_at dksJ4_fixAfterDeletion_5 8 rfl rfl)
theorem dJ4_fixAfterDeletion_127 : decode cJ4_fixAfterDeletion 127 = .ok (.invokestatic 307, 3) := dk_184 1 51 (dk_at dksJ4_fixAfterDeletion_5 9 rfl rfl)
theorem dJ4_fixAfterDeletion_130 : decode cJ4_fixAfterDeletion 130 = .ok (.aload_n 0, 1) := dk_42 (dk_at dksJ4_fixAfterDeletion_5 12 rfl rfl)
theorem dJ4_fixAfterDeletion_131 : decode cJ4_fixAfterDeletion 131 = .ok (.aload_n 2, 1) := dk_44 (dk_at dksJ4_fixAfterDeletion_5 13 rfl rfl)
theorem dJ4_fixAfterDeletion_132 : decode cJ4_fixAfterDeletion 132 = .ok (.invokevirtual 314, 3) := dk_182 1 58 (dk_at dksJ4_fixAfterDeletion_5 14 rfl rfl)
theorem dJ4_fixAfterDeletion_135 : decode cJ4_fixAfterDeletion 135 = .ok (.aload_n 1, 1) := dk_43 (dk_at dksJ4_fixAfterDeletion_5 17 rfl rfl)
theorem dJ4_fixAfterDeletion_136 : decode cJ4_fixAfterDeletion 136 = .ok (.invokestatic 294, 3) := dk_184 1 38 (dk_at dksJ4_fixAfterDeletion_5 18 rfl rfl)
theorem dJ4_fixAfterDeletion_139 : decode cJ4_fixAfterDeletion 139 = .ok (.invokestatic 300, 3) := dk_184 1 44 (dk_at dksJ4_fixAfterDeletion_5 21 rfl rfl)
theorem dJ4_fixAfterDeletion_142 : decode cJ4_fixAfterDeletion 142 = .ok (.astore_n 2, 1) := dk_77 (dk_at dksJ4_fixAfterDeletion_6 0 rfl rfl)
theorem dJ4_fixAfterDeletion_143 : decode cJ4_fixAfterDeletion 143 = .ok (.aload_n 2, 1) := dk_44 (dk_at dksJ4_fixAfterDeletion_6 1 rfl rfl)
theorem dJ4_fixAfterDeletion_144 : decode cJ4_fixAfterDeletion 144 = .ok (.aload_n 1, 1) := dk_43 (dk_at dksJ4_fixAfterDeletion_6 2 rfl rfl)
theorem dJ4_fixAfterDeletion_145 : decode cJ4_fixAfterDeletion 145 = .ok (.invokestatic 294, 3) := dk_184 1 38 (dk_at dksJ4_fixAfterDeletion_6 3 rfl rfl)
theorem dJ4_fixAfterDeletion_148 : decode cJ4_fixAfterDeletion 148 = .ok (.invokestatic 303, 3) := dk_184 1 47 (dk_at dksJ4_fixAfterDeletion_6 6 rfl rfl)
theorem dJ4_fixAfterDeletion_151 : decode cJ4_fixAfterDeletion 151 = .ok (.invokestatic 307, 3) := dk_184 1 51 (dk_at dksJ4_fixAfterDeletion_6 9 rfl rfl)
theorem dJ4_fixAfterDeletion_154 : decode cJ4_fixAfterDeletion 154 = .ok (.aload_n 1, 1) := dk_43 (dk_at dksJ4_fixAfterDeletion_6 12 rfl rfl)
theorem dJ4_fixAfterDeletion_155 : decode cJ4_fixAfterDeletion 155 = .ok (.invokestatic 294, 3) := dk_184 1 38 (dk_at dksJ4_fixAfterDeletion_6 13 rfl rfl)
theorem dJ4_fixAfterDeletion_158 : decode cJ4_fixAfterDeletion 158 = .ok (.iconst 1, 1) := dk_4 (dk_at dksJ4_fixAfterDeletion_6 16 rfl rfl)
theorem dJ4_fixAfterDeletion_159 : decode cJ4_fixAfterDeletion 159 = .ok (.invokestatic 307, 3) := dk_184 1 51 (dk_at dksJ4_fixAfterDeletion_6 17 rfl rfl)
theorem dJ4_fixAfterDeletion_162 : decode cJ4_fixAfterDeletion 162 = .ok (.aload_n 2, 1) := dk_44 (dk_at dksJ4_fixAfterDeletion_6 20 rfl rfl)
theorem dJ4_fixAfterDeletion_163 : decode cJ4_fixAfterDeletion 163 = .ok (.invokestatic 300, 3) := dk_184 1 44 (dk_at dksJ4_fixAfterDeletion_6 21 rfl rfl)
theorem dJ4_fixAfterDeletion_166 : decode cJ4_fixAfterDeletion 166 = .ok (.iconst 1, 1) := dk_4 (dk_at dksJ4_fixAfterDeletion_7 0 rfl rfl)
theorem dJ4_fixAfterDeletion_167 : decode cJ4_fixAfterDeletion 167 = .ok (.invokestatic 307, 3) := dk_184 1 51 (dk_at dksJ4_fixAfterDeletion_7 1 rfl rfl)
theorem dJ4_fixAfterDeletion_170 : decode cJ4_fixAfterDeletion 170 = .ok (.aload_n 0, 1) := dk_42 (dk_at dksJ4_fixAfterDeletion_7 4 rfl rfl)
theorem dJ4_fixAfterDeletion_171 : decode cJ4_fixAfterDeletion 171 = .ok (.aload_n 1, 1) := dk_43 (dk_at dksJ4_fixAfterDeletion_7 5 rfl rfl)
theorem dJ4_fixAfterDeletion_172 : decode cJ4_fixAfterDeletion 172 = .ok (.invokestatic 294, 3) := dk_184 1 38 (dk_at dksJ4_fixAfterDeletion_7 6 rfl rfl)
theorem dJ4_fixAfterDeletion_175 : decode cJ4_fixAfterDeletion 175 = .ok (.invokevirtual 311, 3) := dk_182 1 55 (dk_at dksJ4_fixAfterDeletion_7 9 rfl rfl)
theorem dJ4_fixAfterDeletion_178 : decode cJ4_fixAfterDeletion 178 = .ok (.aload_n 0, 1) := dk_42 (dk_at dksJ4_fixAfterDeletion_7 12 rfl rfl)
theorem dJ4_fixAfterDeletion_179 : decode cJ4_fixAfterDeletion 179 = .ok (.getfield 101, 3) := dk_180 0 101 (dk_at dksJ4_fixAfterDeletion_7 13 rfl rfl)
theorem dJ4_fixAfterDeletion_182 : decode cJ4_fixAfterDeletion 182 = .ok (.astore_n 1, 1) := dk_76 (dk_at dksJ4_fixAfterDeletion_7 16 rfl rfl)
theorem dJ4_fixAfterDeletion_183 : decode cJ4_fixAfterDeletion 183 = .ok (.goto (-183), 3) := dk_167 255 73 (dk_at dksJ4_fixAfterDeletion_7 17 rfl rfl)
theorem dJ4_fixAfterDeletion_186 : decode cJ4_fixAfterDeletion 186 = .ok (.aload_n 1, 1) := dk_43 (dk_at dksJ4_fixAfterDeletion_7 20 rfl rfl)
theorem dJ4_fixAfterDeletion_187 : decode cJ4_fixAfterDeletion 187 = .ok (.invokestatic 294, 3) := dk_184 1 38 (dk_at dksJ4_fixAfterDeletion_7 21 rfl rfl)
theorem dJ4_fixAfterDeletion_190 : decode cJ4_fixAfterDeletion 190 = .ok (.invokestatic 297, 3) := dk_184 1 41 (dk_at dksJ4_fixAfterDeletion_8 0 rfl rfl)
theorem dJ4_fixAfterDeletion_193 : decode cJ4_fixAfterDeletion 193 = .ok (.astore_n 2, 1) := dk_77 (dk_at dksJ4_fixAfterDeletion_8 3 rfl rfl)
theorem dJ4_fixAfterDeletion_194 : decode cJ4_fixAfterDeletion 194 = .ok (.aload_n 2, 1) := dk_44 (dk_at dksJ4_fixAfterDeletion_8 4 rfl rfl)
theorem dJ4_fixAfterDeletion_195 : decode cJ4_fixAfterDeletion 195 = .ok (.invokestatic 303, 3) := dk_184 1 47 (dk_at dksJ4_fixAfterDeletion_8 5 rfl rfl)
theorem dJ4_fixAfterDeletion_198 : decode cJ4_fixAfterDeletion 198 = .ok (.ifCond .ne 32, 3) := dk_154 0 32 (dk_at dksJ4_fixAfterDeletion_8 8 rfl rfl)
theorem dJ4_fixAfterDeletion_201 : decode cJ4_fixAfterDeletion 201 = .ok (.aload_n 2, 1) := dk_44 (dk_at dksJ4_fixAfterDeletion_8 11 rfl rfl)
theorem dJ4_fixAfterDeletion_202 : decode cJ4_fixAfterDeletion 202 = .ok (.iconst 1, 1) := dk_4 (dk_at dksJ4_fixAfterDeletion_8 12 rfl rfl)
theorem dJ4_fixAfterDeletion_203 : decode cJ4_fixAfterDeletion 203 = .ok (.invokestatic 307, 3) := dk_184 1 51 (dk_at dksJ4_fixAfterDeletion_8 13 rfl rfl)
theorem dJ4_fixAfterDeletion_206 : decode cJ4_fixAfterDeletion 206 = .ok (.aload_n 1, 1) := dk_43 (dk_at dksJ4_fixAfterDeletion_8 16 rfl rfl)
theorem dJ4_fixAfterDeletion_207 : decode cJ4_fixAfterDeletion 207 = .ok (.invokestatic 294, 3) := dk_184 1 38 (dk_at dksJ4_fixAfterDeletion_8 17 rfl rfl)
theorem dJ4_fixAfterDeletion_210 : decode cJ4_fixAfterDeletion 210 = .ok (.iconst 0, 1) := dk_3 (dk_at dksJ4_fixAfterDeletion_8 20 rfl rfl)
theorem dJ4_fixAfterDeletion_211 : decode cJ4_fixAfterDeletion 211 = .ok (.invokestatic 307, 3) := dk_184 1 51 (dk_at dksJ4_fixAfterDeletion_8 21 rfl rfl)
theorem dJ4_fixAfterDeletion_214 : decode cJ4_fixAfterDeletion 214 = .ok (.aload_n 0, 1) := dk_42 (dk_at dksJ4_fixAfterDeletion_9 0 rfl rfl)
theorem dJ4_fixAfterDeletion_215 : decode cJ4_fixAfterDeletion 215 = .ok (.aload_n 1, 1) := dk_43 (dk_at dksJ4_fixAfterDeletion_9 1 rfl rfl)
theorem dJ4_fixAfterDeletion_216 : decode cJ4_fixAfterDeletion 216 = .ok (.invokestatic 294, 3) := dk_184 1 38 (dk_at dksJ4_fixAfterDeletion_9 2 rfl rfl)
theorem dJ4_fixAfterDeletion_219 : decode cJ4_fixAfterDeletion 219 = .ok (.invokevirtual 314, 3) := dk_182 1 58 (dk_at dksJ4_fixAfterDeletion_9 5 rfl rfl)
theorem dJ4_fixAfterDeletion_222 : decode cJ4_fixAfterDeletion 222 = .ok (.aload_n 1, 1) := dk_43 (dk_at dksJ4_fixAfterDeletion_9 8 rfl rfl)
theorem dJ4_fixAfterDeletion_223 : decode cJ4_fixAfterDeletion 223 = .ok (.invokestatic 294, 3) := dk_184 1 38 (dk_at dksJ4_fixAfterDeletion_9 9 rfl rfl)
theorem dJ4_fixAfterDeletion_226 : decode cJ4_fixAfterDeletion 226 = .ok (.invokestatic 297, 3) := dk_184 1 41 (dk_at dksJ4_fixAfterDeletion_9 12 rfl rfl)
theorem dJ4_fixAfterDeletion_229 : decode cJ4_fixAfterDeletion 229 = .ok (.astore_n 2, 1) := dk_77 (dk_at dksJ4_fixAfterDeletion_9 15 rfl rfl)
theorem dJ4_fixAfterDeletion_230 : decode cJ4_fixAfterDeletion 230 = .ok (.aload_n 2, 1) := dk_44 (dk_at dksJ4_fixAfterDeletion_9 16 rfl rfl)
theorem dJ4_fixAfterDeletion_231 : decode cJ4_fixAfterDeletion 231 = .ok (.invokestatic 300, 3) := dk_184 1 44 (dk_at dksJ4_fixAfterDeletion_9 17 rfl rfl)
theorem dJ4_fixAfterDeletion_234 : decode cJ4_fixAfterDeletion 234 = .ok (.invokestatic 303, 3) := dk_184 1 47 (dk_at dksJ4_fixAfterDeletion_9 20 rfl rfl)
theorem dJ4_fixAfterDeletion_237 : decode cJ4_fixAfterDeletion 237 = .ok (.iconst 1, 1) := dk_4 (dk_at dksJ4_fixAfterDeletion_9 23 rfl rfl)
theorem dJ4_fixAfterDeletion_238 : decode cJ4_fixAfterDeletion 238 = .ok (.if_icmp .ne 27, 3) := dk_160 0 27 (dk_at dksJ4_fixAfterDeletion_10 0 rfl rfl)
theorem dJ4_fixAfterDeletion_241 : decode cJ4_fixAfterDeletion 241 = .ok (.aload_n 2, 1) := dk_44 (dk_at dksJ4_fixAfterDeletion_10 3 rfl rfl)
theorem dJ4_fixAfterDeletion_242 : decode cJ4_fixAfterDeletion 242 = .ok (.invokestatic 297, 3) := dk_184 1 41 (dk_at dksJ4_fixAfterDeletion_10 4 rfl rfl)
theorem dJ4_fixAfterDeletion_245 : decode cJ4_fixAfterDeletion 245 = .ok (.invokestatic 303, 3) := dk_184 1 47 (dk_at dksJ4_fixAfterDeletion_10 7 rfl rfl)
theorem dJ4_fixAfterDeletion_248 : decode cJ4_fixAfterDeletion 248 = .ok (.iconst 1, 1) := dk_4 (dk_at dksJ4_fixAfterDeletion_10 10 rfl rfl)
theorem dJ4_fixAfterDeletion_249 : decode cJ4_fixAfterDeletion 249 = .ok (.if_icmp .ne 16, 3) := dk_160 0 16 (dk_at dksJ4_fixAfterDeletion_10 11 rfl rfl)
theorem dJ4_fixAfterDeletion_252 : decode cJ4_fixAfterDeletion 252 = .ok (.aload_n 2, 1) := dk_44 (dk_at dksJ4_fixAfterDeletion_10 14 rfl rfl)
theorem dJ4_fixAfterDeletion_253 : decode cJ4_fixAfterDeletion 253 = .ok (.iconst 0, 1) := dk_3 (dk_at dksJ4_fixAfterDeletion_10 15 rfl rfl)
theorem dJ4_fixAfterDeletion_254 : decode cJ4_fixAfterDeletion 254 = .ok (.invokestatic 307, 3) := dk_184 1 51 (dk_at dksJ4_fixAfterDeletion_10 16 rfl rfl)
theorem dJ4_fixAfterDeletion_257 : decode cJ4_fixAfterDeletion 257 = .ok (.aload_n 1, 1) := dk_43 (dk_at dksJ4_fixAfterDeletion_10 19 rfl rfl)
theorem dJ4_fixAfterDeletion_258 : decode cJ4_fixAfterDeletion 258 = .ok (.invokestatic 294, 3) := dk_184 1 38 (dk_at dksJ4_fixAfterDeletion_10 20 rfl rfl)
theorem dJ4_fixAfterDeletion_261 : decode cJ4_fixAfterDeletion 261 = .ok (.astore_n 1, 1) := dk_76 (dk_at dksJ4_fixAfterDeletion_10 23 rfl rfl)
theorem dJ4_fixAfterDeletion_262 : decode cJ4_fixAfterDeletion 262 = .ok (.goto 80, 3) := dk_167 0 80 (dk_at dksJ4_fixAfterDeletion_11 0 rfl rfl)
theorem dJ4_fixAfterDeletion_265 : decode cJ4_fixAfterDeletion 265 = .ok (.aload_n 2, 1) := dk_44 (dk_at dksJ4_fixAfterDeletion_11 3 rfl rfl)
theorem dJ4_fixAfterDeletion_266 : decode cJ4_fixAfterDeletion 266 = .ok (.invokestatic 297, 3) := dk_184 1 41 (dk_at dksJ4_fixAfterDeletion_11 4 rfl rfl)
theorem dJ4_fixAfterDeletion_269 : decode cJ4_fixAfterDeletion 269 = .ok (.invokestatic 303, 3) := dk_184 1 47 (dk_at dksJ4_fixAfterDeletion_11 7 rfl rfl)
theorem dJ4_fixAfterDeletion_272 : decode cJ4_fixAfterDeletion 272 = .ok (.iconst 1, 1) := dk_4 (dk_at dksJ4_fixAfterDeletion_11 10 rfl rfl)
theorem dJ4_fixAfterDeletion_273 : decode cJ4_fixAfterDeletion 273 = .ok (.if_icmp .ne 29, 3) := dk_160 0 29 (dk_at dksJ4_fixAfterDeletion_11 11 rfl rfl)
theorem dJ4_fixAfterDeletion_276 : decode cJ4_fixAfterDeletion 276 = .ok (.aload_n 2, 1) := dk_44 (dk_at dksJ4_fixAfterDeletion_11 14 rfl rfl)
theorem dJ4_fixAfterDeletion_277 : decode cJ4_fixAfterDeletion 277 = .ok (.invokestatic 300, 3) := dk_184 1 44 (dk_at dksJ4_fixAfterDeletion_11 15 rfl rfl)
theorem dJ4_fixAfterDeletion_280 : decode cJ4_fixAfterDeletion 280 = .ok (.iconst 1, 1) := dk_4 (dk_at dksJ4_fixAfterDeletion_11 18 rfl rfl)
theorem dJ4_fixAfterDeletion_281 : decode cJ4_fixAfterDeletion 281 = .ok (.invokestatic 307, 3) := dk_184 1 51 (dk_at dksJ4_fixAfterDeletion_11 19 rfl rfl)
theorem dJ4_fixAfterDeletion_284 : decode cJ4_fixAfterDeletion 284 = .ok (.aload_n 2, 1) := dk_44 (dk_at dksJ4_fixAfterDeletion_11 22 rfl rfl)
theorem dJ4_fixAfterDeletion_285 : decode cJ4_fixAfterDeletion 285 = .ok (.iconst 0, 1) := dk_3 (dk_at dksJ4_fixAfterDeletion_11 23 rfl rfl)
theorem dJ4_fixAfterDeletion_286 : decode cJ4_fixAfterDeletion 286 = .ok (.invokestatic 307, 3) := dk_184 1 51 (dk_at dksJ4_fixAfterDeletion_12 0 rfl rfl)
theorem dJ4_fixAfterDeletion_289 : decode cJ4_fixAfterDeletion 289 = .ok (.aload_n 0, 1) := dk_42 (dk_at dksJ4_fixAfterDeletion_12 3 rfl rfl)
theorem dJ4_fixAfterDeletion_290 : decode cJ4_fixAfterDeletion 290 = .ok (.aload_n 2, 1) := dk_44 (dk_at dksJ4_fixAfterDeletion_12 4 rfl rfl)
theorem dJ4_fixAfterDeletion_291 : decode cJ4_fixAfterDeletion 291 = .ok (.invokevirtual 311, 3) := dk_182 1 55 (dk_at dksJ4_fixAfterDeletion_12 5 rfl rfl)
theorem dJ4_fixAfterDeletion_294 : decode cJ4_fixAfterDeletion 294 = .ok (.aload_n 1, 1) := dk_43 (dk_at dksJ4_fixAfterDeletion_12 8 rfl rfl)
theorem dJ4_fixAfterDeletion_295 : decode cJ4_fixAfterDeletion 295 = .ok (.invokestatic 294, 3) := dk_184 1 38 (dk_at dksJ4_fixAfterDeletion_12 9 rfl rfl)
theorem dJ4_fixAfterDeletion_298 : decode cJ4_fixAfterDeletion 298 = .ok (.invokestatic 297, 3) := dk_184 1 41 (dk_at dksJ4_fixAfterDeletion_12 12 rfl rfl)
theorem dJ4_fixAfterDeletion_301 : decode cJ4_fixAfterDeletion 301 = .ok (.astore_n 2, 1) := dk_77 (dk_at dksJ4_fixAfterDeletion_12 15 rfl rfl)
theorem dJ4_fixAfterDeletion_302 : decode cJ4_fixAfterDeletion 302 = .ok (.aload_n 2, 1) := dk_44 (dk_at dksJ4_fixAfterDeletion_12 16 rfl rfl)
theorem dJ4_fixAfterDeletion_303 : decode cJ4_fixAfterDeletion 303 = .ok (.aload_n 1, 1) := dk_43 (dk_at dksJ4_fixAfterDeletion_12 17 rfl rfl)
theorem dJ4_fixAfterDeletion_304 : decode cJ4_fixAfterDeletion 304 = .ok (.invokestatic 294, 3) := dk_184 1 38 (dk_at dksJ4_fixAfterDeletion_12 18 rfl rfl)
theorem dJ4_fixAfterDeletion_307 : decode cJ4_fixAfterDeletion 307 = .ok (.invokestatic 303, 3) := dk_184 1 47 (dk_at dksJ4_fixAfterDeletion_12 21 rfl rfl)
theorem dJ4_fixAfterDeletion_310 : decode cJ4_fixAfterDeletion 310 = .ok (.invokestatic 307, 3) := dk_184 1 51 (dk_at dksJ4_fixAfterDeletion_13 0 rfl rfl)
theorem dJ4_fixAfterDeletion_313 : decode cJ4_fixAfterDeletion 313 = .ok (.aload_n 1, 1) := dk_43 (dk_at dksJ4_fixAfterDeletion_13 3 rfl rfl)
theorem dJ4_fixAfterDeletion_314 : decode cJ4_fixAfterDeletion 314 = .ok (.invokestatic 294, 3) := dk_184 1 38 (dk_at dksJ4_fixAfterDeletion_13 4 rfl rfl)
theorem dJ4_fixAfterDeletion_317 : decode cJ4_fixAfterDeletion 317 = .ok (.iconst 1, 1) := dk_4 (dk_at dksJ4_fixAfterDeletion_13 7 rfl rfl)
theorem dJ4_fixAfterDeletion_318 : decode cJ4_fixAfterDeletion 318 = .ok (.invokestatic 307, 3) := dk_184 1 51 (dk_at dksJ4_fixAfterDeletion_13 8 rfl rfl)
theorem dJ4_fixAfterDeletion_321 : decode cJ4_fixAfterDeletion 321 = .ok (.aload_n 2, 1) := dk_44 (dk_at dksJ4_fixAfterDeletion_13 11 rfl rfl)
theorem dJ4_fixAfterDeletion_322 : decode cJ4_fixAfterDeletion 322 = .ok (.invokestatic 297, 3) := dk_184 1 41 (dk_at dksJ4_fixAfterDeletion_13 12 rfl rfl)
theorem dJ4_fixAfterDeletion_325 : decode cJ4_fixAfterDeletion 325 = .ok (.iconst 1, 1) := dk_4 (dk_at dksJ4_fixAfterDeletion_13 15 rfl rfl)
theorem dJ4_fixAfterDeletion_326 : decode cJ4_fixAfterDeletion 326 = .ok (.invokestatic 307, 3) := dk_184 1 51 (dk_at dksJ4_fixAfterDeletion_13 16 rfl rfl)
theorem dJ4_fixAfterDeletion_329 : decode cJ4_fixAfterDeletion 329 = .ok (.aload_n 0, 1) := dk_42 (dk_at dksJ4_fixAfterDeletion_13 19 rfl rfl)
theorem dJ4_fixAfterDeletion_330 : decode cJ4_fixAfterDeletion 330 = .ok (.aload_n 1, 1) := dk_43 (dk_at dksJ4_fixAfterDeletion_13 20 rfl rfl)
theorem dJ4_fixAfterDeletion_331 : decode cJ4_fixAfterDeletion 331 = .ok (.invokestatic 294, 3) := dk_184 1 38 (dk_at dksJ4_fixAfterDeletion_13 21 rfl rfl)
theorem dJ4_fixAfterDeletion_334 : decode cJ4_fixAfterDeletion 334 = .ok (.invokevirtual 314, 3) := dk_182 1 58 (dk_at dksJ4_fixAfterDeletion_14 0 rfl rfl)
theorem dJ4_fixAfterDeletion_337 : decode cJ4_fixAfterDeletion 337 = .ok (.aload_n 0, 1) := dk_42 (dk_at dksJ4_fixAfterDeletion_14 3 rfl rfl)
theorem dJ4_fixAfterDeletion_338 : decode cJ4_fixAfterDeletion 338 = .ok (.getfield 101, 3) := dk_180 0 101 (dk_at dksJ4_fixAfterDeletion_14 4 rfl rfl)
theorem dJ4_fixAfterDeletion_341 : decode cJ4_fixAfterDeletion 341 = .ok (.astore_n 1, 1) := dk_76 (dk_at dksJ4_fixAfterDeletion_14 7 rfl rfl)
theorem dJ4_fixAfterDeletion_342 : decode cJ4_fixAfterDeletion 342 = .ok (.goto (-342), 3) := dk_167 254 170 (dk_at dksJ4_fixAfterDeletion_14 8 rfl rfl)
theorem dJ4_fixAfterDeletion_345 : decode cJ4_fixAfterDeletion 345 = .ok (.aload_n 1, 1) := dk_43 (dk_at dksJ4_fixAfterDeletion_14 11 rfl rfl)
theorem dJ4_fixAfterDeletion_346 : decode cJ4_fixAfterDeletion 346 = .ok (.iconst 1, 1) := dk_4 (dk_at dksJ4_fixAfterDeletion_14 12 rfl rfl)
theorem dJ4_fixAfterDeletion_347 : decode cJ4_fixAfterDeletion 347 = .ok (.invokestatic 307, 3) := dk_184 1 51 (dk_at dksJ4_fixAfterDeletion_14 13 rfl rfl)
theorem dJ4_fixAfterDeletion_350 : decode cJ4_fixAfterDeletion 350 = .ok (.return_, 1) := dk_177 (dk_at dksJ4_fixAfterDeletion_14 16 rfl rfl)
abbrev cJ6_size : ByteArray := prog_73_method_23_code
theorem dJ6_size_0 : decode cJ6_size 0 = .ok (.aload_n 0, 1) := by decide +kernel
theorem dJ6_size_1 : decode cJ6_size 1 = .ok (.getfield 58, 3) := by decide +kernel
theorem dJ6_size_4 : decode cJ6_size 4 = .ok (.ireturn, 1) := by decide +kernel
abbrev cJ35_size : ByteArray := prog_86_method_5_code
def dkwJ35_size_0 : List UInt8 := [42, 180, 0, 1, 182, 0, 48, 172]
abbrev dktJ35_size_0 : List UInt8 := dkwJ35_size_0 ++ []
theorem dksJ35_size_0 : cJ35_size.data.toList.drop 0 = dktJ35_size_0 := by decide +kernel
theorem dJ35_size_0 : decode cJ35_size 0 = .ok (.aload_n 0, 1) := dk_42 (dk_at dksJ35_size_0 0 rfl rfl)
theorem dJ35_size_1 : decode cJ35_size 1 = .ok (.getfield 1, 3) := dk_180 0 1 (dk_at dksJ35_size_0 1 rfl rfl)
theorem dJ35_size_4 : decode cJ35_size 4 = .ok (.invokevirtual 48, 3) := dk_182 0 48 (dk_at dksJ35_size_0 4 rfl rfl)
theorem dJ35_size_7 : decode cJ35_size 7 = .ok (.ireturn, 1) := dk_172 (dk_at dksJ35_size_0 7 rfl rfl)
abbrev cJ27_size : ByteArray := prog_88_method_4_code
def dkwJ27_size_0 : List UInt8 := [42, 180, 0, 7, 185, 0, 26, 1, 0, 172]
abbrev dktJ27_size_0 : List UInt8 := dkwJ27_size_0 ++ []
theorem dksJ27_size_0 : cJ27_size.data.toList.drop 0 = dktJ27_size_0 := by decide +kernel
theorem dJ27_size_0 : decode cJ27_size 0 = .ok (.aload_n 0, 1) := dk_42 (dk_at dksJ27_size_0 0 rfl rfl)
theorem dJ27_size_1 : decode cJ27_size 1 = .ok (.getfield 7, 3) := dk_180 0 7 (dk_at dksJ27_size_0 1 rfl rfl)
theorem dJ27_size_4 : decode cJ27_size 4 = .ok (.invokeinterface 26 1, 5) := by decide +kernel
theorem dJ27_size_9 : decode cJ27_size 9 = .ok (.ireturn, 1) := dk_172 (dk_at dksJ27_size_0 9 rfl rfl)
abbrev cJ19_size : ByteArray := prog_92_method_3_code
def dkwJ19_size_0 : List UInt8 := [42, 180, 0, 1, 182, 0, 24, 172]
abbrev dktJ19_size_0 : List UInt8 := dkwJ19_size_0 ++ []
theorem dksJ19_size_0 : cJ19_size.data.toList.drop 0 = dktJ19_size_0 := by decide +kernel
theorem dJ19_size_0 : decode cJ19_size 0 = .ok (.aload_n 0, 1) := dk_42 (dk_at dksJ19_size_0 0 rfl rfl)
theorem dJ19_size_1 : decode cJ19_size 1 = .ok (.getfield 1, 3) := dk_180 0 1 (dk_at dksJ19_size_0 1 rfl rfl)
theorem dJ19_size_4 : decode cJ19_size 4 = .ok (.invokevirtual 24, 3) := dk_182 0 24 (dk_at dksJ19_size_0 4 rfl rfl)
theorem dJ19_size_7 : decode cJ19_size 7 = .ok (.ireturn, 1) := dk_172 (dk_at dksJ19_size_0 7 rfl rfl)
abbrev cJ6_siftDownComparable : ByteArray := prog_73_method_31_code
def dkwJ6_siftDownComparable_4 : List UInt8 := [25, 4, 83, 177]
abbrev dktJ6_siftDownComparable_4 : List UInt8 := dkwJ6_siftDownComparable_4 ++ []
def dkwJ6_siftDownComparable_3 : List UInt8 := [185, 0, 146, 2, 0, 157, 0, 6, 167, 0, 14, 44, 26, 25, 7, 83, 21, 6, 59, 167, 255, 176, 44, 26]
abbrev dktJ6_siftDownComparable_3 : List UInt8 := dkwJ6_siftDownComparable_3 ++ dktJ6_siftDownComparable_4
def dkwJ6_siftDownComparable_2 : List UInt8 := [21, 8, 50, 185, 0, 146, 2, 0, 158, 0, 12, 44, 21, 8, 89, 54, 6, 50, 58, 7, 25, 4, 25, 7]
abbrev dktJ6_siftDownComparable_2 : List UInt8 := dkwJ6_siftDownComparable_2 ++ dktJ6_siftDownComparable_3
def dkwJ6_siftDownComparable_1 : List UInt8 := [44, 21, 6, 50, 58, 7, 21, 6, 4, 96, 54, 8, 21, 8, 29, 162, 0, 29, 25, 7, 192, 0, 144, 44]
abbrev dktJ6_siftDownComparable_1 : List UInt8 := dkwJ6_siftDownComparable_1 ++ dktJ6_siftDownComparable_2
def dkwJ6_siftDownComparable_0 : List UInt8 := [43, 192, 0, 144, 58, 4, 29, 4, 124, 54, 5, 26, 21, 5, 162, 0, 80, 26, 4, 120, 4, 96, 54, 6]
abbrev dktJ6_siftDownComparable_0 : List UInt8 := dkwJ6_siftDownComparable_0 ++ dktJ6_siftDownComparable_1
theorem dksJ6_siftDownComparable_0 : cJ6_siftDownComparable.data.toList.drop 0 = dktJ6_siftDownComparable_0 := by decide +kernel
theorem dksJ6_siftDownComparable_1 : cJ6_siftDownComparable.data.toList.drop 24 = dktJ6_siftDownComparable_1 := dk_seg dksJ6_siftDownComparable_0 24 rfl rfl
theorem dksJ6_siftDownComparable_2 : cJ6_siftDownComparable.data.toList.drop 48 = dktJ6_siftDownComparable_2 := dk_seg dksJ6_siftDownComparable_1 24 rfl rfl
theorem dksJ6_siftDownComparable_3 : cJ6_siftDownComparable.data.toList.drop 72 = dktJ6_siftDownComparable_3 := dk_seg dksJ6_siftDownComparable_2 24 rfl rfl
theorem dksJ6_siftDownComparable_4 : cJ6_siftDownComparable.data.toList.drop 96 = dktJ6_siftDownComparable_4 := dk_seg dksJ6_siftDownComparable_3 24 rfl rfl
theorem dJ6_siftDownComparable_0 : decode cJ6_siftDownComparable 0 = .ok (.aload_n 1, 1) := dk_43 (dk_at dksJ6_siftDownComparable_0 0 rfl rfl)
theorem dJ6_siftDownComparable_1 : decode cJ6_siftDownComparable 1 = .ok (.checkcast 144, 3) := dk_192 0 144 (dk_at dksJ6_siftDownComparable_0 1 rfl rfl)
theorem dJ6_siftDownComparable_4 : decode cJ6_siftDownComparable 4 = .ok (.astore 4, 2) := dk_58 4 (dk_at dksJ6_siftDownComparable_0 4 rfl rfl)
theorem dJ6_siftDownComparable_6 : decode cJ6_siftDownComparable 6 = .ok (.iload_n 3, 1) := dk_29 (dk_at dksJ6_siftDownComparable_0 6 rfl rfl)
theorem dJ6_siftDownComparable_7 : decode cJ6_siftDownComparable 7 = .ok (.iconst 1, 1) := dk_4 (dk_at dksJ6_siftDownComparable_0 7 rfl rfl)
theorem dJ6_siftDownComparable_8 : decode cJ6_siftDownComparable 8 = .ok (.iushr, 1) := dk_124 (dk_at dksJ6_siftDownComparable_0 8 rfl rfl)
theorem dJ6_siftDownComparable_9 : decode cJ6_siftDownComparable 9 = .ok (.istore 5, 2) := dk_54 5 (dk_at dksJ6_siftDownComparable_0 9 rfl rfl)
theorem dJ6_siftDownComparable_11 : decode cJ6_siftDownComparable 11 = .ok (.iload_n 0, 1) := dk_26 (dk_at dksJ6_siftDownComparable_0 11 rfl rfl)
theorem dJ6_siftDownComparable_12 : decode cJ6_siftDownComparable 12 = .ok (.iload 5, 2) := dk_21 5 (dk_at dksJ6_siftDownComparable_0 12 rfl rfl)
theorem dJ6_siftDownComparable_14 : decode cJ6_siftDownComparable 14 = .ok (.if_icmp .ge 80, 3) := dk_162 0 80 (dk_at dksJ6_siftDownComparable_0 14 rfl rfl)
theorem dJ6_siftDownComparable_17 : decode cJ6_siftDownComparable 17 = .ok (.iload_n 0, 1) := dk_26 (dk_at dksJ6_siftDownComparable_0 17 rfl rfl)
theorem dJ6_siftDownComparable_18 : decode cJ6_siftDownComparable 18 = .ok (.iconst 1, 1) := dk_4 (dk_at dksJ6_siftDownComparable_0 18 rfl rfl)
theorem dJ6_siftDownComparable_19 : decode cJ6_siftDownComparable 19 = .ok (.ishl, 1) := dk_120 (dk_at dksJ6_siftDownComparable_0 19 rfl rfl)
theorem dJ6_siftDownComparable_20 : decode cJ6_siftDownComparable 20 = .ok (.iconst 1, 1) := dk_4 (dk_at dksJ6_siftDownComparable_0 20 rfl rfl)
theorem dJ6_siftDownComparable_21 : decode cJ6_siftDownComparable 21 = .ok (.iadd, 1) := dk_96 (dk_at dksJ6_siftDownComparable_0 21 rfl rfl)
theorem dJ6_siftDownComparable_22 : decode cJ6_siftDownComparable 22 = .ok (.istore 6, 2) := dk_54 6 (dk_at dksJ6_siftDownComparable_0 22 rfl rfl)
theorem dJ6_siftDownComparable_24 : decode cJ6_siftDownComparable 24 = .ok (.aload_n 2, 1) := dk_44 (dk_at dksJ6_siftDownComparable_1 0 rfl rfl)
theorem dJ6_siftDownComparable_25 : decode cJ6_siftDownComparable 25 = .ok (.iload 6, 2) := dk_21 6 (dk_at dksJ6_siftDownComparable_1 1 rfl rfl)
theorem dJ6_siftDownComparable_27 : decode cJ6_siftDownComparable 27 = .ok (.aaload, 1) := dk_50 (dk_at dksJ6_siftDownComparable_1 3 rfl rfl)
theorem dJ6_siftDownComparable_28 : decode cJ6_siftDownComparable 28 = .ok (.astore 7, 2) := dk_58 7 (dk_at dksJ6_siftDownComparable_1 4 rfl rfl)
theorem dJ6_siftDownComparable_30 : decode cJ6_siftDownComparable 30 = .ok (.iload 6, 2) := dk_21 6 (dk_at dksJ6_siftDownComparable_1 6 rfl rfl)
theorem dJ6_siftDownComparable_32 : decode cJ6_siftDownComparable 32 = .ok (.iconst 1, 1) := dk_4 (dk_at dksJ6_siftDownComparable_1 8 rfl rfl)
theorem dJ6_siftDownComparable_33 : decode cJ6_siftDownComparable 33 = .ok (.iadd, 1) := dk_96 (dk_at dksJ6_siftDownComparable_1 9 rfl rfl)
theorem dJ6_siftDownComparable_34 : decode cJ6_siftDownComparable 34 = .ok (.istore 8, 2) := dk_54 8 (dk_at dksJ6_siftDownComparable_1 10 rfl rfl)
theorem dJ6_siftDownComparable_36 : decode cJ6_siftDownComparable 36 = .ok (.iload 8, 2) := dk_21 8 (dk_at dksJ6_siftDownComparable_1 12 rfl rfl)
theorem dJ6_siftDownComparable_38 : decode cJ6_siftDownComparable 38 = .ok (.iload_n 3, 1) := dk_29 (dk_at dksJ6_siftDownComparable_1 14 rfl rfl)
theorem dJ6_siftDownComparable_39 : decode cJ6_siftDownComparable 39 = .ok (.if_icmp .ge 29, 3) := dk_162 0 29 (dk_at dksJ6_siftDownComparable_1 15 rfl rfl)
theorem dJ6_siftDownComparable_42 : decode cJ6_siftDownComparable 42 = .ok (.aload 7, 2) := dk_25 7 (dk_at dksJ6_siftDownComparable_1 18 rfl rfl)
theorem dJ6_siftDownComparable_44 : decode cJ6_siftDownComparable 44 = .ok (.checkcast 144, 3) := dk_192 0 144 (dk_at dksJ6_siftDownComparable_1 20 rfl rfl)
theorem dJ6_siftDownComparable_47 : decode cJ6_siftDownComparable 47 = .ok (.aload_n 2, 1) := dk_44 (dk_at dksJ6_siftDownComparable_1 23 rfl rfl)
theorem dJ6_siftDownComparable_48 : decode cJ6_siftDownComparable 48 = .ok (.iload 8, 2) := dk_21 8 (dk_at dksJ6_siftDownComparable_2 0 rfl rfl)
theorem dJ6_siftDownComparable_50 : decode cJ6_siftDownComparable 50 = .ok (.aaload, 1) := dk_50 (dk_at dksJ6_siftDownComparable_2 2 rfl rfl)
theorem dJ6_siftDownComparable_51 : decode cJ6_siftDownComparable 51 = .ok (.invokeinterface 146 2, 5) := by decide +kernel
theorem dJ6_siftDownComparable_56 : decode cJ6_siftDownComparable 56 = .ok (.ifCond .le 12, 3) := dk_158 0 12 (dk_at dksJ6_siftDownComparable_2 8 rfl rfl)
theorem dJ6_siftDownComparable_59 : decode cJ6_siftDownComparable 59 = .ok (.aload_n 2, 1) := dk_44 (dk_at dksJ6_siftDownComparable_2 11 rfl rfl)
theorem dJ6_siftDownComparable_60 : decode cJ6_siftDownComparable 60 = .ok (.iload 8, 2) := dk_21 8 (dk_at dksJ6_siftDownComparable_2 12 rfl rfl)
theorem dJ6_siftDownComparable_62 : decode cJ6_siftDownComparable 62 = .ok (.dup, 1) := dk_89 (dk_at dksJ6_siftDownComparable_2 14 rfl rfl)
theorem dJ6_siftDownComparable_63 : decode cJ6_siftDownComparable 63 = .ok (.istore 6, 2) := dk_54 6 (dk_at dksJ6_siftDownComparable_2 15 rfl rfl)
theorem dJ6_siftDownComparable_65 : decode cJ6_siftDownComparable 65 = .ok (.aaload, 1) := dk_50 (dk_at dksJ6_siftDownComparable_2 17 rfl rfl)
theorem dJ6_siftDownComparable_66 : decode cJ6_siftDownComparable 66 = .ok (.astore 7, 2) := dk_58 7 (dk_at dksJ6_siftDownComparable_2 18 rfl rfl)
theorem dJ6_siftDownComparable_68 : decode cJ6_siftDownComparable 68 = .ok (.aload 4, 2) := dk_25 4 (dk_at dksJ6_siftDownComparable_2 20 rfl rfl)
theorem dJ6_siftDownComparable_70 : decode cJ6_siftDownComparable 70 = .ok (.aload 7, 2) := dk_25 7 (dk_at dksJ6_siftDownComparable_2 22 rfl rfl)
theorem dJ6_siftDownComparable_72 : decode cJ6_siftDownComparable 72 = .ok (.invokeinterface 146 2, 5) := by decide +kernel
theorem dJ6_siftDownComparable_77 : decode cJ6_siftDownComparable 77 = .ok (.ifCond .gt 6, 3) := dk_157 0 6 (dk_at dksJ6_siftDownComparable_3 5 rfl rfl)
theorem dJ6_siftDownComparable_80 : decode cJ6_siftDownComparable 80 = .ok (.goto 14, 3) := dk_167 0 14 (dk_at dksJ6_siftDownComparable_3 8 rfl rfl)
theorem dJ6_siftDownComparable_83 : decode cJ6_siftDownComparable 83 = .ok (.aload_n 2, 1) := dk_44 (dk_at dksJ6_siftDownComparable_3 11 rfl rfl)
theorem dJ6_siftDownComparable_84 : decode cJ6_siftDownComparable 84 = .ok (.iload_n 0, 1) := dk_26 (dk_at dksJ6_siftDownComparable_3 12 rfl rfl)
theorem dJ6_siftDownComparable_85 : decode cJ6_siftDownComparable 85 = .ok (.aload 7, 2) := dk_25 7 (dk_at dksJ6_siftDownComparable_3 13 rfl rfl)
theorem dJ6_siftDownComparable_87 : decode cJ6_siftDownComparable 87 = .ok (.aastore, 1) := dk_83 (dk_at dksJ6_siftDownComparable_3 15 rfl rfl)
theorem dJ6_siftDownComparable_88 : decode cJ6_siftDownComparable 88 = .ok (.iload 6, 2) := dk_21 6 (dk_at dksJ6_siftDownComparable_3 16 rfl rfl)
theorem dJ6_siftDownComparable_90 : decode cJ6_siftDownComparable 90 = .ok (.istore_n 0, 1) := dk_59 (dk_at dksJ6_siftDownComparable_3 18 rfl rfl)
theorem dJ6_siftDownComparable_91 : decode cJ6_siftDownComparable 91 = .ok (.goto (-80), 3) := dk_167 255 176 (dk_at dksJ6_siftDownComparable_3 19 rfl rfl)
theorem dJ6_siftDownComparable_94 : decode cJ6_siftDownComparable 94 = .ok (.aload_n 2, 1) := dk_44 (dk_at dksJ6_siftDownComparable_3 22 rfl rfl)
theorem dJ6_siftDownComparable_95 : decode cJ6_siftDownComparable 95 = .ok (.iload_n 0, 1) := dk_26 (dk_at dksJ6_siftDownComparable_3 23 rfl rfl)
theorem dJ6_siftDownComparable_96 : decode cJ6_siftDownComparable 96 = .ok (.aload 4, 2) := dk_25 4 (dk_at dksJ6_siftDownComparable_4 0 rfl rfl)
theorem dJ6_siftDownComparable_98 : decode cJ6_siftDownComparable 98 = .ok (.aastore, 1) := dk_83 (dk_at dksJ6_siftDownComparable_4 2 rfl rfl)
theorem dJ6_siftDownComparable_99 : decode cJ6_siftDownComparable 99 = .ok (.return_, 1) := dk_177 (dk_at dksJ6_siftDownComparable_4 3 rfl rfl)
abbrev cJ6_siftDownUsingComparator : ByteArray := prog_73_method_32_code
def dkwJ6_siftDownUsingComparator_4 : List UInt8 := [43, 83, 177]
abbrev dktJ6_siftDownUsingComparator_4 : List UInt8 := dkwJ6_siftDownUsingComparator_4 ++ []
def dkwJ6_siftDownUsingComparator_3 : List UInt8 := [185, 0, 149, 3, 0, 157, 0, 6, 167, 0, 14, 44, 26, 25, 7, 83, 21, 6, 59, 167, 255, 176, 44, 26]
abbrev dktJ6_siftDownUsingComparator_3 : List UInt8 := dkwJ6_siftDownUsingComparator_3 ++ dktJ6_siftDownUsingComparator_4
def dkwJ6_siftDownUsingComparator_2 : List UInt8 := [185, 0, 149, 3, 0, 158, 0, 12, 44, 21, 8, 89, 54, 6, 50, 58, 7, 25, 4, 43, 25, 7]
abbrev dktJ6_siftDownUsingComparator_2 : List UInt8 := dkwJ6_siftDownUsingComparator_2 ++ dktJ6_siftDownUsingComparator_3
def dkwJ6_siftDownUsingComparator_1 : List UInt8 := [21, 6, 4, 96, 54, 8, 21, 8, 29, 162, 0, 28, 25, 4, 25, 7, 44, 21, 8, 50]
abbrev dktJ6_siftDownUsingComparator_1 : List UInt8 := dkwJ6_siftDownUsingComparator_1 ++ dktJ6_siftDownUsingComparator_2
def dkwJ6_siftDownUsingComparator_0 : List UInt8 := [29, 4, 124, 54, 5, 26, 21, 5, 162, 0, 80, 26, 4, 120, 4, 96, 54, 6, 44, 21, 6, 50, 58, 7]
abbrev dktJ6_siftDownUsingComparator_0 : List UInt8 := dkwJ6_siftDownUsingComparator_0 ++ dktJ6_siftDownUsingComparator_1
theorem dksJ6_siftDownUsingComparator_0 : cJ6_siftDownUsingComparator.data.toList.drop 0 = dktJ6_siftDownUsingComparator_0 := by decide +kernel
theorem dksJ6_siftDownUsingComparator_1 : cJ6_siftDownUsingComparator.data.toList.drop 24 = dktJ6_siftDownUsingComparator_1 := dk_seg dksJ6_siftDownUsingComparator_0 24 rfl rfl
theorem dksJ6_siftDownUsingComparator_2 : cJ6_siftDownUsingComparator.data.toList.drop 44 = dktJ6_siftDownUsingComparator_2 := dk_seg dksJ6_siftDownUsingComparator_1 20 rfl rfl
theorem dksJ6_siftDownUsingComparator_3 : cJ6_siftDownUsingComparator.data.toList.drop 66 = dktJ6_siftDownUsingComparator_3 := dk_seg dksJ6_siftDownUsingComparator_2 22 rfl rfl
theorem dksJ6_siftDownUsingComparator_4 : cJ6_siftDownUsingComparator.data.toList.drop 90 = dktJ6_siftDownUsingComparator_4 := dk_seg dksJ6_siftDownUsingComparator_3 24 rfl rfl
theorem dJ6_siftDownUsingComparator_0 : decode cJ6_siftDownUsingComparator 0 = .ok (.iload_n 3, 1) := dk_29 (dk_at dksJ6_siftDownUsingComparator_0 0 rfl rfl)
theorem dJ6_siftDownUsingComparator_1 : decode cJ6_siftDownUsingComparator 1 = .ok (.iconst 1, 1) := dk_4 (dk_at dksJ6_siftDownUsingComparator_0 1 rfl rfl)
theorem dJ6_siftDownUsingComparator_2 : decode cJ6_siftDownUsingComparator 2 = .ok (.iushr, 1) := dk_124 (dk_at dksJ6_siftDownUsingComparator_0 2 rfl rfl)
theorem dJ6_siftDownUsingComparator_3 : decode cJ6_siftDownUsingComparator 3 = .ok (.istore 5, 2) := dk_54 5 (dk_at dksJ6_siftDownUsingComparator_0 3 rfl rfl)
theorem dJ6_siftDownUsingComparator_5 : decode cJ6_siftDownUsingComparator 5 = .ok (.iload_n 0, 1) := dk_26 (dk_at dksJ6_siftDownUsingComparator_0 5 rfl rfl)
theorem dJ6_siftDownUsingComparator_6 : decode cJ6_siftDownUsingComparator 6 = .ok (.iload 5, 2) := dk_21 5 (dk_at dksJ6_siftDownUsingComparator_0 6 rfl rfl)
theorem dJ6_siftDownUsingComparator_8 : decode cJ6_siftDownUsingComparator 8 = .ok (.if_icmp .ge 80, 3) := dk_162 0 80 (dk_at dksJ6_siftDownUsingComparator_0 8 rfl rfl)
theorem dJ6_siftDownUsingComparator_11 : decode cJ6_siftDownUsingComparator 11 = .ok (.iload_n 0, 1) := dk_26 (dk_at dksJ6_siftDownUsingComparator_0 11 rfl rfl)
theorem dJ6_siftDownUsingComparator_12 : decode cJ6_siftDownUsingComparator 12 = .ok (.iconst 1, 1) := dk_4 (dk_at dksJ6_siftDownUsingComparator_0 12 rfl rfl)
theorem dJ6_siftDownUsingComparator_13 : decode cJ6_siftDownUsingComparator 13 = .ok (.ishl, 1) := dk_120 (dk_at dksJ6_siftDownUsingComparator_0 13 rfl rfl)
theorem dJ6_siftDownUsingComparator_14 : decode cJ6_siftDownUsingComparator 14 = .ok (.iconst 1, 1) := dk_4 (dk_at dksJ6_siftDownUsingComparator_0 14 rfl rfl)
theorem dJ6_siftDownUsingComparator_15 : decode cJ6_siftDownUsingComparator 15 = .ok (.iadd, 1) := dk_96 (dk_at dksJ6_siftDownUsingComparator_0 15 rfl rfl)
theorem dJ6_siftDownUsingComparator_16 : decode cJ6_siftDownUsingComparator 16 = .ok (.istore 6, 2) := dk_54 6 (dk_at dksJ6_siftDownUsingComparator_0 16 rfl rfl)
theorem dJ6_siftDownUsingComparator_18 : decode cJ6_siftDownUsingComparator 18 = .ok (.aload_n 2, 1) := dk_44 (dk_at dksJ6_siftDownUsingComparator_0 18 rfl rfl)
theorem dJ6_siftDownUsingComparator_19 : decode cJ6_siftDownUsingComparator 19 = .ok (.iload 6, 2) := dk_21 6 (dk_at dksJ6_siftDownUsingComparator_0 19 rfl rfl)
theorem dJ6_siftDownUsingComparator_21 : decode cJ6_siftDownUsingComparator 21 = .ok (.aaload, 1) := dk_50 (dk_at dksJ6_siftDownUsingComparator_0 21 rfl rfl)
theorem dJ6_siftDownUsingComparator_22 : decode cJ6_siftDownUsingComparator 22 = .ok (.astore 7, 2) := dk_58 7 (dk_at dksJ6_siftDownUsingComparator_0 22 rfl rfl)
theorem dJ6_siftDownUsingComparator_24 : decode cJ6_siftDownUsingComparator 24 = .ok (.iload 6, 2) := dk_21 6 (dk_at dksJ6_siftDownUsingComparator_1 0 rfl rfl)
theorem dJ6_siftDownUsingComparator_26 : decode cJ6_siftDownUsingComparator 26 = .ok (.iconst 1, 1) := dk_4 (dk_at dksJ6_siftDownUsingComparator_1 2 rfl rfl)
theorem dJ6_siftDownUsingComparator_27 : decode cJ6_siftDownUsingComparator 27 = .ok (.iadd, 1) := dk_96 (dk_at dksJ6_siftDownUsingComparator_1 3 rfl rfl)
theorem dJ6_siftDownUsingComparator_28 : decode cJ6_siftDownUsingComparator 28 = .ok (.istore 8, 2) := dk_54 8 (dk_at dksJ6_siftDownUsingComparator_1 4 rfl rfl)
theorem dJ6_siftDownUsingComparator_30 : decode cJ6_siftDownUsingComparator 30 = .ok (.iload 8, 2) := dk_21 8 (dk_at dksJ6_siftDownUsingComparator_1 6 rfl rfl)
theorem dJ6_siftDownUsingComparator_32 : decode cJ6_siftDownUsingComparator 32 = .ok (.iload_n 3, 1) := dk_29 (dk_at dksJ6_siftDownUsingComparator_1 8 rfl rfl)
theorem dJ6_siftDownUsingComparator_33 : decode cJ6_siftDownUsingComparator 33 = .ok (.if_icmp .ge 28, 3) := dk_162 0 28 (dk_at dksJ6_siftDownUsingComparator_1 9 rfl rfl)
theorem dJ6_siftDownUsingComparator_36 : decode cJ6_siftDownUsingComparator 36 = .ok (.aload 4, 2) := dk_25 4 (dk_at dksJ6_siftDownUsingComparator_1 12 rfl rfl)
theorem dJ6_siftDownUsingComparator_38 : decode cJ6_siftDownUsingComparator 38 = .ok (.aload 7, 2) := dk_25 7 (dk_at dksJ6_siftDownUsingComparator_1 14 rfl rfl)
theorem dJ6_siftDownUsingComparator_40 : decode cJ6_siftDownUsingComparator 40 = .ok (.aload_n 2, 1) := dk_44 (dk_at dksJ6_siftDownUsingComparator_1 16 rfl rfl)
theorem dJ6_siftDownUsingComparator_41 : decode cJ6_siftDownUsingComparator 41 = .ok (.iload 8, 2) := dk_21 8 (dk_at dksJ6_siftDownUsingComparator_1 17 rfl rfl)
theorem dJ6_siftDownUsingComparator_43 : decode cJ6_siftDownUsingComparator 43 = .ok (.aaload, 1) := dk_50 (dk_at dksJ6_siftDownUsingComparator_1 19 rfl rfl)
theorem dJ6_siftDownUsingComparator_44 : decode cJ6_siftDownUsingComparator 44 = .ok (.invokeinterface 149 3, 5) := by decide +kernel
theorem dJ6_siftDownUsingComparator_49 : decode cJ6_siftDownUsingComparator 49 = .ok (.ifCond .le 12, 3) := dk_158 0 12 (dk_at dksJ6_siftDownUsingComparator_2 5 rfl rfl)
theorem dJ6_siftDownUsingComparator_52 : decode cJ6_siftDownUsingComparator 52 = .ok (.aload_n 2, 1) := dk_44 (dk_at dksJ6_siftDownUsingComparator_2 8 rfl rfl)
theorem dJ6_siftDownUsingComparator_53 : decode cJ6_siftDownUsingComparator 53 = .ok (.iload 8, 2) := dk_21 8 (dk_at dksJ6_siftDownUsingComparator_2 9 rfl rfl)
theorem dJ6_siftDownUsingComparator_55 : decode cJ6_siftDownUsingComparator 55 = .ok (.dup, 1) := dk_89 (dk_at dksJ6_siftDownUsingComparator_2 11 rfl rfl)
theorem dJ6_siftDownUsingComparator_56 : decode cJ6_siftDownUsingComparator 56 = .ok (.istore 6, 2) := dk_54 6 (dk_at dksJ6_siftDownUsingComparator_2 12 rfl rfl)
theorem dJ6_siftDownUsingComparator_58 : decode cJ6_siftDownUsingComparator 58 = .ok (.aaload, 1) := dk_50 (dk_at dksJ6_siftDownUsingComparator_2 14 rfl rfl)
theorem dJ6_siftDownUsingComparator_59 : decode cJ6_siftDownUsingComparator 59 = .ok (.astore 7, 2) := dk_58 7 (dk_at dksJ6_siftDownUsingComparator_2 15 rfl rfl)
theorem dJ6_siftDownUsingComparator_61 : decode cJ6_siftDownUsingComparator 61 = .ok (.aload 4, 2) := dk_25 4 (dk_at dksJ6_siftDownUsingComparator_2 17 rfl rfl)
theorem dJ6_siftDownUsingComparator_63 : decode cJ6_siftDownUsingComparator 63 = .ok (.aload_n 1, 1) := dk_43 (dk_at dksJ6_siftDownUsingComparator_2 19 rfl rfl)
theorem dJ6_siftDownUsingComparator_64 : decode cJ6_siftDownUsingComparator 64 = .ok (.aload 7, 2) := dk_25 7 (dk_at dksJ6_siftDownUsingComparator_2 20 rfl rfl)
theorem dJ6_siftDownUsingComparator_66 : decode cJ6_siftDownUsingComparator 66 = .ok (.invokeinterface 149 3, 5) := by decide +kernel
theorem dJ6_siftDownUsingComparator_71 : decode cJ6_siftDownUsingComparator 71 = .ok (.ifCond .gt 6, 3) := dk_157 0 6 (dk_at dksJ6_siftDownUsingComparator_3 5 rfl rfl)
theorem dJ6_siftDownUsingComparator_74 : decode cJ6_siftDownUsingComparator 74 = .ok (.goto 14, 3) := dk_167 0 14 (dk_at dksJ6_siftDownUsingComparator_3 8 rfl rfl)
theorem dJ6_siftDownUsingComparator_77 : decode cJ6_siftDownUsingComparator 77 = .ok (.aload_n 2, 1) := dk_44 (dk_at dksJ6_siftDownUsingComparator_3 11 rfl rfl)
theorem dJ6_siftDownUsingComparator_78 : decode cJ6_siftDownUsingComparator 78 = .ok (.iload_n 0, 1) := dk_26 (dk_at dksJ6_siftDownUsingComparator_3 12 rfl rfl)
theorem dJ6_siftDownUsingComparator_79 : decode cJ6_siftDownUsingComparator 79 = .ok (.aload 7, 2) := dk_25 7 (dk_at dksJ6_siftDownUsingComparator_3 13 rfl rfl)
theorem dJ6_siftDownUsingComparator_81 : decode cJ6_siftDownUsingComparator 81 = .ok (.aastore, 1) := dk_83 (dk_at dksJ6_siftDownUsingComparator_3 15 rfl rfl)
theorem dJ6_siftDownUsingComparator_82 : decode cJ6_siftDownUsingComparator 82 = .ok (.iload 6, 2) := dk_21 6 (dk_at dksJ6_siftDownUsingComparator_3 16 rfl rfl)
theorem dJ6_siftDownUsingComparator_84 : decode cJ6_siftDownUsingComparator 84 = .ok (.istore_n 0, 1) := dk_59 (dk_at dksJ6_siftDownUsingComparator_3 18 rfl rfl)
theorem dJ6_siftDownUsingComparator_85 : decode cJ6_siftDownUsingComparator 85 = .ok (.goto (-80), 3) := dk_167 255 176 (dk_at dksJ6_siftDownUsingComparator_3 19 rfl rfl)
theorem dJ6_siftDownUsingComparator_88 : decode cJ6_siftDownUsingComparator 88 = .ok (.aload_n 2, 1) := dk_44 (dk_at dksJ6_siftDownUsingComparator_3 22 rfl rfl)
theorem dJ6_siftDownUsingComparator_89 : decode cJ6_siftDownUsingComparator 89 = .ok (.iload_n 0, 1) := dk_26 (dk_at dksJ6_siftDownUsingComparator_3 23 rfl rfl)
theorem dJ6_siftDownUsingComparator_90 : decode cJ6_siftDownUsingComparator 90 = .ok (.aload_n 1, 1) := dk_43 (dk_at dksJ6_siftDownUsingComparator_4 0 rfl rfl)
theorem dJ6_siftDownUsingComparator_91 : decode cJ6_siftDownUsingComparator 91 = .ok (.aastore, 1) := dk_83 (dk_at dksJ6_siftDownUsingComparator_4 1 rfl rfl)
theorem dJ6_siftDownUsingComparator_92 : decode cJ6_siftDownUsingComparator 92 = .ok (.return_, 1) := dk_177 (dk_at dksJ6_siftDownUsingComparator_4 2 rfl rfl)
abbrev cJ3_isEmpty : ByteArray := prog_57_method_3_code
def dkwJ3_isEmpty_0 : List UInt8 := [42, 182, 0, 19, 154, 0, 7, 4, 167, 0, 4, 3, 172]
abbrev dktJ3_isEmpty_0 : List UInt8 := dkwJ3_isEmpty_0 ++ []
theorem dksJ3_isEmpty_0 : cJ3_isEmpty.data.toList.drop 0 = dktJ3_isEmpty_0 := by decide +kernel
theorem dJ3_isEmpty_0 : decode cJ3_isEmpty 0 = .ok (.aload_n 0, 1) := dk_42 (dk_at dksJ3_isEmpty_0 0 rfl rfl)
theorem dJ3_isEmpty_1 : decode cJ3_isEmpty 1 = .ok (.invokevirtual 19, 3) := dk_182 0 19 (dk_at dksJ3_isEmpty_0 1 rfl rfl)
theorem dJ3_isEmpty_4 : decode cJ3_isEmpty 4 = .ok (.ifCond .ne 7, 3) := dk_154 0 7 (dk_at dksJ3_isEmpty_0 4 rfl rfl)
theorem dJ3_isEmpty_7 : decode cJ3_isEmpty 7 = .ok (.iconst 1, 1) := dk_4 (dk_at dksJ3_isEmpty_0 7 rfl rfl)
theorem dJ3_isEmpty_8 : decode cJ3_isEmpty 8 = .ok (.goto 4, 3) := dk_167 0 4 (dk_at dksJ3_isEmpty_0 8 rfl rfl)
theorem dJ3_isEmpty_11 : decode cJ3_isEmpty 11 = .ok (.iconst 0, 1) := dk_3 (dk_at dksJ3_isEmpty_0 11 rfl rfl)
theorem dJ3_isEmpty_12 : decode cJ3_isEmpty 12 = .ok (.ireturn, 1) := dk_172 (dk_at dksJ3_isEmpty_0 12 rfl rfl)
abbrev cJ4_clear : ByteArray := prog_83_method_35_code
def dkwJ4_clear_0 : List UInt8 := [42, 89, 180, 0, 13, 4, 96, 181, 0, 13, 42, 3, 181, 0, 7, 42, 1, 181, 0, 101, 177]
abbrev dktJ4_clear_0 : List UInt8 := dkwJ4_clear_0 ++ []
theorem dksJ4_clear_0 : cJ4_clear.data.toList.drop 0 = dktJ4_clear_0 := by decide +kernel
theorem dJ4_clear_0 : decode cJ4_clear 0 = .ok (.aload_n 0, 1) := dk_42 (dk_at dksJ4_clear_0 0 rfl rfl)
theorem dJ4_clear_1 : decode cJ4_clear 1 = .ok (.dup, 1) := dk_89 (dk_at dksJ4_clear_0 1 rfl rfl)
theorem dJ4_clear_2 : decode cJ4_clear 2 = .ok (.getfield 13, 3) := dk_180 0 13 (dk_at dksJ4_clear_0 2 rfl rfl)
theorem dJ4_clear_5 : decode cJ4_clear 5 = .ok (.iconst 1, 1) := dk_4 (dk_at dksJ4_clear_0 5 rfl rfl)
theorem dJ4_clear_6 : decode cJ4_clear 6 = .ok (.iadd, 1) := dk_96 (dk_at dksJ4_clear_0 6 rfl rfl)
theorem dJ4_clear_7 : decode cJ4_clear 7 = .ok (.putfield 13, 3) := dk_181 0 13 (dk_at dksJ4_clear_0 7 rfl rfl)
theorem dJ4_clear_10 : decode cJ4_clear 10 = .ok (.aload_n 0, 1) := dk_42 (dk_at dksJ4_clear_0 10 rfl rfl)
theorem dJ4_clear_11 : decode cJ4_clear 11 = .ok (.iconst 0, 1) := dk_3 (dk_at dksJ4_clear_0 11 rfl rfl)
theorem dJ4_clear_12 : decode cJ4_clear 12 = .ok (.putfield 7, 3) := dk_181 0 7 (dk_at dksJ4_clear_0 12 rfl rfl)
theorem dJ4_clear_15 : decode cJ4_clear 15 = .ok (.aload_n 0, 1) := dk_42 (dk_at dksJ4_clear_0 15 rfl rfl)
theorem dJ4_clear_16 : decode cJ4_clear 16 = .ok (.aconst_null, 1) := dk_1 (dk_at dksJ4_clear_0 16 rfl rfl)
theorem dJ4_clear_17 : decode cJ4_clear 17 = .ok (.putfield 101, 3) := dk_181 0 101 (dk_at dksJ4_clear_0 17 rfl rfl)
theorem dJ4_clear_20 : decode cJ4_clear 20 = .ok (.return_, 1) := dk_177 (dk_at dksJ4_clear_0 20 rfl rfl)
abbrev cJ4_putAll : ByteArray := prog_83_method_14_code
def dkwJ4_putAll_3 : List UInt8 := [182, 0, 42, 167, 0, 4, 78, 177, 42, 43, 183, 0, 91, 177]
abbrev dktJ4_putAll_3 : List UInt8 := dkwJ4_putAll_3 ++ []
def dkwJ4_putAll_2 : List UInt8 := [180, 0, 13, 4, 96, 181, 0, 13, 42, 28, 43, 185, 0, 90, 1, 0, 185, 0, 36, 1, 0, 1, 1]
abbrev dktJ4_putAll_2 : List UInt8 := dkwJ4_putAll_2 ++ dktJ4_putAll_3
def dkwJ4_putAll_1 : List UInt8 := [153, 0, 55, 42, 180, 0, 16, 43, 192, 0, 25, 185, 0, 24, 1, 0, 184, 0, 85, 153, 0, 36, 42, 89]
abbrev dktJ4_putAll_1 : List UInt8 := dkwJ4_putAll_1 ++ dktJ4_putAll_2
def dkwJ4_putAll_0 : List UInt8 := [43, 185, 0, 82, 1, 0, 61, 42, 180, 0, 7, 154, 0, 66, 28, 153, 0, 62, 43, 193, 0, 25]
abbrev dktJ4_putAll_0 : List UInt8 := dkwJ4_putAll_0 ++ dktJ4_putAll_1
theorem dksJ4_putAll_0 : cJ4_putAll.data.toList.drop 0 = dktJ4_putAll_0 := by decide +kernel
theorem dksJ4_putAll_1 : cJ4_putAll.data.toList.drop 22 = dktJ4_putAll_1 := dk_seg dksJ4_putAll_0 22 rfl rfl
theorem dksJ4_putAll_2 : cJ4_putAll.data.toList.drop 46 = dktJ4_putAll_2 := dk_seg dksJ4_putAll_1 24 rfl rfl
theorem dksJ4_putAll_3 : cJ4_putAll.data.toList.drop 69 = dktJ4_putAll_3 := dk_seg dksJ4_putAll_2 23 rfl rfl
theorem dJ4_putAll_0 : decode cJ4_putAll 0 = .ok (.aload_n 1, 1) := dk_43 (dk_at dksJ4_putAll_0 0 rfl rfl)
theorem dJ4_putAll_1 : decode cJ4_putAll 1 = .ok (.invokeinterface 82 1, 5) := by decide +kernel
theorem dJ4_putAll_6 : decode cJ4_putAll 6 = .ok (.istore_n 2, 1) := dk_61 (dk_at dksJ4_putAll_0 6 rfl rfl)
theorem dJ4_putAll_7 : decode cJ4_putAll 7 = .ok (.aload_n 0, 1) := dk_42 (dk_at dksJ4_putAll_0 7 rfl rfl)
theorem dJ4_putAll_8 : decode cJ4_putAll 8 = .ok (.getfield 7, 3) := dk_180 0 7 (dk_at dksJ4_putAll_0 8 rfl rfl)
theorem dJ4_putAll_11 : decode cJ4_putAll 11 = .ok (.ifCond .ne 66, 3) := dk_154 0 66 (dk_at dksJ4_putAll_0 11 rfl rfl)
theorem dJ4_putAll_14 : decode cJ4_putAll 14 = .ok (.iload_n 2, 1) := dk_28 (dk_at dksJ4_putAll_0 14 rfl rfl)
theorem dJ4_putAll_15 : decode cJ4_putAll 15 = .ok (.ifCond .eq 62, 3) := dk_153 0 62 (dk_at dksJ4_putAll_0 15 rfl rfl)
theorem dJ4_putAll_18 : decode cJ4_putAll 18 = .ok (.aload_n 1, 1) := dk_43 (dk_at dksJ4_putAll_0 18 rfl rfl)
theorem dJ4_putAll_19 : decode cJ4_putAll 19 = .ok (.instanceof 25, 3) := dk_193 0 25 (dk_at dksJ4_putAll_0 19 rfl rfl)
theorem dJ4_putAll_22 : decode cJ4_putAll 22 = .ok (.ifCond .eq 55, 3) := dk_153 0 55 (dk_at dksJ4_putAll_1 0 rfl rfl)
theorem dJ4_putAll_25 : decode cJ4_putAll 25 = .ok (.aload_n 0, 1) := dk_42 (dk_at dksJ4_putAll_1 3 rfl rfl)
theorem dJ4_putAll_26 : decode cJ4_putAll 26 = .ok (.getfield 16, 3) := dk_180 0 16 (dk_at dksJ4_putAll_1 4 rfl rfl)
theorem dJ4_putAll_29 : decode cJ4_putAll 29 = .ok (.aload_n 1, 1) := dk_43 (dk_at dksJ4_putAll_1 7 rfl rfl)
theorem dJ4_putAll_30 : decode cJ4_putAll 30 = .ok (.checkcast 25, 3) := dk_192 0 25 (dk_at dksJ4_putAll_1 8 rfl rfl)
theorem dJ4_putAll_33 : decode cJ4_putAll 33 = .ok (.invokeinterface 24 1, 5) := by decide +kernel
theorem dJ4_putAll_38 : decode cJ4_putAll 38 = .ok (.invokestatic 85, 3) := dk_184 0 85 (dk_at dksJ4_putAll_1 16 rfl rfl)
theorem dJ4_putAll_41 : decode cJ4_putAll 41 = .ok (.ifCond .eq 36, 3) := dk_153 0 36 (dk_at dksJ4_putAll_1 19 rfl rfl)
theorem dJ4_putAll_44 : decode cJ4_putAll 44 = .ok (.aload_n 0, 1) := dk_42 (dk_at dksJ4_putAll_1 22 rfl rfl)
theorem dJ4_putAll_45 : decode cJ4_putAll 45 = .ok (.dup, 1) := dk_89 (dk_at dksJ4_putAll_1 23 rfl rfl)
theorem dJ4_putAll_46 : decode cJ4_putAll 46 = .ok (.getfield 13, 3) := dk_180 0 13 (dk_at dksJ4_putAll_2 0 rfl rfl)
theorem dJ4_putAll_49 : decode cJ4_putAll 49 = .ok (.iconst 1, 1) := dk_4 (dk_at dksJ4_putAll_2 3 rfl rfl)
theorem dJ4_putAll_50 : decode cJ4_putAll 50 = .ok (.iadd, 1) := dk_96 (dk_at dksJ4_putAll_2 4 rfl rfl)
theorem dJ4_putAll_51 : decode cJ4_putAll 51 = .ok (.putfield 13, 3) := dk_181 0 13 (dk_at dksJ4_putAll_2 5 rfl rfl)
theorem dJ4_putAll_54 : decode cJ4_putAll 54 = .ok (.aload_n 0, 1) := dk_42 (dk_at dksJ4_putAll_2 8 rfl rfl)
theorem dJ4_putAll_55 : decode cJ4_putAll 55 = .ok (.iload_n 2, 1) := dk_28 (dk_at dksJ4_putAll_2 9 rfl rfl)
theorem dJ4_putAll_56 : decode cJ4_putAll 56 = .ok (.aload_n 1, 1) := dk_43 (dk_at dksJ4_putAll_2 10 rfl rfl)
theorem dJ4_putAll_57 : decode cJ4_putAll 57 = .ok (.invokeinterface 90 1, 5) := by decide +kernel
theorem dJ4_putAll_62 : decode cJ4_putAll 62 = .ok (.invokeinterface 36 1, 5) := by decide +kernel
theorem dJ4_putAll_67 : decode cJ4_putAll 67 = .ok (.aconst_null, 1) := dk_1 (dk_at dksJ4_putAll_2 21 rfl rfl)
theorem dJ4_putAll_68 : decode cJ4_putAll 68 = .ok (.aconst_null, 1) := dk_1 (dk_at dksJ4_putAll_2 22 rfl rfl)
theorem dJ4_putAll_69 : decode cJ4_putAll 69 = .ok (.invokevirtual 42, 3) := dk_182 0 42 (dk_at dksJ4_putAll_3 0 rfl rfl)
theorem dJ4_putAll_72 : decode cJ4_putAll 72 = .ok (.goto 4, 3) := dk_167 0 4 (dk_at dksJ4_putAll_3 3 rfl rfl)
theorem dJ4_putAll_75 : decode cJ4_putAll 75 = .ok (.astore_n 3, 1) := dk_78 (dk_at dksJ4_putAll_3 6 rfl rfl)
theorem dJ4_putAll_76 : decode cJ4_putAll 76 = .ok (.return_, 1) := dk_177 (dk_at dksJ4_putAll_3 7 rfl rfl)
theorem dJ4_putAll_77 : decode cJ4_putAll 77 = .ok (.aload_n 0, 1) := dk_42 (dk_at dksJ4_putAll_3 8 rfl rfl)
theorem dJ4_putAll_78 : decode cJ4_putAll 78 = .ok (.aload_n 1, 1) := dk_43 (dk_at dksJ4_putAll_3 9 rfl rfl)
theorem dJ4_putAll_79 : decode cJ4_putAll 79 = .ok (.invokespecial 91, 3) := dk_183 0 91 (dk_at dksJ4_putAll_3 10 rfl rfl)
theorem dJ4_putAll_82 : decode cJ4_putAll 82 = .ok (.return_, 1) := dk_177 (dk_at dksJ4_putAll_3 13 rfl rfl)
abbrev cJ32_addAll : ByteArray := prog_93_method_15_code
def dkwJ32_addAll_3 : List UInt8 := [178, 0, 65, 182, 0, 90, 4, 172, 42, 43, 183, 0, 94, 172]
abbrev dktJ32_addAll_3 : List UInt8 := dkwJ32_addAll_3 ++ []
def dkwJ32_addAll_2 : List UInt8 := [192, 0, 28, 78, 45, 185, 0, 27, 1, 0, 44, 182, 0, 83, 184, 0, 84, 153, 0, 13, 44, 45]
abbrev dktJ32_addAll_2 : List UInt8 := dkwJ32_addAll_2 ++ dktJ32_addAll_3
def dkwJ32_addAll_1 : List UInt8 := [193, 0, 28, 153, 0, 51, 42, 180, 0, 7, 78, 45, 193, 0, 13, 153, 0, 39, 45, 192, 0, 13, 77, 43]
abbrev dktJ32_addAll_1 : List UInt8 := dkwJ32_addAll_1 ++ dktJ32_addAll_2
def dkwJ32_addAll_0 : List UInt8 := [42, 180, 0, 7, 185, 0, 53, 1, 0, 154, 0, 67, 43, 185, 0, 80, 1, 0, 158, 0, 58, 43]
abbrev dktJ32_addAll_0 : List UInt8 := dkwJ32_addAll_0 ++ dktJ32_addAll_1
theorem dksJ32_addAll_0 : cJ32_addAll.data.toList.drop 0 = dktJ32_addAll_0 := by decide +kernel
theorem dksJ32_addAll_1 : cJ32_addAll.data.toList.drop 22 = dktJ32_addAll_1 := dk_seg dksJ32_addAll_0 22 rfl rfl
theorem dksJ32_addAll_2 : cJ32_addAll.data.toList.drop 46 = dktJ32_addAll_2 := dk_seg dksJ32_addAll_1 24 rfl rfl
theorem dksJ32_addAll_3 : cJ32_addAll.data.toList.drop 68 = dktJ32_addAll_3 := dk_seg dksJ32_addAll_2 22 rfl rfl
theorem dJ32_addAll_0 : decode cJ32_addAll 0 = .ok (.aload_n 0, 1) := dk_42 (dk_at dksJ32_addAll_0 0 rfl rfl)
theorem dJ32_addAll_1 : decode cJ32_addAll 1 = .ok (.getfield 7, 3) := dk_180 0 7 (dk_at dksJ32_addAll_0 1 rfl rfl)
theorem dJ32_addAll_4 : decode cJ32_addAll 4 = .ok (.invokeinterface 53 1, 5) := by decide +kernel
theorem dJ32_addAll_9 : decode cJ32_addAll 9 = .ok (.ifCond .ne 67, 3) := dk_154 0 67 (dk_at dksJ32_addAll_0 9 rfl rfl)
theorem dJ32_addAll_12 : decode cJ32_addAll 12 = .ok (.aload_n 1, 1) := dk_43 (dk_at dksJ32_addAll_0 12 rfl rfl)
theorem dJ32_addAll_13 : decode cJ32_addAll 13 = .ok (.invokeinterface 80 1, 5) := by decide +kernel
theorem dJ32_addAll_18 : decode cJ32_addAll 18 = .ok (.ifCond .le 58, 3) := dk_158 0 58 (dk_at dksJ32_addAll_0 18 rfl rfl)
theorem dJ32_addAll_21 : decode cJ32_addAll 21 = .ok (.aload_n 1, 1) := dk_43 (dk_at dksJ32_addAll_0 21 rfl rfl)
theorem dJ32_addAll_22 : decode cJ32_addAll 22 = .ok (.instanceof 28, 3) := dk_193 0 28 (dk_at dksJ32_addAll_1 0 rfl rfl)
theorem dJ32_addAll_25 : decode cJ32_addAll 25 = .ok (.ifCond .eq 51, 3) := dk_153 0 51 (dk_at dksJ32_addAll_1 3 rfl rfl)
theorem dJ32_addAll_28 : decode cJ32_addAll 28 = .ok (.aload_n 0, 1) := dk_42 (dk_at dksJ32_addAll_1 6 rfl rfl)
theorem dJ32_addAll_29 : decode cJ32_addAll 29 = .ok (.getfield 7, 3) := dk_180 0 7 (dk_at dksJ32_addAll_1 7 rfl rfl)
theorem dJ32_addAll_32 : decode cJ32_addAll 32 = .ok (.astore_n 3, 1) := dk_78 (dk_at dksJ32_addAll_1 10 rfl rfl)
theorem dJ32_addAll_33 : decode cJ32_addAll 33 = .ok (.aload_n 3, 1) := dk_45 (dk_at dksJ32_addAll_1 11 rfl rfl)
theorem dJ32_addAll_34 : decode cJ32_addAll 34 = .ok (.instanceof 13, 3) := dk_193 0 13 (dk_at dksJ32_addAll_1 12 rfl rfl)
theorem dJ32_addAll_37 : decode cJ32_addAll 37 = .ok (.ifCond .eq 39, 3) := dk_153 0 39 (dk_at dksJ32_addAll_1 15 rfl rfl)
theorem dJ32_addAll_40 : decode cJ32_addAll 40 = .ok (.aload_n 3, 1) := dk_45 (dk_at dksJ32_addAll_1 18 rfl rfl)
theorem dJ32_addAll_41 : decode cJ32_addAll 41 = .ok (.checkcast 13, 3) := dk_192 0 13 (dk_at dksJ32_addAll_1 19 rfl rfl)
theorem dJ32_addAll_44 : decode cJ32_addAll 44 = .ok (.astore_n 2, 1) := dk_77 (dk_at dksJ32_addAll_1 22 rfl rfl)
theorem dJ32_addAll_45 : decode cJ32_addAll 45 = .ok (.aload_n 1, 1) := dk_43 (dk_at dksJ32_addAll_1 23 rfl rfl)
theorem dJ32_addAll_46 : decode cJ32_addAll 46 = .ok (.checkcast 28, 3) := dk_192 0 28 (dk_at dksJ32_addAll_2 0 rfl rfl)
theorem dJ32_addAll_49 : decode cJ32_addAll 49 = .ok (.astore_n 3, 1) := dk_78 (dk_at dksJ32_addAll_2 3 rfl rfl)
theorem dJ32_addAll_50 : decode cJ32_addAll 50 = .ok (.aload_n 3, 1) := dk_45 (dk_at dksJ32_addAll_2 4 rfl rfl)
theorem dJ32_addAll_51 : decode cJ32_addAll 51 = .ok (.invokeinterface 27 1, 5) := by decide +kernel
theorem dJ32_addAll_56 : decode cJ32_addAll 56 = .ok (.aload_n 2, 1) := dk_44 (dk_at dksJ32_addAll_2 10 rfl rfl)
theorem dJ32_addAll_57 : decode cJ32_addAll 57 = .ok (.invokevirtual 83, 3) := dk_182 0 83 (dk_at dksJ32_addAll_2 11 rfl rfl)
theorem dJ32_addAll_60 : decode cJ32_addAll 60 = .ok (.invokestatic 84, 3) := dk_184 0 84 (dk_at dksJ32_addAll_2 14 rfl rfl)
theorem dJ32_addAll_63 : decode cJ32_addAll 63 = .ok (.ifCond .eq 13, 3) := dk_153 0 13 (dk_at dksJ32_addAll_2 17 rfl rfl)
theorem dJ32_addAll_66 : decode cJ32_addAll 66 = .ok (.aload_n 2, 1) := dk_44 (dk_at dksJ32_addAll_2 20 rfl rfl)
theorem dJ32_addAll_67 : decode cJ32_addAll 67 = .ok (.aload_n 3, 1) := dk_45 (dk_at dksJ32_addAll_2 21 rfl rfl)
theorem dJ32_addAll_68 : decode cJ32_addAll 68 = .ok (.getstatic 65, 3) := dk_178 0 65 (dk_at dksJ32_addAll_3 0 rfl rfl)
theorem dJ32_addAll_71 : decode cJ32_addAll 71 = .ok (.invokevirtual 90, 3) := dk_182 0 90 (dk_at dksJ32_addAll_3 3 rfl rfl)
theorem dJ32_addAll_74 : decode cJ32_addAll 74 = .ok (.iconst 1, 1) := dk_4 (dk_at dksJ32_addAll_3 6 rfl rfl)
theorem dJ32_addAll_75 : decode cJ32_addAll 75 = .ok (.ireturn, 1) := dk_172 (dk_at dksJ32_addAll_3 7 rfl rfl)
theorem dJ32_addAll_76 : decode cJ32_addAll 76 = .ok (.aload_n 0, 1) := dk_42 (dk_at dksJ32_addAll_3 8 rfl rfl)
theorem dJ32_addAll_77 : decode cJ32_addAll 77 = .ok (.aload_n 1, 1) := dk_43 (dk_at dksJ32_addAll_3 9 rfl rfl)
theorem dJ32_addAll_78 : decode cJ32_addAll 78 = .ok (.invokespecial 94, 3) := dk_183 0 94 (dk_at dksJ32_addAll_3 10 rfl rfl)
theorem dJ32_addAll_81 : decode cJ32_addAll 81 = .ok (.ireturn, 1) := dk_172 (dk_at dksJ32_addAll_3 13 rfl rfl)
abbrev cJ2_indexOf : ByteArray := prog_61_method_11_code
def dkwJ2_indexOf_0 : List UInt8 := [42, 43, 3, 42, 180, 0, 48, 182, 0, 89, 172]
abbrev dktJ2_indexOf_0 : List UInt8 := dkwJ2_indexOf_0 ++ []
theorem dksJ2_indexOf_0 : cJ2_indexOf.data.toList.drop 0 = dktJ2_indexOf_0 := by decide +kernel
theorem dJ2_indexOf_0 : decode cJ2_indexOf 0 = .ok (.aload_n 0, 1) := dk_42 (dk_at dksJ2_indexOf_0 0 rfl rfl)
theorem dJ2_indexOf_1 : decode cJ2_indexOf 1 = .ok (.aload_n 1, 1) := dk_43 (dk_at dksJ2_indexOf_0 1 rfl rfl)
theorem dJ2_indexOf_2 : decode cJ2_indexOf 2 = .ok (.iconst 0, 1) := dk_3 (dk_at dksJ2_indexOf_0 2 rfl rfl)
theorem dJ2_indexOf_3 : decode cJ2_indexOf 3 = .ok (.aload_n 0, 1) := dk_42 (dk_at dksJ2_indexOf_0 3 rfl rfl)
theorem dJ2_indexOf_4 : decode cJ2_indexOf 4 = .ok (.getfield 48, 3) := dk_180 0 48 (dk_at dksJ2_indexOf_0 4 rfl rfl)
theorem dJ2_indexOf_7 : decode cJ2_indexOf 7 = .ok (.invokevirtual 89, 3) := dk_182 0 89 (dk_at dksJ2_indexOf_0 7 rfl rfl)
theorem dJ2_indexOf_10 : decode cJ2_indexOf 10 = .ok (.ireturn, 1) := dk_172 (dk_at dksJ2_indexOf_0 10 rfl rfl)
abbrev cJ16_checkIndex : ByteArray := prog_97_method_11_code
def dkwJ16_checkIndex_0 : List UInt8 := [26, 155, 0, 8, 26, 27, 161, 0, 10, 44, 26, 27, 184, 0, 95, 191, 26, 172]
abbrev dktJ16_checkIndex_0 : List UInt8 := dkwJ16_checkIndex_0 ++ []
theorem dksJ16_checkIndex_0 : cJ16_checkIndex.data.toList.drop 0 = dktJ16_checkIndex_0 := by decide +kernel
theorem dJ16_checkIndex_0 : decode cJ16_checkIndex 0 = .ok (.iload_n 0, 1) := dk_26 (dk_at dksJ16_checkIndex_0 0 rfl rfl)
theorem dJ16_checkIndex_1 : decode cJ16_checkIndex 1 = .ok (.ifCond .lt 8, 3) := dk_155 0 8 (dk_at dksJ16_checkIndex_0 1 rfl rfl)
theorem dJ16_checkIndex_4 : decode cJ16_checkIndex 4 = .ok (.iload_n 0, 1) := dk_26 (dk_at dksJ16_checkIndex_0 4 rfl rfl)
theorem dJ16_checkIndex_5 : decode cJ16_checkIndex 5 = .ok (.iload_n 1, 1) := dk_27 (dk_at dksJ16_checkIndex_0 5 rfl rfl)
theorem dJ16_checkIndex_6 : decode cJ16_checkIndex 6 = .ok (.if_icmp .lt 10, 3) := dk_161 0 10 (dk_at dksJ16_checkIndex_0 6 rfl rfl)
theorem dJ16_checkIndex_9 : decode cJ16_checkIndex 9 = .ok (.aload_n 2, 1) := dk_44 (dk_at dksJ16_checkIndex_0 9 rfl rfl)
theorem dJ16_checkIndex_10 : decode cJ16_checkIndex 10 = .ok (.iload_n 0, 1) := dk_26 (dk_at dksJ16_checkIndex_0 10 rfl rfl)
theorem dJ16_checkIndex_11 : decode cJ16_checkIndex 11 = .ok (.iload_n 1, 1) := dk_27 (dk_at dksJ16_checkIndex_0 11 rfl rfl)
theorem dJ16_checkIndex_12 : decode cJ16_checkIndex 12 = .ok (.invokestatic 95, 3) := dk_184 0 95 (dk_at dksJ16_checkIndex_0 12 rfl rfl)
theorem dJ16_checkIndex_15 : decode cJ16_checkIndex 15 = .ok (.athrow, 1) := dk_191 (dk_at dksJ16_checkIndex_0 15 rfl rfl)
theorem dJ16_checkIndex_16 : decode cJ16_checkIndex 16 = .ok (.iload_n 0, 1) := dk_26 (dk_at dksJ16_checkIndex_0 16 rfl rfl)
theorem dJ16_checkIndex_17 : decode cJ16_checkIndex 17 = .ok (.ireturn, 1) := dk_172 (dk_at dksJ16_checkIndex_0 17 rfl rfl)
abbrev cJ2_toArray : ByteArray := prog_61_method_16_code
def dkwJ2_toArray_0 : List UInt8 := [42, 180, 0, 9, 42, 180, 0, 48, 184, 0, 66, 176]
abbrev dktJ2_toArray_0 : List UInt8 := dkwJ2_toArray_0 ++ []
theorem dksJ2_toArray_0 : cJ2_toArray.data.toList.drop 0 = dktJ2_toArray_0 := by decide +kernel
theorem dJ2_toArray_0 : decode cJ2_toArray 0 = .ok (.aload_n 0, 1) := dk_42 (dk_at dksJ2_toArray_0 0 rfl rfl)
theorem dJ2_toArray_1 : decode cJ2_toArray 1 = .ok (.getfield 9, 3) := dk_180 0 9 (dk_at dksJ2_toArray_0 1 rfl rfl)
theorem dJ2_toArray_4 : decode cJ2_toArray 4 = .ok (.aload_n 0, 1) := dk_42 (dk_at dksJ2_toArray_0 4 rfl rfl)
theorem dJ2_toArray_5 : decode cJ2_toArray 5 = .ok (.getfield 48, 3) := dk_180 0 48 (dk_at dksJ2_toArray_0 5 rfl rfl)
theorem dJ2_toArray_8 : decode cJ2_toArray 8 = .ok (.invokestatic 66, 3) := dk_184 0 66 (dk_at dksJ2_toArray_0 8 rfl rfl)
theorem dJ2_toArray_11 : decode cJ2_toArray 11 = .ok (.areturn, 1) := dk_176 (dk_at dksJ2_toArray_0 11 rfl rfl)
abbrev cJ6_toArray : ByteArray := prog_73_method_20_code
def dkwJ6_toArray_0 : List UInt8 := [42, 180, 0, 17, 42, 180, 0, 58, 184, 0, 86, 176]
abbrev dktJ6_toArray_0 : List UInt8 := dkwJ6_toArray_0 ++ []
theorem dksJ6_toArray_0 : cJ6_toArray.data.toList.drop 0 = dktJ6_toArray_0 := by decide +kernel
theorem dJ6_toArray_0 : decode cJ6_toArray 0 = .ok (.aload_n 0, 1) := dk_42 (dk_at dksJ6_toArray_0 0 rfl rfl)
theorem dJ6_toArray_1 : decode cJ6_toArray 1 = .ok (.getfield 17, 3) := dk_180 0 17 (dk_at dksJ6_toArray_0 1 rfl rfl)
theorem dJ6_toArray_4 : decode cJ6_toArray 4 = .ok (.aload_n 0, 1) := dk_42 (dk_at dksJ6_toArray_0 4 rfl rfl)
theorem dJ6_toArray_5 : decode cJ6_toArray 5 = .ok (.getfield 58, 3) := dk_180 0 58 (dk_at dksJ6_toArray_0 5 rfl rfl)
theorem dJ6_toArray_8 : decode cJ6_toArray 8 = .ok (.invokestatic 86, 3) := dk_184 0 86 (dk_at dksJ6_toArray_0 8 rfl rfl)
theorem dJ6_toArray_11 : decode cJ6_toArray 11 = .ok (.areturn, 1) := dk_176 (dk_at dksJ6_toArray_0 11 rfl rfl)
abbrev cJ0_toArray : ByteArray := prog_55_method_6_code
def dkwJ0_toArray_3 : List UInt8 := [176]
abbrev dktJ0_toArray_3 : List UInt8 := dkwJ0_toArray_3 ++ []
def dkwJ0_toArray_2 : List UInt8 := [132, 3, 1, 167, 255, 223, 44, 185, 0, 17, 1, 0, 153, 0, 11, 43, 44, 184, 0, 37, 167, 0, 4, 43]
abbrev dktJ0_toArray_2 : List UInt8 := dkwJ0_toArray_2 ++ dktJ0_toArray_3
def dkwJ0_toArray_1 : List UInt8 := [185, 0, 17, 1, 0, 154, 0, 9, 43, 29, 184, 0, 31, 176, 43, 29, 44, 185, 0, 23, 1, 0, 83]
abbrev dktJ0_toArray_1 : List UInt8 := dkwJ0_toArray_1 ++ dktJ0_toArray_2
def dkwJ0_toArray_0 : List UInt8 := [42, 182, 0, 7, 189, 0, 2, 76, 42, 182, 0, 13, 77, 3, 62, 29, 43, 190, 162, 0, 33, 44]
abbrev dktJ0_toArray_0 : List UInt8 := dkwJ0_toArray_0 ++ dktJ0_toArray_1
theorem dksJ0_toArray_0 : cJ0_toArray.data.toList.drop 0 = dktJ0_toArray_0 := by decide +kernel
theorem dksJ0_toArray_1 : cJ0_toArray.data.toList.drop 22 = dktJ0_toArray_1 := dk_seg dksJ0_toArray_0 22 rfl rfl
theorem dksJ0_toArray_2 : cJ0_toArray.data.toList.drop 45 = dktJ0_toArray_2 := dk_seg dksJ0_toArray_1 23 rfl rfl
theorem dksJ0_toArray_3 : cJ0_toArray.data.toList.drop 69 = dktJ0_toArray_3 := dk_seg dksJ0_toArray_2 24 rfl rfl
theorem dJ0_toArray_0 : decode cJ0_toArray 0 = .ok (.aload_n 0, 1) := dk_42 (dk_at dksJ0_toArray_0 0 rfl rfl)
theorem dJ0_toArray_1 : decode cJ0_toArray 1 = .ok (.invokevirtual 7, 3) := dk_182 0 7 (dk_at dksJ0_toArray_0 1 rfl rfl)
theorem dJ0_toArray_4 : decode cJ0_toArray 4 = .ok (.anewarray 2, 3) := dk_189 0 2 (dk_at dksJ0_toArray_0 4 rfl rfl)
theorem dJ0_toArray_7 : decode cJ0_toArray 7 = .ok (.astore_n 1, 1) := dk_76 (dk_at dksJ0_toArray_0 7 rfl rfl)
theorem dJ0_toArray_8 : decode cJ0_toArray 8 = .ok (.aload_n 0, 1) := dk_42 (dk_at dksJ0_toArray_0 8 rfl rfl)
theorem dJ0_toArray_9 : decode cJ0_toArray 9 = .ok (.invokevirtual 13, 3) := dk_182 0 13 (dk_at dksJ0_toArray_0 9 rfl rfl)
theorem dJ0_toArray_12 : decode cJ0_toArray 12 = .ok (.astore_n 2, 1) := dk_77 (dk_at dksJ0_toArray_0 12 rfl rfl)
theorem dJ0_toArray_13 : decode cJ0_toArray 13 = .ok (.iconst 0, 1) := dk_3 (dk_at dksJ0_toArray_0 13 rfl rfl)
theorem dJ0_toArray_14 : decode cJ0_toArray 14 = .ok (.istore_n 3, 1) := dk_62 (dk_at dksJ0_toArray_0 14 rfl rfl)
theorem dJ0_toArray_15 : decode cJ0_toArray 15 = .ok (.iload_n 3, 1) := dk_29 (dk_at dksJ0_toArray_0 15 rfl rfl)
theorem dJ0_toArray_16 : decode cJ0_toArray 16 = .ok (.aload_n 1, 1) := dk_43 (dk_at dksJ0_toArray_0 16 rfl rfl)
theorem dJ0_toArray_17 : decode cJ0_toArray 17 = .ok (.arraylength, 1) := dk_190 (dk_at dksJ0_toArray_0 17 rfl rfl)
theorem dJ0_toArray_18 : decode cJ0_toArray 18 = .ok (.if_icmp .ge 33, 3) := dk_162 0 33 (dk_at dksJ0_toArray_0 18 rfl rfl)
theorem dJ0_toArray_21 : decode cJ0_toArray 21 = .ok (.aload_n 2, 1) := dk_44 (dk_at dksJ0_toArray_0 21 rfl rfl)
theorem dJ0_toArray_22 : decode cJ0_toArray 22 = .ok (.invokeinterface 17 1, 5) := by decide +kernel
theorem dJ0_toArray_27 : decode cJ0_toArray 27 = .ok (.ifCond .ne 9, 3) := dk_154 0 9 (dk_at dksJ0_toArray_1 5 rfl rfl)
theorem dJ0_toArray_30 : decode cJ0_toArray 30 = .ok (.aload_n 1, 1) := dk_43 (dk_at dksJ0_toArray_1 8 rfl rfl)
theorem dJ0_toArray_31 : decode cJ0_toArray 31 = .ok (.iload_n 3, 1) := dk_29 (dk_at dksJ0_toArray_1 9 rfl rfl)
theorem dJ0_toArray_32 : decode cJ0_toArray 32 = .ok (.invokestatic 31, 3) := dk_184 0 31 (dk_at dksJ0_toArray_1 10 rfl rfl)
theorem dJ0_toArray_35 : decode cJ0_toArray 35 = .ok (.areturn, 1) := dk_176 (dk_at dksJ0_toArray_1 13 rfl rfl)
theorem dJ0_toArray_36 : decode cJ0_toArray 36 = .ok (.aload_n 1, 1) := dk_43 (dk_at dksJ0_toArray_1 14 rfl rfl)
theorem dJ0_toArray_37 : decode cJ0_toArray 37 = .ok (.iload_n 3, 1) := dk_29 (dk_at dksJ0_toArray_1 15 rfl rfl)
theorem dJ0_toArray_38 : decode cJ0_toArray 38 = .ok (.aload_n 2, 1) := dk_44 (dk_at dksJ0_toArray_1 16 rfl rfl)
theorem dJ0_toArray_39 : decode cJ0_toArray 39 = .ok (.invokeinterface 23 1, 5) := by decide +kernel
theorem dJ0_toArray_44 : decode cJ0_toArray 44 = .ok (.aastore, 1) := dk_83 (dk_at dksJ0_toArray_1 22 rfl rfl)
theorem dJ0_toArray_45 : decode cJ0_toArray 45 = .ok (.iinc 3 1, 3) := dk_132 3 1 (dk_at dksJ0_toArray_2 0 rfl rfl)
theorem dJ0_toArray_48 : decode cJ0_toArray 48 = .ok (.goto (-33), 3) := dk_167 255 223 (dk_at dksJ0_toArray_2 3 rfl rfl)
theorem dJ0_toArray_51 : decode cJ0_toArray 51 = .ok (.aload_n 2, 1) := dk_44 (dk_at dksJ0_toArray_2 6 rfl rfl)
theorem dJ0_toArray_52 : decode cJ0_toArray 52 = .ok (.invokeinterface 17 1, 5) := by decide +kernel
theorem dJ0_toArray_57 : decode cJ0_toArray 57 = .ok (.ifCond .eq 11, 3) := dk_153 0 11 (dk_at dksJ0_toArray_2 12 rfl rfl)
theorem dJ0_toArray_60 : decode cJ0_toArray 60 = .ok (.aload_n 1, 1) := dk_43 (dk_at dksJ0_toArray_2 15 rfl rfl)
theorem dJ0_toArray_61 : decode cJ0_toArray 61 = .ok (.aload_n 2, 1) := dk_44 (dk_at dksJ0_toArray_2 16 rfl rfl)
theorem dJ0_toArray_62 : decode cJ0_toArray 62 = .ok (.invokestatic 37, 3) := dk_184 0 37 (dk_at dksJ0_toArray_2 17 rfl rfl)
theorem dJ0_toArray_65 : decode cJ0_toArray 65 = .ok (.goto 4, 3) := dk_167 0 4 (dk_at dksJ0_toArray_2 20 rfl rfl)
theorem dJ0_toArray_68 : decode cJ0_toArray 68 = .ok (.aload_n 1, 1) := dk_43 (dk_at dksJ0_toArray_2 23 rfl rfl)
theorem dJ0_toArray_69 : decode cJ0_toArray 69 = .ok (.areturn, 1) := dk_176 (dk_at dksJ0_toArray_3 0 rfl rfl)
abbrev cJ2_grow_2 : ByteArray := prog_61_method_6_code
def dkwJ2_grow_2_2 : List UInt8 := [27, 184, 0, 79, 189, 0, 7, 90, 181, 0, 9, 176]
abbrev dktJ2_grow_2_2 : List UInt8 := dkwJ2_grow_2_2 ++ []
def dkwJ2_grow_2_1 : List UInt8 := [28, 4, 122, 184, 0, 73, 62, 42, 42, 180, 0, 9, 29, 184, 0, 66, 90, 181, 0, 9, 176, 42, 16, 10]
abbrev dktJ2_grow_2_1 : List UInt8 := dkwJ2_grow_2_1 ++ dktJ2_grow_2_2
def dkwJ2_grow_2_0 : List UInt8 := [42, 180, 0, 9, 190, 61, 28, 157, 0, 13, 42, 180, 0, 9, 178, 0, 39, 165, 0, 28, 28, 27, 28, 100]
abbrev dktJ2_grow_2_0 : List UInt8 := dkwJ2_grow_2_0 ++ dktJ2_grow_2_1
theorem dksJ2_grow_2_0 : cJ2_grow_2.data.toList.drop 0 = dktJ2_grow_2_0 := by decide +kernel
theorem dksJ2_grow_2_1 : cJ2_grow_2.data.toList.drop 24 = dktJ2_grow_2_1 := dk_seg dksJ2_grow_2_0 24 rfl rfl
theorem dksJ2_grow_2_2 : cJ2_grow_2.data.toList.drop 48 = dktJ2_grow_2_2 := dk_seg dksJ2_grow_2_1 24 rfl rfl
theorem dJ2_grow_2_0 : decode cJ2_grow_2 0 = .ok (.aload_n 0, 1) := dk_42 (dk_at dksJ2_grow_2_0 0 rfl rfl)
theorem dJ2_grow_2_1 : decode cJ2_grow_2 1 = .ok (.getfield 9, 3) := dk_180 0 9 (dk_at dksJ2_grow_2_0 1 rfl rfl)
theorem dJ2_grow_2_4 : decode cJ2_grow_2 4 = .ok (.arraylength, 1) := dk_190 (dk_at dksJ2_grow_2_0 4 rfl rfl)
theorem dJ2_grow_2_5 : decode cJ2_grow_2 5 = .ok (.istore_n 2, 1) := dk_61 (dk_at dksJ2_grow_2_0 5 rfl rfl)
theorem dJ2_grow_2_6 : decode cJ2_grow_2 6 = .ok (.iload_n 2, 1) := dk_28 (dk_at dksJ2_grow_2_0 6 rfl rfl)
theorem dJ2_grow_2_7 : decode cJ2_grow_2 7 = .ok (.ifCond .gt 13, 3) := dk_157 0 13 (dk_at dksJ2_grow_2_0 7 rfl rfl)
theorem dJ2_grow_2_10 : decode cJ2_grow_2 10 = .ok (.aload_n 0, 1) := dk_42 (dk_at dksJ2_grow_2_0 10 rfl rfl)
theorem dJ2_grow_2_11 : decode cJ2_grow_2 11 = .ok (.getfield 9, 3) := dk_180 0 9 (dk_at dksJ2_grow_2_0 11 rfl rfl)
theorem dJ2_grow_2_14 : decode cJ2_grow_2 14 = .ok (.getstatic 39, 3) := dk_178 0 39 (dk_at dksJ2_grow_2_0 14 rfl rfl)
theorem dJ2_grow_2_17 : decode cJ2_grow_2 17 = .ok (.if_acmp .eq 28, 3) := dk_165 0 28 (dk_at dksJ2_grow_2_0 17 rfl rfl)
theorem dJ2_grow_2_20 : decode cJ2_grow_2 20 = .ok (.iload_n 2, 1) := dk_28 (dk_at dksJ2_grow_2_0 20 rfl rfl)
theorem dJ2_grow_2_21 : decode cJ2_grow_2 21 = .ok (.iload_n 1, 1) := dk_27 (dk_at dksJ2_grow_2_0 21 rfl rfl)
theorem dJ2_grow_2_22 : decode cJ2_grow_2 22 = .ok (.iload_n 2, 1) := dk_28 (dk_at dksJ2_grow_2_0 22 rfl rfl)
theorem dJ2_grow_2_23 : decode cJ2_grow_2 23 = .ok (.isub, 1) := dk_100 (dk_at dksJ2_grow_2_0 23 rfl rfl)
theorem dJ2_grow_2_24 : decode cJ2_grow_2 24 = .ok (.iload_n 2, 1) := dk_28 (dk_at dksJ2_grow_2_1 0 rfl rfl)
theorem dJ2_grow_2_25 : decode cJ2_grow_2 25 = .ok (.iconst 1, 1) := dk_4 (dk_at dksJ2_grow_2_1 1 rfl rfl)
theorem dJ2_grow_2_26 : decode cJ2_grow_2 26 = .ok (.ishr, 1) := dk_122 (dk_at dksJ2_grow_2_1 2 rfl rfl)
theorem dJ2_grow_2_27 : decode cJ2_grow_2 27 = .ok (.invokestatic 73, 3) := dk_184 0 73 (dk_at dksJ2_grow_2_1 3 rfl rfl)
theorem dJ2_grow_2_30 : decode cJ2_grow_2 30 = .ok (.istore_n 3, 1) := dk_62 (dk_at dksJ2_grow_2_1 6 rfl rfl)
theorem dJ2_grow_2_31 : decode cJ2_grow_2 31 = .ok (.aload_n 0, 1) := dk_42 (dk_at dksJ2_grow_2_1 7 rfl rfl)
theorem dJ2_grow_2_32 : decode cJ2_grow_2 32 = .ok (.aload_n 0, 1) := dk_42 (dk_at dksJ2_grow_2_1 8 rfl rfl)
theorem dJ2_grow_2_33 : decode cJ2_grow_2 33 = .ok (.getfield 9, 3) := dk_180 0 9 (dk_at dksJ2_grow_2_1 9 rfl rfl)
theorem dJ2_grow_2_36 : decode cJ2_grow_2 36 = .ok (.iload_n 3, 1) := dk_29 (dk_at dksJ2_grow_2_1 12 rfl rfl)
theorem dJ2_grow_2_37 : decode cJ2_grow_2 37 = .ok (.invokestatic 66, 3) := dk_184 0 66 (dk_at dksJ2_grow_2_1 13 rfl rfl)
theorem dJ2_grow_2_40 : decode cJ2_grow_2 40 = .ok (.dup_x1, 1) := dk_90 (dk_at dksJ2_grow_2_1 16 rfl rfl)
theorem dJ2_grow_2_41 : decode cJ2_grow_2 41 = .ok (.putfield 9, 3) := dk_181 0 9 (dk_at dksJ2_grow_2_1 17 rfl rfl)
theorem dJ2_grow_2_44 : decode cJ2_grow_2 44 = .ok (.areturn, 1) := dk_176 (dk_at dksJ2_grow_2_1 20 rfl rfl)
theorem dJ2_grow_2_45 : decode cJ2_grow_2 45 = .ok (.aload_n 0, 1) := dk_42 (dk_at dksJ2_grow_2_1 21 rfl rfl)
theorem dJ2_grow_2_46 : decode cJ2_grow_2 46 = .ok (.bipush 10, 2) := dk_16 10 (dk_at dksJ2_grow_2_1 22 rfl rfl)
theorem dJ2_grow_2_48 : decode cJ2_grow_2 48 = .ok (.iload_n 1, 1) := dk_27 (dk_at dksJ2_grow_2_2 0 rfl rfl)
theorem dJ2_grow_2_49 : decode cJ2_grow_2 49 = .ok (.invokestatic 79, 3) := dk_184 0 79 (dk_at dksJ2_grow_2_2 1 rfl rfl)
theorem dJ2_grow_2_52 : decode cJ2_grow_2 52 = .ok (.anewarray 7, 3) := dk_189 0 7 (dk_at dksJ2_grow_2_2 4 rfl rfl)
theorem dJ2_grow_2_55 : decode cJ2_grow_2 55 = .ok (.dup_x1, 1) := dk_90 (dk_at dksJ2_grow_2_2 7 rfl rfl)
theorem dJ2_grow_2_56 : decode cJ2_grow_2 56 = .ok (.putfield 9, 3) := dk_181 0 9 (dk_at dksJ2_grow_2_2 8 rfl rfl)
theorem dJ2_grow_2_59 : decode cJ2_grow_2 59 = .ok (.areturn, 1) := dk_176 (dk_at dksJ2_grow_2_2 11 rfl rfl)
abbrev cJ6_offer : ByteArray := prog_73_method_14_code
def dkwJ6_offer_2 : List UInt8 := [182, 0, 100, 42, 28, 4, 96, 181, 0, 58, 4, 172]
abbrev dktJ6_offer_2 : List UInt8 := dkwJ6_offer_2 ++ []
def dkwJ6_offer_1 : List UInt8 := [180, 0, 58, 61, 28, 42, 180, 0, 17, 190, 161, 0, 10, 42, 28, 4, 96, 182, 0, 96, 42, 28, 43]
abbrev dktJ6_offer_1 : List UInt8 := dkwJ6_offer_1 ++ dktJ6_offer_2
def dkwJ6_offer_0 : List UInt8 := [43, 199, 0, 11, 187, 0, 74, 89, 183, 0, 76, 191, 42, 89, 180, 0, 93, 4, 96, 181, 0, 93, 42]
abbrev dktJ6_offer_0 : List UInt8 := dkwJ6_offer_0 ++ dktJ6_offer_1
theorem dksJ6_offer_0 : cJ6_offer.data.toList.drop 0 = dktJ6_offer_0 := by decide +kernel
theorem dksJ6_offer_1 : cJ6_offer.data.toList.drop 23 = dktJ6_offer_1 := dk_seg dksJ6_offer_0 23 rfl rfl
theorem dksJ6_offer_2 : cJ6_offer.data.toList.drop 46 = dktJ6_offer_2 := dk_seg dksJ6_offer_1 23 rfl rfl
theorem dJ6_offer_0 : decode cJ6_offer 0 = .ok (.aload_n 1, 1) := dk_43 (dk_at dksJ6_offer_0 0 rfl rfl)
theorem dJ6_offer_1 : decode cJ6_offer 1 = .ok (.ifnonnull 11, 3) := dk_199 0 11 (dk_at dksJ6_offer_0 1 rfl rfl)
theorem dJ6_offer_4 : decode cJ6_offer 4 = .ok (.new 74, 3) := dk_187 0 74 (dk_at dksJ6_offer_0 4 rfl rfl)
theorem dJ6_offer_7 : decode cJ6_offer 7 = .ok (.dup, 1) := dk_89 (dk_at dksJ6_offer_0 7 rfl rfl)
theorem dJ6_offer_8 : decode cJ6_offer 8 = .ok (.invokespecial 76, 3) := dk_183 0 76 (dk_at dksJ6_offer_0 8 rfl rfl)
theorem dJ6_offer_11 : decode cJ6_offer 11 = .ok (.athrow, 1) := dk_191 (dk_at dksJ6_offer_0 11 rfl rfl)
theorem dJ6_offer_12 : decode cJ6_offer 12 = .ok (.aload_n 0, 1) := dk_42 (dk_at dksJ6_offer_0 12 rfl rfl)
theorem dJ6_offer_13 : decode cJ6_offer 13 = .ok (.dup, 1) := dk_89 (dk_at dksJ6_offer_0 13 rfl rfl)
theorem dJ6_offer_14 : decode cJ6_offer 14 = .ok (.getfield 93, 3) := dk_180 0 93 (dk_at dksJ6_offer_0 14 rfl rfl)
theorem dJ6_offer_17 : decode cJ6_offer 17 = .ok (.iconst 1, 1) := dk_4 (dk_at dksJ6_offer_0 17 rfl rfl)
theorem dJ6_offer_18 : decode cJ6_offer 18 = .ok (.iadd, 1) := dk_96 (dk_at dksJ6_offer_0 18 rfl rfl)
theorem dJ6_offer_19 : decode cJ6_offer 19 = .ok (.putfield 93, 3) := dk_181 0 93 (dk_at dksJ6_offer_0 19 rfl rfl)
theorem dJ6_offer_22 : decode cJ6_offer 22 = .ok (.aload_n 0, 1) := dk_42 (dk_at dksJ6_offer_0 22 rfl rfl)
theorem dJ6_offer_23 : decode cJ6_offer 23 = .ok (.getfield 58, 3) := dk_180 0 58 (dk_at dksJ6_offer_1 0 rfl rfl)
theorem dJ6_offer_26 : decode cJ6_offer 26 = .ok (.istore_n 2, 1) := dk_61 (dk_at dksJ6_offer_1 3 rfl rfl)
theorem dJ6_offer_27 : decode cJ6_offer 27 = .ok (.iload_n 2, 1) := dk_28 (dk_at dksJ6_offer_1 4 rfl rfl)
theorem dJ6_offer_28 : decode cJ6_offer 28 = .ok (.aload_n 0, 1) := dk_42 (dk_at dksJ6_offer_1 5 rfl rfl)
theorem dJ6_offer_29 : decode cJ6_offer 29 = .ok (.getfield 17, 3) := dk_180 0 17 (dk_at dksJ6_offer_1 6 rfl rfl)
theorem dJ6_offer_32 : decode cJ6_offer 32 = .ok (.arraylength, 1) := dk_190 (dk_at dksJ6_offer_1 9 rfl rfl)
theorem dJ6_offer_33 : decode cJ6_offer 33 = .ok (.if_icmp .lt 10, 3) := dk_161 0 10 (dk_at dksJ6_offer_1 10 rfl rfl)
theorem dJ6_offer_36 : decode cJ6_offer 36 = .ok (.aload_n 0, 1) := dk_42 (dk_at dksJ6_offer_1 13 rfl rfl)
theorem dJ6_offer_37 : decode cJ6_offer 37 = .ok (.iload_n 2, 1) := dk_28 (dk_at dksJ6_offer_1 14 rfl rfl)
theorem dJ6_offer_38 : decode cJ6_offer 38 = .ok (.iconst 1, 1) := dk_4 (dk_at dksJ6_offer_1 15 rfl rfl)
theorem dJ6_offer_39 : decode cJ6_offer 39 = .ok (.iadd, 1) := dk_96 (dk_at dksJ6_offer_1 16 rfl rfl)
theorem dJ6_offer_40 : decode cJ6_offer 40 = .ok (.invokevirtual 96, 3) := dk_182 0 96 (dk_at dksJ6_offer_1 17 rfl rfl)
theorem dJ6_offer_43 : decode cJ6_offer 43 = .ok (.aload_n 0, 1) := dk_42 (dk_at dksJ6_offer_1 20 rfl rfl)
theorem dJ6_offer_44 : decode cJ6_offer 44 = .ok (.iload_n 2, 1) := dk_28 (dk_at dksJ6_offer_1 21 rfl rfl)
theorem dJ6_offer_45 : decode cJ6_offer 45 = .ok (.aload_n 1, 1) := dk_43 (dk_at dksJ6_offer_1 22 rfl rfl)
theorem dJ6_offer_46 : decode cJ6_offer 46 = .ok (.invokevirtual 100, 3) := dk_182 0 100 (dk_at dksJ6_offer_2 0 rfl rfl)
theorem dJ6_offer_49 : decode cJ6_offer 49 = .ok (.aload_n 0, 1) := dk_42 (dk_at dksJ6_offer_2 3 rfl rfl)
theorem dJ6_offer_50 : decode cJ6_offer 50 = .ok (.iload_n 2, 1) := dk_28 (dk_at dksJ6_offer_2 4 rfl rfl)
theorem dJ6_offer_51 : decode cJ6_offer 51 = .ok (.iconst 1, 1) := dk_4 (dk_at dksJ6_offer_2 5 rfl rfl)
theorem dJ6_offer_52 : decode cJ6_offer 52 = .ok (.iadd, 1) := dk_96 (dk_at dksJ6_offer_2 6 rfl rfl)
theorem dJ6_offer_53 : decode cJ6_offer 53 = .ok (.putfield 58, 3) := dk_181 0 58 (dk_at dksJ6_offer_2 7 rfl rfl)
theorem dJ6_offer_56 : decode cJ6_offer 56 = .ok (.iconst 1, 1) := dk_4 (dk_at dksJ6_offer_2 10 rfl rfl)
theorem dJ6_offer_57 : decode cJ6_offer 57 = .ok (.ireturn, 1) := dk_172 (dk_at dksJ6_offer_2 11 rfl rfl)
abbrev cJ5_init : ByteArray := prog_58_method_1_code
theorem dJ5_init_0 : decode cJ5_init 0 = .ok (.aload_n 0, 1) := by decide +kernel
theorem dJ5_init_1 : decode cJ5_init 1 = .ok (.invokespecial 1, 3) := by decide +kernel
theorem dJ5_init_4 : decode cJ5_init 4 = .ok (.return_, 1) := by decide +kernel
abbrev cJ4_addEntryToEmptyMap : ByteArray := prog_83_method_30_code
def dkwJ4_addEntryToEmptyMap_1 : List UInt8 := [181, 0, 7, 42, 89, 180, 0, 13, 4, 96, 181, 0, 13, 177]
abbrev dktJ4_addEntryToEmptyMap_1 : List UInt8 := dkwJ4_addEntryToEmptyMap_1 ++ []
def dkwJ4_addEntryToEmptyMap_0 : List UInt8 := [42, 43, 43, 182, 0, 123, 87, 42, 187, 0, 59, 89, 43, 44, 1, 183, 0, 167, 181, 0, 101, 42, 4]
abbrev dktJ4_addEntryToEmptyMap_0 : List UInt8 := dkwJ4_addEntryToEmptyMap_0 ++ dktJ4_addEntryToEmptyMap_1
theorem dksJ4_addEntryToEmptyMap_0 : cJ4_addEntryToEmptyMap.data.toList.drop 0 = dktJ4_addEntryToEmptyMap_0 := by decide +kernel
theorem dksJ4_addEntryToEmptyMap_1 : cJ4_addEntryToEmptyMap.data.toList.drop 23 = dktJ4_addEntryToEmptyMap_1 := dk_seg dksJ4_addEntryToEmptyMap_0 23 rfl rfl
theorem dJ4_addEntryToEmptyMap_0 : decode cJ4_addEntryToEmptyMap 0 = .ok (.aload_n 0, 1) := dk_42 (dk_at dksJ4_addEntryToEmptyMap_0 0 rfl rfl)
theorem dJ4_addEntryToEmptyMap_1 : decode cJ4_addEntryToEmptyMap 1 = .ok (.aload_n 1, 1) := dk_43 (dk_at dksJ4_addEntryToEmptyMap_0 1 rfl rfl)
theorem dJ4_addEntryToEmptyMap_2 : decode cJ4_addEntryToEmptyMap 2 = .ok (.aload_n 1, 1) := dk_43 (dk_at dksJ4_addEntryToEmptyMap_0 2 rfl rfl)
theorem dJ4_addEntryToEmptyMap_3 : decode cJ4_addEntryToEmptyMap 3 = .ok (.invokevirtual 123, 3) := dk_182 0 123 (dk_at dksJ4_addEntryToEmptyMap_0 3 rfl rfl)
theorem dJ4_addEntryToEmptyMap_6 : decode cJ4_addEntryToEmptyMap 6 = .ok (.pop, 1) := dk_87 (dk_at dksJ4_addEntryToEmptyMap_0 6 rfl rfl)
theorem dJ4_addEntryToEmptyMap_7 : decode cJ4_addEntryToEmptyMap 7 = .ok (.aload_n 0, 1) := dk_42 (dk_at dksJ4_addEntryToEmptyMap_0 7 rfl rfl)
theorem dJ4_addEntryToEmptyMap_8 : decode cJ4_addEntryToEmptyMap 8 = .ok (.new 59, 3) := dk_187 0 59 (dk_at dksJ4_addEntryToEmptyMap_0 8 rfl rfl)
theorem dJ4_addEntryToEmptyMap_11 : decode cJ4_addEntryToEmptyMap 11 = .ok (.dup, 1) := dk_89 (dk_at dksJ4_addEntryToEmptyMap_0 11 rfl rfl)
theorem dJ4_addEntryToEmptyMap_12 : decode cJ4_addEntryToEmptyMap 12 = .ok (.aload_n 1, 1) := dk_43 (dk_at dksJ4_addEntryToEmptyMap_0 12 rfl rfl)
theorem dJ4_addEntryToEmptyMap_13 : decode cJ4_addEntryToEmptyMap 13 = .ok (.aload_n 2, 1) := dk_44 (dk_at dksJ4_addEntryToEmptyMap_0 13 rfl rfl)
theorem dJ4_addEntryToEmptyMap_14 : decode cJ4_addEntryToEmptyMap 14 = .ok (.aconst_null, 1) := dk_1 (dk_at dksJ4_addEntryToEmptyMap_0 14 rfl rfl)
theorem dJ4_addEntryToEmptyMap_15 : decode cJ4_addEntryToEmptyMap 15 = .ok (.invokespecial 167, 3) := dk_183 0 167 (dk_at dksJ4_addEntryToEmptyMap_0 15 rfl rfl)
theorem dJ4_addEntryToEmptyMap_18 : decode cJ4_addEntryToEmptyMap 18 = .ok (.putfield 101, 3) := dk_181 0 101 (dk_at dksJ4_addEntryToEmptyMap_0 18 rfl rfl)
theorem dJ4_addEntryToEmptyMap_21 : decode cJ4_addEntryToEmptyMap 21 = .ok (.aload_n 0, 1) := dk_42 (dk_at dksJ4_addEntryToEmptyMap_0 21 rfl rfl)
theorem dJ4_addEntryToEmptyMap_22 : decode cJ4_addEntryToEmptyMap 22 = .ok (.iconst 1, 1) := dk_4 (dk_at dksJ4_addEntryToEmptyMap_0 22 rfl rfl)
theorem dJ4_addEntryToEmptyMap_23 : decode cJ4_addEntryToEmptyMap 23 = .ok (.putfield 7, 3) := dk_181 0 7 (dk_at dksJ4_addEntryToEmptyMap_1 0 rfl rfl)
theorem dJ4_addEntryToEmptyMap_26 : decode cJ4_addEntryToEmptyMap 26 = .ok (.aload_n 0, 1) := dk_42 (dk_at dksJ4_addEntryToEmptyMap_1 3 rfl rfl)
theorem dJ4_addEntryToEmptyMap_27 : decode cJ4_addEntryToEmptyMap 27 = .ok (.dup, 1) := dk_89 (dk_at dksJ4_addEntryToEmptyMap_1 4 rfl rfl)
theorem dJ4_addEntryToEmptyMap_28 : decode cJ4_addEntryToEmptyMap 28 = .ok (.getfield 13, 3) := dk_180 0 13 (dk_at dksJ4_addEntryToEmptyMap_1 5 rfl rfl)
theorem dJ4_addEntryToEmptyMap_31 : decode cJ4_addEntryToEmptyMap 31 = .ok (.iconst 1, 1) := dk_4 (dk_at dksJ4_addEntryToEmptyMap_1 8 rfl rfl)
theorem dJ4_addEntryToEmptyMap_32 : decode cJ4_addEntryToEmptyMap 32 = .ok (.iadd, 1) := dk_96 (dk_at dksJ4_addEntryToEmptyMap_1 9 rfl rfl)
theorem dJ4_addEntryToEmptyMap_33 : decode cJ4_addEntryToEmptyMap 33 = .ok (.putfield 13, 3) := dk_181 0 13 (dk_at dksJ4_addEntryToEmptyMap_1 10 rfl rfl)
theorem dJ4_addEntryToEmptyMap_36 : decode cJ4_addEntryToEmptyMap 36 = .ok (.return_, 1) := dk_177 (dk_at dksJ4_addEntryToEmptyMap_1 13 rfl rfl)
abbrev cJ4_addEntry : ByteArray := prog_83_method_29_code
def dkwJ4_addEntry_2 : List UInt8 := [181, 0, 7, 42, 89, 180, 0, 13, 4, 96, 181, 0, 13, 177]
abbrev dktJ4_addEntry_2 : List UInt8 := dkwJ4_addEntry_2 ++ []
def dkwJ4_addEntry_1 : List UInt8 := [167, 0, 9, 45, 25, 5, 181, 0, 114, 42, 25, 5, 182, 0, 170, 42, 89, 180, 0, 7, 4, 96]
abbrev dktJ4_addEntry_1 : List UInt8 := dkwJ4_addEntry_1 ++ dktJ4_addEntry_2
def dkwJ4_addEntry_0 : List UInt8 := [187, 0, 59, 89, 43, 44, 45, 183, 0, 167, 58, 5, 21, 4, 153, 0, 12, 45, 25, 5, 181, 0, 111]
abbrev dktJ4_addEntry_0 : List UInt8 := dkwJ4_addEntry_0 ++ dktJ4_addEntry_1
theorem dksJ4_addEntry_0 : cJ4_addEntry.data.toList.drop 0 = dktJ4_addEntry_0 := by decide +kernel
theorem dksJ4_addEntry_1 : cJ4_addEntry.data.toList.drop 23 = dktJ4_addEntry_1 := dk_seg dksJ4_addEntry_0 23 rfl rfl
theorem dksJ4_addEntry_2 : cJ4_addEntry.data.toList.drop 45 = dktJ4_addEntry_2 := dk_seg dksJ4_addEntry_1 22 rfl rfl
theorem dJ4_addEntry_0 : decode cJ4_addEntry 0 = .ok (.new 59, 3) := dk_187 0 59 (dk_at dksJ4_addEntry_0 0 rfl rfl)
theorem dJ4_addEntry_3 : decode cJ4_addEntry 3 = .ok (.dup, 1) := dk_89 (dk_at dksJ4_addEntry_0 3 rfl rfl)
theorem dJ4_addEntry_4 : decode cJ4_addEntry 4 = .ok (.aload_n 1, 1) := dk_43 (dk_at dksJ4_addEntry_0 4 rfl rfl)
theorem dJ4_addEntry_5 : decode cJ4_addEntry 5 = .ok (.aload_n 2, 1) := dk_44 (dk_at dksJ4_addEntry_0 5 rfl rfl)
theorem dJ4_addEntry_6 : decode cJ4_addEntry 6 = .ok (.aload_n 3, 1) := dk_45 (dk_at dksJ4_addEntry_0 6 rfl rfl)
theorem dJ4_addEntry_7 : decode cJ4_addEntry 7 = .ok (.invokespecial 167, 3) := dk_183 0 167 (dk_at dksJ4_addEntry_0 7 rfl rfl)
theorem dJ4_addEntry_10 : decode cJ4_addEntry 10 = .ok (.astore 5, 2) := dk_58 5 (dk_at dksJ4_addEntry_0 10 rfl rfl)
theorem dJ4_addEntry_12 : decode cJ4_addEntry 12 = .ok (.iload 4, 2) := dk_21 4 (dk_at dksJ4_addEntry_0 12 rfl rfl)
theorem dJ4_addEntry_14 : decode cJ4_addEntry 14 = .ok (.ifCond .eq 12, 3) := dk_153 0 12 (dk_at dksJ4_addEntry_0 14 rfl rfl)
theorem dJ4_addEntry_17 : decode cJ4_addEntry 17 = .ok (.aload_n 3, 1) := dk_45 (dk_at dksJ4_addEntry_0 17 rfl rfl)
theorem dJ4_addEntry_18 : decode cJ4_addEntry 18 = .ok (.aload 5, 2) := dk_25 5 (dk_at dksJ4_addEntry_0 18 rfl rfl)
theorem dJ4_addEntry_20 : decode cJ4_addEntry 20 = .ok (.putfield 111, 3) := dk_181 0 111 (dk_at dksJ4_addEntry_0 20 rfl rfl)
theorem dJ4_addEntry_23 : decode cJ4_addEntry 23 = .ok (.goto 9, 3) := dk_167 0 9 (dk_at dksJ4_addEntry_1 0 rfl rfl)
theorem dJ4_addEntry_26 : decode cJ4_addEntry 26 = .ok (.aload_n 3, 1) := dk_45 (dk_at dksJ4_addEntry_1 3 rfl rfl)
theorem dJ4_addEntry_27 : decode cJ4_addEntry 27 = .ok (.aload 5, 2) := dk_25 5 (dk_at dksJ4_addEntry_1 4 rfl rfl)
theorem dJ4_addEntry_29 : decode cJ4_addEntry 29 = .ok (.putfield 114, 3) := dk_181 0 114 (dk_at dksJ4_addEntry_1 6 rfl rfl)
theorem dJ4_addEntry_32 : decode cJ4_addEntry 32 = .ok (.aload_n 0, 1) := dk_42 (dk_at dksJ4_addEntry_1 9 rfl rfl)
theorem dJ4_addEntry_33 : decode cJ4_addEntry 33 = .ok (.aload 5, 2) := dk_25 5 (dk_at dksJ4_addEntry_1 10 rfl rfl)
theorem dJ4_addEntry_35 : decode cJ4_addEntry 35 = .ok (.invokevirtual 170, 3) := dk_182 0 170 (dk_at dksJ4_addEntry_1 12 rfl rfl)
theorem dJ4_addEntry_38 : decode cJ4_addEntry 38 = .ok (.aload_n 0, 1) := dk_42 (dk_at dksJ4_addEntry_1 15 rfl rfl)
theorem dJ4_addEntry_39 : decode cJ4_addEntry 39 = .ok (.dup, 1) := dk_89 (dk_at dksJ4_addEntry_1 16 rfl rfl)
theorem dJ4_addEntry_40 : decode cJ4_addEntry 40 = .ok (.getfield 7, 3) := dk_180 0 7 (dk_at dksJ4_addEntry_1 17 rfl rfl)
theorem dJ4_addEntry_43 : decode cJ4_addEntry 43 = .ok (.iconst 1, 1) := dk_4 (dk_at dksJ4_addEntry_1 20 rfl rfl)
theorem dJ4_addEntry_44 : decode cJ4_addEntry 44 = .ok (.iadd, 1) := dk_96 (dk_at dksJ4_addEntry_1 21 rfl rfl)
theorem dJ4_addEntry_45 : decode cJ4_addEntry 45 = .ok (.putfield 7, 3) := dk_181 0 7 (dk_at dksJ4_addEntry_2 0 rfl rfl)
theorem dJ4_addEntry_48 : decode cJ4_addEntry 48 = .ok (.aload_n 0, 1) := dk_42 (dk_at dksJ4_addEntry_2 3 rfl rfl)
theorem dJ4_addEntry_49 : decode cJ4_addEntry 49 = .ok (.dup, 1) := dk_89 (dk_at dksJ4_addEntry_2 4 rfl rfl)
theorem dJ4_addEntry_50 : decode cJ4_addEntry 50 = .ok (.getfield 13, 3) := dk_180 0 13 (dk_at dksJ4_addEntry_2 5 rfl rfl)
theorem dJ4_addEntry_53 : decode cJ4_addEntry 53 = .ok (.iconst 1, 1) := dk_4 (dk_at dksJ4_addEntry_2 8 rfl rfl)
theorem dJ4_addEntry_54 : decode cJ4_addEntry 54 = .ok (.iadd, 1) := dk_96 (dk_at dksJ4_addEntry_2 9 rfl rfl)
theorem dJ4_addEntry_55 : decode cJ4_addEntry 55 = .ok (.putfield 13, 3) := dk_181 0 13 (dk_at dksJ4_addEntry_2 10 rfl rfl)
theorem dJ4_addEntry_58 : decode cJ4_addEntry 58 = .ok (.return_, 1) := dk_177 (dk_at dksJ4_addEntry_2 13 rfl rfl)
abbrev cJ26_init : ByteArray := prog_59_method_1_code
theorem dJ26_init_0 : decode cJ26_init 0 = .ok (.aload_n 0, 1) := by decide +kernel
theorem dJ26_init_1 : decode cJ26_init 1 = .ok (.invokespecial 1, 3) := by decide +kernel
theorem dJ26_init_4 : decode cJ26_init 4 = .ok (.return_, 1) := by decide +kernel
abbrev cJ30_init : ByteArray := prog_40_method_5_code
def dkwJ30_init_0 : List UInt8 := [42, 43, 44, 29, 21, 4, 183, 0, 16, 177]
abbrev dktJ30_init_0 : List UInt8 := dkwJ30_init_0 ++ []
theorem dksJ30_init_0 : cJ30_init.data.toList.drop 0 = dktJ30_init_0 := by decide +kernel
theorem dJ30_init_0 : decode cJ30_init 0 = .ok (.aload_n 0, 1) := dk_42 (dk_at dksJ30_init_0 0 rfl rfl)
theorem dJ30_init_1 : decode cJ30_init 1 = .ok (.aload_n 1, 1) := dk_43 (dk_at dksJ30_init_0 1 rfl rfl)
theorem dJ30_init_2 : decode cJ30_init 2 = .ok (.aload_n 2, 1) := dk_44 (dk_at dksJ30_init_0 2 rfl rfl)
theorem dJ30_init_3 : decode cJ30_init 3 = .ok (.iload_n 3, 1) := dk_29 (dk_at dksJ30_init_0 3 rfl rfl)
theorem dJ30_init_4 : decode cJ30_init 4 = .ok (.iload 4, 2) := dk_21 4 (dk_at dksJ30_init_0 4 rfl rfl)
theorem dJ30_init_6 : decode cJ30_init 6 = .ok (.invokespecial 16, 3) := dk_183 0 16 (dk_at dksJ30_init_0 6 rfl rfl)
theorem dJ30_init_9 : decode cJ30_init 9 = .ok (.return_, 1) := dk_177 (dk_at dksJ30_init_0 9 rfl rfl)
abbrev cJ8_stringSize : ByteArray := prog_41_method_13_code
def dkwJ8_stringSize_1 : List UInt8 := [164, 0, 7, 29, 27, 96, 172, 16, 10, 28, 104, 61, 132, 3, 1, 167, 255, 233, 16, 10, 27, 96, 172]
abbrev dktJ8_stringSize_1 : List UInt8 := dkwJ8_stringSize_1 ++ []
def dkwJ8_stringSize_0 : List UInt8 := [4, 60, 26, 155, 0, 8, 3, 60, 26, 116, 59, 16, 246, 61, 4, 62, 29, 16, 10, 162, 0, 23, 26, 28]
abbrev dktJ8_stringSize_0 : List UInt8 := dkwJ8_stringSize_0 ++ dktJ8_stringSize_1
theorem dksJ8_stringSize_0 : cJ8_stringSize.data.toList.drop 0 = dktJ8_stringSize_0 := by decide +kernel
theorem dksJ8_stringSize_1 : cJ8_stringSize.data.toList.drop 24 = dktJ8_stringSize_1 := dk_seg dksJ8_stringSize_0 24 rfl rfl
theorem dJ8_stringSize_0 : decode cJ8_stringSize 0 = .ok (.iconst 1, 1) := dk_4 (dk_at dksJ8_stringSize_0 0 rfl rfl)
theorem dJ8_stringSize_1 : decode cJ8_stringSize 1 = .ok (.istore_n 1, 1) := dk_60 (dk_at dksJ8_stringSize_0 1 rfl rfl)
theorem dJ8_stringSize_2 : decode cJ8_stringSize 2 = .ok (.iload_n 0, 1) := dk_26 (dk_at dksJ8_stringSize_0 2 rfl rfl)
theorem dJ8_stringSize_3 : decode cJ8_stringSize 3 = .ok (.ifCond .lt 8, 3) := dk_155 0 8 (dk_at dksJ8_stringSize_0 3 rfl rfl)
theorem dJ8_stringSize_6 : decode cJ8_stringSize 6 = .ok (.iconst 0, 1) := dk_3 (dk_at dksJ8_stringSize_0 6 rfl rfl)
theorem dJ8_stringSize_7 : decode cJ8_stringSize 7 = .ok (.istore_n 1, 1) := dk_60 (dk_at dksJ8_stringSize_0 7 rfl rfl)
theorem dJ8_stringSize_8 : decode cJ8_stringSize 8 = .ok (.iload_n 0, 1) := dk_26 (dk_at dksJ8_stringSize_0 8 rfl rfl)
theorem dJ8_stringSize_9 : decode cJ8_stringSize 9 = .ok (.ineg, 1) := dk_116 (dk_at dksJ8_stringSize_0 9 rfl rfl)
theorem dJ8_stringSize_10 : decode cJ8_stringSize 10 = .ok (.istore_n 0, 1) := dk_59 (dk_at dksJ8_stringSize_0 10 rfl rfl)
theorem dJ8_stringSize_11 : decode cJ8_stringSize 11 = .ok (.bipush (-10), 2) := dk_16 246 (dk_at dksJ8_stringSize_0 11 rfl rfl)
theorem dJ8_stringSize_13 : decode cJ8_stringSize 13 = .ok (.istore_n 2, 1) := dk_61 (dk_at dksJ8_stringSize_0 13 rfl rfl)
theorem dJ8_stringSize_14 : decode cJ8_stringSize 14 = .ok (.iconst 1, 1) := dk_4 (dk_at dksJ8_stringSize_0 14 rfl rfl)
theorem dJ8_stringSize_15 : decode cJ8_stringSize 15 = .ok (.istore_n 3, 1) := dk_62 (dk_at dksJ8_stringSize_0 15 rfl rfl)
theorem dJ8_stringSize_16 : decode cJ8_stringSize 16 = .ok (.iload_n 3, 1) := dk_29 (dk_at dksJ8_stringSize_0 16 rfl rfl)
theorem dJ8_stringSize_17 : decode cJ8_stringSize 17 = .ok (.bipush 10, 2) := dk_16 10 (dk_at dksJ8_stringSize_0 17 rfl rfl)
theorem dJ8_stringSize_19 : decode cJ8_stringSize 19 = .ok (.if_icmp .ge 23, 3) := dk_162 0 23 (dk_at dksJ8_stringSize_0 19 rfl rfl)
theorem dJ8_stringSize_22 : decode cJ8_stringSize 22 = .ok (.iload_n 0, 1) := dk_26 (dk_at dksJ8_stringSize_0 22 rfl rfl)
theorem dJ8_stringSize_23 : decode cJ8_stringSize 23 = .ok (.iload_n 2, 1) := dk_28 (dk_at dksJ8_stringSize_0 23 rfl rfl)
theorem dJ8_stringSize_24 : decode cJ8_stringSize 24 = .ok (.if_icmp .le 7, 3) := dk_164 0 7 (dk_at dksJ8_stringSize_1 0 rfl rfl)
theorem dJ8_stringSize_27 : decode cJ8_stringSize 27 = .ok (.iload_n 3, 1) := dk_29 (dk_at dksJ8_stringSize_1 3 rfl rfl)
theorem dJ8_stringSize_28 : decode cJ8_stringSize 28 = .ok (.iload_n 1, 1) := dk_27 (dk_at dksJ8_stringSize_1 4 rfl rfl)
theorem dJ8_stringSize_29 : decode cJ8_stringSize 29 = .ok (.iadd, 1) := dk_96 (dk_at dksJ8_stringSize_1 5 rfl rfl)
theorem dJ8_stringSize_30 : decode cJ8_stringSize 30 = .ok (.ireturn, 1) := dk_172 (dk_at dksJ8_stringSize_1 6 rfl rfl)
theorem dJ8_stringSize_31 : decode cJ8_stringSize 31 = .ok (.bipush 10, 2) := dk_16 10 (dk_at dksJ8_stringSize_1 7 rfl rfl)
theorem dJ8_stringSize_33 : decode cJ8_stringSize 33 = .ok (.iload_n 2, 1) := dk_28 (dk_at dksJ8_stringSize_1 9 rfl rfl)
theorem dJ8_stringSize_34 : decode cJ8_stringSize 34 = .ok (.imul, 1) := dk_104 (dk_at dksJ8_stringSize_1 10 rfl rfl)
theorem dJ8_stringSize_35 : decode cJ8_stringSize 35 = .ok (.istore_n 2, 1) := dk_61 (dk_at dksJ8_stringSize_1 11 rfl rfl)
theorem dJ8_stringSize_36 : decode cJ8_stringSize 36 = .ok (.iinc 3 1, 3) := dk_132 3 1 (dk_at dksJ8_stringSize_1 12 rfl rfl)
theorem dJ8_stringSize_39 : decode cJ8_stringSize 39 = .ok (.goto (-23), 3) := dk_167 255 233 (dk_at dksJ8_stringSize_1 15 rfl rfl)
theorem dJ8_stringSize_42 : decode cJ8_stringSize 42 = .ok (.bipush 10, 2) := dk_16 10 (dk_at dksJ8_stringSize_1 18 rfl rfl)
theorem dJ8_stringSize_44 : decode cJ8_stringSize 44 = .ok (.iload_n 1, 1) := dk_27 (dk_at dksJ8_stringSize_1 20 rfl rfl)
theorem dJ8_stringSize_45 : decode cJ8_stringSize 45 = .ok (.iadd, 1) := dk_96 (dk_at dksJ8_stringSize_1 21 rfl rfl)
theorem dJ8_stringSize_46 : decode cJ8_stringSize 46 = .ok (.ireturn, 1) := dk_172 (dk_at dksJ8_stringSize_1 22 rfl rfl)
abbrev cJ33_ensureCapacityInternal : ByteArray := prog_35_method_9_code
def dkwJ33_ensureCapacityInternal_1 : List UInt8 := [182, 0, 104, 42, 180, 0, 22, 120, 184, 0, 108, 181, 0, 15, 177]
abbrev dktJ33_ensureCapacityInternal_1 : List UInt8 := dkwJ33_ensureCapacityInternal_1 ++ []
def dkwJ33_ensureCapacityInternal_0 : List UInt8 := [42, 180, 0, 15, 190, 42, 180, 0, 22, 122, 61, 27, 28, 100, 158, 0, 24, 42, 42, 180, 0, 15, 42, 27]
abbrev dktJ33_ensureCapacityInternal_0 : List UInt8 := dkwJ33_ensureCapacityInternal_0 ++ dktJ33_ensureCapacityInternal_1
theorem dksJ33_ensureCapacityInternal_0 : cJ33_ensureCapacityInternal.data.toList.drop 0 = dktJ33_ensureCapacityInternal_0 := by decide +kernel
theorem dksJ33_ensureCapacityInternal_1 : cJ33_ensureCapacityInternal.data.toList.drop 24 = dktJ33_ensureCapacityInternal_1 := dk_seg dksJ33_ensureCapacityInternal_0 24 rfl rfl
theorem dJ33_ensureCapacityInternal_0 : decode cJ33_ensureCapacityInternal 0 = .ok (.aload_n 0, 1) := dk_42 (dk_at dksJ33_ensureCapacityInternal_0 0 rfl rfl)
theorem dJ33_ensureCapacityInternal_1 : decode cJ33_ensureCapacityInternal 1 = .ok (.getfield 15, 3) := dk_180 0 15 (dk_at dksJ33_ensureCapacityInternal_0 1 rfl rfl)
theorem dJ33_ensureCapacityInternal_4 : decode cJ33_ensureCapacityInternal 4 = .ok (.arraylength, 1) := dk_190 (dk_at dksJ33_ensureCapacityInternal_0 4 rfl rfl)
theorem dJ33_ensureCapacityInternal_5 : decode cJ33_ensureCapacityInternal 5 = .ok (.aload_n 0, 1) := dk_42 (dk_at dksJ33_ensureCapacityInternal_0 5 rfl rfl)
theorem dJ33_ensureCapacityInternal_6 : decode cJ33_ensureCapacityInternal 6 = .ok (.getfield 22, 3) := dk_180 0 22 (dk_at dksJ33_ensureCapacityInternal_0 6 rfl rfl)
theorem dJ33_ensureCapacityInternal_9 : decode cJ33_ensureCapacityInternal 9 = .ok (.ishr, 1) := dk_122 (dk_at dksJ33_ensureCapacityInternal_0 9 rfl rfl)
theorem dJ33_ensureCapacityInternal_10 : decode cJ33_ensureCapacityInternal 10 = .ok (.istore_n 2, 1) := dk_61 (dk_at dksJ33_ensureCapacityInternal_0 10 rfl rfl)
theorem dJ33_ensureCapacityInternal_11 : decode cJ33_ensureCapacityInternal 11 = .ok (.iload_n 1, 1) := dk_27 (dk_at dksJ33_ensureCapacityInternal_0 11 rfl rfl)
theorem dJ33_ensureCapacityInternal_12 : decode cJ33_ensureCapacityInternal 12 = .ok (.iload_n 2, 1) := dk_28 (dk_at dksJ33_ensureCapacityInternal_0 12 rfl rfl)
theorem dJ33_ensureCapacityInternal_13 : decode cJ33_ensureCapacityInternal 13 = .ok (.isub, 1) := dk_100 (dk_at dksJ33_ensureCapacityInternal_0 13 rfl rfl)
theorem dJ33_ensureCapacityInternal_14 : decode cJ33_ensureCapacityInternal 14 = .ok (.ifCond .le 24, 3) := dk_158 0 24 (dk_at dksJ33_ensureCapacityInternal_0 14 rfl rfl)
theorem dJ33_ensureCapacityInternal_17 : decode cJ33_ensureCapacityInternal 17 = .ok (.aload_n 0, 1) := dk_42 (dk_at dksJ33_ensureCapacityInternal_0 17 rfl rfl)
theorem dJ33_ensureCapacityInternal_18 : decode cJ33_ensureCapacityInternal 18 = .ok (.aload_n 0, 1) := dk_42 (dk_at dksJ33_ensureCapacityInternal_0 18 rfl rfl)
theorem dJ33_ensureCapacityInternal_19 : decode cJ33_ensureCapacityInternal 19 = .ok (.getfield 15, 3) := dk_180 0 15 (dk_at dksJ33_ensureCapacityInternal_0 19 rfl rfl)
theorem dJ33_ensureCapacityInternal_22 : decode cJ33_ensureCapacityInternal 22 = .ok (.aload_n 0, 1) := dk_42 (dk_at dksJ33_ensureCapacityInternal_0 22 rfl rfl)
theorem dJ33_ensureCapacityInternal_23 : decode cJ33_ensureCapacityInternal 23 = .ok (.iload_n 1, 1) := dk_27 (dk_at dksJ33_ensureCapacityInternal_0 23 rfl rfl)
theorem dJ33_ensureCapacityInternal_24 : decode cJ33_ensureCapacityInternal 24 = .ok (.invokevirtual 104, 3) := dk_182 0 104 (dk_at dksJ33_ensureCapacityInternal_1 0 rfl rfl)
theorem dJ33_ensureCapacityInternal_27 : decode cJ33_ensureCapacityInternal 27 = .ok (.aload_n 0, 1) := dk_42 (dk_at dksJ33_ensureCapacityInternal_1 3 rfl rfl)
theorem dJ33_ensureCapacityInternal_28 : decode cJ33_ensureCapacityInternal 28 = .ok (.getfield 22, 3) := dk_180 0 22 (dk_at dksJ33_ensureCapacityInternal_1 4 rfl rfl)
theorem dJ33_ensureCapacityInternal_31 : decode cJ33_ensureCapacityInternal 31 = .ok (.ishl, 1) := dk_120 (dk_at dksJ33_ensureCapacityInternal_1 7 rfl rfl)
theorem dJ33_ensureCapacityInternal_32 : decode cJ33_ensureCapacityInternal 32 = .ok (.invokestatic 108, 3) := dk_184 0 108 (dk_at dksJ33_ensureCapacityInternal_1 8 rfl rfl)
theorem dJ33_ensureCapacityInternal_35 : decode cJ33_ensureCapacityInternal 35 = .ok (.putfield 15, 3) := dk_181 0 15 (dk_at dksJ33_ensureCapacityInternal_1 11 rfl rfl)
theorem dJ33_ensureCapacityInternal_38 : decode cJ33_ensureCapacityInternal 38 = .ok (.return_, 1) := dk_177 (dk_at dksJ33_ensureCapacityInternal_1 14 rfl rfl)
abbrev cJ33_isLatin1 : ByteArray := prog_35_method_68_code
def dkwJ33_isLatin1_0 : List UInt8 := [178, 0, 18, 153, 0, 14, 42, 180, 0, 22, 154, 0, 7, 4, 167, 0, 4, 3, 172]
abbrev dktJ33_isLatin1_0 : List UInt8 := dkwJ33_isLatin1_0 ++ []
theorem dksJ33_isLatin1_0 : cJ33_isLatin1.data.toList.drop 0 = dktJ33_isLatin1_0 := by decide +kernel
theorem dJ33_isLatin1_0 : decode cJ33_isLatin1 0 = .ok (.getstatic 18, 3) := dk_178 0 18 (dk_at dksJ33_isLatin1_0 0 rfl rfl)
theorem dJ33_isLatin1_3 : decode cJ33_isLatin1 3 = .ok (.ifCond .eq 14, 3) := dk_153 0 14 (dk_at dksJ33_isLatin1_0 3 rfl rfl)
theorem dJ33_isLatin1_6 : decode cJ33_isLatin1 6 = .ok (.aload_n 0, 1) := dk_42 (dk_at dksJ33_isLatin1_0 6 rfl rfl)
theorem dJ33_isLatin1_7 : decode cJ33_isLatin1 7 = .ok (.getfield 22, 3) := dk_180 0 22 (dk_at dksJ33_isLatin1_0 7 rfl rfl)
theorem dJ33_isLatin1_10 : decode cJ33_isLatin1 10 = .ok (.ifCond .ne 7, 3) := dk_154 0 7 (dk_at dksJ33_isLatin1_0 10 rfl rfl)
theorem dJ33_isLatin1_13 : decode cJ33_isLatin1 13 = .ok (.iconst 1, 1) := dk_4 (dk_at dksJ33_isLatin1_0 13 rfl rfl)
theorem dJ33_isLatin1_14 : decode cJ33_isLatin1 14 = .ok (.goto 4, 3) := dk_167 0 4 (dk_at dksJ33_isLatin1_0 14 rfl rfl)
theorem dJ33_isLatin1_17 : decode cJ33_isLatin1 17 = .ok (.iconst 0, 1) := dk_3 (dk_at dksJ33_isLatin1_0 17 rfl rfl)
theorem dJ33_isLatin1_18 : decode cJ33_isLatin1 18 = .ok (.ireturn, 1) := dk_172 (dk_at dksJ33_isLatin1_0 18 rfl rfl)
abbrev cJ8_getChars : ByteArray := prog_41_method_12_code
def dkwJ8_getChars_5 : List UInt8 := [16, 45, 84, 21, 5, 172]
abbrev dktJ8_getChars_5 : List UInt8 := dkwJ8_getChars_5 ++ []
def dkwJ8_getChars_4 : List UInt8 := [132, 5, 255, 21, 5, 178, 0, 87, 26, 116, 51, 84, 21, 6, 153, 0, 12, 44, 132, 5, 255, 21, 5]
abbrev dktJ8_getChars_4 : List UInt8 := dkwJ8_getChars_4 ++ dktJ8_getChars_5
def dkwJ8_getChars_3 : List UInt8 := [167, 255, 209, 44, 132, 5, 255, 21, 5, 178, 0, 83, 26, 116, 51, 84, 26, 16, 247, 162, 0, 16, 44]
abbrev dktJ8_getChars_3 : List UInt8 := dkwJ8_getChars_3 ++ dktJ8_getChars_4
def dkwJ8_getChars_2 : List UInt8 := [21, 5, 178, 0, 83, 21, 4, 51, 84, 44, 132, 5, 255, 21, 5, 178, 0, 87, 21, 4, 51, 84]
abbrev dktJ8_getChars_2 : List UInt8 := dkwJ8_getChars_2 ++ dktJ8_getChars_3
def dkwJ8_getChars_1 : List UInt8 := [16, 156, 163, 0, 47, 26, 16, 100, 108, 62, 29, 16, 100, 104, 26, 100, 54, 4, 29, 59, 44, 132, 5, 255]
abbrev dktJ8_getChars_1 : List UInt8 := dkwJ8_getChars_1 ++ dktJ8_getChars_2
def dkwJ8_getChars_0 : List UInt8 := [27, 54, 5, 26, 156, 0, 7, 4, 167, 0, 4, 3, 54, 6, 21, 6, 154, 0, 6, 26, 116, 59, 26]
abbrev dktJ8_getChars_0 : List UInt8 := dkwJ8_getChars_0 ++ dktJ8_getChars_1
theorem dksJ8_getChars_0 : cJ8_getChars.data.toList.drop 0 = dktJ8_getChars_0 := by decide +kernel
theorem dksJ8_getChars_1 : cJ8_getChars.data.toList.drop 23 = dktJ8_getChars_1 := dk_seg dksJ8_getChars_0 23 rfl rfl
theorem dksJ8_getChars_2 : cJ8_getChars.data.toList.drop 47 = dktJ8_getChars_2 := dk_seg dksJ8_getChars_1 24 rfl rfl
theorem dksJ8_getChars_3 : cJ8_getChars.data.toList.drop 69 = dktJ8_getChars_3 := dk_seg dksJ8_getChars_2 22 rfl rfl
theorem dksJ8_getChars_4 : cJ8_getChars.data.toList.drop 92 = dktJ8_getChars_4 := dk_seg dksJ8_getChars_3 23 rfl rfl
theorem dksJ8_getChars_5 : cJ8_getChars.data.toList.drop 115 = dktJ8_getChars_5 := dk_seg dksJ8_getChars_4 23 rfl rfl
theorem dJ8_getChars_0 : decode cJ8_getChars 0 = .ok (.iload_n 1, 1) := dk_27 (dk_at dksJ8_getChars_0 0 rfl rfl)
theorem dJ8_getChars_1 : decode cJ8_getChars 1 = .ok (.istore 5, 2) := dk_54 5 (dk_at dksJ8_getChars_0 1 rfl rfl)
theorem dJ8_getChars_3 : decode cJ8_getChars 3 = .ok (.iload_n 0, 1) := dk_26 (dk_at dksJ8_getChars_0 3 rfl rfl)
theorem dJ8_getChars_4 : decode cJ8_getChars 4 = .ok (.ifCond .ge 7, 3) := dk_156 0 7 (dk_at dksJ8_getChars_0 4 rfl rfl)
theorem dJ8_getChars_7 : decode cJ8_getChars 7 = .ok (.iconst 1, 1) := dk_4 (dk_at dksJ8_getChars_0 7 rfl rfl)
theorem dJ8_getChars_8 : decode cJ8_getChars 8 = .ok (.goto 4, 3) := dk_167 0 4 (dk_at dksJ8_getChars_0 8 rfl rfl)
theorem dJ8_getChars_11 : decode cJ8_getChars 11 = .ok (.iconst 0, 1) := dk_3 (dk_at dksJ8_getChars_0 11 rfl rfl)
theorem dJ8_getChars_12 : decode cJ8_getChars 12 = .ok (.istore 6, 2) := dk_54 6 (dk_at dksJ8_getChars_0 12 rfl rfl)
theorem dJ8_getChars_14 : decode cJ8_getChars 14 = .ok (.iload 6, 2) := dk_21 6 (dk_at dksJ8_getChars_0 14 rfl rfl)
theorem dJ8_getChars_16 : decode cJ8_getChars 16 = .ok (.ifCond .ne 6, 3) := dk_154 0 6 (dk_at dksJ8_getChars_0 16 rfl rfl)
theorem dJ8_getChars_19 : decode cJ8_getChars 19 = .ok (.iload_n 0, 1) := dk_26 (dk_at dksJ8_getChars_0 19 rfl rfl)
theorem dJ8_getChars_20 : decode cJ8_getChars 20 = .ok (.ineg, 1) := dk_116 (dk_at dksJ8_getChars_0 20 rfl rfl)
theorem dJ8_getChars_21 : decode cJ8_getChars 21 = .ok (.istore_n 0, 1) := dk_59 (dk_at dksJ8_getChars_0 21 rfl rfl)
theorem dJ8_getChars_22 : decode cJ8_getChars 22 = .ok (.iload_n 0, 1) := dk_26 (dk_at dksJ8_getChars_0 22 rfl rfl)
theorem dJ8_getChars_23 : decode cJ8_getChars 23 = .ok (.bipush (-100), 2) := dk_16 156 (dk_at dksJ8_getChars_1 0 rfl rfl)
theorem dJ8_getChars_25 : decode cJ8_getChars 25 = .ok (.if_icmp .gt 47, 3) := dk_163 0 47 (dk_at dksJ8_getChars_1 2 rfl rfl)
theorem dJ8_getChars_28 : decode cJ8_getChars 28 = .ok (.iload_n 0, 1) := dk_26 (dk_at dksJ8_getChars_1 5 rfl rfl)
theorem dJ8_getChars_29 : decode cJ8_getChars 29 = .ok (.bipush 100, 2) := dk_16 100 (dk_at dksJ8_getChars_1 6 rfl rfl)
theorem dJ8_getChars_31 : decode cJ8_getChars 31 = .ok (.idiv, 1) := dk_108 (dk_at dksJ8_getChars_1 8 rfl rfl)
theorem dJ8_getChars_32 : decode cJ8_getChars 32 = .ok (.istore_n 3, 1) := dk_62 (dk_at dksJ8_getChars_1 9 rfl rfl)
theorem dJ8_getChars_33 : decode cJ8_getChars 33 = .ok (.iload_n 3, 1) := dk_29 (dk_at dksJ8_getChars_1 10 rfl rfl)
theorem dJ8_getChars_34 : decode cJ8_getChars 34 = .ok (.bipush 100, 2) := dk_16 100 (dk_at dksJ8_getChars_1 11 rfl rfl)
theorem dJ8_getChars_36 : decode cJ8_getChars 36 = .ok (.imul, 1) := dk_104 (dk_at dksJ8_getChars_1 13 rfl rfl)
theorem dJ8_getChars_37 : decode cJ8_getChars 37 = .ok (.iload_n 0, 1) := dk_26 (dk_at dksJ8_getChars_1 14 rfl rfl)
theorem dJ8_getChars_38 : decode cJ8_getChars 38 = .ok (.isub, 1) := dk_100 (dk_at dksJ8_getChars_1 15 rfl rfl)
theorem dJ8_getChars_39 : decode cJ8_getChars 39 = .ok (.istore 4, 2) := dk_54 4 (dk_at dksJ8_getChars_1 16 rfl rfl)
theorem dJ8_getChars_41 : decode cJ8_getChars 41 = .ok (.iload_n 3, 1) := dk_29 (dk_at dksJ8_getChars_1 18 rfl rfl)
theorem dJ8_getChars_42 : decode cJ8_getChars 42 = .ok (.istore_n 0, 1) := dk_59 (dk_at dksJ8_getChars_1 19 rfl rfl)
theorem dJ8_getChars_43 : decode cJ8_getChars 43 = .ok (.aload_n 2, 1) := dk_44 (dk_at dksJ8_getChars_1 20 rfl rfl)
theorem dJ8_getChars_44 : decode cJ8_getChars 44 = .ok (.iinc 5 (-1), 3) := dk_132 5 255 (dk_at dksJ8_getChars_1 21 rfl rfl)
theorem dJ8_getChars_47 : decode cJ8_getChars 47 = .ok (.iload 5, 2) := dk_21 5 (dk_at dksJ8_getChars_2 0 rfl rfl)
theorem dJ8_getChars_49 : decode cJ8_getChars 49 = .ok (.getstatic 83, 3) := dk_178 0 83 (dk_at dksJ8_getChars_2 2 rfl rfl)
theorem dJ8_getChars_52 : decode cJ8_getChars 52 = .ok (.iload 4, 2) := dk_21 4 (dk_at dksJ8_getChars_2 5 rfl rfl)
theorem dJ8_getChars_54 : decode cJ8_getChars 54 = .ok (.baload, 1) := dk_51 (dk_at dksJ8_getChars_2 7 rfl rfl)
theorem dJ8_getChars_55 : decode cJ8_getChars 55 = .ok (.bastore, 1) := dk_84 (dk_at dksJ8_getChars_2 8 rfl rfl)
theorem dJ8_getChars_56 : decode cJ8_getChars 56 = .ok (.aload_n 2, 1) := dk_44 (dk_at dksJ8_getChars_2 9 rfl rfl)
theorem dJ8_getChars_57 : decode cJ8_getChars 57 = .ok (.iinc 5 (-1), 3) := dk_132 5 255 (dk_at dksJ8_getChars_2 10 rfl rfl)
theorem dJ8_getChars_60 : decode cJ8_getChars 60 = .ok (.iload 5, 2) := dk_21 5 (dk_at dksJ8_getChars_2 13 rfl rfl)
theorem dJ8_getChars_62 : decode cJ8_getChars 62 = .ok (.getstatic 87, 3) := dk_178 0 87 (dk_at dksJ8_getChars_2 15 rfl rfl)
theorem dJ8_getChars_65 : decode cJ8_getChars 65 = .ok (.iload 4, 2) := dk_21 4 (dk_at dksJ8_getChars_2 18 rfl rfl)
theorem dJ8_getChars_67 : decode cJ8_getChars 67 = .ok (.baload, 1) := dk_51 (dk_at dksJ8_getChars_2 20 rfl rfl)
theorem dJ8_getChars_68 : decode cJ8_getChars 68 = .ok (.bastore, 1) := dk_84 (dk_at dksJ8_getChars_2 21 rfl rfl)
theorem dJ8_getChars_69 : decode cJ8_getChars 69 = .ok (.goto (-47), 3) := dk_167 255 209 (dk_at dksJ8_getChars_3 0 rfl rfl)
theorem dJ8_getChars_72 : decode cJ8_getChars 72 = .ok (.aload_n 2, 1) := dk_44 (dk_at dksJ8_getChars_3 3 rfl rfl)
theorem dJ8_getChars_73 : decode cJ8_getChars 73 = .ok (.iinc 5 (-1), 3) := dk_132 5 255 (dk_at dksJ8_getChars_3 4 rfl rfl)
theorem dJ8_getChars_76 : decode cJ8_getChars 76 = .ok (.iload 5, 2) := dk_21 5 (dk_at dksJ8_getChars_3 7 rfl rfl)
theorem dJ8_getChars_78 : decode cJ8_getChars 78 = .ok (.getstatic 83, 3) := dk_178 0 83 (dk_at dksJ8_getChars_3 9 rfl rfl)
theorem dJ8_getChars_81 : decode cJ8_getChars 81 = .ok (.iload_n 0, 1) := dk_26 (dk_at dksJ8_getChars_3 12 rfl rfl)
theorem dJ8_getChars_82 : decode cJ8_getChars 82 = .ok (.ineg, 1) := dk_116 (dk_at dksJ8_getChars_3 13 rfl rfl)
theorem dJ8_getChars_83 : decode cJ8_getChars 83 = .ok (.baload, 1) := dk_51 (dk_at dksJ8_getChars_3 14 rfl rfl)
theorem dJ8_getChars_84 : decode cJ8_getChars 84 = .ok (.bastore, 1) := dk_84 (dk_at dksJ8_getChars_3 15 rfl rfl)
theorem dJ8_getChars_85 : decode cJ8_getChars 85 = .ok (.iload_n 0, 1) := dk_26 (dk_at dksJ8_getChars_3 16 rfl rfl)
theorem dJ8_getChars_86 : decode cJ8_getChars 86 = .ok (.bipush (-9), 2) := dk_16 247 (dk_at dksJ8_getChars_3 17 rfl rfl)
theorem dJ8_getChars_88 : decode cJ8_getChars 88 = .ok (.if_icmp .ge 16, 3) := dk_162 0 16 (dk_at dksJ8_getChars_3 19 rfl rfl)
theorem dJ8_getChars_91 : decode cJ8_getChars 91 = .ok (.aload_n 2, 1) := dk_44 (dk_at dksJ8_getChars_3 22 rfl rfl)
theorem dJ8_getChars_92 : decode cJ8_getChars 92 = .ok (.iinc 5 (-1), 3) := dk_132 5 255 (dk_at dksJ8_getChars_4 0 rfl rfl)
theorem dJ8_getChars_95 : decode cJ8_getChars 95 = .ok (.iload 5, 2) := dk_21 5 (dk_at dksJ8_getChars_4 3 rfl rfl)
theorem dJ8_getChars_97 : decode cJ8_getChars 97 = .ok (.getstatic 87, 3) := dk_178 0 87 (dk_at dksJ8_getChars_4 5 rfl rfl)
theorem dJ8_getChars_100 : decode cJ8_getChars 100 = .ok (.iload_n 0, 1) := dk_26 (dk_at dksJ8_getChars_4 8 rfl rfl)
theorem dJ8_getChars_101 : decode cJ8_getChars 101 = .ok (.ineg, 1) := dk_116 (dk_at dksJ8_getChars_4 9 rfl rfl)
theorem dJ8_getChars_102 : decode cJ8_getChars 102 = .ok (.baload, 1) := dk_51 (dk_at dksJ8_getChars_4 10 rfl rfl)
theorem dJ8_getChars_103 : decode cJ8_getChars 103 = .ok (.bastore, 1) := dk_84 (dk_at dksJ8_getChars_4 11 rfl rfl)
theorem dJ8_getChars_104 : decode cJ8_getChars 104 = .ok (.iload 6, 2) := dk_21 6 (dk_at dksJ8_getChars_4 12 rfl rfl)
theorem dJ8_getChars_106 : decode cJ8_getChars 106 = .ok (.ifCond .eq 12, 3) := dk_153 0 12 (dk_at dksJ8_getChars_4 14 rfl rfl)
theorem dJ8_getChars_109 : decode cJ8_getChars 109 = .ok (.aload_n 2, 1) := dk_44 (dk_at dksJ8_getChars_4 17 rfl rfl)
theorem dJ8_getChars_110 : decode cJ8_getChars 110 = .ok (.iinc 5 (-1), 3) := dk_132 5 255 (dk_at dksJ8_getChars_4 18 rfl rfl)
theorem dJ8_getChars_113 : decode cJ8_getChars 113 = .ok (.iload 5, 2) := dk_21 5 (dk_at dksJ8_getChars_4 21 rfl rfl)
theorem dJ8_getChars_115 : decode cJ8_getChars 115 = .ok (.bipush 45, 2) := dk_16 45 (dk_at dksJ8_getChars_5 0 rfl rfl)
theorem dJ8_getChars_117 : decode cJ8_getChars 117 = .ok (.bastore, 1) := dk_84 (dk_at dksJ8_getChars_5 2 rfl rfl)
theorem dJ8_getChars_118 : decode cJ8_getChars 118 = .ok (.iload 5, 2) := dk_21 5 (dk_at dksJ8_getChars_5 3 rfl rfl)
theorem dJ8_getChars_120 : decode cJ8_getChars 120 = .ok (.ireturn, 1) := dk_172 (dk_at dksJ8_getChars_5 5 rfl rfl)
abbrev cJ33_appendNull : ByteArray := prog_35_method_26_code
def dkwJ33_appendNull_3 : List UInt8 := [184, 0, 226, 60, 42, 27, 181, 0, 79, 42, 176]
abbrev dktJ33_appendNull_3 : List UInt8 := dkwJ33_appendNull_3 ++ []
def dkwJ33_appendNull_2 : List UInt8 := [16, 108, 84, 44, 27, 132, 1, 1, 16, 108, 84, 167, 0, 17, 44, 27, 16, 110, 16, 117, 16, 108, 16, 108]
abbrev dktJ33_appendNull_2 : List UInt8 := dkwJ33_appendNull_2 ++ dktJ33_appendNull_3
def dkwJ33_appendNull_1 : List UInt8 := [153, 0, 38, 44, 27, 132, 1, 1, 16, 110, 84, 44, 27, 132, 1, 1, 16, 117, 84, 44, 27, 132, 1, 1]
abbrev dktJ33_appendNull_1 : List UInt8 := dkwJ33_appendNull_1 ++ dktJ33_appendNull_2
def dkwJ33_appendNull_0 : List UInt8 := [42, 42, 180, 0, 79, 7, 96, 182, 0, 100, 42, 180, 0, 79, 60, 42, 180, 0, 15, 77, 42, 182, 0, 83]
abbrev dktJ33_appendNull_0 : List UInt8 := dkwJ33_appendNull_0 ++ dktJ33_appendNull_1
theorem dksJ33_appendNull_0 : cJ33_appendNull.data.toList.drop 0 = dktJ33_appendNull_0 := by decide +kernel
theorem dksJ33_appendNull_1 : cJ33_appendNull.data.toList.drop 24 = dktJ33_appendNull_1 := dk_seg dksJ33_appendNull_0 24 rfl rfl
theorem dksJ33_appendNull_2 : cJ33_appendNull.data.toList.drop 48 = dktJ33_appendNull_2 := dk_seg dksJ33_appendNull_1 24 rfl rfl
theorem dksJ33_appendNull_3 : cJ33_appendNull.data.toList.drop 72 = dktJ33_appendNull_3 := dk_seg dksJ33_appendNull_2 24 rfl rfl
theorem dJ33_appendNull_0 : decode cJ33_appendNull 0 = .ok (.aload_n 0, 1) := dk_42 (dk_at dksJ33_appendNull_0 0 rfl rfl)
theorem dJ33_appendNull_1 : decode cJ33_appendNull 1 = .ok (.aload_n 0, 1) := dk_42 (dk_at dksJ33_appendNull_0 1 rfl rfl)
theorem dJ33_appendNull_2 : decode cJ33_appendNull 2 = .ok (.getfield 79, 3) := dk_180 0 79 (dk_at dksJ33_appendNull_0 2 rfl rfl)
theorem dJ33_appendNull_5 : decode cJ33_appendNull 5 = .ok (.iconst 4, 1) := dk_7 (dk_at dksJ33_appendNull_0 5 rfl rfl)
theorem dJ33_appendNull_6 : decode cJ33_appendNull 6 = .ok (.iadd, 1) := dk_96 (dk_at dksJ33_appendNull_0 6 rfl rfl)
theorem dJ33_appendNull_7 : decode cJ33_appendNull 7 = .ok (.invokevirtual 100, 3) := dk_182 0 100 (dk_at dksJ33_appendNull_0 7 rfl rfl)
theorem dJ33_appendNull_10 : decode cJ33_appendNull 10 = .ok (.aload_n 0, 1) := dk_42 (dk_at dksJ33_appendNull_0 10 rfl rfl)
theorem dJ33_appendNull_11 : decode cJ33_appendNull 11 = .ok (.getfield 79, 3) := dk_180 0 79 (dk_at dksJ33_appendNull_0 11 rfl rfl)
theorem dJ33_appendNull_14 : decode cJ33_appendNull 14 = .ok (.istore_n 1, 1) := dk_60 (dk_at dksJ33_appendNull_0 14 rfl rfl)
theorem dJ33_appendNull_15 : decode cJ33_appendNull 15 = .ok (.aload_n 0, 1) := dk_42 (dk_at dksJ33_appendNull_0 15 rfl rfl)
theorem dJ33_appendNull_16 : decode cJ33_appendNull 16 = .ok (.getfield 15, 3) := dk_180 0 15 (dk_at dksJ33_appendNull_0 16 rfl rfl)
theorem dJ33_appendNull_19 : decode cJ33_appendNull 19 = .ok (.astore_n 2, 1) := dk_77 (dk_at dksJ33_appendNull_0 19 rfl rfl)
theorem dJ33_appendNull_20 : decode cJ33_appendNull 20 = .ok (.aload_n 0, 1) := dk_42 (dk_at dksJ33_appendNull_0 20 rfl rfl)
theorem dJ33_appendNull_21 : decode cJ33_appendNull 21 = .ok (.invokevirtual 83, 3) := dk_182 0 83 (dk_at dksJ33_appendNull_0 21 rfl rfl)
theorem dJ33_appendNull_24 : decode cJ33_appendNull 24 = .ok (.ifCond .eq 38, 3) := dk_153 0 38 (dk_at dksJ33_appendNull_1 0 rfl rfl)
theorem dJ33_appendNull_27 : decode cJ33_appendNull 27 = .ok (.aload_n 2, 1) := dk_44 (dk_at dksJ33_appendNull_1 3 rfl rfl)
theorem dJ33_appendNull_28 : decode cJ33_appendNull 28 = .ok (.iload_n 1, 1) := dk_27 (dk_at dksJ33_appendNull_1 4 rfl rfl)
theorem dJ33_appendNull_29 : decode cJ33_appendNull 29 = .ok (.iinc 1 1, 3) := dk_132 1 1 (dk_at dksJ33_appendNull_1 5 rfl rfl)
theorem dJ33_appendNull_32 : decode cJ33_appendNull 32 = .ok (.bipush 110, 2) := dk_16 110 (dk_at dksJ33_appendNull_1 8 rfl rfl)
theorem dJ33_appendNull_34 : decode cJ33_appendNull 34 = .ok (.bastore, 1) := dk_84 (dk_at dksJ33_appendNull_1 10 rfl rfl)
theorem dJ33_appendNull_35 : decode cJ33_appendNull 35 = .ok (.aload_n 2, 1) := dk_44 (dk_at dksJ33_appendNull_1 11 rfl rfl)
theorem dJ33_appendNull_36 : decode cJ33_appendNull 36 = .ok (.iload_n 1, 1) := dk_27 (dk_at dksJ33_appendNull_1 12 rfl rfl)
theorem dJ33_appendNull_37 : decode cJ33_appendNull 37 = .ok (.iinc 1 1, 3) := dk_132 1 1 (dk_at dksJ33_appendNull_1 13 rfl rfl)
theorem dJ33_appendNull_40 : decode cJ33_appendNull 40 = .ok (.bipush 117, 2) := dk_16 117 (dk_at dksJ33_appendNull_1 16 rfl rfl)
theorem dJ33_appendNull_42 : decode cJ33_appendNull 42 = .ok (.bastore, 1) := dk_84 (dk_at dksJ33_appendNull_1 18 rfl rfl)
theorem dJ33_appendNull_43 : decode cJ33_appendNull 43 = .ok (.aload_n 2, 1) := dk_44 (dk_at dksJ33_appendNull_1 19 rfl rfl)
theorem dJ33_appendNull_44 : decode cJ33_appendNull 44 = .ok (.iload_n 1, 1) := dk_27 (dk_at dksJ33_appendNull_1 20 rfl rfl)
theorem dJ33_appendNull_45 : decode cJ33_appendNull 45 = .ok (.iinc 1 1, 3) := dk_132 1 1 (dk_at dksJ33_appendNull_1 21 rfl rfl)
theorem dJ33_appendNull_48 : decode cJ33_appendNull 48 = .ok (.bipush 108, 2) := dk_16 108 (dk_at dksJ33_appendNull_2 0 rfl rfl)
theorem dJ33_appendNull_50 : decode cJ33_appendNull 50 = .ok (.bastore, 1) := dk_84 (dk_at dksJ33_appendNull_2 2 rfl rfl)
theorem dJ33_appendNull_51 : decode cJ33_appendNull 51 = .ok (.aload_n 2, 1) := dk_44 (dk_at dksJ33_appendNull_2 3 rfl rfl)
theorem dJ33_appendNull_52 : decode cJ33_appendNull 52 = .ok (.iload_n 1, 1) := dk_27 (dk_at dksJ33_appendNull_2 4 rfl rfl)
theorem dJ33_appendNull_53 : decode cJ33_appendNull 53 = .ok (.iinc 1 1, 3) := dk_132 1 1 (dk_at dksJ33_appendNull_2 5 rfl rfl)
theorem dJ33_appendNull_56 : decode cJ33_appendNull 56 = .ok (.bipush 108, 2) := dk_16 108 (dk_at dksJ33_appendNull_2 8 rfl rfl)
theorem dJ33_appendNull_58 : decode cJ33_appendNull 58 = .ok (.bastore, 1) := dk_84 (dk_at dksJ33_appendNull_2 10 rfl rfl)
theorem dJ33_appendNull_59 : decode cJ33_appendNull 59 = .ok (.goto 17, 3) := dk_167 0 17 (dk_at dksJ33_appendNull_2 11 rfl rfl)
theorem dJ33_appendNull_62 : decode cJ33_appendNull 62 = .ok (.aload_n 2, 1) := dk_44 (dk_at dksJ33_appendNull_2 14 rfl rfl)
theorem dJ33_appendNull_63 : decode cJ33_appendNull 63 = .ok (.iload_n 1, 1) := dk_27 (dk_at dksJ33_appendNull_2 15 rfl rfl)
theorem dJ33_appendNull_64 : decode cJ33_appendNull 64 = .ok (.bipush 110, 2) := dk_16 110 (dk_at dksJ33_appendNull_2 16 rfl rfl)
theorem dJ33_appendNull_66 : decode cJ33_appendNull 66 = .ok (.bipush 117, 2) := dk_16 117 (dk_at dksJ33_appendNull_2 18 rfl rfl)
theorem dJ33_appendNull_68 : decode cJ33_appendNull 68 = .ok (.bipush 108, 2) := dk_16 108 (dk_at dksJ33_appendNull_2 20 rfl rfl)
theorem dJ33_appendNull_70 : decode cJ33_appendNull 70 = .ok (.bipush 108, 2) := dk_16 108 (dk_at dksJ33_appendNull_2 22 rfl rfl)
theorem dJ33_appendNull_72 : decode cJ33_appendNull 72 = .ok (.invokestatic 226, 3) := dk_184 0 226 (dk_at dksJ33_appendNull_3 0 rfl rfl)
theorem dJ33_appendNull_75 : decode cJ33_appendNull 75 = .ok (.istore_n 1, 1) := dk_60 (dk_at dksJ33_appendNull_3 3 rfl rfl)
theorem dJ33_appendNull_76 : decode cJ33_appendNull 76 = .ok (.aload_n 0, 1) := dk_42 (dk_at dksJ33_appendNull_3 4 rfl rfl)
theorem dJ33_appendNull_77 : decode cJ33_appendNull 77 = .ok (.iload_n 1, 1) := dk_27 (dk_at dksJ33_appendNull_3 5 rfl rfl)
theorem dJ33_appendNull_78 : decode cJ33_appendNull 78 = .ok (.putfield 79, 3) := dk_181 0 79 (dk_at dksJ33_appendNull_3 6 rfl rfl)
theorem dJ33_appendNull_81 : decode cJ33_appendNull 81 = .ok (.aload_n 0, 1) := dk_42 (dk_at dksJ33_appendNull_3 9 rfl rfl)
theorem dJ33_appendNull_82 : decode cJ33_appendNull 82 = .ok (.areturn, 1) := dk_176 (dk_at dksJ33_appendNull_3 10 rfl rfl)
abbrev cJ33_putStringAt : ByteArray := prog_35_method_73_code
def dkwJ33_putStringAt_0 : List UInt8 := [42, 44, 182, 1, 141, 44, 42, 180, 0, 15, 27, 42, 180, 0, 22, 182, 1, 143, 177]
abbrev dktJ33_putStringAt_0 : List UInt8 := dkwJ33_putStringAt_0 ++ []
theorem dksJ33_putStringAt_0 : cJ33_putStringAt.data.toList.drop 0 = dktJ33_putStringAt_0 := by decide +kernel
theorem dJ33_putStringAt_0 : decode cJ33_putStringAt 0 = .ok (.aload_n 0, 1) := dk_42 (dk_at dksJ33_putStringAt_0 0 rfl rfl)
theorem dJ33_putStringAt_1 : decode cJ33_putStringAt 1 = .ok (.aload_n 2, 1) := dk_44 (dk_at dksJ33_putStringAt_0 1 rfl rfl)
theorem dJ33_putStringAt_2 : decode cJ33_putStringAt 2 = .ok (.invokevirtual 397, 3) := dk_182 1 141 (dk_at dksJ33_putStringAt_0 2 rfl rfl)
theorem dJ33_putStringAt_5 : decode cJ33_putStringAt 5 = .ok (.aload_n 2, 1) := dk_44 (dk_at dksJ33_putStringAt_0 5 rfl rfl)
theorem dJ33_putStringAt_6 : decode cJ33_putStringAt 6 = .ok (.aload_n 0, 1) := dk_42 (dk_at dksJ33_putStringAt_0 6 rfl rfl)
theorem dJ33_putStringAt_7 : decode cJ33_putStringAt 7 = .ok (.getfield 15, 3) := dk_180 0 15 (dk_at dksJ33_putStringAt_0 7 rfl rfl)
theorem dJ33_putStringAt_10 : decode cJ33_putStringAt 10 = .ok (.iload_n 1, 1) := dk_27 (dk_at dksJ33_putStringAt_0 10 rfl rfl)
theorem dJ33_putStringAt_11 : decode cJ33_putStringAt 11 = .ok (.aload_n 0, 1) := dk_42 (dk_at dksJ33_putStringAt_0 11 rfl rfl)
theorem dJ33_putStringAt_12 : decode cJ33_putStringAt 12 = .ok (.getfield 22, 3) := dk_180 0 22 (dk_at dksJ33_putStringAt_0 12 rfl rfl)
theorem dJ33_putStringAt_15 : decode cJ33_putStringAt 15 = .ok (.invokevirtual 399, 3) := dk_182 1 143 (dk_at dksJ33_putStringAt_0 15 rfl rfl)
theorem dJ33_putStringAt_18 : decode cJ33_putStringAt 18 = .ok (.return_, 1) := dk_177 (dk_at dksJ33_putStringAt_0 18 rfl rfl)
abbrev cJ10_canEncode : ByteArray := prog_49_method_3_code
def dkwJ10_canEncode_0 : List UInt8 := [26, 17, 0, 255, 163, 0, 7, 4, 167, 0, 4, 3, 172]
abbrev dktJ10_canEncode_0 : List UInt8 := dkwJ10_canEncode_0 ++ []
theorem dksJ10_canEncode_0 : cJ10_canEncode.data.toList.drop 0 = dktJ10_canEncode_0 := by decide +kernel
theorem dJ10_canEncode_0 : decode cJ10_canEncode 0 = .ok (.iload_n 0, 1) := dk_26 (dk_at dksJ10_canEncode_0 0 rfl rfl)
theorem dJ10_canEncode_1 : decode cJ10_canEncode 1 = .ok (.sipush 255, 3) := dk_17 0 255 (dk_at dksJ10_canEncode_0 1 rfl rfl)
theorem dJ10_canEncode_4 : decode cJ10_canEncode 4 = .ok (.if_icmp .gt 7, 3) := dk_163 0 7 (dk_at dksJ10_canEncode_0 4 rfl rfl)
theorem dJ10_canEncode_7 : decode cJ10_canEncode 7 = .ok (.iconst 1, 1) := dk_4 (dk_at dksJ10_canEncode_0 7 rfl rfl)
theorem dJ10_canEncode_8 : decode cJ10_canEncode 8 = .ok (.goto 4, 3) := dk_167 0 4 (dk_at dksJ10_canEncode_0 8 rfl rfl)
theorem dJ10_canEncode_11 : decode cJ10_canEncode 11 = .ok (.iconst 0, 1) := dk_3 (dk_at dksJ10_canEncode_0 11 rfl rfl)
theorem dJ10_canEncode_12 : decode cJ10_canEncode 12 = .ok (.ireturn, 1) := dk_172 (dk_at dksJ10_canEncode_0 12 rfl rfl)
abbrev cJ33_inflate : ByteArray := prog_35_method_11_code
def dkwJ33_inflate_1 : List UInt8 := [42, 180, 0, 79, 184, 0, 125, 42, 43, 181, 0, 15, 42, 4, 181, 0, 22, 177]
abbrev dktJ33_inflate_1 : List UInt8 := dkwJ33_inflate_1 ++ []
def dkwJ33_inflate_0 : List UInt8 := [42, 182, 0, 83, 154, 0, 4, 177, 42, 180, 0, 15, 190, 184, 0, 26, 76, 42, 180, 0, 15, 3, 43, 3]
abbrev dktJ33_inflate_0 : List UInt8 := dkwJ33_inflate_0 ++ dktJ33_inflate_1
theorem dksJ33_inflate_0 : cJ33_inflate.data.toList.drop 0 = dktJ33_inflate_0 := by decide +kernel
theorem dksJ33_inflate_1 : cJ33_inflate.data.toList.drop 24 = dktJ33_inflate_1 := dk_seg dksJ33_inflate_0 24 rfl rfl
theorem dJ33_inflate_0 : decode cJ33_inflate 0 = .ok (.aload_n 0, 1) := dk_42 (dk_at dksJ33_inflate_0 0 rfl rfl)
theorem dJ33_inflate_1 : decode cJ33_inflate 1 = .ok (.invokevirtual 83, 3) := dk_182 0 83 (dk_at dksJ33_inflate_0 1 rfl rfl)
theorem dJ33_inflate_4 : decode cJ33_inflate 4 = .ok (.ifCond .ne 4, 3) := dk_154 0 4 (dk_at dksJ33_inflate_0 4 rfl rfl)
theorem dJ33_inflate_7 : decode cJ33_inflate 7 = .ok (.return_, 1) := dk_177 (dk_at dksJ33_inflate_0 7 rfl rfl)
theorem dJ33_inflate_8 : decode cJ33_inflate 8 = .ok (.aload_n 0, 1) := dk_42 (dk_at dksJ33_inflate_0 8 rfl rfl)
theorem dJ33_inflate_9 : decode cJ33_inflate 9 = .ok (.getfield 15, 3) := dk_180 0 15 (dk_at dksJ33_inflate_0 9 rfl rfl)
theorem dJ33_inflate_12 : decode cJ33_inflate 12 = .ok (.arraylength, 1) := dk_190 (dk_at dksJ33_inflate_0 12 rfl rfl)
theorem dJ33_inflate_13 : decode cJ33_inflate 13 = .ok (.invokestatic 26, 3) := dk_184 0 26 (dk_at dksJ33_inflate_0 13 rfl rfl)
theorem dJ33_inflate_16 : decode cJ33_inflate 16 = .ok (.astore_n 1, 1) := dk_76 (dk_at dksJ33_inflate_0 16 rfl rfl)
theorem dJ33_inflate_17 : decode cJ33_inflate 17 = .ok (.aload_n 0, 1) := dk_42 (dk_at dksJ33_inflate_0 17 rfl rfl)
theorem dJ33_inflate_18 : decode cJ33_inflate 18 = .ok (.getfield 15, 3) := dk_180 0 15 (dk_at dksJ33_inflate_0 18 rfl rfl)
theorem dJ33_inflate_21 : decode cJ33_inflate 21 = .ok (.iconst 0, 1) := dk_3 (dk_at dksJ33_inflate_0 21 rfl rfl)
theorem dJ33_inflate_22 : decode cJ33_inflate 22 = .ok (.aload_n 1, 1) := dk_43 (dk_at dksJ33_inflate_0 22 rfl rfl)
theorem dJ33_inflate_23 : decode cJ33_inflate 23 = .ok (.iconst 0, 1) := dk_3 (dk_at dksJ33_inflate_0 23 rfl rfl)
theorem dJ33_inflate_24 : decode cJ33_inflate 24 = .ok (.aload_n 0, 1) := dk_42 (dk_at dksJ33_inflate_1 0 rfl rfl)
theorem dJ33_inflate_25 : decode cJ33_inflate 25 = .ok (.getfield 79, 3) := dk_180 0 79 (dk_at dksJ33_inflate_1 1 rfl rfl)
theorem dJ33_inflate_28 : decode cJ33_inflate 28 = .ok (.invokestatic 125, 3) := dk_184 0 125 (dk_at dksJ33_inflate_1 4 rfl rfl)
theorem dJ33_inflate_31 : decode cJ33_inflate 31 = .ok (.aload_n 0, 1) := dk_42 (dk_at dksJ33_inflate_1 7 rfl rfl)
theorem dJ33_inflate_32 : decode cJ33_inflate 32 = .ok (.aload_n 1, 1) := dk_43 (dk_at dksJ33_inflate_1 8 rfl rfl)
theorem dJ33_inflate_33 : decode cJ33_inflate 33 = .ok (.putfield 15, 3) := dk_181 0 15 (dk_at dksJ33_inflate_1 9 rfl rfl)
theorem dJ33_inflate_36 : decode cJ33_inflate 36 = .ok (.aload_n 0, 1) := dk_42 (dk_at dksJ33_inflate_1 12 rfl rfl)
theorem dJ33_inflate_37 : decode cJ33_inflate 37 = .ok (.iconst 1, 1) := dk_4 (dk_at dksJ33_inflate_1 13 rfl rfl)
theorem dJ33_inflate_38 : decode cJ33_inflate 38 = .ok (.putfield 22, 3) := dk_181 0 22 (dk_at dksJ33_inflate_1 14 rfl rfl)
theorem dJ33_inflate_41 : decode cJ33_inflate 41 = .ok (.return_, 1) := dk_177 (dk_at dksJ33_inflate_1 17 rfl rfl)
abbrev cJ9_init_2 : ByteArray := prog_47_method_150_code
def dkwJ9_init_2_4 : List UInt8 := [181, 0, 9, 177]
abbrev dktJ9_init_2_4 : List UInt8 := dkwJ9_init_2_4 ++ []
def dkwJ9_init_2_3 : List UInt8 := [184, 0, 47, 181, 0, 15, 177, 42, 4, 181, 0, 15, 42, 45, 3, 21, 4, 4, 120, 184, 0, 54]
abbrev dktJ9_init_2_3 : List UInt8 := dkwJ9_init_2_3 ++ dktJ9_init_2_4
def dkwJ9_init_2_2 : List UInt8 := [180, 4, 24, 153, 0, 28, 42, 45, 3, 21, 4, 184, 4, 27, 181, 0, 9, 42, 42, 180, 0, 9, 21, 4]
abbrev dktJ9_init_2_2 : List UInt8 := dkwJ9_init_2_2 ++ dktJ9_init_2_3
def dkwJ9_init_2_1 : List UInt8 := [181, 0, 15, 42, 45, 3, 21, 4, 184, 0, 54, 181, 0, 9, 167, 0, 59, 178, 0, 38, 153, 0, 35, 43]
abbrev dktJ9_init_2_1 : List UInt8 := dkwJ9_init_2_1 ++ dktJ9_init_2_2
def dkwJ9_init_2_0 : List UInt8 := [42, 183, 0, 1, 43, 182, 2, 40, 78, 43, 182, 2, 37, 54, 4, 43, 182, 4, 23, 153, 0, 22, 42, 3]
abbrev dktJ9_init_2_0 : List UInt8 := dkwJ9_init_2_0 ++ dktJ9_init_2_1
theorem dksJ9_init_2_0 : cJ9_init_2.data.toList.drop 0 = dktJ9_init_2_0 := by decide +kernel
theorem dksJ9_init_2_1 : cJ9_init_2.data.toList.drop 24 = dktJ9_init_2_1 := dk_seg dksJ9_init_2_0 24 rfl rfl
theorem dksJ9_init_2_2 : cJ9_init_2.data.toList.drop 48 = dktJ9_init_2_2 := dk_seg dksJ9_init_2_1 24 rfl rfl
theorem dksJ9_init_2_3 : cJ9_init_2.data.toList.drop 72 = dktJ9_init_2_3 := dk_seg dksJ9_init_2_2 24 rfl rfl
theorem dksJ9_init_2_4 : cJ9_init_2.data.toList.drop 94 = dktJ9_init_2_4 := dk_seg dksJ9_init_2_3 22 rfl rfl
theorem dJ9_init_2_0 : decode cJ9_init_2 0 = .ok (.aload_n 0, 1) := dk_42 (dk_at dksJ9_init_2_0 0 rfl rfl)
theorem dJ9_init_2_1 : decode cJ9_init_2 1 = .ok (.invokespecial 1, 3) := dk_183 0 1 (dk_at dksJ9_init_2_0 1 rfl rfl)
theorem dJ9_init_2_4 : decode cJ9_init_2 4 = .ok (.aload_n 1, 1) := dk_43 (dk_at dksJ9_init_2_0 4 rfl rfl)
theorem dJ9_init_2_5 : decode cJ9_init_2 5 = .ok (.invokevirtual 552, 3) := dk_182 2 40 (dk_at dksJ9_init_2_0 5 rfl rfl)
theorem dJ9_init_2_8 : decode cJ9_init_2 8 = .ok (.astore_n 3, 1) := dk_78 (dk_at dksJ9_init_2_0 8 rfl rfl)
theorem dJ9_init_2_9 : decode cJ9_init_2 9 = .ok (.aload_n 1, 1) := dk_43 (dk_at dksJ9_init_2_0 9 rfl rfl)
theorem dJ9_init_2_10 : decode cJ9_init_2 10 = .ok (.invokevirtual 549, 3) := dk_182 2 37 (dk_at dksJ9_init_2_0 10 rfl rfl)
theorem dJ9_init_2_13 : decode cJ9_init_2 13 = .ok (.istore 4, 2) := dk_54 4 (dk_at dksJ9_init_2_0 13 rfl rfl)
theorem dJ9_init_2_15 : decode cJ9_init_2 15 = .ok (.aload_n 1, 1) := dk_43 (dk_at dksJ9_init_2_0 15 rfl rfl)
theorem dJ9_init_2_16 : decode cJ9_init_2 16 = .ok (.invokevirtual 1047, 3) := dk_182 4 23 (dk_at dksJ9_init_2_0 16 rfl rfl)
theorem dJ9_init_2_19 : decode cJ9_init_2 19 = .ok (.ifCond .eq 22, 3) := dk_153 0 22 (dk_at dksJ9_init_2_0 19 rfl rfl)
theorem dJ9_init_2_22 : decode cJ9_init_2 22 = .ok (.aload_n 0, 1) := dk_42 (dk_at dksJ9_init_2_0 22 rfl rfl)
theorem dJ9_init_2_23 : decode cJ9_init_2 23 = .ok (.iconst 0, 1) := dk_3 (dk_at dksJ9_init_2_0 23 rfl rfl)
theorem dJ9_init_2_24 : decode cJ9_init_2 24 = .ok (.putfield 15, 3) := dk_181 0 15 (dk_at dksJ9_init_2_1 0 rfl rfl)
theorem dJ9_init_2_27 : decode cJ9_init_2 27 = .ok (.aload_n 0, 1) := dk_42 (dk_at dksJ9_init_2_1 3 rfl rfl)
theorem dJ9_init_2_28 : decode cJ9_init_2 28 = .ok (.aload_n 3, 1) := dk_45 (dk_at dksJ9_init_2_1 4 rfl rfl)
theorem dJ9_init_2_29 : decode cJ9_init_2 29 = .ok (.iconst 0, 1) := dk_3 (dk_at dksJ9_init_2_1 5 rfl rfl)
theorem dJ9_init_2_30 : decode cJ9_init_2 30 = .ok (.iload 4, 2) := dk_21 4 (dk_at dksJ9_init_2_1 6 rfl rfl)
theorem dJ9_init_2_32 : decode cJ9_init_2 32 = .ok (.invokestatic 54, 3) := dk_184 0 54 (dk_at dksJ9_init_2_1 8 rfl rfl)
theorem dJ9_init_2_35 : decode cJ9_init_2 35 = .ok (.putfield 9, 3) := dk_181 0 9 (dk_at dksJ9_init_2_1 11 rfl rfl)
theorem dJ9_init_2_38 : decode cJ9_init_2 38 = .ok (.goto 59, 3) := dk_167 0 59 (dk_at dksJ9_init_2_1 14 rfl rfl)
theorem dJ9_init_2_41 : decode cJ9_init_2 41 = .ok (.getstatic 38, 3) := dk_178 0 38 (dk_at dksJ9_init_2_1 17 rfl rfl)
theorem dJ9_init_2_44 : decode cJ9_init_2 44 = .ok (.ifCond .eq 35, 3) := dk_153 0 35 (dk_at dksJ9_init_2_1 20 rfl rfl)
theorem dJ9_init_2_47 : decode cJ9_init_2 47 = .ok (.aload_n 1, 1) := dk_43 (dk_at dksJ9_init_2_1 23 rfl rfl)
theorem dJ9_init_2_48 : decode cJ9_init_2 48 = .ok (.getfield 1048, 3) := dk_180 4 24 (dk_at dksJ9_init_2_2 0 rfl rfl)
theorem dJ9_init_2_51 : decode cJ9_init_2 51 = .ok (.ifCond .eq 28, 3) := dk_153 0 28 (dk_at dksJ9_init_2_2 3 rfl rfl)
theorem dJ9_init_2_54 : decode cJ9_init_2 54 = .ok (.aload_n 0, 1) := dk_42 (dk_at dksJ9_init_2_2 6 rfl rfl)
theorem dJ9_init_2_55 : decode cJ9_init_2 55 = .ok (.aload_n 3, 1) := dk_45 (dk_at dksJ9_init_2_2 7 rfl rfl)
theorem dJ9_init_2_56 : decode cJ9_init_2 56 = .ok (.iconst 0, 1) := dk_3 (dk_at dksJ9_init_2_2 8 rfl rfl)
theorem dJ9_init_2_57 : decode cJ9_init_2 57 = .ok (.iload 4, 2) := dk_21 4 (dk_at dksJ9_init_2_2 9 rfl rfl)
theorem dJ9_init_2_59 : decode cJ9_init_2 59 = .ok (.invokestatic 1051, 3) := dk_184 4 27 (dk_at dksJ9_init_2_2 11 rfl rfl)
theorem dJ9_init_2_62 : decode cJ9_init_2 62 = .ok (.putfield 9, 3) := dk_181 0 9 (dk_at dksJ9_init_2_2 14 rfl rfl)
theorem dJ9_init_2_65 : decode cJ9_init_2 65 = .ok (.aload_n 0, 1) := dk_42 (dk_at dksJ9_init_2_2 17 rfl rfl)
theorem dJ9_init_2_66 : decode cJ9_init_2 66 = .ok (.aload_n 0, 1) := dk_42 (dk_at dksJ9_init_2_2 18 rfl rfl)
theorem dJ9_init_2_67 : decode cJ9_init_2 67 = .ok (.getfield 9, 3) := dk_180 0 9 (dk_at dksJ9_init_2_2 19 rfl rfl)
theorem dJ9_init_2_70 : decode cJ9_init_2 70 = .ok (.iload 4, 2) := dk_21 4 (dk_at dksJ9_init_2_2 22 rfl rfl)
theorem dJ9_init_2_72 : decode cJ9_init_2 72 = .ok (.invokestatic 47, 3) := dk_184 0 47 (dk_at dksJ9_init_2_3 0 rfl rfl)
theorem dJ9_init_2_75 : decode cJ9_init_2 75 = .ok (.putfield 15, 3) := dk_181 0 15 (dk_at dksJ9_init_2_3 3 rfl rfl)
theorem dJ9_init_2_78 : decode cJ9_init_2 78 = .ok (.return_, 1) := dk_177 (dk_at dksJ9_init_2_3 6 rfl rfl)
theorem dJ9_init_2_79 : decode cJ9_init_2 79 = .ok (.aload_n 0, 1) := dk_42 (dk_at dksJ9_init_2_3 7 rfl rfl)
theorem dJ9_init_2_80 : decode cJ9_init_2 80 = .ok (.iconst 1, 1) := dk_4 (dk_at dksJ9_init_2_3 8 rfl rfl)
theorem dJ9_init_2_81 : decode cJ9_init_2 81 = .ok (.putfield 15, 3) := dk_181 0 15 (dk_at dksJ9_init_2_3 9 rfl rfl)
theorem dJ9_init_2_84 : decode cJ9_init_2 84 = .ok (.aload_n 0, 1) := dk_42 (dk_at dksJ9_init_2_3 12 rfl rfl)
theorem dJ9_init_2_85 : decode cJ9_init_2 85 = .ok (.aload_n 3, 1) := dk_45 (dk_at dksJ9_init_2_3 13 rfl rfl)
theorem dJ9_init_2_86 : decode cJ9_init_2 86 = .ok (.iconst 0, 1) := dk_3 (dk_at dksJ9_init_2_3 14 rfl rfl)
theorem dJ9_init_2_87 : decode cJ9_init_2 87 = .ok (.iload 4, 2) := dk_21 4 (dk_at dksJ9_init_2_3 15 rfl rfl)
theorem dJ9_init_2_89 : decode cJ9_init_2 89 = .ok (.iconst 1, 1) := dk_4 (dk_at dksJ9_init_2_3 17 rfl rfl)
theorem dJ9_init_2_90 : decode cJ9_init_2 90 = .ok (.ishl, 1) := dk_120 (dk_at dksJ9_init_2_3 18 rfl rfl)
theorem dJ9_init_2_91 : decode cJ9_init_2 91 = .ok (.invokestatic 54, 3) := dk_184 0 54 (dk_at dksJ9_init_2_3 19 rfl rfl)
theorem dJ9_init_2_94 : decode cJ9_init_2 94 = .ok (.putfield 9, 3) := dk_181 0 9 (dk_at dksJ9_init_2_4 0 rfl rfl)
theorem dJ9_init_2_97 : decode cJ9_init_2 97 = .ok (.return_, 1) := dk_177 (dk_at dksJ9_init_2_4 3 rfl rfl)
abbrev cJ29_toString : ByteArray := prog_52_method_11_code
def dkwJ29_toString_1 : List UInt8 := [43, 182, 0, 49, 18, 81, 182, 0, 49, 44, 182, 0, 49, 182, 0, 60, 167, 0, 4, 43, 176]
abbrev dktJ29_toString_1 : List UInt8 := dkwJ29_toString_1 ++ []
def dkwJ29_toString_0 : List UInt8 := [42, 182, 0, 69, 182, 0, 73, 76, 42, 182, 0, 78, 77, 44, 198, 0, 29, 187, 0, 44, 89, 183, 0, 46]
abbrev dktJ29_toString_0 : List UInt8 := dkwJ29_toString_0 ++ dktJ29_toString_1
theorem dksJ29_toString_0 : cJ29_toString.data.toList.drop 0 = dktJ29_toString_0 := by decide +kernel
theorem dksJ29_toString_1 : cJ29_toString.data.toList.drop 24 = dktJ29_toString_1 := dk_seg dksJ29_toString_0 24 rfl rfl
theorem dJ29_toString_0 : decode cJ29_toString 0 = .ok (.aload_n 0, 1) := dk_42 (dk_at dksJ29_toString_0 0 rfl rfl)
theorem dJ29_toString_1 : decode cJ29_toString 1 = .ok (.invokevirtual 69, 3) := dk_182 0 69 (dk_at dksJ29_toString_0 1 rfl rfl)
theorem dJ29_toString_4 : decode cJ29_toString 4 = .ok (.invokevirtual 73, 3) := dk_182 0 73 (dk_at dksJ29_toString_0 4 rfl rfl)
theorem dJ29_toString_7 : decode cJ29_toString 7 = .ok (.astore_n 1, 1) := dk_76 (dk_at dksJ29_toString_0 7 rfl rfl)
theorem dJ29_toString_8 : decode cJ29_toString 8 = .ok (.aload_n 0, 1) := dk_42 (dk_at dksJ29_toString_0 8 rfl rfl)
theorem dJ29_toString_9 : decode cJ29_toString 9 = .ok (.invokevirtual 78, 3) := dk_182 0 78 (dk_at dksJ29_toString_0 9 rfl rfl)
theorem dJ29_toString_12 : decode cJ29_toString 12 = .ok (.astore_n 2, 1) := dk_77 (dk_at dksJ29_toString_0 12 rfl rfl)
theorem dJ29_toString_13 : decode cJ29_toString 13 = .ok (.aload_n 2, 1) := dk_44 (dk_at dksJ29_toString_0 13 rfl rfl)
theorem dJ29_toString_14 : decode cJ29_toString 14 = .ok (.ifnull 29, 3) := dk_198 0 29 (dk_at dksJ29_toString_0 14 rfl rfl)
theorem dJ29_toString_17 : decode cJ29_toString 17 = .ok (.new 44, 3) := dk_187 0 44 (dk_at dksJ29_toString_0 17 rfl rfl)
theorem dJ29_toString_20 : decode cJ29_toString 20 = .ok (.dup, 1) := dk_89 (dk_at dksJ29_toString_0 20 rfl rfl)
theorem dJ29_toString_21 : decode cJ29_toString 21 = .ok (.invokespecial 46, 3) := dk_183 0 46 (dk_at dksJ29_toString_0 21 rfl rfl)
theorem dJ29_toString_24 : decode cJ29_toString 24 = .ok (.aload_n 1, 1) := dk_43 (dk_at dksJ29_toString_1 0 rfl rfl)
theorem dJ29_toString_25 : decode cJ29_toString 25 = .ok (.invokevirtual 49, 3) := dk_182 0 49 (dk_at dksJ29_toString_1 1 rfl rfl)
theorem dJ29_toString_28 : decode cJ29_toString 28 = .ok (.ldc 81, 2) := dk_18 81 (dk_at dksJ29_toString_1 4 rfl rfl)
theorem dJ29_toString_30 : decode cJ29_toString 30 = .ok (.invokevirtual 49, 3) := dk_182 0 49 (dk_at dksJ29_toString_1 6 rfl rfl)
theorem dJ29_toString_33 : decode cJ29_toString 33 = .ok (.aload_n 2, 1) := dk_44 (dk_at dksJ29_toString_1 9 rfl rfl)
theorem dJ29_toString_34 : decode cJ29_toString 34 = .ok (.invokevirtual 49, 3) := dk_182 0 49 (dk_at dksJ29_toString_1 10 rfl rfl)
theorem dJ29_toString_37 : decode cJ29_toString 37 = .ok (.invokevirtual 60, 3) := dk_182 0 60 (dk_at dksJ29_toString_1 13 rfl rfl)
theorem dJ29_toString_40 : decode cJ29_toString 40 = .ok (.goto 4, 3) := dk_167 0 4 (dk_at dksJ29_toString_1 16 rfl rfl)
theorem dJ29_toString_43 : decode cJ29_toString 43 = .ok (.aload_n 1, 1) := dk_43 (dk_at dksJ29_toString_1 19 rfl rfl)
theorem dJ29_toString_44 : decode cJ29_toString 44 = .ok (.areturn, 1) := dk_176 (dk_at dksJ29_toString_1 20 rfl rfl)
abbrev cJ8_toString : ByteArray := prog_41_method_31_code
def dkwJ8_toString_0 : List UInt8 := [42, 180, 0, 205, 184, 0, 9, 176]
abbrev dktJ8_toString_0 : List UInt8 := dkwJ8_toString_0 ++ []
theorem dksJ8_toString_0 : cJ8_toString.data.toList.drop 0 = dktJ8_toString_0 := by decide +kernel
theorem dJ8_toString_0 : decode cJ8_toString 0 = .ok (.aload_n 0, 1) := dk_42 (dk_at dksJ8_toString_0 0 rfl rfl)
theorem dJ8_toString_1 : decode cJ8_toString 1 = .ok (.getfield 205, 3) := dk_180 0 205 (dk_at dksJ8_toString_0 1 rfl rfl)
theorem dJ8_toString_4 : decode cJ8_toString 4 = .ok (.invokestatic 9, 3) := dk_184 0 9 (dk_at dksJ8_toString_0 4 rfl rfl)
theorem dJ8_toString_7 : decode cJ8_toString 7 = .ok (.areturn, 1) := dk_176 (dk_at dksJ8_toString_0 7 rfl rfl)
abbrev cJ9_toString : ByteArray := prog_47_method_126_code
theorem dJ9_toString_0 : decode cJ9_toString 0 = .ok (.aload_n 0, 1) := by decide +kernel
theorem dJ9_toString_1 : decode cJ9_toString 1 = .ok (.areturn, 1) := by decide +kernel
abbrev cJ2_add_3 : ByteArray := prog_61_method_26_code
def dkwJ2_add_3_2 : List UInt8 := [29, 27, 100, 184, 0, 112, 25, 4, 27, 44, 83, 42, 29, 4, 96, 181, 0, 48, 177]
abbrev dktJ2_add_3_2 : List UInt8 := dkwJ2_add_3_2 ++ []
def dkwJ2_add_3_1 : List UInt8 := [180, 0, 9, 89, 58, 4, 190, 160, 0, 9, 42, 182, 0, 129, 58, 4, 25, 4, 27, 25, 4, 27, 4, 96]
abbrev dktJ2_add_3_1 : List UInt8 := dkwJ2_add_3_1 ++ dktJ2_add_3_2
def dkwJ2_add_3_0 : List UInt8 := [42, 27, 182, 0, 135, 42, 89, 180, 0, 63, 4, 96, 181, 0, 63, 42, 180, 0, 48, 89, 62, 42]
abbrev dktJ2_add_3_0 : List UInt8 := dkwJ2_add_3_0 ++ dktJ2_add_3_1
theorem dksJ2_add_3_0 : cJ2_add_3.data.toList.drop 0 = dktJ2_add_3_0 := by decide +kernel
theorem dksJ2_add_3_1 : cJ2_add_3.data.toList.drop 22 = dktJ2_add_3_1 := dk_seg dksJ2_add_3_0 22 rfl rfl
theorem dksJ2_add_3_2 : cJ2_add_3.data.toList.drop 46 = dktJ2_add_3_2 := dk_seg dksJ2_add_3_1 24 rfl rfl
theorem dJ2_add_3_0 : decode cJ2_add_3 0 = .ok (.aload_n 0, 1) := dk_42 (dk_at dksJ2_add_3_0 0 rfl rfl)
theorem dJ2_add_3_1 : decode cJ2_add_3 1 = .ok (.iload_n 1, 1) := dk_27 (dk_at dksJ2_add_3_0 1 rfl rfl)
theorem dJ2_add_3_2 : decode cJ2_add_3 2 = .ok (.invokevirtual 135, 3) := dk_182 0 135 (dk_at dksJ2_add_3_0 2 rfl rfl)
theorem dJ2_add_3_5 : decode cJ2_add_3 5 = .ok (.aload_n 0, 1) := dk_42 (dk_at dksJ2_add_3_0 5 rfl rfl)
theorem dJ2_add_3_6 : decode cJ2_add_3 6 = .ok (.dup, 1) := dk_89 (dk_at dksJ2_add_3_0 6 rfl rfl)
theorem dJ2_add_3_7 : decode cJ2_add_3 7 = .ok (.getfield 63, 3) := dk_180 0 63 (dk_at dksJ2_add_3_0 7 rfl rfl)
theorem dJ2_add_3_10 : decode cJ2_add_3 10 = .ok (.iconst 1, 1) := dk_4 (dk_at dksJ2_add_3_0 10 rfl rfl)
theorem dJ2_add_3_11 : decode cJ2_add_3 11 = .ok (.iadd, 1) := dk_96 (dk_at dksJ2_add_3_0 11 rfl rfl)
theorem dJ2_add_3_12 : decode cJ2_add_3 12 = .ok (.putfield 63, 3) := dk_181 0 63 (dk_at dksJ2_add_3_0 12 rfl rfl)
theorem dJ2_add_3_15 : decode cJ2_add_3 15 = .ok (.aload_n 0, 1) := dk_42 (dk_at dksJ2_add_3_0 15 rfl rfl)
theorem dJ2_add_3_16 : decode cJ2_add_3 16 = .ok (.getfield 48, 3) := dk_180 0 48 (dk_at dksJ2_add_3_0 16 rfl rfl)
theorem dJ2_add_3_19 : decode cJ2_add_3 19 = .ok (.dup, 1) := dk_89 (dk_at dksJ2_add_3_0 19 rfl rfl)
theorem dJ2_add_3_20 : decode cJ2_add_3 20 = .ok (.istore_n 3, 1) := dk_62 (dk_at dksJ2_add_3_0 20 rfl rfl)
theorem dJ2_add_3_21 : decode cJ2_add_3 21 = .ok (.aload_n 0, 1) := dk_42 (dk_at dksJ2_add_3_0 21 rfl rfl)
theorem dJ2_add_3_22 : decode cJ2_add_3 22 = .ok (.getfield 9, 3) := dk_180 0 9 (dk_at dksJ2_add_3_1 0 rfl rfl)
theorem dJ2_add_3_25 : decode cJ2_add_3 25 = .ok (.dup, 1) := dk_89 (dk_at dksJ2_add_3_1 3 rfl rfl)
theorem dJ2_add_3_26 : decode cJ2_add_3 26 = .ok (.astore 4, 2) := dk_58 4 (dk_at dksJ2_add_3_1 4 rfl rfl)
theorem dJ2_add_3_28 : decode cJ2_add_3 28 = .ok (.arraylength, 1) := dk_190 (dk_at dksJ2_add_3_1 6 rfl rfl)
theorem dJ2_add_3_29 : decode cJ2_add_3 29 = .ok (.if_icmp .ne 9, 3) := dk_160 0 9 (dk_at dksJ2_add_3_1 7 rfl rfl)
theorem dJ2_add_3_32 : decode cJ2_add_3 32 = .ok (.aload_n 0, 1) := dk_42 (dk_at dksJ2_add_3_1 10 rfl rfl)
theorem dJ2_add_3_33 : decode cJ2_add_3 33 = .ok (.invokevirtual 129, 3) := dk_182 0 129 (dk_at dksJ2_add_3_1 11 rfl rfl)
theorem dJ2_add_3_36 : decode cJ2_add_3 36 = .ok (.astore 4, 2) := dk_58 4 (dk_at dksJ2_add_3_1 14 rfl rfl)
theorem dJ2_add_3_38 : decode cJ2_add_3 38 = .ok (.aload 4, 2) := dk_25 4 (dk_at dksJ2_add_3_1 16 rfl rfl)
theorem dJ2_add_3_40 : decode cJ2_add_3 40 = .ok (.iload_n 1, 1) := dk_27 (dk_at dksJ2_add_3_1 18 rfl rfl)
theorem dJ2_add_3_41 : decode cJ2_add_3 41 = .ok (.aload 4, 2) := dk_25 4 (dk_at dksJ2_add_3_1 19 rfl rfl)
theorem dJ2_add_3_43 : decode cJ2_add_3 43 = .ok (.iload_n 1, 1) := dk_27 (dk_at dksJ2_add_3_1 21 rfl rfl)
theorem dJ2_add_3_44 : decode cJ2_add_3 44 = .ok (.iconst 1, 1) := dk_4 (dk_at dksJ2_add_3_1 22 rfl rfl)
theorem dJ2_add_3_45 : decode cJ2_add_3 45 = .ok (.iadd, 1) := dk_96 (dk_at dksJ2_add_3_1 23 rfl rfl)
theorem dJ2_add_3_46 : decode cJ2_add_3 46 = .ok (.iload_n 3, 1) := dk_29 (dk_at dksJ2_add_3_2 0 rfl rfl)
theorem dJ2_add_3_47 : decode cJ2_add_3 47 = .ok (.iload_n 1, 1) := dk_27 (dk_at dksJ2_add_3_2 1 rfl rfl)
theorem dJ2_add_3_48 : decode cJ2_add_3 48 = .ok (.isub, 1) := dk_100 (dk_at dksJ2_add_3_2 2 rfl rfl)
theorem dJ2_add_3_49 : decode cJ2_add_3 49 = .ok (.invokestatic 112, 3) := dk_184 0 112 (dk_at dksJ2_add_3_2 3 rfl rfl)
theorem dJ2_add_3_52 : decode cJ2_add_3 52 = .ok (.aload 4, 2) := dk_25 4 (dk_at dksJ2_add_3_2 6 rfl rfl)
theorem dJ2_add_3_54 : decode cJ2_add_3 54 = .ok (.iload_n 1, 1) := dk_27 (dk_at dksJ2_add_3_2 8 rfl rfl)
theorem dJ2_add_3_55 : decode cJ2_add_3 55 = .ok (.aload_n 2, 1) := dk_44 (dk_at dksJ2_add_3_2 9 rfl rfl)
theorem dJ2_add_3_56 : decode cJ2_add_3 56 = .ok (.aastore, 1) := dk_83 (dk_at dksJ2_add_3_2 10 rfl rfl)
theorem dJ2_add_3_57 : decode cJ2_add_3 57 = .ok (.aload_n 0, 1) := dk_42 (dk_at dksJ2_add_3_2 11 rfl rfl)
theorem dJ2_add_3_58 : decode cJ2_add_3 58 = .ok (.iload_n 3, 1) := dk_29 (dk_at dksJ2_add_3_2 12 rfl rfl)
theorem dJ2_add_3_59 : decode cJ2_add_3 59 = .ok (.iconst 1, 1) := dk_4 (dk_at dksJ2_add_3_2 13 rfl rfl)
theorem dJ2_add_3_60 : decode cJ2_add_3 60 = .ok (.iadd, 1) := dk_96 (dk_at dksJ2_add_3_2 14 rfl rfl)
theorem dJ2_add_3_61 : decode cJ2_add_3 61 = .ok (.putfield 48, 3) := dk_181 0 48 (dk_at dksJ2_add_3_2 15 rfl rfl)
theorem dJ2_add_3_64 : decode cJ2_add_3 64 = .ok (.return_, 1) := dk_177 (dk_at dksJ2_add_3_2 18 rfl rfl)
abbrev cJ8_compareTo_2 : ByteArray := prog_41_method_39_code
def dkwJ8_compareTo_2_0 : List UInt8 := [42, 180, 0, 205, 43, 180, 0, 205, 184, 1, 3, 172]
abbrev dktJ8_compareTo_2_0 : List UInt8 := dkwJ8_compareTo_2_0 ++ []
theorem dksJ8_compareTo_2_0 : cJ8_compareTo_2.data.toList.drop 0 = dktJ8_compareTo_2_0 := by decide +kernel
theorem dJ8_compareTo_2_0 : decode cJ8_compareTo_2 0 = .ok (.aload_n 0, 1) := dk_42 (dk_at dksJ8_compareTo_2_0 0 rfl rfl)
theorem dJ8_compareTo_2_1 : decode cJ8_compareTo_2 1 = .ok (.getfield 205, 3) := dk_180 0 205 (dk_at dksJ8_compareTo_2_0 1 rfl rfl)
theorem dJ8_compareTo_2_4 : decode cJ8_compareTo_2 4 = .ok (.aload_n 1, 1) := dk_43 (dk_at dksJ8_compareTo_2_0 4 rfl rfl)
theorem dJ8_compareTo_2_5 : decode cJ8_compareTo_2 5 = .ok (.getfield 205, 3) := dk_180 0 205 (dk_at dksJ8_compareTo_2_0 5 rfl rfl)
theorem dJ8_compareTo_2_8 : decode cJ8_compareTo_2 8 = .ok (.invokestatic 259, 3) := dk_184 1 3 (dk_at dksJ8_compareTo_2_0 8 rfl rfl)
theorem dJ8_compareTo_2_11 : decode cJ8_compareTo_2 11 = .ok (.ireturn, 1) := dk_172 (dk_at dksJ8_compareTo_2_0 11 rfl rfl)
abbrev cJ9_compareTo_2 : ByteArray := prog_47_method_71_code
def dkwJ9_compareTo_2_2 : List UInt8 := [154, 0, 11, 44, 45, 184, 2, 79, 167, 0, 8, 44, 45, 184, 2, 82, 172]
abbrev dktJ9_compareTo_2_2 : List UInt8 := dkwJ9_compareTo_2_2 ++ []
def dkwJ9_compareTo_2_1 : List UInt8 := [160, 0, 22, 21, 4, 154, 0, 11, 44, 45, 184, 2, 74, 167, 0, 8, 44, 45, 184, 2, 78, 172, 21, 4]
abbrev dktJ9_compareTo_2_1 : List UInt8 := dkwJ9_compareTo_2_1 ++ dktJ9_compareTo_2_2
def dkwJ9_compareTo_2_0 : List UInt8 := [42, 180, 0, 9, 77, 43, 180, 0, 9, 78, 42, 182, 1, 79, 54, 4, 21, 4, 43, 182, 1, 79]
abbrev dktJ9_compareTo_2_0 : List UInt8 := dkwJ9_compareTo_2_0 ++ dktJ9_compareTo_2_1
theorem dksJ9_compareTo_2_0 : cJ9_compareTo_2.data.toList.drop 0 = dktJ9_compareTo_2_0 := by decide +kernel
theorem dksJ9_compareTo_2_1 : cJ9_compareTo_2.data.toList.drop 22 = dktJ9_compareTo_2_1 := dk_seg dksJ9_compareTo_2_0 22 rfl rfl
theorem dksJ9_compareTo_2_2 : cJ9_compareTo_2.data.toList.drop 46 = dktJ9_compareTo_2_2 := dk_seg dksJ9_compareTo_2_1 24 rfl rfl
theorem dJ9_compareTo_2_0 : decode cJ9_compareTo_2 0 = .ok (.aload_n 0, 1) := dk_42 (dk_at dksJ9_compareTo_2_0 0 rfl rfl)
theorem dJ9_compareTo_2_1 : decode cJ9_compareTo_2 1 = .ok (.getfield 9, 3) := dk_180 0 9 (dk_at dksJ9_compareTo_2_0 1 rfl rfl)
theorem dJ9_compareTo_2_4 : decode cJ9_compareTo_2 4 = .ok (.astore_n 2, 1) := dk_77 (dk_at dksJ9_compareTo_2_0 4 rfl rfl)
theorem dJ9_compareTo_2_5 : decode cJ9_compareTo_2 5 = .ok (.aload_n 1, 1) := dk_43 (dk_at dksJ9_compareTo_2_0 5 rfl rfl)
theorem dJ9_compareTo_2_6 : decode cJ9_compareTo_2 6 = .ok (.getfield 9, 3) := dk_180 0 9 (dk_at dksJ9_compareTo_2_0 6 rfl rfl)
theorem dJ9_compareTo_2_9 : decode cJ9_compareTo_2 9 = .ok (.astore_n 3, 1) := dk_78 (dk_at dksJ9_compareTo_2_0 9 rfl rfl)
theorem dJ9_compareTo_2_10 : decode cJ9_compareTo_2 10 = .ok (.aload_n 0, 1) := dk_42 (dk_at dksJ9_compareTo_2_0 10 rfl rfl)
theorem dJ9_compareTo_2_11 : decode cJ9_compareTo_2 11 = .ok (.invokevirtual 335, 3) := dk_182 1 79 (dk_at dksJ9_compareTo_2_0 11 rfl rfl)
theorem dJ9_compareTo_2_14 : decode cJ9_compareTo_2 14 = .ok (.istore 4, 2) := dk_54 4 (dk_at dksJ9_compareTo_2_0 14 rfl rfl)
theorem dJ9_compareTo_2_16 : decode cJ9_compareTo_2 16 = .ok (.iload 4, 2) := dk_21 4 (dk_at dksJ9_compareTo_2_0 16 rfl rfl)
theorem dJ9_compareTo_2_18 : decode cJ9_compareTo_2 18 = .ok (.aload_n 1, 1) := dk_43 (dk_at dksJ9_compareTo_2_0 18 rfl rfl)
theorem dJ9_compareTo_2_19 : decode cJ9_compareTo_2 19 = .ok (.invokevirtual 335, 3) := dk_182 1 79 (dk_at dksJ9_compareTo_2_0 19 rfl rfl)
theorem dJ9_compareTo_2_22 : decode cJ9_compareTo_2 22 = .ok (.if_icmp .ne 22, 3) := dk_160 0 22 (dk_at dksJ9_compareTo_2_1 0 rfl rfl)
theorem dJ9_compareTo_2_25 : decode cJ9_compareTo_2 25 = .ok (.iload 4, 2) := dk_21 4 (dk_at dksJ9_compareTo_2_1 3 rfl rfl)
theorem dJ9_compareTo_2_27 : decode cJ9_compareTo_2 27 = .ok (.ifCond .ne 11, 3) := dk_154 0 11 (dk_at dksJ9_compareTo_2_1 5 rfl rfl)
theorem dJ9_compareTo_2_30 : decode cJ9_compareTo_2 30 = .ok (.aload_n 2, 1) := dk_44 (dk_at dksJ9_compareTo_2_1 8 rfl rfl)
theorem dJ9_compareTo_2_31 : decode cJ9_compareTo_2 31 = .ok (.aload_n 3, 1) := dk_45 (dk_at dksJ9_compareTo_2_1 9 rfl rfl)
theorem dJ9_compareTo_2_32 : decode cJ9_compareTo_2 32 = .ok (.invokestatic 586, 3) := dk_184 2 74 (dk_at dksJ9_compareTo_2_1 10 rfl rfl)
theorem dJ9_compareTo_2_35 : decode cJ9_compareTo_2 35 = .ok (.goto 8, 3) := dk_167 0 8 (dk_at dksJ9_compareTo_2_1 13 rfl rfl)
theorem dJ9_compareTo_2_38 : decode cJ9_compareTo_2 38 = .ok (.aload_n 2, 1) := dk_44 (dk_at dksJ9_compareTo_2_1 16 rfl rfl)
theorem dJ9_compareTo_2_39 : decode cJ9_compareTo_2 39 = .ok (.aload_n 3, 1) := dk_45 (dk_at dksJ9_compareTo_2_1 17 rfl rfl)
theorem dJ9_compareTo_2_40 : decode cJ9_compareTo_2 40 = .ok (.invokestatic 590, 3) := dk_184 2 78 (dk_at dksJ9_compareTo_2_1 18 rfl rfl)
theorem dJ9_compareTo_2_43 : decode cJ9_compareTo_2 43 = .ok (.ireturn, 1) := dk_172 (dk_at dksJ9_compareTo_2_1 21 rfl rfl)
theorem dJ9_compareTo_2_44 : decode cJ9_compareTo_2 44 = .ok (.iload 4, 2) := dk_21 4 (dk_at dksJ9_compareTo_2_1 22 rfl rfl)
theorem dJ9_compareTo_2_46 : decode cJ9_compareTo_2 46 = .ok (.ifCond .ne 11, 3) := dk_154 0 11 (dk_at dksJ9_compareTo_2_2 0 rfl rfl)
theorem dJ9_compareTo_2_49 : decode cJ9_compareTo_2 49 = .ok (.aload_n 2, 1) := dk_44 (dk_at dksJ9_compareTo_2_2 3 rfl rfl)
theorem dJ9_compareTo_2_50 : decode cJ9_compareTo_2 50 = .ok (.aload_n 3, 1) := dk_45 (dk_at dksJ9_compareTo_2_2 4 rfl rfl)
theorem dJ9_compareTo_2_51 : decode cJ9_compareTo_2 51 = .ok (.invokestatic 591, 3) := dk_184 2 79 (dk_at dksJ9_compareTo_2_2 5 rfl rfl)
theorem dJ9_compareTo_2_54 : decode cJ9_compareTo_2 54 = .ok (.goto 8, 3) := dk_167 0 8 (dk_at dksJ9_compareTo_2_2 8 rfl rfl)
theorem dJ9_compareTo_2_57 : decode cJ9_compareTo_2 57 = .ok (.aload_n 2, 1) := dk_44 (dk_at dksJ9_compareTo_2_2 11 rfl rfl)
theorem dJ9_compareTo_2_58 : decode cJ9_compareTo_2 58 = .ok (.aload_n 3, 1) := dk_45 (dk_at dksJ9_compareTo_2_2 12 rfl rfl)
theorem dJ9_compareTo_2_59 : decode cJ9_compareTo_2 59 = .ok (.invokestatic 594, 3) := dk_184 2 82 (dk_at dksJ9_compareTo_2_2 13 rfl rfl)
theorem dJ9_compareTo_2_62 : decode cJ9_compareTo_2 62 = .ok (.ireturn, 1) := dk_172 (dk_at dksJ9_compareTo_2_2 16 rfl rfl)
abbrev cJ34_compareTo_2 : ByteArray := prog_48_method_5_code
def dkwJ34_compareTo_2_0 : List UInt8 := [42, 43, 183, 0, 13, 172]
abbrev dktJ34_compareTo_2_0 : List UInt8 := dkwJ34_compareTo_2_0 ++ []
theorem dksJ34_compareTo_2_0 : cJ34_compareTo_2.data.toList.drop 0 = dktJ34_compareTo_2_0 := by decide +kernel
theorem dJ34_compareTo_2_0 : decode cJ34_compareTo_2 0 = .ok (.aload_n 0, 1) := dk_42 (dk_at dksJ34_compareTo_2_0 0 rfl rfl)
theorem dJ34_compareTo_2_1 : decode cJ34_compareTo_2 1 = .ok (.aload_n 1, 1) := dk_43 (dk_at dksJ34_compareTo_2_0 1 rfl rfl)
theorem dJ34_compareTo_2_2 : decode cJ34_compareTo_2 2 = .ok (.invokespecial 13, 3) := dk_183 0 13 (dk_at dksJ34_compareTo_2_0 2 rfl rfl)
theorem dJ34_compareTo_2_5 : decode cJ34_compareTo_2 5 = .ok (.ireturn, 1) := dk_172 (dk_at dksJ34_compareTo_2_0 5 rfl rfl)
abbrev cJ4_colorOf : ByteArray := prog_83_method_76_code
def dkwJ4_colorOf_0 : List UInt8 := [42, 199, 0, 7, 4, 167, 0, 7, 42, 180, 1, 34, 172]
abbrev dktJ4_colorOf_0 : List UInt8 := dkwJ4_colorOf_0 ++ []
theorem dksJ4_colorOf_0 : cJ4_colorOf.data.toList.drop 0 = dktJ4_colorOf_0 := by decide +kernel
theorem dJ4_colorOf_0 : decode cJ4_colorOf 0 = .ok (.aload_n 0, 1) := dk_42 (dk_at dksJ4_colorOf_0 0 rfl rfl)
theorem dJ4_colorOf_1 : decode cJ4_colorOf 1 = .ok (.ifnonnull 7, 3) := dk_199 0 7 (dk_at dksJ4_colorOf_0 1 rfl rfl)
theorem dJ4_colorOf_4 : decode cJ4_colorOf 4 = .ok (.iconst 1, 1) := dk_4 (dk_at dksJ4_colorOf_0 4 rfl rfl)
theorem dJ4_colorOf_5 : decode cJ4_colorOf 5 = .ok (.goto 7, 3) := dk_167 0 7 (dk_at dksJ4_colorOf_0 5 rfl rfl)
theorem dJ4_colorOf_8 : decode cJ4_colorOf 8 = .ok (.aload_n 0, 1) := dk_42 (dk_at dksJ4_colorOf_0 8 rfl rfl)
theorem dJ4_colorOf_9 : decode cJ4_colorOf 9 = .ok (.getfield 290, 3) := dk_180 1 34 (dk_at dksJ4_colorOf_0 9 rfl rfl)
theorem dJ4_colorOf_12 : decode cJ4_colorOf 12 = .ok (.ireturn, 1) := dk_172 (dk_at dksJ4_colorOf_0 12 rfl rfl)
abbrev cJ4_parentOf : ByteArray := prog_83_method_77_code
def dkwJ4_parentOf_0 : List UInt8 := [42, 199, 0, 7, 1, 167, 0, 7, 42, 180, 0, 124, 176]
abbrev dktJ4_parentOf_0 : List UInt8 := dkwJ4_parentOf_0 ++ []
theorem dksJ4_parentOf_0 : cJ4_parentOf.data.toList.drop 0 = dktJ4_parentOf_0 := by decide +kernel
theorem dJ4_parentOf_0 : decode cJ4_parentOf 0 = .ok (.aload_n 0, 1) := dk_42 (dk_at dksJ4_parentOf_0 0 rfl rfl)
theorem dJ4_parentOf_1 : decode cJ4_parentOf 1 = .ok (.ifnonnull 7, 3) := dk_199 0 7 (dk_at dksJ4_parentOf_0 1 rfl rfl)
theorem dJ4_parentOf_4 : decode cJ4_parentOf 4 = .ok (.aconst_null, 1) := dk_1 (dk_at dksJ4_parentOf_0 4 rfl rfl)
theorem dJ4_parentOf_5 : decode cJ4_parentOf 5 = .ok (.goto 7, 3) := dk_167 0 7 (dk_at dksJ4_parentOf_0 5 rfl rfl)
theorem dJ4_parentOf_8 : decode cJ4_parentOf 8 = .ok (.aload_n 0, 1) := dk_42 (dk_at dksJ4_parentOf_0 8 rfl rfl)
theorem dJ4_parentOf_9 : decode cJ4_parentOf 9 = .ok (.getfield 124, 3) := dk_180 0 124 (dk_at dksJ4_parentOf_0 9 rfl rfl)
theorem dJ4_parentOf_12 : decode cJ4_parentOf 12 = .ok (.areturn, 1) := dk_176 (dk_at dksJ4_parentOf_0 12 rfl rfl)
abbrev cJ4_leftOf : ByteArray := prog_83_method_79_code
def dkwJ4_leftOf_0 : List UInt8 := [42, 199, 0, 7, 1, 167, 0, 7, 42, 180, 0, 111, 176]
abbrev dktJ4_leftOf_0 : List UInt8 := dkwJ4_leftOf_0 ++ []
theorem dksJ4_leftOf_0 : cJ4_leftOf.data.toList.drop 0 = dktJ4_leftOf_0 := by decide +kernel
theorem dJ4_leftOf_0 : decode cJ4_leftOf 0 = .ok (.aload_n 0, 1) := dk_42 (dk_at dksJ4_leftOf_0 0 rfl rfl)
theorem dJ4_leftOf_1 : decode cJ4_leftOf 1 = .ok (.ifnonnull 7, 3) := dk_199 0 7 (dk_at dksJ4_leftOf_0 1 rfl rfl)
theorem dJ4_leftOf_4 : decode cJ4_leftOf 4 = .ok (.aconst_null, 1) := dk_1 (dk_at dksJ4_leftOf_0 4 rfl rfl)
theorem dJ4_leftOf_5 : decode cJ4_leftOf 5 = .ok (.goto 7, 3) := dk_167 0 7 (dk_at dksJ4_leftOf_0 5 rfl rfl)
theorem dJ4_leftOf_8 : decode cJ4_leftOf 8 = .ok (.aload_n 0, 1) := dk_42 (dk_at dksJ4_leftOf_0 8 rfl rfl)
theorem dJ4_leftOf_9 : decode cJ4_leftOf 9 = .ok (.getfield 111, 3) := dk_180 0 111 (dk_at dksJ4_leftOf_0 9 rfl rfl)
theorem dJ4_leftOf_12 : decode cJ4_leftOf 12 = .ok (.areturn, 1) := dk_176 (dk_at dksJ4_leftOf_0 12 rfl rfl)
abbrev cJ4_rightOf : ByteArray := prog_83_method_80_code
def dkwJ4_rightOf_0 : List UInt8 := [42, 199, 0, 7, 1, 167, 0, 7, 42, 180, 0, 114, 176]
abbrev dktJ4_rightOf_0 : List UInt8 := dkwJ4_rightOf_0 ++ []
theorem dksJ4_rightOf_0 : cJ4_rightOf.data.toList.drop 0 = dktJ4_rightOf_0 := by decide +kernel
theorem dJ4_rightOf_0 : decode cJ4_rightOf 0 = .ok (.aload_n 0, 1) := dk_42 (dk_at dksJ4_rightOf_0 0 rfl rfl)
theorem dJ4_rightOf_1 : decode cJ4_rightOf 1 = .ok (.ifnonnull 7, 3) := dk_199 0 7 (dk_at dksJ4_rightOf_0 1 rfl rfl)
theorem dJ4_rightOf_4 : decode cJ4_rightOf 4 = .ok (.aconst_null, 1) := dk_1 (dk_at dksJ4_rightOf_0 4 rfl rfl)
theorem dJ4_rightOf_5 : decode cJ4_rightOf 5 = .ok (.goto 7, 3) := dk_167 0 7 (dk_at dksJ4_rightOf_0 5 rfl rfl)
theorem dJ4_rightOf_8 : decode cJ4_rightOf 8 = .ok (.aload_n 0, 1) := dk_42 (dk_at dksJ4_rightOf_0 8 rfl rfl)
theorem dJ4_rightOf_9 : decode cJ4_rightOf 9 = .ok (.getfield 114, 3) := dk_180 0 114 (dk_at dksJ4_rightOf_0 9 rfl rfl)
theorem dJ4_rightOf_12 : decode cJ4_rightOf 12 = .ok (.areturn, 1) := dk_176 (dk_at dksJ4_rightOf_0 12 rfl rfl)
abbrev cJ4_setColor : ByteArray := prog_83_method_78_code
def dkwJ4_setColor_0 : List UInt8 := [42, 198, 0, 8, 42, 27, 181, 1, 34, 177]
abbrev dktJ4_setColor_0 : List UInt8 := dkwJ4_setColor_0 ++ []
theorem dksJ4_setColor_0 : cJ4_setColor.data.toList.drop 0 = dktJ4_setColor_0 := by decide +kernel
theorem dJ4_setColor_0 : decode cJ4_setColor 0 = .ok (.aload_n 0, 1) := dk_42 (dk_at dksJ4_setColor_0 0 rfl rfl)
theorem dJ4_setColor_1 : decode cJ4_setColor 1 = .ok (.ifnull 8, 3) := dk_198 0 8 (dk_at dksJ4_setColor_0 1 rfl rfl)
theorem dJ4_setColor_4 : decode cJ4_setColor 4 = .ok (.aload_n 0, 1) := dk_42 (dk_at dksJ4_setColor_0 4 rfl rfl)
theorem dJ4_setColor_5 : decode cJ4_setColor 5 = .ok (.iload_n 1, 1) := dk_27 (dk_at dksJ4_setColor_0 5 rfl rfl)
theorem dJ4_setColor_6 : decode cJ4_setColor 6 = .ok (.putfield 290, 3) := dk_181 1 34 (dk_at dksJ4_setColor_0 6 rfl rfl)
theorem dJ4_setColor_9 : decode cJ4_setColor 9 = .ok (.return_, 1) := dk_177 (dk_at dksJ4_setColor_0 9 rfl rfl)
abbrev cJ4_rotateLeft : ByteArray := prog_83_method_81_code
def dkwJ4_rotateLeft_4 : List UInt8 := [177]
abbrev dktJ4_rotateLeft_4 : List UInt8 := dkwJ4_rotateLeft_4 ++ []
def dkwJ4_rotateLeft_3 : List UInt8 := [181, 0, 111, 167, 0, 11, 43, 180, 0, 124, 44, 181, 0, 114, 44, 43, 181, 0, 111, 43, 44, 181, 0, 124]
abbrev dktJ4_rotateLeft_3 : List UInt8 := dkwJ4_rotateLeft_3 ++ dktJ4_rotateLeft_4
def dkwJ4_rotateLeft_2 : List UInt8 := [44, 181, 0, 101, 167, 0, 33, 43, 180, 0, 124, 180, 0, 111, 43, 166, 0, 14, 43, 180, 0, 124, 44]
abbrev dktJ4_rotateLeft_2 : List UInt8 := dkwJ4_rotateLeft_2 ++ dktJ4_rotateLeft_3
def dkwJ4_rotateLeft_1 : List UInt8 := [44, 180, 0, 111, 43, 181, 0, 124, 44, 43, 180, 0, 124, 181, 0, 124, 43, 180, 0, 124, 199, 0, 11, 42]
abbrev dktJ4_rotateLeft_1 : List UInt8 := dkwJ4_rotateLeft_1 ++ dktJ4_rotateLeft_2
def dkwJ4_rotateLeft_0 : List UInt8 := [43, 198, 0, 94, 43, 180, 0, 114, 77, 43, 44, 180, 0, 111, 181, 0, 114, 44, 180, 0, 111, 198, 0, 11]
abbrev dktJ4_rotateLeft_0 : List UInt8 := dkwJ4_rotateLeft_0 ++ dktJ4_rotateLeft_1
theorem dksJ4_rotateLeft_0 : cJ4_rotateLeft.data.toList.drop 0 = dktJ4_rotateLeft_0 := by decide +kernel
theorem dksJ4_rotateLeft_1 : cJ4_rotateLeft.data.toList.drop 24 = dktJ4_rotateLeft_1 := dk_seg dksJ4_rotateLeft_0 24 rfl rfl
theorem dksJ4_rotateLeft_2 : cJ4_rotateLeft.data.toList.drop 48 = dktJ4_rotateLeft_2 := dk_seg dksJ4_rotateLeft_1 24 rfl rfl
theorem dksJ4_rotateLeft_3 : cJ4_rotateLeft.data.toList.drop 71 = dktJ4_rotateLeft_3 := dk_seg dksJ4_rotateLeft_2 23 rfl rfl
theorem dksJ4_rotateLeft_4 : cJ4_rotateLeft.data.toList.drop 95 = dktJ4_rotateLeft_4 := dk_seg dksJ4_rotateLeft_3 24 rfl rfl
theorem dJ4_rotateLeft_0 : decode cJ4_rotateLeft 0 = .ok (.aload_n 1, 1) := dk_43 (dk_at dksJ4_rotateLeft_0 0 rfl rfl)
theorem dJ4_rotateLeft_1 : decode cJ4_rotateLeft 1 = .ok (.ifnull 94, 3) := dk_198 0 94 (dk_at dksJ4_rotateLeft_0 1 rfl rfl)
theorem dJ4_rotateLeft_4 : decode cJ4_rotateLeft 4 = .ok (.aload_n 1, 1) := dk_43 (dk_at dksJ4_rotateLeft_0 4 rfl rfl)
theorem dJ4_rotateLeft_5 : decode cJ4_rotateLeft 5 = .ok (.getfield 114, 3) := dk_180 0 114 (dk_at dksJ4_rotateLeft_0 5 rfl rfl)
theorem dJ4_rotateLeft_8 : decode cJ4_rotateLeft 8 = .ok (.astore_n 2, 1) := dk_77 (dk_at dksJ4_rotateLeft_0 8 rfl rfl)
theorem dJ4_rotateLeft_9 : decode cJ4_rotateLeft 9 = .ok (.aload_n 1, 1) := dk_43 (dk_at dksJ4_rotateLeft_0 9 rfl rfl)
theorem dJ4_rotateLeft_10 : decode cJ4_rotateLeft 10 = .ok (.aload_n 2, 1) := dk_44 (dk_at dksJ4_rotateLeft_0 10 rfl rfl)
theorem dJ4_rotateLeft_11 : decode cJ4_rotateLeft 11 = .ok (.getfield 111, 3) := dk_180 0 111 (dk_at dksJ4_rotateLeft_0 11 rfl rfl)
theorem dJ4_rotateLeft_14 : decode cJ4_rotateLeft 14 = .ok (.putfield 114, 3) := dk_181 0 114 (dk_at dksJ4_rotateLeft_0 14 rfl rfl)
theorem dJ4_rotateLeft_17 : decode cJ4_rotateLeft 17 = .ok (.aload_n 2, 1) := dk_44 (dk_at dksJ4_rotateLeft_0 17 rfl rfl)
theorem dJ4_rotateLeft_18 : decode cJ4_rotateLeft 18 = .ok (.getfield 111, 3) := dk_180 0 111 (dk_at dksJ4_rotateLeft_0 18 rfl rfl)
theorem dJ4_rotateLeft_21 : decode cJ4_rotateLeft 21 = .ok (.ifnull 11, 3) := dk_198 0 11 (dk_at dksJ4_rotateLeft_0 21 rfl rfl)
theorem dJ4_rotateLeft_24 : decode cJ4_rotateLeft 24 = .ok (.aload_n 2, 1) := dk_44 (dk_at dksJ4_rotateLeft_1 0 rfl rfl)
theorem dJ4_rotateLeft_25 : decode cJ4_rotateLeft 25 = .ok (.getfield 111, 3) := dk_180 0 111 (dk_at dksJ4_rotateLeft_1 1 rfl rfl)
theorem dJ4_rotateLeft_28 : decode cJ4_rotateLeft 28 = .ok (.aload_n 1, 1) := dk_43 (dk_at dksJ4_rotateLeft_1 4 rfl rfl)
theorem dJ4_rotateLeft_29 : decode cJ4_rotateLeft 29 = .ok (.putfield 124, 3) := dk_181 0 124 (dk_at dksJ4_rotateLeft_1 5 rfl rfl)
theorem dJ4_rotateLeft_32 : decode cJ4_rotateLeft 32 = .ok (.aload_n 2, 1) := dk_44 (dk_at dksJ4_rotateLeft_1 8 rfl rfl)
theorem dJ4_rotateLeft_33 : decode cJ4_rotateLeft 33 = .ok (.aload_n 1, 1) := dk_43 (dk_at dksJ4_rotateLeft_1 9 rfl rfl)
theorem dJ4_rotateLeft_34 : decode cJ4_rotateLeft 34 = .ok (.getfield 124, 3) := dk_180 0 124 (dk_at dksJ4_rotateLeft_1 10 rfl rfl)
theorem dJ4_rotateLeft_37 : decode cJ4_rotateLeft 37 = .ok (.putfield 124, 3) := dk_181 0 124 (dk_at dksJ4_rotateLeft_1 13 rfl rfl)
theorem dJ4_rotateLeft_40 : decode cJ4_rotateLeft 40 = .ok (.aload_n 1, 1) := dk_43 (dk_at dksJ4_rotateLeft_1 16 rfl rfl)
theorem dJ4_rotateLeft_41 : decode cJ4_rotateLeft 41 = .ok (.getfield 124, 3) := dk_180 0 124 (dk_at dksJ4_rotateLeft_1 17 rfl rfl)
theorem dJ4_rotateLeft_44 : decode cJ4_rotateLeft 44 = .ok (.ifnonnull 11, 3) := dk_199 0 11 (dk_at dksJ4_rotateLeft_1 20 rfl rfl)
theorem dJ4_rotateLeft_47 : decode cJ4_rotateLeft 47 = .ok (.aload_n 0, 1) := dk_42 (dk_at dksJ4_rotateLeft_1 23 rfl rfl)
theorem dJ4_rotateLeft_48 : decode cJ4_rotateLeft 48 = .ok (.aload_n 2, 1) := dk_44 (dk_at dksJ4_rotateLeft_2 0 rfl rfl)
theorem dJ4_rotateLeft_49 : decode cJ4_rotateLeft 49 = .ok (.putfield 101, 3) := dk_181 0 101 (dk_at dksJ4_rotateLeft_2 1 rfl rfl)
theorem dJ4_rotateLeft_52 : decode cJ4_rotateLeft 52 = .ok (.goto 33, 3) := dk_167 0 33 (dk_at dksJ4_rotateLeft_2 4 rfl rfl)
theorem dJ4_rotateLeft_55 : decode cJ4_rotateLeft 55 = .ok (.aload_n 1, 1) := dk_43 (dk_at dksJ4_rotateLeft_2 7 rfl rfl)
theorem dJ4_rotateLeft_56 : decode cJ4_rotateLeft 56 = .ok (.getfield 124, 3) := dk_180 0 124 (dk_at dksJ4_rotateLeft_2 8 rfl rfl)
theorem dJ4_rotateLeft_59 : decode cJ4_rotateLeft 59 = .ok (.getfield 111, 3) := dk_180 0 111 (dk_at dksJ4_rotateLeft_2 11 rfl rfl)
theorem dJ4_rotateLeft_62 : decode cJ4_rotateLeft 62 = .ok (.aload_n 1, 1) := dk_43 (dk_at dksJ4_rotateLeft_2 14 rfl rfl)
theorem dJ4_rotateLeft_63 : decode cJ4_rotateLeft 63 = .ok (.if_acmp .ne 14, 3) := dk_166 0 14 (dk_at dksJ4_rotateLeft_2 15 rfl rfl)
theorem dJ4_rotateLeft_66 : decode cJ4_rotateLeft 66 = .ok (.aload_n 1, 1) := dk_43 (dk_at dksJ4_rotateLeft_2 18 rfl rfl)
theorem dJ4_rotateLeft_67 : decode cJ4_rotateLeft 67 = .ok (.getfield 124, 3) := dk_180 0 124 (dk_at dksJ4_rotateLeft_2 19 rfl rfl)
theorem dJ4_rotateLeft_70 : decode cJ4_rotateLeft 70 = .ok (.aload_n 2, 1) := dk_44 (dk_at dksJ4_rotateLeft_2 22 rfl rfl)
theorem dJ4_rotateLeft_71 : decode cJ4_rotateLeft 71 = .ok (.putfield 111, 3) := dk_181 0 111 (dk_at dksJ4_rotateLeft_3 0 rfl rfl)
theorem dJ4_rotateLeft_74 : decode cJ4_rotateLeft 74 = .ok (.goto 11, 3) := dk_167 0 11 (dk_at dksJ4_rotateLeft_3 3 rfl rfl)
theorem dJ4_rotateLeft_77 : decode cJ4_rotateLeft 77 = .ok (.aload_n 1, 1) := dk_43 (dk_at dksJ4_rotateLeft_3 6 rfl rfl)
theorem dJ4_rotateLeft_78 : decode cJ4_rotateLeft 78 = .ok (.getfield 124, 3) := dk_180 0 124 (dk_at dksJ4_rotateLeft_3 7 rfl rfl)
theorem dJ4_rotateLeft_81 : decode cJ4_rotateLeft 81 = .ok (.aload_n 2, 1) := dk_44 (dk_at dksJ4_rotateLeft_3 10 rfl rfl)
theorem dJ4_rotateLeft_82 : decode cJ4_rotateLeft 82 = .ok (.putfield 114, 3) := dk_181 0 114 (dk_at dksJ4_rotateLeft_3 11 rfl rfl)
theorem dJ4_rotateLeft_85 : decode cJ4_rotateLeft 85 = .ok (.aload_n 2, 1) := dk_44 (dk_at dksJ4_rotateLeft_3 14 rfl rfl)
theorem dJ4_rotateLeft_86 : decode cJ4_rotateLeft 86 = .ok (.aload_n 1, 1) := dk_43 (dk_at dksJ4_rotateLeft_3 15 rfl rfl)
theorem dJ4_rotateLeft_87 : decode cJ4_rotateLeft 87 = .ok (.putfield 111, 3) := dk_181 0 111 (dk_at dksJ4_rotateLeft_3 16 rfl rfl)
theorem dJ4_rotateLeft_90 : decode cJ4_rotateLeft 90 = .ok (.aload_n 1, 1) := dk_43 (dk_at dksJ4_rotateLeft_3 19 rfl rfl)
theorem dJ4_rotateLeft_91 : decode cJ4_rotateLeft 91 = .ok (.aload_n 2, 1) := dk_44 (dk_at dksJ4_rotateLeft_3 20 rfl rfl)
theorem dJ4_rotateLeft_92 : decode cJ4_rotateLeft 92 = .ok (.putfield 124, 3) := dk_181 0 124 (dk_at dksJ4_rotateLeft_3 21 rfl rfl)
theorem dJ4_rotateLeft_95 : decode cJ4_rotateLeft 95 = .ok (.return_, 1) := dk_177 (dk_at dksJ4_rotateLeft_4 0 rfl rfl)
abbrev cJ4_rotateRight : ByteArray := prog_83_method_82_code
def dkwJ4_rotateRight_4 : List UInt8 := [177]
abbrev dktJ4_rotateRight_4 : List UInt8 := dkwJ4_rotateRight_4 ++ []
def dkwJ4_rotateRight_3 : List UInt8 := [181, 0, 114, 167, 0, 11, 43, 180, 0, 124, 44, 181, 0, 111, 44, 43, 181, 0, 114, 43, 44, 181, 0, 124]
abbrev dktJ4_rotateRight_3 : List UInt8 := dkwJ4_rotateRight_3 ++ dktJ4_rotateRight_4
def dkwJ4_rotateRight_2 : List UInt8 := [44, 181, 0, 101, 167, 0, 33, 43, 180, 0, 124, 180, 0, 114, 43, 166, 0, 14, 43, 180, 0, 124, 44]
abbrev dktJ4_rotateRight_2 : List UInt8 := dkwJ4_rotateRight_2 ++ dktJ4_rotateRight_3
def dkwJ4_rotateRight_1 : List UInt8 := [44, 180, 0, 114, 43, 181, 0, 124, 44, 43, 180, 0, 124, 181, 0, 124, 43, 180, 0, 124, 199, 0, 11, 42]
abbrev dktJ4_rotateRight_1 : List UInt8 := dkwJ4_rotateRight_1 ++ dktJ4_rotateRight_2
def dkwJ4_rotateRight_0 : List UInt8 := [43, 198, 0, 94, 43, 180, 0, 111, 77, 43, 44, 180, 0, 114, 181, 0, 111, 44, 180, 0, 114, 198, 0, 11]
abbrev dktJ4_rotateRight_0 : List UInt8 := dkwJ4_rotateRight_0 ++ dktJ4_rotateRight_1
theorem dksJ4_rotateRight_0 : cJ4_rotateRight.data.toList.drop 0 = dktJ4_rotateRight_0 := by decide +kernel
theorem dksJ4_rotateRight_1 : cJ4_rotateRight.data.toList.drop 24 = dktJ4_rotateRight_1 := dk_seg dksJ4_rotateRight_0 24 rfl rfl
theorem dksJ4_rotateRight_2 : cJ4_rotateRight.data.toList.drop 48 = dktJ4_rotateRight_2 := dk_seg dksJ4_rotateRight_1 24 rfl rfl
theorem dksJ4_rotateRight_3 : cJ4_rotateRight.data.toList.drop 71 = dktJ4_rotateRight_3 := dk_seg dksJ4_rotateRight_2 23 rfl rfl
theorem dksJ4_rotateRight_4 : cJ4_rotateRight.data.toList.drop 95 = dktJ4_rotateRight_4 := dk_seg dksJ4_rotateRight_3 24 rfl rfl
theorem dJ4_rotateRight_0 : decode cJ4_rotateRight 0 = .ok (.aload_n 1, 1) := dk_43 (dk_at dksJ4_rotateRight_0 0 rfl rfl)
theorem dJ4_rotateRight_1 : decode cJ4_rotateRight 1 = .ok (.ifnull 94, 3) := dk_198 0 94 (dk_at dksJ4_rotateRight_0 1 rfl rfl)
theorem dJ4_rotateRight_4 : decode cJ4_rotateRight 4 = .ok (.aload_n 1, 1) := dk_43 (dk_at dksJ4_rotateRight_0 4 rfl rfl)
theorem dJ4_rotateRight_5 : decode cJ4_rotateRight 5 = .ok (.getfield 111, 3) := dk_180 0 111 (dk_at dksJ4_rotateRight_0 5 rfl rfl)
theorem dJ4_rotateRight_8 : decode cJ4_rotateRight 8 = .ok (.astore_n 2, 1) := dk_77 (dk_at dksJ4_rotateRight_0 8 rfl rfl)
theorem dJ4_rotateRight_9 : decode cJ4_rotateRight 9 = .ok (.aload_n 1, 1) := dk_43 (dk_at dksJ4_rotateRight_0 9 rfl rfl)
theorem dJ4_rotateRight_10 : decode cJ4_rotateRight 10 = .ok (.aload_n 2, 1) := dk_44 (dk_at dksJ4_rotateRight_0 10 rfl rfl)
theorem dJ4_rotateRight_11 : decode cJ4_rotateRight 11 = .ok (.getfield 114, 3) := dk_180 0 114 (dk_at dksJ4_rotateRight_0 11 rfl rfl)
theorem dJ4_rotateRight_14 : decode cJ4_rotateRight 14 = .ok (.putfield 111, 3) := dk_181 0 111 (dk_at dksJ4_rotateRight_0 14 rfl rfl)
theorem dJ4_rotateRight_17 : decode cJ4_rotateRight 17 = .ok (.aload_n 2, 1) := dk_44 (dk_at dksJ4_rotateRight_0 17 rfl rfl)
theorem dJ4_rotateRight_18 : decode cJ4_rotateRight 18 = .ok (.getfield 114, 3) := dk_180 0 114 (dk_at dksJ4_rotateRight_0 18 rfl rfl)
theorem dJ4_rotateRight_21 : decode cJ4_rotateRight 21 = .ok (.ifnull 11, 3) := dk_198 0 11 (dk_at dksJ4_rotateRight_0 21 rfl rfl)
theorem dJ4_rotateRight_24 : decode cJ4_rotateRight 24 = .ok (.aload_n 2, 1) := dk_44 (dk_at dksJ4_rotateRight_1 0 rfl rfl)
theorem dJ4_rotateRight_25 : decode cJ4_rotateRight 25 = .ok (.getfield 114, 3) := dk_180 0 114 (dk_at dksJ4_rotateRight_1 1 rfl rfl)
theorem dJ4_rotateRight_28 : decode cJ4_rotateRight 28 = .ok (.aload_n 1, 1) := dk_43 (dk_at dksJ4_rotateRight_1 4 rfl rfl)
theorem dJ4_rotateRight_29 : decode cJ4_rotateRight 29 = .ok (.putfield 124, 3) := dk_181 0 124 (dk_at dksJ4_rotateRight_1 5 rfl rfl)
theorem dJ4_rotateRight_32 : decode cJ4_rotateRight 32 = .ok (.aload_n 2, 1) := dk_44 (dk_at dksJ4_rotateRight_1 8 rfl rfl)
theorem dJ4_rotateRight_33 : decode cJ4_rotateRight 33 = .ok (.aload_n 1, 1) := dk_43 (dk_at dksJ4_rotateRight_1 9 rfl rfl)
theorem dJ4_rotateRight_34 : decode cJ4_rotateRight 34 = .ok (.getfield 124, 3) := dk_180 0 124 (dk_at dksJ4_rotateRight_1 10 rfl rfl)
theorem dJ4_rotateRight_37 : decode cJ4_rotateRight 37 = .ok (.putfield 124, 3) := dk_181 0 124 (dk_at dksJ4_rotateRight_1 13 rfl rfl)
theorem dJ4_rotateRight_40 : decode cJ4_rotateRight 40 = .ok (.aload_n 1, 1) := dk_43 (dk_at dksJ4_rotateRight_1 16 rfl rfl)
theorem dJ4_rotateRight_41 : decode cJ4_rotateRight 41 = .ok (.getfield 124, 3) := dk_180 0 124 (dk_at dksJ4_rotateRight_1 17 rfl rfl)
theorem dJ4_rotateRight_44 : decode cJ4_rotateRight 44 = .ok (.ifnonnull 11, 3) := dk_199 0 11 (dk_at dksJ4_rotateRight_1 20 rfl rfl)
theorem dJ4_rotateRight_47 : decode cJ4_rotateRight 47 = .ok (.aload_n 0, 1) := dk_42 (dk_at dksJ4_rotateRight_1 23 rfl rfl)
theorem dJ4_rotateRight_48 : decode cJ4_rotateRight 48 = .ok (.aload_n 2, 1) := dk_44 (dk_at dksJ4_rotateRight_2 0 rfl rfl)
theorem dJ4_rotateRight_49 : decode cJ4_rotateRight 49 = .ok (.putfield 101, 3) := dk_181 0 101 (dk_at dksJ4_rotateRight_2 1 rfl rfl)
theorem dJ4_rotateRight_52 : decode cJ4_rotateRight 52 = .ok (.goto 33, 3) := dk_167 0 33 (dk_at dksJ4_rotateRight_2 4 rfl rfl)
theorem dJ4_rotateRight_55 : decode cJ4_rotateRight 55 = .ok (.aload_n 1, 1) := dk_43 (dk_at dksJ4_rotateRight_2 7 rfl rfl)
theorem dJ4_rotateRight_56 : decode cJ4_rotateRight 56 = .ok (.getfield 124, 3) := dk_180 0 124 (dk_at dksJ4_rotateRight_2 8 rfl rfl)
theorem dJ4_rotateRight_59 : decode cJ4_rotateRight 59 = .ok (.getfield 114, 3) := dk_180 0 114 (dk_at dksJ4_rotateRight_2 11 rfl rfl)
theorem dJ4_rotateRight_62 : decode cJ4_rotateRight 62 = .ok (.aload_n 1, 1) := dk_43 (dk_at dksJ4_rotateRight_2 14 rfl rfl)
theorem dJ4_rotateRight_63 : decode cJ4_rotateRight 63 = .ok (.if_acmp .ne 14, 3) := dk_166 0 14 (dk_at dksJ4_rotateRight_2 15 rfl rfl)
theorem dJ4_rotateRight_66 : decode cJ4_rotateRight 66 = .ok (.aload_n 1, 1) := dk_43 (dk_at dksJ4_rotateRight_2 18 rfl rfl)
theorem dJ4_rotateRight_67 : decode cJ4_rotateRight 67 = .ok (.getfield 124, 3) := dk_180 0 124 (dk_at dksJ4_rotateRight_2 19 rfl rfl)
theorem dJ4_rotateRight_70 : decode cJ4_rotateRight 70 = .ok (.aload_n 2, 1) := dk_44 (dk_at dksJ4_rotateRight_2 22 rfl rfl)
theorem dJ4_rotateRight_71 : decode cJ4_rotateRight 71 = .ok (.putfield 114, 3) := dk_181 0 114 (dk_at dksJ4_rotateRight_3 0 rfl rfl)
theorem dJ4_rotateRight_74 : decode cJ4_rotateRight 74 = .ok (.goto 11, 3) := dk_167 0 11 (dk_at dksJ4_rotateRight_3 3 rfl rfl)
theorem dJ4_rotateRight_77 : decode cJ4_rotateRight 77 = .ok (.aload_n 1, 1) := dk_43 (dk_at dksJ4_rotateRight_3 6 rfl rfl)
theorem dJ4_rotateRight_78 : decode cJ4_rotateRight 78 = .ok (.getfield 124, 3) := dk_180 0 124 (dk_at dksJ4_rotateRight_3 7 rfl rfl)
theorem dJ4_rotateRight_81 : decode cJ4_rotateRight 81 = .ok (.aload_n 2, 1) := dk_44 (dk_at dksJ4_rotateRight_3 10 rfl rfl)
theorem dJ4_rotateRight_82 : decode cJ4_rotateRight 82 = .ok (.putfield 111, 3) := dk_181 0 111 (dk_at dksJ4_rotateRight_3 11 rfl rfl)
theorem dJ4_rotateRight_85 : decode cJ4_rotateRight 85 = .ok (.aload_n 2, 1) := dk_44 (dk_at dksJ4_rotateRight_3 14 rfl rfl)
theorem dJ4_rotateRight_86 : decode cJ4_rotateRight 86 = .ok (.aload_n 1, 1) := dk_43 (dk_at dksJ4_rotateRight_3 15 rfl rfl)
theorem dJ4_rotateRight_87 : decode cJ4_rotateRight 87 = .ok (.putfield 114, 3) := dk_181 0 114 (dk_at dksJ4_rotateRight_3 16 rfl rfl)
theorem dJ4_rotateRight_90 : decode cJ4_rotateRight 90 = .ok (.aload_n 1, 1) := dk_43 (dk_at dksJ4_rotateRight_3 19 rfl rfl)
theorem dJ4_rotateRight_91 : decode cJ4_rotateRight 91 = .ok (.aload_n 2, 1) := dk_44 (dk_at dksJ4_rotateRight_3 20 rfl rfl)
theorem dJ4_rotateRight_92 : decode cJ4_rotateRight 92 = .ok (.putfield 124, 3) := dk_181 0 124 (dk_at dksJ4_rotateRight_3 21 rfl rfl)
theorem dJ4_rotateRight_95 : decode cJ4_rotateRight 95 = .ok (.return_, 1) := dk_177 (dk_at dksJ4_rotateRight_4 0 rfl rfl)
abbrev cJ4_comparator : ByteArray := prog_83_method_9_code
theorem dJ4_comparator_0 : decode cJ4_comparator 0 = .ok (.aload_n 0, 1) := by decide +kernel
theorem dJ4_comparator_1 : decode cJ4_comparator 1 = .ok (.getfield 16, 3) := by decide +kernel
theorem dJ4_comparator_4 : decode cJ4_comparator 4 = .ok (.areturn, 1) := by decide +kernel
abbrev cJ18_equals : ByteArray := prog_72_method_2_code
def dkwJ18_equals_0 : List UInt8 := [42, 43, 165, 0, 15, 42, 198, 0, 15, 42, 43, 182, 0, 14, 153, 0, 7, 4, 167, 0, 4, 3, 172]
abbrev dktJ18_equals_0 : List UInt8 := dkwJ18_equals_0 ++ []
theorem dksJ18_equals_0 : cJ18_equals.data.toList.drop 0 = dktJ18_equals_0 := by decide +kernel
theorem dJ18_equals_0 : decode cJ18_equals 0 = .ok (.aload_n 0, 1) := dk_42 (dk_at dksJ18_equals_0 0 rfl rfl)
theorem dJ18_equals_1 : decode cJ18_equals 1 = .ok (.aload_n 1, 1) := dk_43 (dk_at dksJ18_equals_0 1 rfl rfl)
theorem dJ18_equals_2 : decode cJ18_equals 2 = .ok (.if_acmp .eq 15, 3) := dk_165 0 15 (dk_at dksJ18_equals_0 2 rfl rfl)
theorem dJ18_equals_5 : decode cJ18_equals 5 = .ok (.aload_n 0, 1) := dk_42 (dk_at dksJ18_equals_0 5 rfl rfl)
theorem dJ18_equals_6 : decode cJ18_equals 6 = .ok (.ifnull 15, 3) := dk_198 0 15 (dk_at dksJ18_equals_0 6 rfl rfl)
theorem dJ18_equals_9 : decode cJ18_equals 9 = .ok (.aload_n 0, 1) := dk_42 (dk_at dksJ18_equals_0 9 rfl rfl)
theorem dJ18_equals_10 : decode cJ18_equals 10 = .ok (.aload_n 1, 1) := dk_43 (dk_at dksJ18_equals_0 10 rfl rfl)
theorem dJ18_equals_11 : decode cJ18_equals 11 = .ok (.invokevirtual 14, 3) := dk_182 0 14 (dk_at dksJ18_equals_0 11 rfl rfl)
theorem dJ18_equals_14 : decode cJ18_equals 14 = .ok (.ifCond .eq 7, 3) := dk_153 0 7 (dk_at dksJ18_equals_0 14 rfl rfl)
theorem dJ18_equals_17 : decode cJ18_equals 17 = .ok (.iconst 1, 1) := dk_4 (dk_at dksJ18_equals_0 17 rfl rfl)
theorem dJ18_equals_18 : decode cJ18_equals 18 = .ok (.goto 4, 3) := dk_167 0 4 (dk_at dksJ18_equals_0 18 rfl rfl)
theorem dJ18_equals_21 : decode cJ18_equals 21 = .ok (.iconst 0, 1) := dk_3 (dk_at dksJ18_equals_0 21 rfl rfl)
theorem dJ18_equals_22 : decode cJ18_equals 22 = .ok (.ireturn, 1) := dk_172 (dk_at dksJ18_equals_0 22 rfl rfl)
abbrev cJ4_entrySet : ByteArray := prog_83_method_53_code
def dkwJ4_entrySet_1 : List UInt8 := [181, 0, 188, 176]
abbrev dktJ4_entrySet_1 : List UInt8 := dkwJ4_entrySet_1 ++ []
def dkwJ4_entrySet_0 : List UInt8 := [42, 180, 0, 188, 76, 43, 198, 0, 7, 43, 167, 0, 16, 42, 187, 0, 242, 89, 42, 183, 0, 244, 90]
abbrev dktJ4_entrySet_0 : List UInt8 := dkwJ4_entrySet_0 ++ dktJ4_entrySet_1
theorem dksJ4_entrySet_0 : cJ4_entrySet.data.toList.drop 0 = dktJ4_entrySet_0 := by decide +kernel
theorem dksJ4_entrySet_1 : cJ4_entrySet.data.toList.drop 23 = dktJ4_entrySet_1 := dk_seg dksJ4_entrySet_0 23 rfl rfl
theorem dJ4_entrySet_0 : decode cJ4_entrySet 0 = .ok (.aload_n 0, 1) := dk_42 (dk_at dksJ4_entrySet_0 0 rfl rfl)
theorem dJ4_entrySet_1 : decode cJ4_entrySet 1 = .ok (.getfield 188, 3) := dk_180 0 188 (dk_at dksJ4_entrySet_0 1 rfl rfl)
theorem dJ4_entrySet_4 : decode cJ4_entrySet 4 = .ok (.astore_n 1, 1) := dk_76 (dk_at dksJ4_entrySet_0 4 rfl rfl)
theorem dJ4_entrySet_5 : decode cJ4_entrySet 5 = .ok (.aload_n 1, 1) := dk_43 (dk_at dksJ4_entrySet_0 5 rfl rfl)
theorem dJ4_entrySet_6 : decode cJ4_entrySet 6 = .ok (.ifnull 7, 3) := dk_198 0 7 (dk_at dksJ4_entrySet_0 6 rfl rfl)
theorem dJ4_entrySet_9 : decode cJ4_entrySet 9 = .ok (.aload_n 1, 1) := dk_43 (dk_at dksJ4_entrySet_0 9 rfl rfl)
theorem dJ4_entrySet_10 : decode cJ4_entrySet 10 = .ok (.goto 16, 3) := dk_167 0 16 (dk_at dksJ4_entrySet_0 10 rfl rfl)
theorem dJ4_entrySet_13 : decode cJ4_entrySet 13 = .ok (.aload_n 0, 1) := dk_42 (dk_at dksJ4_entrySet_0 13 rfl rfl)
theorem dJ4_entrySet_14 : decode cJ4_entrySet 14 = .ok (.new 242, 3) := dk_187 0 242 (dk_at dksJ4_entrySet_0 14 rfl rfl)
theorem dJ4_entrySet_17 : decode cJ4_entrySet 17 = .ok (.dup, 1) := dk_89 (dk_at dksJ4_entrySet_0 17 rfl rfl)
theorem dJ4_entrySet_18 : decode cJ4_entrySet 18 = .ok (.aload_n 0, 1) := dk_42 (dk_at dksJ4_entrySet_0 18 rfl rfl)
theorem dJ4_entrySet_19 : decode cJ4_entrySet 19 = .ok (.invokespecial 244, 3) := dk_183 0 244 (dk_at dksJ4_entrySet_0 19 rfl rfl)
theorem dJ4_entrySet_22 : decode cJ4_entrySet 22 = .ok (.dup_x1, 1) := dk_90 (dk_at dksJ4_entrySet_0 22 rfl rfl)
theorem dJ4_entrySet_23 : decode cJ4_entrySet 23 = .ok (.putfield 188, 3) := dk_181 0 188 (dk_at dksJ4_entrySet_1 0 rfl rfl)
theorem dJ4_entrySet_26 : decode cJ4_entrySet 26 = .ok (.areturn, 1) := dk_176 (dk_at dksJ4_entrySet_1 3 rfl rfl)
abbrev cJ4_buildFromSorted : ByteArray := prog_83_method_90_code
def dkwJ4_buildFromSorted_1 : List UInt8 := [181, 0, 101, 177]
abbrev dktJ4_buildFromSorted_1 : List UInt8 := dkwJ4_buildFromSorted_1 ++ []
def dkwJ4_buildFromSorted_0 : List UInt8 := [42, 27, 181, 0, 7, 42, 42, 3, 3, 27, 4, 100, 27, 184, 1, 106, 44, 45, 25, 4, 182, 1, 110]
abbrev dktJ4_buildFromSorted_0 : List UInt8 := dkwJ4_buildFromSorted_0 ++ dktJ4_buildFromSorted_1
theorem dksJ4_buildFromSorted_0 : cJ4_buildFromSorted.data.toList.drop 0 = dktJ4_buildFromSorted_0 := by decide +kernel
theorem dksJ4_buildFromSorted_1 : cJ4_buildFromSorted.data.toList.drop 23 = dktJ4_buildFromSorted_1 := dk_seg dksJ4_buildFromSorted_0 23 rfl rfl
theorem dJ4_buildFromSorted_0 : decode cJ4_buildFromSorted 0 = .ok (.aload_n 0, 1) := dk_42 (dk_at dksJ4_buildFromSorted_0 0 rfl rfl)
theorem dJ4_buildFromSorted_1 : decode cJ4_buildFromSorted 1 = .ok (.iload_n 1, 1) := dk_27 (dk_at dksJ4_buildFromSorted_0 1 rfl rfl)
theorem dJ4_buildFromSorted_2 : decode cJ4_buildFromSorted 2 = .ok (.putfield 7, 3) := dk_181 0 7 (dk_at dksJ4_buildFromSorted_0 2 rfl rfl)
theorem dJ4_buildFromSorted_5 : decode cJ4_buildFromSorted 5 = .ok (.aload_n 0, 1) := dk_42 (dk_at dksJ4_buildFromSorted_0 5 rfl rfl)
theorem dJ4_buildFromSorted_6 : decode cJ4_buildFromSorted 6 = .ok (.aload_n 0, 1) := dk_42 (dk_at dksJ4_buildFromSorted_0 6 rfl rfl)
theorem dJ4_buildFromSorted_7 : decode cJ4_buildFromSorted 7 = .ok (.iconst 0, 1) := dk_3 (dk_at dksJ4_buildFromSorted_0 7 rfl rfl)
theorem dJ4_buildFromSorted_8 : decode cJ4_buildFromSorted 8 = .ok (.iconst 0, 1) := dk_3 (dk_at dksJ4_buildFromSorted_0 8 rfl rfl)
theorem dJ4_buildFromSorted_9 : decode cJ4_buildFromSorted 9 = .ok (.iload_n 1, 1) := dk_27 (dk_at dksJ4_buildFromSorted_0 9 rfl rfl)
theorem dJ4_buildFromSorted_10 : decode cJ4_buildFromSorted 10 = .ok (.iconst 1, 1) := dk_4 (dk_at dksJ4_buildFromSorted_0 10 rfl rfl)
theorem dJ4_buildFromSorted_11 : decode cJ4_buildFromSorted 11 = .ok (.isub, 1) := dk_100 (dk_at dksJ4_buildFromSorted_0 11 rfl rfl)
theorem dJ4_buildFromSorted_12 : decode cJ4_buildFromSorted 12 = .ok (.iload_n 1, 1) := dk_27 (dk_at dksJ4_buildFromSorted_0 12 rfl rfl)
theorem dJ4_buildFromSorted_13 : decode cJ4_buildFromSorted 13 = .ok (.invokestatic 362, 3) := dk_184 1 106 (dk_at dksJ4_buildFromSorted_0 13 rfl rfl)
theorem dJ4_buildFromSorted_16 : decode cJ4_buildFromSorted 16 = .ok (.aload_n 2, 1) := dk_44 (dk_at dksJ4_buildFromSorted_0 16 rfl rfl)
theorem dJ4_buildFromSorted_17 : decode cJ4_buildFromSorted 17 = .ok (.aload_n 3, 1) := dk_45 (dk_at dksJ4_buildFromSorted_0 17 rfl rfl)
theorem dJ4_buildFromSorted_18 : decode cJ4_buildFromSorted 18 = .ok (.aload 4, 2) := dk_25 4 (dk_at dksJ4_buildFromSorted_0 18 rfl rfl)
theorem dJ4_buildFromSorted_20 : decode cJ4_buildFromSorted 20 = .ok (.invokevirtual 366, 3) := dk_182 1 110 (dk_at dksJ4_buildFromSorted_0 20 rfl rfl)
theorem dJ4_buildFromSorted_23 : decode cJ4_buildFromSorted 23 = .ok (.putfield 101, 3) := dk_181 0 101 (dk_at dksJ4_buildFromSorted_1 0 rfl rfl)
theorem dJ4_buildFromSorted_26 : decode cJ4_buildFromSorted 26 = .ok (.return_, 1) := dk_177 (dk_at dksJ4_buildFromSorted_1 3 rfl rfl)
abbrev cJ3_putAll : ByteArray := prog_57_method_9_code
def dkwJ3_putAll_2 : List UInt8 := [182, 0, 55, 87, 167, 255, 220, 177]
abbrev dktJ3_putAll_2 : List UInt8 := dkwJ3_putAll_2 ++ []
def dkwJ3_putAll_1 : List UInt8 := [185, 0, 30, 1, 0, 192, 0, 34, 78, 42, 45, 185, 0, 43, 1, 0, 45, 185, 0, 36, 1, 0]
abbrev dktJ3_putAll_1 : List UInt8 := dkwJ3_putAll_1 ++ dktJ3_putAll_2
def dkwJ3_putAll_0 : List UInt8 := [43, 185, 0, 52, 1, 0, 185, 0, 20, 1, 0, 77, 44, 185, 0, 24, 1, 0, 153, 0, 33, 44]
abbrev dktJ3_putAll_0 : List UInt8 := dkwJ3_putAll_0 ++ dktJ3_putAll_1
theorem dksJ3_putAll_0 : cJ3_putAll.data.toList.drop 0 = dktJ3_putAll_0 := by decide +kernel
theorem dksJ3_putAll_1 : cJ3_putAll.data.toList.drop 22 = dktJ3_putAll_1 := dk_seg dksJ3_putAll_0 22 rfl rfl
theorem dksJ3_putAll_2 : cJ3_putAll.data.toList.drop 44 = dktJ3_putAll_2 := dk_seg dksJ3_putAll_1 22 rfl rfl
theorem dJ3_putAll_0 : decode cJ3_putAll 0 = .ok (.aload_n 1, 1) := dk_43 (dk_at dksJ3_putAll_0 0 rfl rfl)
theorem dJ3_putAll_1 : decode cJ3_putAll 1 = .ok (.invokeinterface 52 1, 5) := by decide +kernel
theorem dJ3_putAll_6 : decode cJ3_putAll 6 = .ok (.invokeinterface 20 1, 5) := by decide +kernel
theorem dJ3_putAll_11 : decode cJ3_putAll 11 = .ok (.astore_n 2, 1) := dk_77 (dk_at dksJ3_putAll_0 11 rfl rfl)
theorem dJ3_putAll_12 : decode cJ3_putAll 12 = .ok (.aload_n 2, 1) := dk_44 (dk_at dksJ3_putAll_0 12 rfl rfl)
theorem dJ3_putAll_13 : decode cJ3_putAll 13 = .ok (.invokeinterface 24 1, 5) := by decide +kernel
theorem dJ3_putAll_18 : decode cJ3_putAll 18 = .ok (.ifCond .eq 33, 3) := dk_153 0 33 (dk_at dksJ3_putAll_0 18 rfl rfl)
theorem dJ3_putAll_21 : decode cJ3_putAll 21 = .ok (.aload_n 2, 1) := dk_44 (dk_at dksJ3_putAll_0 21 rfl rfl)
theorem dJ3_putAll_22 : decode cJ3_putAll 22 = .ok (.invokeinterface 30 1, 5) := by decide +kernel
theorem dJ3_putAll_27 : decode cJ3_putAll 27 = .ok (.checkcast 34, 3) := dk_192 0 34 (dk_at dksJ3_putAll_1 5 rfl rfl)
theorem dJ3_putAll_30 : decode cJ3_putAll 30 = .ok (.astore_n 3, 1) := dk_78 (dk_at dksJ3_putAll_1 8 rfl rfl)
theorem dJ3_putAll_31 : decode cJ3_putAll 31 = .ok (.aload_n 0, 1) := dk_42 (dk_at dksJ3_putAll_1 9 rfl rfl)
theorem dJ3_putAll_32 : decode cJ3_putAll 32 = .ok (.aload_n 3, 1) := dk_45 (dk_at dksJ3_putAll_1 10 rfl rfl)
theorem dJ3_putAll_33 : decode cJ3_putAll 33 = .ok (.invokeinterface 43 1, 5) := by decide +kernel
theorem dJ3_putAll_38 : decode cJ3_putAll 38 = .ok (.aload_n 3, 1) := dk_45 (dk_at dksJ3_putAll_1 16 rfl rfl)
theorem dJ3_putAll_39 : decode cJ3_putAll 39 = .ok (.invokeinterface 36 1, 5) := by decide +kernel
theorem dJ3_putAll_44 : decode cJ3_putAll 44 = .ok (.invokevirtual 55, 3) := dk_182 0 55 (dk_at dksJ3_putAll_2 0 rfl rfl)
theorem dJ3_putAll_47 : decode cJ3_putAll 47 = .ok (.pop, 1) := dk_87 (dk_at dksJ3_putAll_2 3 rfl rfl)
theorem dJ3_putAll_48 : decode cJ3_putAll 48 = .ok (.goto (-36), 3) := dk_167 255 220 (dk_at dksJ3_putAll_2 4 rfl rfl)
theorem dJ3_putAll_51 : decode cJ3_putAll 51 = .ok (.return_, 1) := dk_177 (dk_at dksJ3_putAll_2 7 rfl rfl)
abbrev cJ27_comparator : ByteArray := prog_88_method_14_code
def dkwJ27_comparator_0 : List UInt8 := [42, 180, 0, 7, 185, 0, 63, 1, 0, 176]
abbrev dktJ27_comparator_0 : List UInt8 := dkwJ27_comparator_0 ++ []
theorem dksJ27_comparator_0 : cJ27_comparator.data.toList.drop 0 = dktJ27_comparator_0 := by decide +kernel
theorem dJ27_comparator_0 : decode cJ27_comparator 0 = .ok (.aload_n 0, 1) := dk_42 (dk_at dksJ27_comparator_0 0 rfl rfl)
theorem dJ27_comparator_1 : decode cJ27_comparator 1 = .ok (.getfield 7, 3) := dk_180 0 7 (dk_at dksJ27_comparator_0 1 rfl rfl)
theorem dJ27_comparator_4 : decode cJ27_comparator 4 = .ok (.invokeinterface 63 1, 5) := by decide +kernel
theorem dJ27_comparator_9 : decode cJ27_comparator 9 = .ok (.areturn, 1) := dk_176 (dk_at dksJ27_comparator_0 9 rfl rfl)
abbrev cJ32_comparator : ByteArray := prog_93_method_22_code
def dkwJ32_comparator_0 : List UInt8 := [42, 180, 0, 7, 185, 0, 117, 1, 0, 176]
abbrev dktJ32_comparator_0 : List UInt8 := dkwJ32_comparator_0 ++ []
theorem dksJ32_comparator_0 : cJ32_comparator.data.toList.drop 0 = dktJ32_comparator_0 := by decide +kernel
theorem dJ32_comparator_0 : decode cJ32_comparator 0 = .ok (.aload_n 0, 1) := dk_42 (dk_at dksJ32_comparator_0 0 rfl rfl)
theorem dJ32_comparator_1 : decode cJ32_comparator 1 = .ok (.getfield 7, 3) := dk_180 0 7 (dk_at dksJ32_comparator_0 1 rfl rfl)
theorem dJ32_comparator_4 : decode cJ32_comparator 4 = .ok (.invokeinterface 117 1, 5) := by decide +kernel
theorem dJ32_comparator_9 : decode cJ32_comparator 9 = .ok (.areturn, 1) := dk_176 (dk_at dksJ32_comparator_0 9 rfl rfl)
abbrev cJ4_addAllForTreeSet : ByteArray := prog_83_method_89_code
def dkwJ4_addAllForTreeSet_0 : List UInt8 := [42, 43, 185, 1, 102, 1, 0, 43, 185, 1, 105, 1, 0, 1, 44, 182, 0, 42, 167, 0, 4, 78, 177]
abbrev dktJ4_addAllForTreeSet_0 : List UInt8 := dkwJ4_addAllForTreeSet_0 ++ []
theorem dksJ4_addAllForTreeSet_0 : cJ4_addAllForTreeSet.data.toList.drop 0 = dktJ4_addAllForTreeSet_0 := by decide +kernel
theorem dJ4_addAllForTreeSet_0 : decode cJ4_addAllForTreeSet 0 = .ok (.aload_n 0, 1) := dk_42 (dk_at dksJ4_addAllForTreeSet_0 0 rfl rfl)
theorem dJ4_addAllForTreeSet_1 : decode cJ4_addAllForTreeSet 1 = .ok (.aload_n 1, 1) := dk_43 (dk_at dksJ4_addAllForTreeSet_0 1 rfl rfl)
theorem dJ4_addAllForTreeSet_2 : decode cJ4_addAllForTreeSet 2 = .ok (.invokeinterface 358 1, 5) := by decide +kernel
theorem dJ4_addAllForTreeSet_7 : decode cJ4_addAllForTreeSet 7 = .ok (.aload_n 1, 1) := dk_43 (dk_at dksJ4_addAllForTreeSet_0 7 rfl rfl)
theorem dJ4_addAllForTreeSet_8 : decode cJ4_addAllForTreeSet 8 = .ok (.invokeinterface 361 1, 5) := by decide +kernel
theorem dJ4_addAllForTreeSet_13 : decode cJ4_addAllForTreeSet 13 = .ok (.aconst_null, 1) := dk_1 (dk_at dksJ4_addAllForTreeSet_0 13 rfl rfl)
theorem dJ4_addAllForTreeSet_14 : decode cJ4_addAllForTreeSet 14 = .ok (.aload_n 2, 1) := dk_44 (dk_at dksJ4_addAllForTreeSet_0 14 rfl rfl)
theorem dJ4_addAllForTreeSet_15 : decode cJ4_addAllForTreeSet 15 = .ok (.invokevirtual 42, 3) := dk_182 0 42 (dk_at dksJ4_addAllForTreeSet_0 15 rfl rfl)
theorem dJ4_addAllForTreeSet_18 : decode cJ4_addAllForTreeSet 18 = .ok (.goto 4, 3) := dk_167 0 4 (dk_at dksJ4_addAllForTreeSet_0 18 rfl rfl)
theorem dJ4_addAllForTreeSet_21 : decode cJ4_addAllForTreeSet 21 = .ok (.astore_n 3, 1) := dk_78 (dk_at dksJ4_addAllForTreeSet_0 21 rfl rfl)
theorem dJ4_addAllForTreeSet_22 : decode cJ4_addAllForTreeSet 22 = .ok (.return_, 1) := dk_177 (dk_at dksJ4_addAllForTreeSet_0 22 rfl rfl)
abbrev cJ0_addAll : ByteArray := prog_55_method_12_code
def dkwJ0_addAll_1 : List UInt8 := [58, 4, 42, 25, 4, 182, 0, 82, 153, 0, 5, 4, 61, 167, 255, 228, 28, 172]
abbrev dktJ0_addAll_1 : List UInt8 := dkwJ0_addAll_1 ++ []
def dkwJ0_addAll_0 : List UInt8 := [3, 61, 43, 185, 0, 76, 1, 0, 78, 45, 185, 0, 17, 1, 0, 153, 0, 25, 45, 185, 0, 23, 1, 0]
abbrev dktJ0_addAll_0 : List UInt8 := dkwJ0_addAll_0 ++ dktJ0_addAll_1
theorem dksJ0_addAll_0 : cJ0_addAll.data.toList.drop 0 = dktJ0_addAll_0 := by decide +kernel
theorem dksJ0_addAll_1 : cJ0_addAll.data.toList.drop 24 = dktJ0_addAll_1 := dk_seg dksJ0_addAll_0 24 rfl rfl
theorem dJ0_addAll_0 : decode cJ0_addAll 0 = .ok (.iconst 0, 1) := dk_3 (dk_at dksJ0_addAll_0 0 rfl rfl)
theorem dJ0_addAll_1 : decode cJ0_addAll 1 = .ok (.istore_n 2, 1) := dk_61 (dk_at dksJ0_addAll_0 1 rfl rfl)
theorem dJ0_addAll_2 : decode cJ0_addAll 2 = .ok (.aload_n 1, 1) := dk_43 (dk_at dksJ0_addAll_0 2 rfl rfl)
theorem dJ0_addAll_3 : decode cJ0_addAll 3 = .ok (.invokeinterface 76 1, 5) := by decide +kernel
theorem dJ0_addAll_8 : decode cJ0_addAll 8 = .ok (.astore_n 3, 1) := dk_78 (dk_at dksJ0_addAll_0 8 rfl rfl)
theorem dJ0_addAll_9 : decode cJ0_addAll 9 = .ok (.aload_n 3, 1) := dk_45 (dk_at dksJ0_addAll_0 9 rfl rfl)
theorem dJ0_addAll_10 : decode cJ0_addAll 10 = .ok (.invokeinterface 17 1, 5) := by decide +kernel
theorem dJ0_addAll_15 : decode cJ0_addAll 15 = .ok (.ifCond .eq 25, 3) := dk_153 0 25 (dk_at dksJ0_addAll_0 15 rfl rfl)
theorem dJ0_addAll_18 : decode cJ0_addAll 18 = .ok (.aload_n 3, 1) := dk_45 (dk_at dksJ0_addAll_0 18 rfl rfl)
theorem dJ0_addAll_19 : decode cJ0_addAll 19 = .ok (.invokeinterface 23 1, 5) := by decide +kernel
theorem dJ0_addAll_24 : decode cJ0_addAll 24 = .ok (.astore 4, 2) := dk_58 4 (dk_at dksJ0_addAll_1 0 rfl rfl)
theorem dJ0_addAll_26 : decode cJ0_addAll 26 = .ok (.aload_n 0, 1) := dk_42 (dk_at dksJ0_addAll_1 2 rfl rfl)
theorem dJ0_addAll_27 : decode cJ0_addAll 27 = .ok (.aload 4, 2) := dk_25 4 (dk_at dksJ0_addAll_1 3 rfl rfl)
theorem dJ0_addAll_29 : decode cJ0_addAll 29 = .ok (.invokevirtual 82, 3) := dk_182 0 82 (dk_at dksJ0_addAll_1 5 rfl rfl)
theorem dJ0_addAll_32 : decode cJ0_addAll 32 = .ok (.ifCond .eq 5, 3) := dk_153 0 5 (dk_at dksJ0_addAll_1 8 rfl rfl)
theorem dJ0_addAll_35 : decode cJ0_addAll 35 = .ok (.iconst 1, 1) := dk_4 (dk_at dksJ0_addAll_1 11 rfl rfl)
theorem dJ0_addAll_36 : decode cJ0_addAll 36 = .ok (.istore_n 2, 1) := dk_61 (dk_at dksJ0_addAll_1 12 rfl rfl)
theorem dJ0_addAll_37 : decode cJ0_addAll 37 = .ok (.goto (-28), 3) := dk_167 255 228 (dk_at dksJ0_addAll_1 13 rfl rfl)
theorem dJ0_addAll_40 : decode cJ0_addAll 40 = .ok (.iload_n 2, 1) := dk_28 (dk_at dksJ0_addAll_1 16 rfl rfl)
theorem dJ0_addAll_41 : decode cJ0_addAll 41 = .ok (.ireturn, 1) := dk_172 (dk_at dksJ0_addAll_1 17 rfl rfl)
abbrev cJ2_indexOfRange : ByteArray := prog_61_method_12_code
def dkwJ2_indexOfRange_2 : List UInt8 := [43, 25, 4, 21, 5, 50, 182, 0, 93, 153, 0, 6, 21, 5, 172, 132, 5, 1, 167, 255, 232, 2, 172]
abbrev dktJ2_indexOfRange_2 : List UInt8 := dkwJ2_indexOfRange_2 ++ []
def dkwJ2_indexOfRange_1 : List UInt8 := [199, 0, 6, 21, 5, 172, 132, 5, 1, 167, 255, 236, 167, 0, 33, 28, 54, 5, 21, 5, 29, 162, 0, 24]
abbrev dktJ2_indexOfRange_1 : List UInt8 := dkwJ2_indexOfRange_1 ++ dktJ2_indexOfRange_2
def dkwJ2_indexOfRange_0 : List UInt8 := [42, 180, 0, 9, 58, 4, 43, 199, 0, 32, 28, 54, 5, 21, 5, 29, 162, 0, 20, 25, 4, 21, 5, 50]
abbrev dktJ2_indexOfRange_0 : List UInt8 := dkwJ2_indexOfRange_0 ++ dktJ2_indexOfRange_1
theorem dksJ2_indexOfRange_0 : cJ2_indexOfRange.data.toList.drop 0 = dktJ2_indexOfRange_0 := by decide +kernel
theorem dksJ2_indexOfRange_1 : cJ2_indexOfRange.data.toList.drop 24 = dktJ2_indexOfRange_1 := dk_seg dksJ2_indexOfRange_0 24 rfl rfl
theorem dksJ2_indexOfRange_2 : cJ2_indexOfRange.data.toList.drop 48 = dktJ2_indexOfRange_2 := dk_seg dksJ2_indexOfRange_1 24 rfl rfl
theorem dJ2_indexOfRange_0 : decode cJ2_indexOfRange 0 = .ok (.aload_n 0, 1) := dk_42 (dk_at dksJ2_indexOfRange_0 0 rfl rfl)
theorem dJ2_indexOfRange_1 : decode cJ2_indexOfRange 1 = .ok (.getfield 9, 3) := dk_180 0 9 (dk_at dksJ2_indexOfRange_0 1 rfl rfl)
theorem dJ2_indexOfRange_4 : decode cJ2_indexOfRange 4 = .ok (.astore 4, 2) := dk_58 4 (dk_at dksJ2_indexOfRange_0 4 rfl rfl)
theorem dJ2_indexOfRange_6 : decode cJ2_indexOfRange 6 = .ok (.aload_n 1, 1) := dk_43 (dk_at dksJ2_indexOfRange_0 6 rfl rfl)
theorem dJ2_indexOfRange_7 : decode cJ2_indexOfRange 7 = .ok (.ifnonnull 32, 3) := dk_199 0 32 (dk_at dksJ2_indexOfRange_0 7 rfl rfl)
theorem dJ2_indexOfRange_10 : decode cJ2_indexOfRange 10 = .ok (.iload_n 2, 1) := dk_28 (dk_at dksJ2_indexOfRange_0 10 rfl rfl)
theorem dJ2_indexOfRange_11 : decode cJ2_indexOfRange 11 = .ok (.istore 5, 2) := dk_54 5 (dk_at dksJ2_indexOfRange_0 11 rfl rfl)
theorem dJ2_indexOfRange_13 : decode cJ2_indexOfRange 13 = .ok (.iload 5, 2) := dk_21 5 (dk_at dksJ2_indexOfRange_0 13 rfl rfl)
theorem dJ2_indexOfRange_15 : decode cJ2_indexOfRange 15 = .ok (.iload_n 3, 1) := dk_29 (dk_at dksJ2_indexOfRange_0 15 rfl rfl)
theorem dJ2_indexOfRange_16 : decode cJ2_indexOfRange 16 = .ok (.if_icmp .ge 20, 3) := dk_162 0 20 (dk_at dksJ2_indexOfRange_0 16 rfl rfl)
theorem dJ2_indexOfRange_19 : decode cJ2_indexOfRange 19 = .ok (.aload 4, 2) := dk_25 4 (dk_at dksJ2_indexOfRange_0 19 rfl rfl)
theorem dJ2_indexOfRange_21 : decode cJ2_indexOfRange 21 = .ok (.iload 5, 2) := dk_21 5 (dk_at dksJ2_indexOfRange_0 21 rfl rfl)
theorem dJ2_indexOfRange_23 : decode cJ2_indexOfRange 23 = .ok (.aaload, 1) := dk_50 (dk_at dksJ2_indexOfRange_0 23 rfl rfl)
theorem dJ2_indexOfRange_24 : decode cJ2_indexOfRange 24 = .ok (.ifnonnull 6, 3) := dk_199 0 6 (dk_at dksJ2_indexOfRange_1 0 rfl rfl)
theorem dJ2_indexOfRange_27 : decode cJ2_indexOfRange 27 = .ok (.iload 5, 2) := dk_21 5 (dk_at dksJ2_indexOfRange_1 3 rfl rfl)
theorem dJ2_indexOfRange_29 : decode cJ2_indexOfRange 29 = .ok (.ireturn, 1) := dk_172 (dk_at dksJ2_indexOfRange_1 5 rfl rfl)
theorem dJ2_indexOfRange_30 : decode cJ2_indexOfRange 30 = .ok (.iinc 5 1, 3) := dk_132 5 1 (dk_at dksJ2_indexOfRange_1 6 rfl rfl)
theorem dJ2_indexOfRange_33 : decode cJ2_indexOfRange 33 = .ok (.goto (-20), 3) := dk_167 255 236 (dk_at dksJ2_indexOfRange_1 9 rfl rfl)
theorem dJ2_indexOfRange_36 : decode cJ2_indexOfRange 36 = .ok (.goto 33, 3) := dk_167 0 33 (dk_at dksJ2_indexOfRange_1 12 rfl rfl)
theorem dJ2_indexOfRange_39 : decode cJ2_indexOfRange 39 = .ok (.iload_n 2, 1) := dk_28 (dk_at dksJ2_indexOfRange_1 15 rfl rfl)
theorem dJ2_indexOfRange_40 : decode cJ2_indexOfRange 40 = .ok (.istore 5, 2) := dk_54 5 (dk_at dksJ2_indexOfRange_1 16 rfl rfl)
theorem dJ2_indexOfRange_42 : decode cJ2_indexOfRange 42 = .ok (.iload 5, 2) := dk_21 5 (dk_at dksJ2_indexOfRange_1 18 rfl rfl)
theorem dJ2_indexOfRange_44 : decode cJ2_indexOfRange 44 = .ok (.iload_n 3, 1) := dk_29 (dk_at dksJ2_indexOfRange_1 20 rfl rfl)
theorem dJ2_indexOfRange_45 : decode cJ2_indexOfRange 45 = .ok (.if_icmp .ge 24, 3) := dk_162 0 24 (dk_at dksJ2_indexOfRange_1 21 rfl rfl)
theorem dJ2_indexOfRange_48 : decode cJ2_indexOfRange 48 = .ok (.aload_n 1, 1) := dk_43 (dk_at dksJ2_indexOfRange_2 0 rfl rfl)
theorem dJ2_indexOfRange_49 : decode cJ2_indexOfRange 49 = .ok (.aload 4, 2) := dk_25 4 (dk_at dksJ2_indexOfRange_2 1 rfl rfl)
theorem dJ2_indexOfRange_51 : decode cJ2_indexOfRange 51 = .ok (.iload 5, 2) := dk_21 5 (dk_at dksJ2_indexOfRange_2 3 rfl rfl)
theorem dJ2_indexOfRange_53 : decode cJ2_indexOfRange 53 = .ok (.aaload, 1) := dk_50 (dk_at dksJ2_indexOfRange_2 5 rfl rfl)
theorem dJ2_indexOfRange_54 : decode cJ2_indexOfRange 54 = .ok (.invokevirtual 93, 3) := dk_182 0 93 (dk_at dksJ2_indexOfRange_2 6 rfl rfl)
theorem dJ2_indexOfRange_57 : decode cJ2_indexOfRange 57 = .ok (.ifCond .eq 6, 3) := dk_153 0 6 (dk_at dksJ2_indexOfRange_2 9 rfl rfl)
theorem dJ2_indexOfRange_60 : decode cJ2_indexOfRange 60 = .ok (.iload 5, 2) := dk_21 5 (dk_at dksJ2_indexOfRange_2 12 rfl rfl)
theorem dJ2_indexOfRange_62 : decode cJ2_indexOfRange 62 = .ok (.ireturn, 1) := dk_172 (dk_at dksJ2_indexOfRange_2 14 rfl rfl)
theorem dJ2_indexOfRange_63 : decode cJ2_indexOfRange 63 = .ok (.iinc 5 1, 3) := dk_132 5 1 (dk_at dksJ2_indexOfRange_2 15 rfl rfl)
theorem dJ2_indexOfRange_66 : decode cJ2_indexOfRange 66 = .ok (.goto (-24), 3) := dk_167 255 232 (dk_at dksJ2_indexOfRange_2 18 rfl rfl)
theorem dJ2_indexOfRange_69 : decode cJ2_indexOfRange 69 = .ok (.iconst (-1), 1) := dk_2 (dk_at dksJ2_indexOfRange_2 21 rfl rfl)
theorem dJ2_indexOfRange_70 : decode cJ2_indexOfRange 70 = .ok (.ireturn, 1) := dk_172 (dk_at dksJ2_indexOfRange_2 22 rfl rfl)
abbrev cJ31_copyOf : ByteArray := prog_63_method_119_code
def dkwJ31_copyOf_0 : List UInt8 := [42, 27, 42, 182, 0, 86, 184, 1, 44, 176]
abbrev dktJ31_copyOf_0 : List UInt8 := dkwJ31_copyOf_0 ++ []
theorem dksJ31_copyOf_0 : cJ31_copyOf.data.toList.drop 0 = dktJ31_copyOf_0 := by decide +kernel
theorem dJ31_copyOf_0 : decode cJ31_copyOf 0 = .ok (.aload_n 0, 1) := dk_42 (dk_at dksJ31_copyOf_0 0 rfl rfl)
theorem dJ31_copyOf_1 : decode cJ31_copyOf 1 = .ok (.iload_n 1, 1) := dk_27 (dk_at dksJ31_copyOf_0 1 rfl rfl)
theorem dJ31_copyOf_2 : decode cJ31_copyOf 2 = .ok (.aload_n 0, 1) := dk_42 (dk_at dksJ31_copyOf_0 2 rfl rfl)
theorem dJ31_copyOf_3 : decode cJ31_copyOf 3 = .ok (.invokevirtual 86, 3) := dk_182 0 86 (dk_at dksJ31_copyOf_0 3 rfl rfl)
theorem dJ31_copyOf_6 : decode cJ31_copyOf 6 = .ok (.invokestatic 300, 3) := dk_184 1 44 (dk_at dksJ31_copyOf_0 6 rfl rfl)
theorem dJ31_copyOf_9 : decode cJ31_copyOf 9 = .ok (.areturn, 1) := dk_176 (dk_at dksJ31_copyOf_0 9 rfl rfl)
abbrev cJ0_finishToArray : ByteArray := prog_55_method_8_code
def dkwJ0_finishToArray_2 : List UInt8 := [167, 255, 213, 29, 28, 160, 0, 7, 42, 167, 0, 8, 42, 29, 184, 0, 31, 176]
abbrev dktJ0_finishToArray_2 : List UInt8 := dkwJ0_finishToArray_2 ++ []
def dkwJ0_finishToArray_1 : List UInt8 := [4, 96, 184, 0, 64, 61, 42, 28, 184, 0, 31, 75, 42, 29, 132, 3, 1, 43, 185, 0, 23, 1, 0, 83]
abbrev dktJ0_finishToArray_1 : List UInt8 := dkwJ0_finishToArray_1 ++ dktJ0_finishToArray_2
def dkwJ0_finishToArray_0 : List UInt8 := [42, 190, 61, 28, 62, 43, 185, 0, 17, 1, 0, 153, 0, 40, 29, 28, 160, 0, 20, 28, 4, 28, 4, 122]
abbrev dktJ0_finishToArray_0 : List UInt8 := dkwJ0_finishToArray_0 ++ dktJ0_finishToArray_1
theorem dksJ0_finishToArray_0 : cJ0_finishToArray.data.toList.drop 0 = dktJ0_finishToArray_0 := by decide +kernel
theorem dksJ0_finishToArray_1 : cJ0_finishToArray.data.toList.drop 24 = dktJ0_finishToArray_1 := dk_seg dksJ0_finishToArray_0 24 rfl rfl
theorem dksJ0_finishToArray_2 : cJ0_finishToArray.data.toList.drop 48 = dktJ0_finishToArray_2 := dk_seg dksJ0_finishToArray_1 24 rfl rfl
theorem dJ0_finishToArray_0 : decode cJ0_finishToArray 0 = .ok (.aload_n 0, 1) := dk_42 (dk_at dksJ0_finishToArray_0 0 rfl rfl)
theorem dJ0_finishToArray_1 : decode cJ0_finishToArray 1 = .ok (.arraylength, 1) := dk_190 (dk_at dksJ0_finishToArray_0 1 rfl rfl)
theorem dJ0_finishToArray_2 : decode cJ0_finishToArray 2 = .ok (.istore_n 2, 1) := dk_61 (dk_at dksJ0_finishToArray_0 2 rfl rfl)
theorem dJ0_finishToArray_3 : decode cJ0_finishToArray 3 = .ok (.iload_n 2, 1) := dk_28 (dk_at dksJ0_finishToArray_0 3 rfl rfl)
theorem dJ0_finishToArray_4 : decode cJ0_finishToArray 4 = .ok (.istore_n 3, 1) := dk_62 (dk_at dksJ0_finishToArray_0 4 rfl rfl)
theorem dJ0_finishToArray_5 : decode cJ0_finishToArray 5 = .ok (.aload_n 1, 1) := dk_43 (dk_at dksJ0_finishToArray_0 5 rfl rfl)
theorem dJ0_finishToArray_6 : decode cJ0_finishToArray 6 = .ok (.invokeinterface 17 1, 5) := by decide +kernel
theorem dJ0_finishToArray_11 : decode cJ0_finishToArray 11 = .ok (.ifCond .eq 40, 3) := dk_153 0 40 (dk_at dksJ0_finishToArray_0 11 rfl rfl)
theorem dJ0_finishToArray_14 : decode cJ0_finishToArray 14 = .ok (.iload_n 3, 1) := dk_29 (dk_at dksJ0_finishToArray_0 14 rfl rfl)
theorem dJ0_finishToArray_15 : decode cJ0_finishToArray 15 = .ok (.iload_n 2, 1) := dk_28 (dk_at dksJ0_finishToArray_0 15 rfl rfl)
theorem dJ0_finishToArray_16 : decode cJ0_finishToArray 16 = .ok (.if_icmp .ne 20, 3) := dk_160 0 20 (dk_at dksJ0_finishToArray_0 16 rfl rfl)
theorem dJ0_finishToArray_19 : decode cJ0_finishToArray 19 = .ok (.iload_n 2, 1) := dk_28 (dk_at dksJ0_finishToArray_0 19 rfl rfl)
theorem dJ0_finishToArray_20 : decode cJ0_finishToArray 20 = .ok (.iconst 1, 1) := dk_4 (dk_at dksJ0_finishToArray_0 20 rfl rfl)
theorem dJ0_finishToArray_21 : decode cJ0_finishToArray 21 = .ok (.iload_n 2, 1) := dk_28 (dk_at dksJ0_finishToArray_0 21 rfl rfl)
theorem dJ0_finishToArray_22 : decode cJ0_finishToArray 22 = .ok (.iconst 1, 1) := dk_4 (dk_at dksJ0_finishToArray_0 22 rfl rfl)
theorem dJ0_finishToArray_23 : decode cJ0_finishToArray 23 = .ok (.ishr, 1) := dk_122 (dk_at dksJ0_finishToArray_0 23 rfl rfl)
theorem dJ0_finishToArray_24 : decode cJ0_finishToArray 24 = .ok (.iconst 1, 1) := dk_4 (dk_at dksJ0_finishToArray_1 0 rfl rfl)
theorem dJ0_finishToArray_25 : decode cJ0_finishToArray 25 = .ok (.iadd, 1) := dk_96 (dk_at dksJ0_finishToArray_1 1 rfl rfl)
theorem dJ0_finishToArray_26 : decode cJ0_finishToArray 26 = .ok (.invokestatic 64, 3) := dk_184 0 64 (dk_at dksJ0_finishToArray_1 2 rfl rfl)
theorem dJ0_finishToArray_29 : decode cJ0_finishToArray 29 = .ok (.istore_n 2, 1) := dk_61 (dk_at dksJ0_finishToArray_1 5 rfl rfl)
theorem dJ0_finishToArray_30 : decode cJ0_finishToArray 30 = .ok (.aload_n 0, 1) := dk_42 (dk_at dksJ0_finishToArray_1 6 rfl rfl)
theorem dJ0_finishToArray_31 : decode cJ0_finishToArray 31 = .ok (.iload_n 2, 1) := dk_28 (dk_at dksJ0_finishToArray_1 7 rfl rfl)
theorem dJ0_finishToArray_32 : decode cJ0_finishToArray 32 = .ok (.invokestatic 31, 3) := dk_184 0 31 (dk_at dksJ0_finishToArray_1 8 rfl rfl)
theorem dJ0_finishToArray_35 : decode cJ0_finishToArray 35 = .ok (.astore_n 0, 1) := dk_75 (dk_at dksJ0_finishToArray_1 11 rfl rfl)
theorem dJ0_finishToArray_36 : decode cJ0_finishToArray 36 = .ok (.aload_n 0, 1) := dk_42 (dk_at dksJ0_finishToArray_1 12 rfl rfl)
theorem dJ0_finishToArray_37 : decode cJ0_finishToArray 37 = .ok (.iload_n 3, 1) := dk_29 (dk_at dksJ0_finishToArray_1 13 rfl rfl)
theorem dJ0_finishToArray_38 : decode cJ0_finishToArray 38 = .ok (.iinc 3 1, 3) := dk_132 3 1 (dk_at dksJ0_finishToArray_1 14 rfl rfl)
theorem dJ0_finishToArray_41 : decode cJ0_finishToArray 41 = .ok (.aload_n 1, 1) := dk_43 (dk_at dksJ0_finishToArray_1 17 rfl rfl)
theorem dJ0_finishToArray_42 : decode cJ0_finishToArray 42 = .ok (.invokeinterface 23 1, 5) := by decide +kernel
theorem dJ0_finishToArray_47 : decode cJ0_finishToArray 47 = .ok (.aastore, 1) := dk_83 (dk_at dksJ0_finishToArray_1 23 rfl rfl)
theorem dJ0_finishToArray_48 : decode cJ0_finishToArray 48 = .ok (.goto (-43), 3) := dk_167 255 213 (dk_at dksJ0_finishToArray_2 0 rfl rfl)
theorem dJ0_finishToArray_51 : decode cJ0_finishToArray 51 = .ok (.iload_n 3, 1) := dk_29 (dk_at dksJ0_finishToArray_2 3 rfl rfl)
theorem dJ0_finishToArray_52 : decode cJ0_finishToArray 52 = .ok (.iload_n 2, 1) := dk_28 (dk_at dksJ0_finishToArray_2 4 rfl rfl)
theorem dJ0_finishToArray_53 : decode cJ0_finishToArray 53 = .ok (.if_icmp .ne 7, 3) := dk_160 0 7 (dk_at dksJ0_finishToArray_2 5 rfl rfl)
theorem dJ0_finishToArray_56 : decode cJ0_finishToArray 56 = .ok (.aload_n 0, 1) := dk_42 (dk_at dksJ0_finishToArray_2 8 rfl rfl)
theorem dJ0_finishToArray_57 : decode cJ0_finishToArray 57 = .ok (.goto 8, 3) := dk_167 0 8 (dk_at dksJ0_finishToArray_2 9 rfl rfl)
theorem dJ0_finishToArray_60 : decode cJ0_finishToArray 60 = .ok (.aload_n 0, 1) := dk_42 (dk_at dksJ0_finishToArray_2 12 rfl rfl)
theorem dJ0_finishToArray_61 : decode cJ0_finishToArray 61 = .ok (.iload_n 3, 1) := dk_29 (dk_at dksJ0_finishToArray_2 13 rfl rfl)
theorem dJ0_finishToArray_62 : decode cJ0_finishToArray 62 = .ok (.invokestatic 31, 3) := dk_184 0 31 (dk_at dksJ0_finishToArray_2 14 rfl rfl)
theorem dJ0_finishToArray_65 : decode cJ0_finishToArray 65 = .ok (.areturn, 1) := dk_176 (dk_at dksJ0_finishToArray_2 17 rfl rfl)
abbrev cJ12_newLength : ByteArray := prog_96_method_27_code
def dkwJ12_newLength_1 : List UInt8 := [184, 0, 201, 172]
abbrev dktJ12_newLength_1 : List UInt8 := dkwJ12_newLength_1 ++ []
def dkwJ12_newLength_0 : List UInt8 := [26, 27, 28, 184, 0, 194, 96, 62, 3, 29, 162, 0, 11, 29, 18, 200, 163, 0, 5, 29, 172, 26, 27]
abbrev dktJ12_newLength_0 : List UInt8 := dkwJ12_newLength_0 ++ dktJ12_newLength_1
theorem dksJ12_newLength_0 : cJ12_newLength.data.toList.drop 0 = dktJ12_newLength_0 := by decide +kernel
theorem dksJ12_newLength_1 : cJ12_newLength.data.toList.drop 23 = dktJ12_newLength_1 := dk_seg dksJ12_newLength_0 23 rfl rfl
theorem dJ12_newLength_0 : decode cJ12_newLength 0 = .ok (.iload_n 0, 1) := dk_26 (dk_at dksJ12_newLength_0 0 rfl rfl)
theorem dJ12_newLength_1 : decode cJ12_newLength 1 = .ok (.iload_n 1, 1) := dk_27 (dk_at dksJ12_newLength_0 1 rfl rfl)
theorem dJ12_newLength_2 : decode cJ12_newLength 2 = .ok (.iload_n 2, 1) := dk_28 (dk_at dksJ12_newLength_0 2 rfl rfl)
theorem dJ12_newLength_3 : decode cJ12_newLength 3 = .ok (.invokestatic 194, 3) := dk_184 0 194 (dk_at dksJ12_newLength_0 3 rfl rfl)
theorem dJ12_newLength_6 : decode cJ12_newLength 6 = .ok (.iadd, 1) := dk_96 (dk_at dksJ12_newLength_0 6 rfl rfl)
theorem dJ12_newLength_7 : decode cJ12_newLength 7 = .ok (.istore_n 3, 1) := dk_62 (dk_at dksJ12_newLength_0 7 rfl rfl)
theorem dJ12_newLength_8 : decode cJ12_newLength 8 = .ok (.iconst 0, 1) := dk_3 (dk_at dksJ12_newLength_0 8 rfl rfl)
theorem dJ12_newLength_9 : decode cJ12_newLength 9 = .ok (.iload_n 3, 1) := dk_29 (dk_at dksJ12_newLength_0 9 rfl rfl)
theorem dJ12_newLength_10 : decode cJ12_newLength 10 = .ok (.if_icmp .ge 11, 3) := dk_162 0 11 (dk_at dksJ12_newLength_0 10 rfl rfl)
theorem dJ12_newLength_13 : decode cJ12_newLength 13 = .ok (.iload_n 3, 1) := dk_29 (dk_at dksJ12_newLength_0 13 rfl rfl)
theorem dJ12_newLength_14 : decode cJ12_newLength 14 = .ok (.ldc 200, 2) := dk_18 200 (dk_at dksJ12_newLength_0 14 rfl rfl)
theorem dJ12_newLength_16 : decode cJ12_newLength 16 = .ok (.if_icmp .gt 5, 3) := dk_163 0 5 (dk_at dksJ12_newLength_0 16 rfl rfl)
theorem dJ12_newLength_19 : decode cJ12_newLength 19 = .ok (.iload_n 3, 1) := dk_29 (dk_at dksJ12_newLength_0 19 rfl rfl)
theorem dJ12_newLength_20 : decode cJ12_newLength 20 = .ok (.ireturn, 1) := dk_172 (dk_at dksJ12_newLength_0 20 rfl rfl)
theorem dJ12_newLength_21 : decode cJ12_newLength 21 = .ok (.iload_n 0, 1) := dk_26 (dk_at dksJ12_newLength_0 21 rfl rfl)
theorem dJ12_newLength_22 : decode cJ12_newLength 22 = .ok (.iload_n 1, 1) := dk_27 (dk_at dksJ12_newLength_0 22 rfl rfl)
theorem dJ12_newLength_23 : decode cJ12_newLength 23 = .ok (.invokestatic 201, 3) := dk_184 0 201 (dk_at dksJ12_newLength_1 0 rfl rfl)
theorem dJ12_newLength_26 : decode cJ12_newLength 26 = .ok (.ireturn, 1) := dk_172 (dk_at dksJ12_newLength_1 3 rfl rfl)
abbrev cJ6_grow : ByteArray := prog_73_method_12_code
def dkwJ6_grow_1 : List UInt8 := [122, 184, 0, 80, 62, 42, 42, 180, 0, 17, 29, 184, 0, 86, 181, 0, 17, 177]
abbrev dktJ6_grow_1 : List UInt8 := dkwJ6_grow_1 ++ []
def dkwJ6_grow_0 : List UInt8 := [42, 180, 0, 17, 190, 61, 28, 27, 28, 100, 28, 16, 64, 162, 0, 9, 28, 5, 96, 167, 0, 6, 28, 4]
abbrev dktJ6_grow_0 : List UInt8 := dkwJ6_grow_0 ++ dktJ6_grow_1
theorem dksJ6_grow_0 : cJ6_grow.data.toList.drop 0 = dktJ6_grow_0 := by decide +kernel
theorem dksJ6_grow_1 : cJ6_grow.data.toList.drop 24 = dktJ6_grow_1 := dk_seg dksJ6_grow_0 24 rfl rfl
theorem dJ6_grow_0 : decode cJ6_grow 0 = .ok (.aload_n 0, 1) := dk_42 (dk_at dksJ6_grow_0 0 rfl rfl)
theorem dJ6_grow_1 : decode cJ6_grow 1 = .ok (.getfield 17, 3) := dk_180 0 17 (dk_at dksJ6_grow_0 1 rfl rfl)
theorem dJ6_grow_4 : decode cJ6_grow 4 = .ok (.arraylength, 1) := dk_190 (dk_at dksJ6_grow_0 4 rfl rfl)
theorem dJ6_grow_5 : decode cJ6_grow 5 = .ok (.istore_n 2, 1) := dk_61 (dk_at dksJ6_grow_0 5 rfl rfl)
theorem dJ6_grow_6 : decode cJ6_grow 6 = .ok (.iload_n 2, 1) := dk_28 (dk_at dksJ6_grow_0 6 rfl rfl)
theorem dJ6_grow_7 : decode cJ6_grow 7 = .ok (.iload_n 1, 1) := dk_27 (dk_at dksJ6_grow_0 7 rfl rfl)
theorem dJ6_grow_8 : decode cJ6_grow 8 = .ok (.iload_n 2, 1) := dk_28 (dk_at dksJ6_grow_0 8 rfl rfl)
theorem dJ6_grow_9 : decode cJ6_grow 9 = .ok (.isub, 1) := dk_100 (dk_at dksJ6_grow_0 9 rfl rfl)
theorem dJ6_grow_10 : decode cJ6_grow 10 = .ok (.iload_n 2, 1) := dk_28 (dk_at dksJ6_grow_0 10 rfl rfl)
theorem dJ6_grow_11 : decode cJ6_grow 11 = .ok (.bipush 64, 2) := dk_16 64 (dk_at dksJ6_grow_0 11 rfl rfl)
theorem dJ6_grow_13 : decode cJ6_grow 13 = .ok (.if_icmp .ge 9, 3) := dk_162 0 9 (dk_at dksJ6_grow_0 13 rfl rfl)
theorem dJ6_grow_16 : decode cJ6_grow 16 = .ok (.iload_n 2, 1) := dk_28 (dk_at dksJ6_grow_0 16 rfl rfl)
theorem dJ6_grow_17 : decode cJ6_grow 17 = .ok (.iconst 2, 1) := dk_5 (dk_at dksJ6_grow_0 17 rfl rfl)
theorem dJ6_grow_18 : decode cJ6_grow 18 = .ok (.iadd, 1) := dk_96 (dk_at dksJ6_grow_0 18 rfl rfl)
theorem dJ6_grow_19 : decode cJ6_grow 19 = .ok (.goto 6, 3) := dk_167 0 6 (dk_at dksJ6_grow_0 19 rfl rfl)
theorem dJ6_grow_22 : decode cJ6_grow 22 = .ok (.iload_n 2, 1) := dk_28 (dk_at dksJ6_grow_0 22 rfl rfl)
theorem dJ6_grow_23 : decode cJ6_grow 23 = .ok (.iconst 1, 1) := dk_4 (dk_at dksJ6_grow_0 23 rfl rfl)
theorem dJ6_grow_24 : decode cJ6_grow 24 = .ok (.ishr, 1) := dk_122 (dk_at dksJ6_grow_1 0 rfl rfl)
theorem dJ6_grow_25 : decode cJ6_grow 25 = .ok (.invokestatic 80, 3) := dk_184 0 80 (dk_at dksJ6_grow_1 1 rfl rfl)
theorem dJ6_grow_28 : decode cJ6_grow 28 = .ok (.istore_n 3, 1) := dk_62 (dk_at dksJ6_grow_1 4 rfl rfl)
theorem dJ6_grow_29 : decode cJ6_grow 29 = .ok (.aload_n 0, 1) := dk_42 (dk_at dksJ6_grow_1 5 rfl rfl)
theorem dJ6_grow_30 : decode cJ6_grow 30 = .ok (.aload_n 0, 1) := dk_42 (dk_at dksJ6_grow_1 6 rfl rfl)
theorem dJ6_grow_31 : decode cJ6_grow 31 = .ok (.getfield 17, 3) := dk_180 0 17 (dk_at dksJ6_grow_1 7 rfl rfl)
theorem dJ6_grow_34 : decode cJ6_grow 34 = .ok (.iload_n 3, 1) := dk_29 (dk_at dksJ6_grow_1 10 rfl rfl)
theorem dJ6_grow_35 : decode cJ6_grow 35 = .ok (.invokestatic 86, 3) := dk_184 0 86 (dk_at dksJ6_grow_1 11 rfl rfl)
theorem dJ6_grow_38 : decode cJ6_grow 38 = .ok (.putfield 17, 3) := dk_181 0 17 (dk_at dksJ6_grow_1 14 rfl rfl)
theorem dJ6_grow_41 : decode cJ6_grow 41 = .ok (.return_, 1) := dk_177 (dk_at dksJ6_grow_1 17 rfl rfl)
abbrev cJ6_siftUp : ByteArray := prog_73_method_27_code
def dkwJ6_siftUp_1 : List UInt8 := [44, 42, 180, 0, 17, 184, 0, 140, 177]
abbrev dktJ6_siftUp_1 : List UInt8 := dkwJ6_siftUp_1 ++ []
def dkwJ6_siftUp_0 : List UInt8 := [42, 180, 0, 21, 198, 0, 19, 27, 44, 42, 180, 0, 17, 42, 180, 0, 21, 184, 0, 136, 167, 0, 12, 27]
abbrev dktJ6_siftUp_0 : List UInt8 := dkwJ6_siftUp_0 ++ dktJ6_siftUp_1
theorem dksJ6_siftUp_0 : cJ6_siftUp.data.toList.drop 0 = dktJ6_siftUp_0 := by decide +kernel
theorem dksJ6_siftUp_1 : cJ6_siftUp.data.toList.drop 24 = dktJ6_siftUp_1 := dk_seg dksJ6_siftUp_0 24 rfl rfl
theorem dJ6_siftUp_0 : decode cJ6_siftUp 0 = .ok (.aload_n 0, 1) := dk_42 (dk_at dksJ6_siftUp_0 0 rfl rfl)
theorem dJ6_siftUp_1 : decode cJ6_siftUp 1 = .ok (.getfield 21, 3) := dk_180 0 21 (dk_at dksJ6_siftUp_0 1 rfl rfl)
theorem dJ6_siftUp_4 : decode cJ6_siftUp 4 = .ok (.ifnull 19, 3) := dk_198 0 19 (dk_at dksJ6_siftUp_0 4 rfl rfl)
theorem dJ6_siftUp_7 : decode cJ6_siftUp 7 = .ok (.iload_n 1, 1) := dk_27 (dk_at dksJ6_siftUp_0 7 rfl rfl)
theorem dJ6_siftUp_8 : decode cJ6_siftUp 8 = .ok (.aload_n 2, 1) := dk_44 (dk_at dksJ6_siftUp_0 8 rfl rfl)
theorem dJ6_siftUp_9 : decode cJ6_siftUp 9 = .ok (.aload_n 0, 1) := dk_42 (dk_at dksJ6_siftUp_0 9 rfl rfl)
theorem dJ6_siftUp_10 : decode cJ6_siftUp 10 = .ok (.getfield 17, 3) := dk_180 0 17 (dk_at dksJ6_siftUp_0 10 rfl rfl)
theorem dJ6_siftUp_13 : decode cJ6_siftUp 13 = .ok (.aload_n 0, 1) := dk_42 (dk_at dksJ6_siftUp_0 13 rfl rfl)
theorem dJ6_siftUp_14 : decode cJ6_siftUp 14 = .ok (.getfield 21, 3) := dk_180 0 21 (dk_at dksJ6_siftUp_0 14 rfl rfl)
theorem dJ6_siftUp_17 : decode cJ6_siftUp 17 = .ok (.invokestatic 136, 3) := dk_184 0 136 (dk_at dksJ6_siftUp_0 17 rfl rfl)
theorem dJ6_siftUp_20 : decode cJ6_siftUp 20 = .ok (.goto 12, 3) := dk_167 0 12 (dk_at dksJ6_siftUp_0 20 rfl rfl)
theorem dJ6_siftUp_23 : decode cJ6_siftUp 23 = .ok (.iload_n 1, 1) := dk_27 (dk_at dksJ6_siftUp_0 23 rfl rfl)
theorem dJ6_siftUp_24 : decode cJ6_siftUp 24 = .ok (.aload_n 2, 1) := dk_44 (dk_at dksJ6_siftUp_1 0 rfl rfl)
theorem dJ6_siftUp_25 : decode cJ6_siftUp 25 = .ok (.aload_n 0, 1) := dk_42 (dk_at dksJ6_siftUp_1 1 rfl rfl)
theorem dJ6_siftUp_26 : decode cJ6_siftUp 26 = .ok (.getfield 17, 3) := dk_180 0 17 (dk_at dksJ6_siftUp_1 2 rfl rfl)
theorem dJ6_siftUp_29 : decode cJ6_siftUp 29 = .ok (.invokestatic 140, 3) := dk_184 0 140 (dk_at dksJ6_siftUp_1 5 rfl rfl)
theorem dJ6_siftUp_32 : decode cJ6_siftUp 32 = .ok (.return_, 1) := dk_177 (dk_at dksJ6_siftUp_1 8 rfl rfl)
abbrev cJ4_compare : ByteArray := prog_83_method_67_code
def dkwJ4_compare_1 : List UInt8 := [43, 44, 185, 0, 117, 3, 0, 172]
abbrev dktJ4_compare_1 : List UInt8 := dkwJ4_compare_1 ++ []
def dkwJ4_compare_0 : List UInt8 := [42, 180, 0, 16, 199, 0, 16, 43, 192, 0, 99, 44, 185, 0, 107, 2, 0, 167, 0, 14, 42, 180, 0, 16]
abbrev dktJ4_compare_0 : List UInt8 := dkwJ4_compare_0 ++ dktJ4_compare_1
theorem dksJ4_compare_0 : cJ4_compare.data.toList.drop 0 = dktJ4_compare_0 := by decide +kernel
theorem dksJ4_compare_1 : cJ4_compare.data.toList.drop 24 = dktJ4_compare_1 := dk_seg dksJ4_compare_0 24 rfl rfl
theorem dJ4_compare_0 : decode cJ4_compare 0 = .ok (.aload_n 0, 1) := dk_42 (dk_at dksJ4_compare_0 0 rfl rfl)
theorem dJ4_compare_1 : decode cJ4_compare 1 = .ok (.getfield 16, 3) := dk_180 0 16 (dk_at dksJ4_compare_0 1 rfl rfl)
theorem dJ4_compare_4 : decode cJ4_compare 4 = .ok (.ifnonnull 16, 3) := dk_199 0 16 (dk_at dksJ4_compare_0 4 rfl rfl)
theorem dJ4_compare_7 : decode cJ4_compare 7 = .ok (.aload_n 1, 1) := dk_43 (dk_at dksJ4_compare_0 7 rfl rfl)
theorem dJ4_compare_8 : decode cJ4_compare 8 = .ok (.checkcast 99, 3) := dk_192 0 99 (dk_at dksJ4_compare_0 8 rfl rfl)
theorem dJ4_compare_11 : decode cJ4_compare 11 = .ok (.aload_n 2, 1) := dk_44 (dk_at dksJ4_compare_0 11 rfl rfl)
theorem dJ4_compare_12 : decode cJ4_compare 12 = .ok (.invokeinterface 107 2, 5) := by decide +kernel
theorem dJ4_compare_17 : decode cJ4_compare 17 = .ok (.goto 14, 3) := dk_167 0 14 (dk_at dksJ4_compare_0 17 rfl rfl)
theorem dJ4_compare_20 : decode cJ4_compare 20 = .ok (.aload_n 0, 1) := dk_42 (dk_at dksJ4_compare_0 20 rfl rfl)
theorem dJ4_compare_21 : decode cJ4_compare 21 = .ok (.getfield 16, 3) := dk_180 0 16 (dk_at dksJ4_compare_0 21 rfl rfl)
theorem dJ4_compare_24 : decode cJ4_compare 24 = .ok (.aload_n 1, 1) := dk_43 (dk_at dksJ4_compare_1 0 rfl rfl)
theorem dJ4_compare_25 : decode cJ4_compare 25 = .ok (.aload_n 2, 1) := dk_44 (dk_at dksJ4_compare_1 1 rfl rfl)
theorem dJ4_compare_26 : decode cJ4_compare 26 = .ok (.invokeinterface 117 3, 5) := by decide +kernel
theorem dJ4_compare_31 : decode cJ4_compare 31 = .ok (.ireturn, 1) := dk_172 (dk_at dksJ4_compare_1 7 rfl rfl)
abbrev cJ17_init : ByteArray := prog_84_method_1_code
def dkwJ17_init_1 : List UInt8 := [177]
abbrev dktJ17_init_1 : List UInt8 := dkwJ17_init_1 ++ []
def dkwJ17_init_0 : List UInt8 := [42, 183, 0, 3, 42, 4, 181, 0, 9, 42, 43, 181, 0, 15, 42, 44, 181, 0, 19, 42, 45, 181, 0, 22]
abbrev dktJ17_init_0 : List UInt8 := dkwJ17_init_0 ++ dktJ17_init_1
theorem dksJ17_init_0 : cJ17_init.data.toList.drop 0 = dktJ17_init_0 := by decide +kernel
theorem dksJ17_init_1 : cJ17_init.data.toList.drop 24 = dktJ17_init_1 := dk_seg dksJ17_init_0 24 rfl rfl
theorem dJ17_init_0 : decode cJ17_init 0 = .ok (.aload_n 0, 1) := dk_42 (dk_at dksJ17_init_0 0 rfl rfl)
theorem dJ17_init_1 : decode cJ17_init 1 = .ok (.invokespecial 3, 3) := dk_183 0 3 (dk_at dksJ17_init_0 1 rfl rfl)
theorem dJ17_init_4 : decode cJ17_init 4 = .ok (.aload_n 0, 1) := dk_42 (dk_at dksJ17_init_0 4 rfl rfl)
theorem dJ17_init_5 : decode cJ17_init 5 = .ok (.iconst 1, 1) := dk_4 (dk_at dksJ17_init_0 5 rfl rfl)
theorem dJ17_init_6 : decode cJ17_init 6 = .ok (.putfield 9, 3) := dk_181 0 9 (dk_at dksJ17_init_0 6 rfl rfl)
theorem dJ17_init_9 : decode cJ17_init 9 = .ok (.aload_n 0, 1) := dk_42 (dk_at dksJ17_init_0 9 rfl rfl)
theorem dJ17_init_10 : decode cJ17_init 10 = .ok (.aload_n 1, 1) := dk_43 (dk_at dksJ17_init_0 10 rfl rfl)
theorem dJ17_init_11 : decode cJ17_init 11 = .ok (.putfield 15, 3) := dk_181 0 15 (dk_at dksJ17_init_0 11 rfl rfl)
theorem dJ17_init_14 : decode cJ17_init 14 = .ok (.aload_n 0, 1) := dk_42 (dk_at dksJ17_init_0 14 rfl rfl)
theorem dJ17_init_15 : decode cJ17_init 15 = .ok (.aload_n 2, 1) := dk_44 (dk_at dksJ17_init_0 15 rfl rfl)
theorem dJ17_init_16 : decode cJ17_init 16 = .ok (.putfield 19, 3) := dk_181 0 19 (dk_at dksJ17_init_0 16 rfl rfl)
theorem dJ17_init_19 : decode cJ17_init 19 = .ok (.aload_n 0, 1) := dk_42 (dk_at dksJ17_init_0 19 rfl rfl)
theorem dJ17_init_20 : decode cJ17_init 20 = .ok (.aload_n 3, 1) := dk_45 (dk_at dksJ17_init_0 20 rfl rfl)
theorem dJ17_init_21 : decode cJ17_init 21 = .ok (.putfield 22, 3) := dk_181 0 22 (dk_at dksJ17_init_0 21 rfl rfl)
theorem dJ17_init_24 : decode cJ17_init 24 = .ok (.return_, 1) := dk_177 (dk_at dksJ17_init_1 0 rfl rfl)
abbrev cJ4_fixAfterInsertion : ByteArray := prog_83_method_83_code
def dkwJ4_fixAfterInsertion_11 : List UInt8 := [42, 180, 0, 101, 4, 181, 1, 34, 177]
abbrev dktJ4_fixAfterInsertion_11 : List UInt8 := dkwJ4_fixAfterInsertion_11 ++ []
def dkwJ4_fixAfterInsertion_10 : List UInt8 := [184, 1, 38, 184, 1, 38, 3, 184, 1, 51, 42, 43, 184, 1, 38, 184, 1, 38, 182, 1, 55, 167, 255, 6]
abbrev dktJ4_fixAfterInsertion_10 : List UInt8 := dkwJ4_fixAfterInsertion_10 ++ dktJ4_fixAfterInsertion_11
def dkwJ4_fixAfterInsertion_9 : List UInt8 := [166, 0, 13, 43, 184, 1, 38, 76, 42, 43, 182, 1, 58, 43, 184, 1, 38, 4, 184, 1, 51, 43]
abbrev dktJ4_fixAfterInsertion_9 : List UInt8 := dkwJ4_fixAfterInsertion_9 ++ dktJ4_fixAfterInsertion_10
def dkwJ4_fixAfterInsertion_8 : List UInt8 := [184, 1, 51, 43, 184, 1, 38, 184, 1, 38, 76, 167, 0, 54, 43, 43, 184, 1, 38, 184, 1, 41]
abbrev dktJ4_fixAfterInsertion_8 : List UInt8 := dkwJ4_fixAfterInsertion_8 ++ dktJ4_fixAfterInsertion_9
def dkwJ4_fixAfterInsertion_7 : List UInt8 := [154, 0, 38, 43, 184, 1, 38, 4, 184, 1, 51, 44, 4, 184, 1, 51, 43, 184, 1, 38, 184, 1, 38, 3]
abbrev dktJ4_fixAfterInsertion_7 : List UInt8 := dkwJ4_fixAfterInsertion_7 ++ dktJ4_fixAfterInsertion_8
def dkwJ4_fixAfterInsertion_6 : List UInt8 := [184, 1, 38, 182, 1, 58, 167, 255, 113, 43, 184, 1, 38, 184, 1, 38, 184, 1, 41, 77, 44, 184, 1, 47]
abbrev dktJ4_fixAfterInsertion_6 : List UInt8 := dkwJ4_fixAfterInsertion_6 ++ dktJ4_fixAfterInsertion_7
def dkwJ4_fixAfterInsertion_5 : List UInt8 := [43, 184, 1, 38, 4, 184, 1, 51, 43, 184, 1, 38, 184, 1, 38, 3, 184, 1, 51, 42, 43, 184, 1, 38]
abbrev dktJ4_fixAfterInsertion_5 : List UInt8 := dkwJ4_fixAfterInsertion_5 ++ dktJ4_fixAfterInsertion_6
def dkwJ4_fixAfterInsertion_4 : List UInt8 := [167, 0, 54, 43, 43, 184, 1, 38, 184, 1, 44, 166, 0, 13, 43, 184, 1, 38, 76, 42, 43, 182, 1, 55]
abbrev dktJ4_fixAfterInsertion_4 : List UInt8 := dkwJ4_fixAfterInsertion_4 ++ dktJ4_fixAfterInsertion_5
def dkwJ4_fixAfterInsertion_3 : List UInt8 := [184, 1, 51, 43, 184, 1, 38, 184, 1, 38, 3, 184, 1, 51, 43, 184, 1, 38, 184, 1, 38, 76]
abbrev dktJ4_fixAfterInsertion_3 : List UInt8 := dkwJ4_fixAfterInsertion_3 ++ dktJ4_fixAfterInsertion_4
def dkwJ4_fixAfterInsertion_2 : List UInt8 := [184, 1, 38, 184, 1, 44, 77, 44, 184, 1, 47, 154, 0, 38, 43, 184, 1, 38, 4, 184, 1, 51, 44, 4]
abbrev dktJ4_fixAfterInsertion_2 : List UInt8 := dkwJ4_fixAfterInsertion_2 ++ dktJ4_fixAfterInsertion_3
def dkwJ4_fixAfterInsertion_1 : List UInt8 := [154, 0, 234, 43, 184, 1, 38, 43, 184, 1, 38, 184, 1, 38, 184, 1, 41, 166, 0, 110, 43, 184, 1, 38]
abbrev dktJ4_fixAfterInsertion_1 : List UInt8 := dkwJ4_fixAfterInsertion_1 ++ dktJ4_fixAfterInsertion_2
def dkwJ4_fixAfterInsertion_0 : List UInt8 := [43, 3, 181, 1, 34, 43, 198, 0, 252, 43, 42, 180, 0, 101, 165, 0, 244, 43, 180, 0, 124, 180, 1, 34]
abbrev dktJ4_fixAfterInsertion_0 : List UInt8 := dkwJ4_fixAfterInsertion_0 ++ dktJ4_fixAfterInsertion_1
theorem dksJ4_fixAfterInsertion_0 : cJ4_fixAfterInsertion.data.toList.drop 0 = dktJ4_fixAfterInsertion_0 := by decide +kernel
theorem dksJ4_fixAfterInsertion_1 : cJ4_fixAfterInsertion.data.toList.drop 24 = dktJ4_fixAfterInsertion_1 := dk_seg dksJ4_fixAfterInsertion_0 24 rfl rfl
theorem dksJ4_fixAfterInsertion_2 : cJ4_fixAfterInsertion.data.toList.drop 48 = dktJ4_fixAfterInsertion_2 := dk_seg dksJ4_fixAfterInsertion_1 24 rfl rfl
theorem dksJ4_fixAfterInsertion_3 : cJ4_fixAfterInsertion.data.toList.drop 72 = dktJ4_fixAfterInsertion_3 := dk_seg dksJ4_fixAfterInsertion_2 24 rfl rfl
theorem dksJ4_fixAfterInsertion_4 : cJ4_fixAfterInsertion.data.toList.drop 94 = dktJ4_fixAfterInsertion_4 := dk_seg dksJ4_fixAfterInsertion_3 22 rfl rfl
theorem dksJ4_fixAfterInsertion_5 : cJ4_fixAfterInsertion.data.toList.drop 118 = dktJ4_fixAfterInsertion_5 := dk_seg dksJ4_fixAfterInsertion_4 24 rfl rfl
theorem dksJ4_fixAfterInsertion_6 : cJ4_fixAfterInsertion.data.toList.drop 142 = dktJ4_fixAfterInsertion_6 := dk_seg dksJ4_fixAfterInsertion_5 24 rfl rfl
theorem dksJ4_fixAfterInsertion_7 : cJ4_fixAfterInsertion.data.toList.drop 166 = dktJ4_fixAfterInsertion_7 := dk_seg dksJ4_fixAfterInsertion_6 24 rfl rfl
theorem dksJ4_fixAfterInsertion_8 : cJ4_fixAfterInsertion.data.toList.drop 190 = dktJ4_fixAfterInsertion_8 := dk_seg dksJ4_fixAfterInsertion_7 24 rfl rfl
theorem dksJ4_fixAfterInsertion_9 : cJ4_fixAfterInsertion.data.toList.drop 212 = dktJ4_fixAfterInsertion_9 := dk_seg dksJ4_fixAfterInsertion_8 22 rfl rfl
theorem dksJ4_fixAfterInsertion_10 : cJ4_fixAfterInsertion.data.toList.drop 234 = dktJ4_fixAfterInsertion_10 := dk_seg dksJ4_fixAfterInsertion_9 22 rfl rfl
theorem dksJ4_fixAfterInsertion_11 : cJ4_fixAfterInsertion.data.toList.drop 258 = dktJ4_fixAfterInsertion_11 := dk_seg dksJ4_fixAfterInsertion_10 24 rfl rfl
theorem dJ4_fixAfterInsertion_0 : decode cJ4_fixAfterInsertion 0 = .ok (.aload_n 1, 1) := dk_43 (dk_at dksJ4_fixAfterInsertion_0 0 rfl rfl)
theorem dJ4_fixAfterInsertion_1 : decode cJ4_fixAfterInsertion 1 = .ok (.iconst 0, 1) := dk_3 (dk_at dksJ4_fixAfterInsertion_0 1 rfl rfl)
theorem dJ4_fixAfterInsertion_2 : decode cJ4_fixAfterInsertion 2 = .ok (.putfield 290, 3) := dk_181 1 34 (dk_at dksJ4_fixAfterInsertion_0 2 rfl rfl)
theorem dJ4_fixAfterInsertion_5 : decode cJ4_fixAfterInsertion 5 = .ok (.aload_n 1, 1) := dk_43 (dk_at dksJ4_fixAfterInsertion_0 5 rfl rfl)
theorem dJ4_fixAfterInsertion_6 : decode cJ4_fixAfterInsertion 6 = .ok (.ifnull 252, 3) := dk_198 0 252 (dk_at dksJ4_fixAfterInsertion_0 6 rfl rfl)
theorem dJ4_fixAfterInsertion_9 : decode cJ4_fixAfterInsertion 9 = .ok (.aload_n 1, 1) := dk_43 (dk_at dksJ4_fixAfterInsertion_0 9 rfl rfl)
theorem dJ4_fixAfterInsertion_10 : decode cJ4_fixAfterInsertion 10 = .ok (.aload_n 0, 1) := dk_42 (dk_at dksJ4_fixAfterInsertion_0 10 rfl rfl)
theorem dJ4_fixAfterInsertion_11 : decode cJ4_fixAfterInsertion 11 = .ok (.getfield 101, 3) := dk_180 0 101 (dk_at dksJ4_fixAfterInsertion_0 11 rfl rfl)
theorem dJ4_fixAfterInsertion_14 : decode cJ4_fixAfterInsertion 14 = .ok (.if_acmp .eq 244, 3) := dk_165 0 244 (dk_at dksJ4_fixAfterInsertion_0 14 rfl rfl)
theorem dJ4_fixAfterInsertion_17 : decode cJ4_fixAfterInsertion 17 = .ok (.aload_n 1, 1) := dk_43 (dk_at dksJ4_fixAfterInsertion_0 17 rfl rfl)
theorem dJ4_fixAfterInsertion_18 : decode cJ4_fixAfterInsertion 18 = .ok (.getfield 124, 3) := dk_180 0 124 (dk_at dksJ4_fixAfterInsertion_0 18 rfl rfl)
theorem dJ4_fixAfterInsertion_21 : decode cJ4_fixAfterInsertion 21 = .ok (.getfield 290, 3) := dk_180 1 34 (dk_at dksJ4_fixAfterInsertion_0 21 rfl rfl)
theorem dJ4_fixAfterInsertion_24 : decode cJ4_fixAfterInsertion 24 = .ok (.ifCond .ne 234, 3) := dk_154 0 234 (dk_at dksJ4_fixAfterInsertion_1 0 rfl rfl)
theorem dJ4_fixAfterInsertion_27 : decode cJ4_fixAfterInsertion 27 = .ok (.aload_n 1, 1) := dk_43 (dk_at dksJ4_fixAfterInsertion_1 3 rfl rfl)
theorem dJ4_fixAfterInsertion_28 : decode cJ4_fixAfterInsertion 28 = .ok (.invokestatic 294, 3) := dk_184 1 38 (dk_at dksJ4_fixAfterInsertion_1 4 rfl rfl)
theorem dJ4_fixAfterInsertion_31 : decode cJ4_fixAfterInsertion 31 = .ok (.aload_n 1, 1) := dk_43 (dk_at dksJ4_fixAfterInsertion_1 7 rfl rfl)
theorem dJ4_fixAfterInsertion_32 : decode cJ4_fixAfterInsertion 32 = .ok (.invokestatic 294, 3) := dk_184 1 38 (dk_at dksJ4_fixAfterInsertion_1 8 rfl rfl)
theorem dJ4_fixAfterInsertion_35 : decode cJ4_fixAfterInsertion 35 = .ok (.invokestatic 294, 3) := dk_184 1 38 (dk_at dksJ4_fixAfterInsertion_1 11 rfl rfl)
theorem dJ4_fixAfterInsertion_38 : decode cJ4_fixAfterInsertion 38 = .ok (.invokestatic 297, 3) := dk_184 1 41 (dk_at dksJ4_fixAfterInsertion_1 14 rfl rfl)
theorem dJ4_fixAfterInsertion_41 : decode cJ4_fixAfterInsertion 41 = .ok (.if_acmp .ne 110, 3) := dk_166 0 110 (dk_at dksJ4_fixAfterInsertion_1 17 rfl rfl)
theorem dJ4_fixAfterInsertion_44 : decode cJ4_fixAfterInsertion 44 = .ok (.aload_n 1, 1) := dk_43 (dk_at dksJ4_fixAfterInsertion_1 20 rfl rfl)
theorem dJ4_fixAfterInsertion_45 : decode cJ4_fixAfterInsertion 45 = .ok (.invokestatic 294, 3) := dk_184 1 38 (dk_at dksJ4_fixAfterInsertion_1 21 rfl rfl)
theorem dJ4_fixAfterInsertion_48 : decode cJ4_fixAfterInsertion 48 = .ok (.invokestatic 294, 3) := dk_184 1 38 (dk_at dksJ4_fixAfterInsertion_2 0 rfl rfl)
theorem dJ4_fixAfterInsertion_51 : decode cJ4_fixAfterInsertion 51 = .ok (.invokestatic 300, 3) := dk_184 1 44 (dk_at dksJ4_fixAfterInsertion_2 3 rfl rfl)
theorem dJ4_fixAfterInsertion_54 : decode cJ4_fixAfterInsertion 54 = .ok (.astore_n 2, 1) := dk_77 (dk_at dksJ4_fixAfterInsertion_2 6 rfl rfl)
theorem dJ4_fixAfterInsertion_55 : decode cJ4_fixAfterInsertion 55 = .ok (.aload_n 2, 1) := dk_44 (dk_at dksJ4_fixAfterInsertion_2 7 rfl rfl)
theorem dJ4_fixAfterInsertion_56 : decode cJ4_fixAfterInsertion 56 = .ok (.invokestatic 303, 3) := dk_184 1 47 (dk_at dksJ4_fixAfterInsertion_2 8 rfl rfl)
theorem dJ4_fixAfterInsertion_59 : decode cJ4_fixAfterInsertion 59 = .ok (.ifCond .ne 38, 3) := dk_154 0 38 (dk_at dksJ4_fixAfterInsertion_2 11 rfl rfl)
theorem dJ4_fixAfterInsertion_62 : decode cJ4_fixAfterInsertion 62 = .ok (.aload_n 1, 1) := dk_43 (dk_at dksJ4_fixAfterInsertion_2 14 rfl rfl)
theorem dJ4_fixAfterInsertion_63 : decode cJ4_fixAfterInsertion 63 = .ok (.invokestatic 294, 3) := dk_184 1 38 (dk_at dksJ4_fixAfterInsertion_2 15 rfl rfl)
theorem dJ4_fixAfterInsertion_66 : decode cJ4_fixAfterInsertion 66 = .ok (.iconst 1, 1) := dk_4 (dk_at dksJ4_fixAfterInsertion_2 18 rfl rfl)
theorem dJ4_fixAfterInsertion_67 : decode cJ4_fixAfterInsertion 67 = .ok (.invokestatic 307, 3) := dk_184 1 51 (dk_at dksJ4_fixAfterInsertion_2 19 rfl rfl)
theorem dJ4_fixAfterInsertion_70 : decode cJ4_fixAfterInsertion 70 = .ok (.aload_n 2, 1) := dk_44 (dk_at dksJ4_fixAfterInsertion_2 22 rfl rfl)
theorem dJ4_fixAfterInsertion_71 : decode cJ4_fixAfterInsertion 71 = .ok (.iconst 1, 1) := dk_4 (dk_at dksJ4_fixAfterInsertion_2 23 rfl rfl)
theorem dJ4_fixAfterInsertion_72 : decode cJ4_fixAfterInsertion 72 = .ok (.invokestatic 307, 3) := dk_184 1 51 (dk_at dksJ4_fixAfterInsertion_3 0 rfl rfl)
theorem dJ4_fixAfterInsertion_75 : decode cJ4_fixAfterInsertion 75 = .ok (.aload_n 1, 1) := dk_43 (dk_at dksJ4_fixAfterInsertion_3 3 rfl rfl)
theorem dJ4_fixAfterInsertion_76 : decode cJ4_fixAfterInsertion 76 = .ok (.invokestatic 294, 3) := dk_184 1 38 (dk_at dksJ4_fixAfterInsertion_3 4 rfl rfl)
theorem dJ4_fixAfterInsertion_79 : decode cJ4_fixAfterInsertion 79 = .ok (.invokestatic 294, 3) := dk_184 1 38 (dk_at dksJ4_fixAfterInsertion_3 7 rfl rfl)
theorem dJ4_fixAfterInsertion_82 : decode cJ4_fixAfterInsertion 82 = .ok (.iconst 0, 1) := dk_3 (dk_at dksJ4_fixAfterInsertion_3 10 rfl rfl)
theorem dJ4_fixAfterInsertion_83 : decode cJ4_fixAfterInsertion 83 = .ok (.invokestatic 307, 3) := dk_184 1 51 (dk_at dksJ4_fixAfterInsertion_3 11 rfl rfl)
theorem dJ4_fixAfterInsertion_86 : decode cJ4_fixAfterInsertion 86 = .ok (.aload_n 1, 1) := dk_43 (dk_at dksJ4_fixAfterInsertion_3 14 rfl rfl)
theorem dJ4_fixAfterInsertion_87 : decode cJ4_fixAfterInsertion 87 = .ok (.invokestatic 294, 3) := dk_184 1 38 (dk_at dksJ4_fixAfterInsertion_3 15 rfl rfl)
theorem dJ4_fixAfterInsertion_90 : decode cJ4_fixAfterInsertion 90 = .ok (.invokestatic 294, 3) := dk_184 1 38 (dk_at dksJ4_fixAfterInsertion_3 18 rfl rfl)
theorem dJ4_fixAfterInsertion_93 : decode cJ4_fixAfterInsertion 93 = .ok (.astore_n 1, 1) := dk_76 (dk_at dksJ4_fixAfterInsertion_3 21 rfl rfl)
theorem dJ4_fixAfterInsertion_94 : decode cJ4_fixAfterInsertion 94 = .ok (.goto 54, 3) := dk_167 0 54 (dk_at dksJ4_fixAfterInsertion_4 0 rfl rfl)
theorem dJ4_fixAfterInsertion_97 : decode cJ4_fixAfterInsertion 97 = .ok (.aload_n 1, 1) := dk_43 (dk_at dksJ4_fixAfterInsertion_4 3 rfl rfl)
theorem dJ4_fixAfterInsertion_98 : decode cJ4_fixAfterInsertion 98 = .ok (.aload_n 1, 1) := dk_43 (dk_at dksJ4_fixAfterInsertion_4 4 rfl rfl)
theorem dJ4_fixAfterInsertion_99 : decode cJ4_fixAfterInsertion 99 = .ok (.invokestatic 294, 3) := dk_184 1 38 (dk_at dksJ4_fixAfterInsertion_4 5 rfl rfl)
theorem dJ4_fixAfterInsertion_102 : decode cJ4_fixAfterInsertion 102 = .ok (.invokestatic 300, 3) := dk_184 1 44 (dk_at dksJ4_fixAfterInsertion_4 8 rfl rfl)
theorem dJ4_fixAfterInsertion_105 : decode cJ4_fixAfterInsertion 105 = .ok (.if_acmp .ne 13, 3) := dk_166 0 13 (dk_at dksJ4_fixAfterInsertion_4 11 rfl rfl)
theorem dJ4_fixAfterInsertion_108 : decode cJ4_fixAfterInsertion 108 = .ok (.aload_n 1, 1) := dk_43 (dk_at dksJ4_fixAfterInsertion_4 14 rfl rfl)
theorem dJ4_fixAfterInsertion_109 : decode cJ4_fixAfterInsertion 109 = .ok (.invokestatic 294, 3) := dk_184 1 38 (dk_at dksJ4_fixAfterInsertion_4 15 rfl rfl)
theorem dJ4_fixAfterInsertion_112 : decode cJ4_fixAfterInsertion 112 = .ok (.astore_n 1, 1) := dk_76 (dk_at dksJ4_fixAfterInsertion_4 18 rfl rfl)
theorem dJ4_fixAfterInsertion_113 : decode cJ4_fixAfterInsertion 113 = .ok (.aload_n 0, 1) := dk_42 (dk_at dksJ4_fixAfterInsertion_4 19 rfl rfl)
theorem dJ4_fixAfterInsertion_114 : decode cJ4_fixAfterInsertion 114 = .ok (.aload_n 1, 1) := dk_43 (dk_at dksJ4_fixAfterInsertion_4 20 rfl rfl)
theorem dJ4_fixAfterInsertion_115 : decode cJ4_fixAfterInsertion 115 = .ok (.invokevirtual 311, 3) := dk_182 1 55 (dk_at dksJ4_fixAfterInsertion_4 21 rfl rfl)
theorem dJ4_fixAfterInsertion_118 : decode cJ4_fixAfterInsertion 118 = .ok (.aload_n 1, 1) := dk_43 (dk_at dksJ4_fixAfterInsertion_5 0 rfl rfl)
theorem dJ4_fixAfterInsertion_119 : decode cJ4_fixAfterInsertion 119 = .ok (.invokestatic 294, 3) := dk_184 1 38 (dk_at dksJ4_fixAfterInsertion_5 1 rfl rfl)
theorem dJ4_fixAfterInsertion_122 : decode cJ4_fixAfterInsertion 122 = .ok (.iconst 1, 1) := dk_4 (dk_at dksJ4_fixAfterInsertion_5 4 rfl rfl)
theorem dJ4_fixAfterInsertion_123 : decode cJ4_fixAfterInsertion 123 = .ok (.invokestatic 307, 3) := dk_184 1 51 (dk_at dksJ4_fixAfterInsertion_5 5 rfl rfl)
theorem dJ4_fixAfterInsertion_126 : decode cJ4_fixAfterInsertion 126 = .ok (.aload_n 1, 1) := dk_43 (dk_at dksJ4_fixAfterInsertion_5 8 rfl rfl)
theorem dJ4_fixAfterInsertion_127 : decode cJ4_fixAfterInsertion 127 = .ok (.invokestatic 294, 3) := dk_184 1 38 (dk_at dksJ4_fixAfterInsertion_5 9 rfl rfl)
theorem dJ4_fixAfterInsertion_130 : decode cJ4_fixAfterInsertion 130 = .ok (.invokestatic 294, 3) := dk_184 1 38 (dk_at dksJ4_fixAfterInsertion_5 12 rfl rfl)
theorem dJ4_fixAfterInsertion_133 : decode cJ4_fixAfterInsertion 133 = .ok (.iconst 0, 1) := dk_3 (dk_at dksJ4_fixAfterInsertion_5 15 rfl rfl)
theorem dJ4_fixAfterInsertion_134 : decode cJ4_fixAfterInsertion 134 = .ok (.invokestatic 307, 3) := dk_184 1 51 (dk_at dksJ4_fixAfterInsertion_5 16 rfl rfl)
theorem dJ4_fixAfterInsertion_137 : decode cJ4_fixAfterInsertion 137 = .ok (.aload_n 0, 1) := dk_42 (dk_at dksJ4_fixAfterInsertion_5 19 rfl rfl)
theorem dJ4_fixAfterInsertion_138 : decode cJ4_fixAfterInsertion 138 = .ok (.aload_n 1, 1) := dk_43 (dk_at dksJ4_fixAfterInsertion_5 20 rfl rfl)
theorem dJ4_fixAfterInsertion_139 : decode cJ4_fixAfterInsertion 139 = .ok (.invokestatic 294, 3) := dk_184 1 38 (dk_at dksJ4_fixAfterInsertion_5 21 rfl rfl)
theorem dJ4_fixAfterInsertion_142 : decode cJ4_fixAfterInsertion 142 = .ok (.invokestatic 294, 3) := dk_184 1 38 (dk_at dksJ4_fixAfterInsertion_6 0 rfl rfl)
theorem dJ4_fixAfterInsertion_145 : decode cJ4_fixAfterInsertion 145 = .ok (.invokevirtual 314, 3) := dk_182 1 58 (dk_at dksJ4_fixAfterInsertion_6 3 rfl rfl)
theorem dJ4_fixAfterInsertion_148 : decode cJ4_fixAfterInsertion 148 = .ok (.goto (-143), 3) := dk_167 255 113 (dk_at dksJ4_fixAfterInsertion_6 6 rfl rfl)
theorem dJ4_fixAfterInsertion_151 : decode cJ4_fixAfterInsertion 151 = .ok (.aload_n 1, 1) := dk_43 (dk_at dksJ4_fixAfterInsertion_6 9 rfl rfl)
theorem dJ4_fixAfterInsertion_152 : decode cJ4_fixAfterInsertion 152 = .ok (.invokestatic 294, 3) := dk_184 1 38 (dk_at dksJ4_fixAfterInsertion_6 10 rfl rfl)
theorem dJ4_fixAfterInsertion_155 : decode cJ4_fixAfterInsertion 155 = .ok (.invokestatic 294, 3) := dk_184 1 38 (dk_at dksJ4_fixAfterInsertion_6 13 rfl rfl)
theorem dJ4_fixAfterInsertion_158 : decode cJ4_fixAfterInsertion 158 = .ok (.invokestatic 297, 3) := dk_184 1 41 (dk_at dksJ4_fixAfterInsertion_6 16 rfl rfl)
theorem dJ4_fixAfterInsertion_161 : decode cJ4_fixAfterInsertion 161 = .ok (.astore_n 2, 1) := dk_77 (dk_at dksJ4_fixAfterInsertion_6 19 rfl rfl)
theorem dJ4_fixAfterInsertion_162 : decode cJ4_fixAfterInsertion 162 = .ok (.aload_n 2, 1) := dk_44 (dk_at dksJ4_fixAfterInsertion_6 20 rfl rfl)
theorem dJ4_fixAfterInsertion_163 : decode cJ4_fixAfterInsertion 163 = .ok (.invokestatic 303, 3) := dk_184 1 47 (dk_at dksJ4_fixAfterInsertion_6 21 rfl rfl)
theorem dJ4_fixAfterInsertion_166 : decode cJ4_fixAfterInsertion 166 = .ok (.ifCond .ne 38, 3) := dk_154 0 38 (dk_at dksJ4_fixAfterInsertion_7 0 rfl rfl)
theorem dJ4_fixAfterInsertion_169 : decode cJ4_fixAfterInsertion 169 = .ok (.aload_n 1, 1) := dk_43 (dk_at dksJ4_fixAfterInsertion_7 3 rfl rfl)
theorem dJ4_fixAfterInsertion_170 : decode cJ4_fixAfterInsertion 170 = .ok (.invokestatic 294, 3) := dk_184 1 38 (dk_at dksJ4_fixAfterInsertion_7 4 rfl rfl)
theorem dJ4_fixAfterInsertion_173 : decode cJ4_fixAfterInsertion 173 = .ok (.iconst 1, 1) := dk_4 (dk_at dksJ4_fixAfterInsertion_7 7 rfl rfl)
theorem dJ4_fixAfterInsertion_174 : decode cJ4_fixAfterInsertion 174 = .ok (.invokestatic 307, 3) := dk_184 1 51 (dk_at dksJ4_fixAfterInsertion_7 8 rfl rfl)
theorem dJ4_fixAfterInsertion_177 : decode cJ4_fixAfterInsertion 177 = .ok (.aload_n 2, 1) := dk_44 (dk_at dksJ4_fixAfterInsertion_7 11 rfl rfl)
theorem dJ4_fixAfterInsertion_178 : decode cJ4_fixAfterInsertion 178 = .ok (.iconst 1, 1) := dk_4 (dk_at dksJ4_fixAfterInsertion_7 12 rfl rfl)
theorem dJ4_fixAfterInsertion_179 : decode cJ4_fixAfterInsertion 179 = .ok (.invokestatic 307, 3) := dk_184 1 51 (dk_at dksJ4_fixAfterInsertion_7 13 rfl rfl)
theorem dJ4_fixAfterInsertion_182 : decode cJ4_fixAfterInsertion 182 = .ok (.aload_n 1, 1) := dk_43 (dk_at dksJ4_fixAfterInsertion_7 16 rfl rfl)
theorem dJ4_fixAfterInsertion_183 : decode cJ4_fixAfterInsertion 183 = .ok (.invokestatic 294, 3) := dk_184 1 38 (dk_at dksJ4_fixAfterInsertion_7 17 rfl rfl)
theorem dJ4_fixAfterInsertion_186 : decode cJ4_fixAfterInsertion 186 = .ok (.invokestatic 294, 3) := dk_184 1 38 (dk_at dksJ4_fixAfterInsertion_7 20 rfl rfl)
theorem dJ4_fixAfterInsertion_189 : decode cJ4_fixAfterInsertion 189 = .ok (.iconst 0, 1) := dk_3 (dk_at dksJ4_fixAfterInsertion_7 23 rfl rfl)
theorem dJ4_fixAfterInsertion_190 : decode cJ4_fixAfterInsertion 190 = .ok (.invokestatic 307, 3) := dk_184 1 51 (dk_at dksJ4_fixAfterInsertion_8 0 rfl rfl)
theorem dJ4_fixAfterInsertion_193 : decode cJ4_fixAfterInsertion 193 = .ok (.aload_n 1, 1) := dk_43 (dk_at dksJ4_fixAfterInsertion_8 3 rfl rfl)
theorem dJ4_fixAfterInsertion_194 : decode cJ4_fixAfterInsertion 194 = .ok (.invokestatic 294, 3) := dk_184 1 38 (dk_at dksJ4_fixAfterInsertion_8 4 rfl rfl)
theorem dJ4_fixAfterInsertion_197 : decode cJ4_fixAfterInsertion 197 = .ok (.invokestatic 294, 3) := dk_184 1 38 (dk_at dksJ4_fixAfterInsertion_8 7 rfl rfl)
theorem dJ4_fixAfterInsertion_200 : decode cJ4_fixAfterInsertion 200 = .ok (.astore_n 1, 1) := dk_76 (dk_at dksJ4_fixAfterInsertion_8 10 rfl rfl)
theorem dJ4_fixAfterInsertion_201 : decode cJ4_fixAfterInsertion 201 = .ok (.goto 54, 3) := dk_167 0 54 (dk_at dksJ4_fixAfterInsertion_8 11 rfl rfl)
theorem dJ4_fixAfterInsertion_204 : decode cJ4_fixAfterInsertion 204 = .ok (.aload_n 1, 1) := dk_43 (dk_at dksJ4_fixAfterInsertion_8 14 rfl rfl)
theorem dJ4_fixAfterInsertion_205 : decode cJ4_fixAfterInsertion 205 = .ok (.aload_n 1, 1) := dk_43 (dk_at dksJ4_fixAfterInsertion_8 15 rfl rfl)
theorem dJ4_fixAfterInsertion_206 : decode cJ4_fixAfterInsertion 206 = .ok (.invokestatic 294, 3) := dk_184 1 38 (dk_at dksJ4_fixAfterInsertion_8 16 rfl rfl)
theorem dJ4_fixAfterInsertion_209 : decode cJ4_fixAfterInsertion 209 = .ok (.invokestatic 297, 3) := dk_184 1 41 (dk_at dksJ4_fixAfterInsertion_8 19 rfl rfl)
theorem dJ4_fixAfterInsertion_212 : decode cJ4_fixAfterInsertion 212 = .ok (.if_acmp .ne 13, 3) := dk_166 0 13 (dk_at dksJ4_fixAfterInsertion_9 0 rfl rfl)
theorem dJ4_fixAfterInsertion_215 : decode cJ4_fixAfterInsertion 215 = .ok (.aload_n 1, 1) := dk_43 (dk_at dksJ4_fixAfterInsertion_9 3 rfl rfl)
theorem dJ4_fixAfterInsertion_216 : decode cJ4_fixAfterInsertion 216 = .ok (.invokestatic 294, 3) := dk_184 1 38 (dk_at dksJ4_fixAfterInsertion_9 4 rfl rfl)
theorem dJ4_fixAfterInsertion_219 : decode cJ4_fixAfterInsertion 219 = .ok (.astore_n 1, 1) := dk_76 (dk_at dksJ4_fixAfterInsertion_9 7 rfl rfl)
theorem dJ4_fixAfterInsertion_220 : decode cJ4_fixAfterInsertion 220 = .ok (.aload_n 0, 1) := dk_42 (dk_at dksJ4_fixAfterInsertion_9 8 rfl rfl)
theorem dJ4_fixAfterInsertion_221 : decode cJ4_fixAfterInsertion 221 = .ok (.aload_n 1, 1) := dk_43 (dk_at dksJ4_fixAfterInsertion_9 9 rfl rfl)
theorem dJ4_fixAfterInsertion_222 : decode cJ4_fixAfterInsertion 222 = .ok (.invokevirtual 314, 3) := dk_182 1 58 (dk_at dksJ4_fixAfterInsertion_9 10 rfl rfl)
theorem dJ4_fixAfterInsertion_225 : decode cJ4_fixAfterInsertion 225 = .ok (.aload_n 1, 1) := dk_43 (dk_at dksJ4_fixAfterInsertion_9 13 rfl rfl)
theorem dJ4_fixAfterInsertion_226 : decode cJ4_fixAfterInsertion 226 = .ok (.invokestatic 294, 3) := dk_184 1 38 (dk_at dksJ4_fixAfterInsertion_9 14 rfl rfl)
theorem dJ4_fixAfterInsertion_229 : decode cJ4_fixAfterInsertion 229 = .ok (.iconst 1, 1) := dk_4 (dk_at dksJ4_fixAfterInsertion_9 17 rfl rfl)
theorem dJ4_fixAfterInsertion_230 : decode cJ4_fixAfterInsertion 230 = .ok (.invokestatic 307, 3) := dk_184 1 51 (dk_at dksJ4_fixAfterInsertion_9 18 rfl rfl)
theorem dJ4_fixAfterInsertion_233 : decode cJ4_fixAfterInsertion 233 = .ok (.aload_n 1, 1) := dk_43 (dk_at dksJ4_fixAfterInsertion_9 21 rfl rfl)
theorem dJ4_fixAfterInsertion_234 : decode cJ4_fixAfterInsertion 234 = .ok (.invokestatic 294, 3) := dk_184 1 38 (dk_at dksJ4_fixAfterInsertion_10 0 rfl rfl)
theorem dJ4_fixAfterInsertion_237 : decode cJ4_fixAfterInsertion 237 = .ok (.invokestatic 294, 3) := dk_184 1 38 (dk_at dksJ4_fixAfterInsertion_10 3 rfl rfl)
theorem dJ4_fixAfterInsertion_240 : decode cJ4_fixAfterInsertion 240 = .ok (.iconst 0, 1) := dk_3 (dk_at dksJ4_fixAfterInsertion_10 6 rfl rfl)
theorem dJ4_fixAfterInsertion_241 : decode cJ4_fixAfterInsertion 241 = .ok (.invokestatic 307, 3) := dk_184 1 51 (dk_at dksJ4_fixAfterInsertion_10 7 rfl rfl)
theorem dJ4_fixAfterInsertion_244 : decode cJ4_fixAfterInsertion 244 = .ok (.aload_n 0, 1) := dk_42 (dk_at dksJ4_fixAfterInsertion_10 10 rfl rfl)
theorem dJ4_fixAfterInsertion_245 : decode cJ4_fixAfterInsertion 245 = .ok (.aload_n 1, 1) := dk_43 (dk_at dksJ4_fixAfterInsertion_10 11 rfl rfl)
theorem dJ4_fixAfterInsertion_246 : decode cJ4_fixAfterInsertion 246 = .ok (.invokestatic 294, 3) := dk_184 1 38 (dk_at dksJ4_fixAfterInsertion_10 12 rfl rfl)
theorem dJ4_fixAfterInsertion_249 : decode cJ4_fixAfterInsertion 249 = .ok (.invokestatic 294, 3) := dk_184 1 38 (dk_at dksJ4_fixAfterInsertion_10 15 rfl rfl)
theorem dJ4_fixAfterInsertion_252 : decode cJ4_fixAfterInsertion 252 = .ok (.invokevirtual 311, 3) := dk_182 1 55 (dk_at dksJ4_fixAfterInsertion_10 18 rfl rfl)
theorem dJ4_fixAfterInsertion_255 : decode cJ4_fixAfterInsertion 255 = .ok (.goto (-250), 3) := dk_167 255 6 (dk_at dksJ4_fixAfterInsertion_10 21 rfl rfl)
theorem dJ4_fixAfterInsertion_258 : decode cJ4_fixAfterInsertion 258 = .ok (.aload_n 0, 1) := dk_42 (dk_at dksJ4_fixAfterInsertion_11 0 rfl rfl)
theorem dJ4_fixAfterInsertion_259 : decode cJ4_fixAfterInsertion 259 = .ok (.getfield 101, 3) := dk_180 0 101 (dk_at dksJ4_fixAfterInsertion_11 1 rfl rfl)
theorem dJ4_fixAfterInsertion_262 : decode cJ4_fixAfterInsertion 262 = .ok (.iconst 1, 1) := dk_4 (dk_at dksJ4_fixAfterInsertion_11 4 rfl rfl)
theorem dJ4_fixAfterInsertion_263 : decode cJ4_fixAfterInsertion 263 = .ok (.putfield 290, 3) := dk_181 1 34 (dk_at dksJ4_fixAfterInsertion_11 5 rfl rfl)
theorem dJ4_fixAfterInsertion_266 : decode cJ4_fixAfterInsertion 266 = .ok (.return_, 1) := dk_177 (dk_at dksJ4_fixAfterInsertion_11 8 rfl rfl)
abbrev cJ29_init_2 : ByteArray := prog_52_method_5_code
def dkwJ29_init_2_2 : List UInt8 := [44, 181, 0, 7, 29, 154, 0, 8, 42, 1, 181, 0, 24, 177]
abbrev dktJ29_init_2_2 : List UInt8 := dkwJ29_init_2_2 ++ []
def dkwJ29_init_2_1 : List UInt8 := [21, 4, 153, 0, 11, 42, 182, 0, 27, 87, 167, 0, 8, 42, 1, 181, 0, 17, 42, 43, 181, 0, 31, 42]
abbrev dktJ29_init_2_1 : List UInt8 := dkwJ29_init_2_1 ++ dktJ29_init_2_2
def dkwJ29_init_2_0 : List UInt8 := [42, 183, 0, 1, 42, 42, 181, 0, 7, 42, 178, 0, 13, 181, 0, 17, 42, 178, 0, 20, 181, 0, 24]
abbrev dktJ29_init_2_0 : List UInt8 := dkwJ29_init_2_0 ++ dktJ29_init_2_1
theorem dksJ29_init_2_0 : cJ29_init_2.data.toList.drop 0 = dktJ29_init_2_0 := by decide +kernel
theorem dksJ29_init_2_1 : cJ29_init_2.data.toList.drop 23 = dktJ29_init_2_1 := dk_seg dksJ29_init_2_0 23 rfl rfl
theorem dksJ29_init_2_2 : cJ29_init_2.data.toList.drop 47 = dktJ29_init_2_2 := dk_seg dksJ29_init_2_1 24 rfl rfl
theorem dJ29_init_2_0 : decode cJ29_init_2 0 = .ok (.aload_n 0, 1) := dk_42 (dk_at dksJ29_init_2_0 0 rfl rfl)
theorem dJ29_init_2_1 : decode cJ29_init_2 1 = .ok (.invokespecial 1, 3) := dk_183 0 1 (dk_at dksJ29_init_2_0 1 rfl rfl)
theorem dJ29_init_2_4 : decode cJ29_init_2 4 = .ok (.aload_n 0, 1) := dk_42 (dk_at dksJ29_init_2_0 4 rfl rfl)
theorem dJ29_init_2_5 : decode cJ29_init_2 5 = .ok (.aload_n 0, 1) := dk_42 (dk_at dksJ29_init_2_0 5 rfl rfl)
theorem dJ29_init_2_6 : decode cJ29_init_2 6 = .ok (.putfield 7, 3) := dk_181 0 7 (dk_at dksJ29_init_2_0 6 rfl rfl)
theorem dJ29_init_2_9 : decode cJ29_init_2 9 = .ok (.aload_n 0, 1) := dk_42 (dk_at dksJ29_init_2_0 9 rfl rfl)
theorem dJ29_init_2_10 : decode cJ29_init_2 10 = .ok (.getstatic 13, 3) := dk_178 0 13 (dk_at dksJ29_init_2_0 10 rfl rfl)
theorem dJ29_init_2_13 : decode cJ29_init_2 13 = .ok (.putfield 17, 3) := dk_181 0 17 (dk_at dksJ29_init_2_0 13 rfl rfl)
theorem dJ29_init_2_16 : decode cJ29_init_2 16 = .ok (.aload_n 0, 1) := dk_42 (dk_at dksJ29_init_2_0 16 rfl rfl)
theorem dJ29_init_2_17 : decode cJ29_init_2 17 = .ok (.getstatic 20, 3) := dk_178 0 20 (dk_at dksJ29_init_2_0 17 rfl rfl)
theorem dJ29_init_2_20 : decode cJ29_init_2 20 = .ok (.putfield 24, 3) := dk_181 0 24 (dk_at dksJ29_init_2_0 20 rfl rfl)
theorem dJ29_init_2_23 : decode cJ29_init_2 23 = .ok (.iload 4, 2) := dk_21 4 (dk_at dksJ29_init_2_1 0 rfl rfl)
theorem dJ29_init_2_25 : decode cJ29_init_2 25 = .ok (.ifCond .eq 11, 3) := dk_153 0 11 (dk_at dksJ29_init_2_1 2 rfl rfl)
theorem dJ29_init_2_28 : decode cJ29_init_2 28 = .ok (.aload_n 0, 1) := dk_42 (dk_at dksJ29_init_2_1 5 rfl rfl)
theorem dJ29_init_2_29 : decode cJ29_init_2 29 = .ok (.invokevirtual 27, 3) := dk_182 0 27 (dk_at dksJ29_init_2_1 6 rfl rfl)
theorem dJ29_init_2_32 : decode cJ29_init_2 32 = .ok (.pop, 1) := dk_87 (dk_at dksJ29_init_2_1 9 rfl rfl)
theorem dJ29_init_2_33 : decode cJ29_init_2 33 = .ok (.goto 8, 3) := dk_167 0 8 (dk_at dksJ29_init_2_1 10 rfl rfl)
theorem dJ29_init_2_36 : decode cJ29_init_2 36 = .ok (.aload_n 0, 1) := dk_42 (dk_at dksJ29_init_2_1 13 rfl rfl)
theorem dJ29_init_2_37 : decode cJ29_init_2 37 = .ok (.aconst_null, 1) := dk_1 (dk_at dksJ29_init_2_1 14 rfl rfl)
theorem dJ29_init_2_38 : decode cJ29_init_2 38 = .ok (.putfield 17, 3) := dk_181 0 17 (dk_at dksJ29_init_2_1 15 rfl rfl)
theorem dJ29_init_2_41 : decode cJ29_init_2 41 = .ok (.aload_n 0, 1) := dk_42 (dk_at dksJ29_init_2_1 18 rfl rfl)
theorem dJ29_init_2_42 : decode cJ29_init_2 42 = .ok (.aload_n 1, 1) := dk_43 (dk_at dksJ29_init_2_1 19 rfl rfl)
theorem dJ29_init_2_43 : decode cJ29_init_2 43 = .ok (.putfield 31, 3) := dk_181 0 31 (dk_at dksJ29_init_2_1 20 rfl rfl)
theorem dJ29_init_2_46 : decode cJ29_init_2 46 = .ok (.aload_n 0, 1) := dk_42 (dk_at dksJ29_init_2_1 23 rfl rfl)
theorem dJ29_init_2_47 : decode cJ29_init_2 47 = .ok (.aload_n 2, 1) := dk_44 (dk_at dksJ29_init_2_2 0 rfl rfl)
theorem dJ29_init_2_48 : decode cJ29_init_2 48 = .ok (.putfield 7, 3) := dk_181 0 7 (dk_at dksJ29_init_2_2 1 rfl rfl)
theorem dJ29_init_2_51 : decode cJ29_init_2 51 = .ok (.iload_n 3, 1) := dk_29 (dk_at dksJ29_init_2_2 4 rfl rfl)
theorem dJ29_init_2_52 : decode cJ29_init_2 52 = .ok (.ifCond .ne 8, 3) := dk_154 0 8 (dk_at dksJ29_init_2_2 5 rfl rfl)
theorem dJ29_init_2_55 : decode cJ29_init_2 55 = .ok (.aload_n 0, 1) := dk_42 (dk_at dksJ29_init_2_2 8 rfl rfl)
theorem dJ29_init_2_56 : decode cJ29_init_2 56 = .ok (.aconst_null, 1) := dk_1 (dk_at dksJ29_init_2_2 9 rfl rfl)
theorem dJ29_init_2_57 : decode cJ29_init_2 57 = .ok (.putfield 24, 3) := dk_181 0 24 (dk_at dksJ29_init_2_2 10 rfl rfl)
theorem dJ29_init_2_60 : decode cJ29_init_2 60 = .ok (.return_, 1) := dk_177 (dk_at dksJ29_init_2_2 13 rfl rfl)
abbrev cJ33_newCapacity : ByteArray := prog_35_method_10_code
def dkwJ33_newCapacity_2 : List UInt8 := [183, 0, 124, 191, 21, 5, 42, 180, 0, 22, 122, 172]
abbrev dktJ33_newCapacity_2 : List UInt8 := dkwJ33_newCapacity_2 ++ []
def dkwJ33_newCapacity_1 : List UInt8 := [180, 0, 22, 120, 96, 184, 0, 114, 54, 5, 21, 5, 18, 39, 160, 0, 13, 187, 0, 120, 89, 18, 122]
abbrev dktJ33_newCapacity_1 : List UInt8 := dkwJ33_newCapacity_1 ++ dktJ33_newCapacity_2
def dkwJ33_newCapacity_0 : List UInt8 := [42, 180, 0, 15, 190, 61, 27, 42, 180, 0, 22, 120, 62, 29, 28, 100, 54, 4, 28, 21, 4, 28, 5, 42]
abbrev dktJ33_newCapacity_0 : List UInt8 := dkwJ33_newCapacity_0 ++ dktJ33_newCapacity_1
theorem dksJ33_newCapacity_0 : cJ33_newCapacity.data.toList.drop 0 = dktJ33_newCapacity_0 := by decide +kernel
theorem dksJ33_newCapacity_1 : cJ33_newCapacity.data.toList.drop 24 = dktJ33_newCapacity_1 := dk_seg dksJ33_newCapacity_0 24 rfl rfl
theorem dksJ33_newCapacity_2 : cJ33_newCapacity.data.toList.drop 47 = dktJ33_newCapacity_2 := dk_seg dksJ33_newCapacity_1 23 rfl rfl
theorem dJ33_newCapacity_0 : decode cJ33_newCapacity 0 = .ok (.aload_n 0, 1) := dk_42 (dk_at dksJ33_newCapacity_0 0 rfl rfl)
theorem dJ33_newCapacity_1 : decode cJ33_newCapacity 1 = .ok (.getfield 15, 3) := dk_180 0 15 (dk_at dksJ33_newCapacity_0 1 rfl rfl)
theorem dJ33_newCapacity_4 : decode cJ33_newCapacity 4 = .ok (.arraylength, 1) := dk_190 (dk_at dksJ33_newCapacity_0 4 rfl rfl)
theorem dJ33_newCapacity_5 : decode cJ33_newCapacity 5 = .ok (.istore_n 2, 1) := dk_61 (dk_at dksJ33_newCapacity_0 5 rfl rfl)
theorem dJ33_newCapacity_6 : decode cJ33_newCapacity 6 = .ok (.iload_n 1, 1) := dk_27 (dk_at dksJ33_newCapacity_0 6 rfl rfl)
theorem dJ33_newCapacity_7 : decode cJ33_newCapacity 7 = .ok (.aload_n 0, 1) := dk_42 (dk_at dksJ33_newCapacity_0 7 rfl rfl)
theorem dJ33_newCapacity_8 : decode cJ33_newCapacity 8 = .ok (.getfield 22, 3) := dk_180 0 22 (dk_at dksJ33_newCapacity_0 8 rfl rfl)
theorem dJ33_newCapacity_11 : decode cJ33_newCapacity 11 = .ok (.ishl, 1) := dk_120 (dk_at dksJ33_newCapacity_0 11 rfl rfl)
theorem dJ33_newCapacity_12 : decode cJ33_newCapacity 12 = .ok (.istore_n 3, 1) := dk_62 (dk_at dksJ33_newCapacity_0 12 rfl rfl)
theorem dJ33_newCapacity_13 : decode cJ33_newCapacity 13 = .ok (.iload_n 3, 1) := dk_29 (dk_at dksJ33_newCapacity_0 13 rfl rfl)
theorem dJ33_newCapacity_14 : decode cJ33_newCapacity 14 = .ok (.iload_n 2, 1) := dk_28 (dk_at dksJ33_newCapacity_0 14 rfl rfl)
theorem dJ33_newCapacity_15 : decode cJ33_newCapacity 15 = .ok (.isub, 1) := dk_100 (dk_at dksJ33_newCapacity_0 15 rfl rfl)
theorem dJ33_newCapacity_16 : decode cJ33_newCapacity 16 = .ok (.istore 4, 2) := dk_54 4 (dk_at dksJ33_newCapacity_0 16 rfl rfl)
theorem dJ33_newCapacity_18 : decode cJ33_newCapacity 18 = .ok (.iload_n 2, 1) := dk_28 (dk_at dksJ33_newCapacity_0 18 rfl rfl)
theorem dJ33_newCapacity_19 : decode cJ33_newCapacity 19 = .ok (.iload 4, 2) := dk_21 4 (dk_at dksJ33_newCapacity_0 19 rfl rfl)
theorem dJ33_newCapacity_21 : decode cJ33_newCapacity 21 = .ok (.iload_n 2, 1) := dk_28 (dk_at dksJ33_newCapacity_0 21 rfl rfl)
theorem dJ33_newCapacity_22 : decode cJ33_newCapacity 22 = .ok (.iconst 2, 1) := dk_5 (dk_at dksJ33_newCapacity_0 22 rfl rfl)
theorem dJ33_newCapacity_23 : decode cJ33_newCapacity 23 = .ok (.aload_n 0, 1) := dk_42 (dk_at dksJ33_newCapacity_0 23 rfl rfl)
theorem dJ33_newCapacity_24 : decode cJ33_newCapacity 24 = .ok (.getfield 22, 3) := dk_180 0 22 (dk_at dksJ33_newCapacity_1 0 rfl rfl)
theorem dJ33_newCapacity_27 : decode cJ33_newCapacity 27 = .ok (.ishl, 1) := dk_120 (dk_at dksJ33_newCapacity_1 3 rfl rfl)
theorem dJ33_newCapacity_28 : decode cJ33_newCapacity 28 = .ok (.iadd, 1) := dk_96 (dk_at dksJ33_newCapacity_1 4 rfl rfl)
theorem dJ33_newCapacity_29 : decode cJ33_newCapacity 29 = .ok (.invokestatic 114, 3) := dk_184 0 114 (dk_at dksJ33_newCapacity_1 5 rfl rfl)
theorem dJ33_newCapacity_32 : decode cJ33_newCapacity 32 = .ok (.istore 5, 2) := dk_54 5 (dk_at dksJ33_newCapacity_1 8 rfl rfl)
theorem dJ33_newCapacity_34 : decode cJ33_newCapacity 34 = .ok (.iload 5, 2) := dk_21 5 (dk_at dksJ33_newCapacity_1 10 rfl rfl)
theorem dJ33_newCapacity_36 : decode cJ33_newCapacity 36 = .ok (.ldc 39, 2) := dk_18 39 (dk_at dksJ33_newCapacity_1 12 rfl rfl)
theorem dJ33_newCapacity_38 : decode cJ33_newCapacity 38 = .ok (.if_icmp .ne 13, 3) := dk_160 0 13 (dk_at dksJ33_newCapacity_1 14 rfl rfl)
theorem dJ33_newCapacity_41 : decode cJ33_newCapacity 41 = .ok (.new 120, 3) := dk_187 0 120 (dk_at dksJ33_newCapacity_1 17 rfl rfl)
theorem dJ33_newCapacity_44 : decode cJ33_newCapacity 44 = .ok (.dup, 1) := dk_89 (dk_at dksJ33_newCapacity_1 20 rfl rfl)
theorem dJ33_newCapacity_45 : decode cJ33_newCapacity 45 = .ok (.ldc 122, 2) := dk_18 122 (dk_at dksJ33_newCapacity_1 21 rfl rfl)
theorem dJ33_newCapacity_47 : decode cJ33_newCapacity 47 = .ok (.invokespecial 124, 3) := dk_183 0 124 (dk_at dksJ33_newCapacity_2 0 rfl rfl)
theorem dJ33_newCapacity_50 : decode cJ33_newCapacity 50 = .ok (.athrow, 1) := dk_191 (dk_at dksJ33_newCapacity_2 3 rfl rfl)
theorem dJ33_newCapacity_51 : decode cJ33_newCapacity 51 = .ok (.iload 5, 2) := dk_21 5 (dk_at dksJ33_newCapacity_2 4 rfl rfl)
theorem dJ33_newCapacity_53 : decode cJ33_newCapacity 53 = .ok (.aload_n 0, 1) := dk_42 (dk_at dksJ33_newCapacity_2 6 rfl rfl)
theorem dJ33_newCapacity_54 : decode cJ33_newCapacity 54 = .ok (.getfield 22, 3) := dk_180 0 22 (dk_at dksJ33_newCapacity_2 7 rfl rfl)
theorem dJ33_newCapacity_57 : decode cJ33_newCapacity 57 = .ok (.ishr, 1) := dk_122 (dk_at dksJ33_newCapacity_2 10 rfl rfl)
theorem dJ33_newCapacity_58 : decode cJ33_newCapacity 58 = .ok (.ireturn, 1) := dk_172 (dk_at dksJ33_newCapacity_2 11 rfl rfl)
abbrev cJ31_copyOf_3 : ByteArray := prog_63_method_121_code
def dkwJ31_copyOf_3_1 : List UInt8 := [27, 184, 1, 48, 184, 0, 150, 44, 176]
abbrev dktJ31_copyOf_3_1 : List UInt8 := dkwJ31_copyOf_3_1 ++ []
def dkwJ31_copyOf_3_0 : List UInt8 := [27, 42, 190, 160, 0, 11, 42, 182, 1, 54, 192, 1, 55, 176, 27, 188, 8, 77, 42, 3, 44, 3, 42, 190]
abbrev dktJ31_copyOf_3_0 : List UInt8 := dkwJ31_copyOf_3_0 ++ dktJ31_copyOf_3_1
theorem dksJ31_copyOf_3_0 : cJ31_copyOf_3.data.toList.drop 0 = dktJ31_copyOf_3_0 := by decide +kernel
theorem dksJ31_copyOf_3_1 : cJ31_copyOf_3.data.toList.drop 24 = dktJ31_copyOf_3_1 := dk_seg dksJ31_copyOf_3_0 24 rfl rfl
theorem dJ31_copyOf_3_0 : decode cJ31_copyOf_3 0 = .ok (.iload_n 1, 1) := dk_27 (dk_at dksJ31_copyOf_3_0 0 rfl rfl)
theorem dJ31_copyOf_3_1 : decode cJ31_copyOf_3 1 = .ok (.aload_n 0, 1) := dk_42 (dk_at dksJ31_copyOf_3_0 1 rfl rfl)
theorem dJ31_copyOf_3_2 : decode cJ31_copyOf_3 2 = .ok (.arraylength, 1) := dk_190 (dk_at dksJ31_copyOf_3_0 2 rfl rfl)
theorem dJ31_copyOf_3_3 : decode cJ31_copyOf_3 3 = .ok (.if_icmp .ne 11, 3) := dk_160 0 11 (dk_at dksJ31_copyOf_3_0 3 rfl rfl)
theorem dJ31_copyOf_3_6 : decode cJ31_copyOf_3 6 = .ok (.aload_n 0, 1) := dk_42 (dk_at dksJ31_copyOf_3_0 6 rfl rfl)
theorem dJ31_copyOf_3_7 : decode cJ31_copyOf_3 7 = .ok (.invokevirtual 310, 3) := dk_182 1 54 (dk_at dksJ31_copyOf_3_0 7 rfl rfl)
theorem dJ31_copyOf_3_10 : decode cJ31_copyOf_3 10 = .ok (.checkcast 311, 3) := dk_192 1 55 (dk_at dksJ31_copyOf_3_0 10 rfl rfl)
theorem dJ31_copyOf_3_13 : decode cJ31_copyOf_3 13 = .ok (.areturn, 1) := dk_176 (dk_at dksJ31_copyOf_3_0 13 rfl rfl)
theorem dJ31_copyOf_3_14 : decode cJ31_copyOf_3 14 = .ok (.iload_n 1, 1) := dk_27 (dk_at dksJ31_copyOf_3_0 14 rfl rfl)
theorem dJ31_copyOf_3_15 : decode cJ31_copyOf_3 15 = .ok (.newarray .byte, 2) := dk_188_8 (dk_at dksJ31_copyOf_3_0 15 rfl rfl)
theorem dJ31_copyOf_3_17 : decode cJ31_copyOf_3 17 = .ok (.astore_n 2, 1) := dk_77 (dk_at dksJ31_copyOf_3_0 17 rfl rfl)
theorem dJ31_copyOf_3_18 : decode cJ31_copyOf_3 18 = .ok (.aload_n 0, 1) := dk_42 (dk_at dksJ31_copyOf_3_0 18 rfl rfl)
theorem dJ31_copyOf_3_19 : decode cJ31_copyOf_3 19 = .ok (.iconst 0, 1) := dk_3 (dk_at dksJ31_copyOf_3_0 19 rfl rfl)
theorem dJ31_copyOf_3_20 : decode cJ31_copyOf_3 20 = .ok (.aload_n 2, 1) := dk_44 (dk_at dksJ31_copyOf_3_0 20 rfl rfl)
theorem dJ31_copyOf_3_21 : decode cJ31_copyOf_3 21 = .ok (.iconst 0, 1) := dk_3 (dk_at dksJ31_copyOf_3_0 21 rfl rfl)
theorem dJ31_copyOf_3_22 : decode cJ31_copyOf_3 22 = .ok (.aload_n 0, 1) := dk_42 (dk_at dksJ31_copyOf_3_0 22 rfl rfl)
theorem dJ31_copyOf_3_23 : decode cJ31_copyOf_3 23 = .ok (.arraylength, 1) := dk_190 (dk_at dksJ31_copyOf_3_0 23 rfl rfl)
theorem dJ31_copyOf_3_24 : decode cJ31_copyOf_3 24 = .ok (.iload_n 1, 1) := dk_27 (dk_at dksJ31_copyOf_3_1 0 rfl rfl)
theorem dJ31_copyOf_3_25 : decode cJ31_copyOf_3 25 = .ok (.invokestatic 304, 3) := dk_184 1 48 (dk_at dksJ31_copyOf_3_1 1 rfl rfl)
theorem dJ31_copyOf_3_28 : decode cJ31_copyOf_3 28 = .ok (.invokestatic 150, 3) := dk_184 0 150 (dk_at dksJ31_copyOf_3_1 4 rfl rfl)
theorem dJ31_copyOf_3_31 : decode cJ31_copyOf_3 31 = .ok (.aload_n 2, 1) := dk_44 (dk_at dksJ31_copyOf_3_1 7 rfl rfl)
theorem dJ31_copyOf_3_32 : decode cJ31_copyOf_3 32 = .ok (.areturn, 1) := dk_176 (dk_at dksJ31_copyOf_3_1 8 rfl rfl)
abbrev cJ33_inflateIfNeededFor : ByteArray := prog_35_method_71_code
def dkwJ33_inflateIfNeededFor_0 : List UInt8 := [178, 0, 18, 153, 0, 18, 42, 180, 0, 22, 43, 182, 0, 40, 159, 0, 7, 42, 182, 0, 195, 177]
abbrev dktJ33_inflateIfNeededFor_0 : List UInt8 := dkwJ33_inflateIfNeededFor_0 ++ []
theorem dksJ33_inflateIfNeededFor_0 : cJ33_inflateIfNeededFor.data.toList.drop 0 = dktJ33_inflateIfNeededFor_0 := by decide +kernel
theorem dJ33_inflateIfNeededFor_0 : decode cJ33_inflateIfNeededFor 0 = .ok (.getstatic 18, 3) := dk_178 0 18 (dk_at dksJ33_inflateIfNeededFor_0 0 rfl rfl)
theorem dJ33_inflateIfNeededFor_3 : decode cJ33_inflateIfNeededFor 3 = .ok (.ifCond .eq 18, 3) := dk_153 0 18 (dk_at dksJ33_inflateIfNeededFor_0 3 rfl rfl)
theorem dJ33_inflateIfNeededFor_6 : decode cJ33_inflateIfNeededFor 6 = .ok (.aload_n 0, 1) := dk_42 (dk_at dksJ33_inflateIfNeededFor_0 6 rfl rfl)
theorem dJ33_inflateIfNeededFor_7 : decode cJ33_inflateIfNeededFor 7 = .ok (.getfield 22, 3) := dk_180 0 22 (dk_at dksJ33_inflateIfNeededFor_0 7 rfl rfl)
theorem dJ33_inflateIfNeededFor_10 : decode cJ33_inflateIfNeededFor 10 = .ok (.aload_n 1, 1) := dk_43 (dk_at dksJ33_inflateIfNeededFor_0 10 rfl rfl)
theorem dJ33_inflateIfNeededFor_11 : decode cJ33_inflateIfNeededFor 11 = .ok (.invokevirtual 40, 3) := dk_182 0 40 (dk_at dksJ33_inflateIfNeededFor_0 11 rfl rfl)
theorem dJ33_inflateIfNeededFor_14 : decode cJ33_inflateIfNeededFor 14 = .ok (.if_icmp .eq 7, 3) := dk_159 0 7 (dk_at dksJ33_inflateIfNeededFor_0 14 rfl rfl)
theorem dJ33_inflateIfNeededFor_17 : decode cJ33_inflateIfNeededFor 17 = .ok (.aload_n 0, 1) := dk_42 (dk_at dksJ33_inflateIfNeededFor_0 17 rfl rfl)
theorem dJ33_inflateIfNeededFor_18 : decode cJ33_inflateIfNeededFor 18 = .ok (.invokevirtual 195, 3) := dk_182 0 195 (dk_at dksJ33_inflateIfNeededFor_0 18 rfl rfl)
theorem dJ33_inflateIfNeededFor_21 : decode cJ33_inflateIfNeededFor 21 = .ok (.return_, 1) := dk_177 (dk_at dksJ33_inflateIfNeededFor_0 21 rfl rfl)
abbrev cJ9_getBytes : ByteArray := prog_47_method_147_code
def dkwJ9_getBytes_1 : List UInt8 := [184, 0, 212, 167, 0, 18, 42, 180, 0, 9, 3, 43, 28, 42, 180, 0, 9, 190, 184, 0, 106, 177]
abbrev dktJ9_getBytes_1 : List UInt8 := dkwJ9_getBytes_1 ++ []
def dkwJ9_getBytes_0 : List UInt8 := [42, 182, 1, 79, 29, 160, 0, 23, 42, 180, 0, 9, 3, 43, 28, 29, 120, 42, 180, 0, 9, 190]
abbrev dktJ9_getBytes_0 : List UInt8 := dkwJ9_getBytes_0 ++ dktJ9_getBytes_1
theorem dksJ9_getBytes_0 : cJ9_getBytes.data.toList.drop 0 = dktJ9_getBytes_0 := by decide +kernel
theorem dksJ9_getBytes_1 : cJ9_getBytes.data.toList.drop 22 = dktJ9_getBytes_1 := dk_seg dksJ9_getBytes_0 22 rfl rfl
theorem dJ9_getBytes_0 : decode cJ9_getBytes 0 = .ok (.aload_n 0, 1) := dk_42 (dk_at dksJ9_getBytes_0 0 rfl rfl)
theorem dJ9_getBytes_1 : decode cJ9_getBytes 1 = .ok (.invokevirtual 335, 3) := dk_182 1 79 (dk_at dksJ9_getBytes_0 1 rfl rfl)
theorem dJ9_getBytes_4 : decode cJ9_getBytes 4 = .ok (.iload_n 3, 1) := dk_29 (dk_at dksJ9_getBytes_0 4 rfl rfl)
theorem dJ9_getBytes_5 : decode cJ9_getBytes 5 = .ok (.if_icmp .ne 23, 3) := dk_160 0 23 (dk_at dksJ9_getBytes_0 5 rfl rfl)
theorem dJ9_getBytes_8 : decode cJ9_getBytes 8 = .ok (.aload_n 0, 1) := dk_42 (dk_at dksJ9_getBytes_0 8 rfl rfl)
theorem dJ9_getBytes_9 : decode cJ9_getBytes 9 = .ok (.getfield 9, 3) := dk_180 0 9 (dk_at dksJ9_getBytes_0 9 rfl rfl)
theorem dJ9_getBytes_12 : decode cJ9_getBytes 12 = .ok (.iconst 0, 1) := dk_3 (dk_at dksJ9_getBytes_0 12 rfl rfl)
theorem dJ9_getBytes_13 : decode cJ9_getBytes 13 = .ok (.aload_n 1, 1) := dk_43 (dk_at dksJ9_getBytes_0 13 rfl rfl)
theorem dJ9_getBytes_14 : decode cJ9_getBytes 14 = .ok (.iload_n 2, 1) := dk_28 (dk_at dksJ9_getBytes_0 14 rfl rfl)
theorem dJ9_getBytes_15 : decode cJ9_getBytes 15 = .ok (.iload_n 3, 1) := dk_29 (dk_at dksJ9_getBytes_0 15 rfl rfl)
theorem dJ9_getBytes_16 : decode cJ9_getBytes 16 = .ok (.ishl, 1) := dk_120 (dk_at dksJ9_getBytes_0 16 rfl rfl)
theorem dJ9_getBytes_17 : decode cJ9_getBytes 17 = .ok (.aload_n 0, 1) := dk_42 (dk_at dksJ9_getBytes_0 17 rfl rfl)
theorem dJ9_getBytes_18 : decode cJ9_getBytes 18 = .ok (.getfield 9, 3) := dk_180 0 9 (dk_at dksJ9_getBytes_0 18 rfl rfl)
theorem dJ9_getBytes_21 : decode cJ9_getBytes 21 = .ok (.arraylength, 1) := dk_190 (dk_at dksJ9_getBytes_0 21 rfl rfl)
theorem dJ9_getBytes_22 : decode cJ9_getBytes 22 = .ok (.invokestatic 212, 3) := dk_184 0 212 (dk_at dksJ9_getBytes_1 0 rfl rfl)
theorem dJ9_getBytes_25 : decode cJ9_getBytes 25 = .ok (.goto 18, 3) := dk_167 0 18 (dk_at dksJ9_getBytes_1 3 rfl rfl)
theorem dJ9_getBytes_28 : decode cJ9_getBytes 28 = .ok (.aload_n 0, 1) := dk_42 (dk_at dksJ9_getBytes_1 6 rfl rfl)
theorem dJ9_getBytes_29 : decode cJ9_getBytes 29 = .ok (.getfield 9, 3) := dk_180 0 9 (dk_at dksJ9_getBytes_1 7 rfl rfl)
theorem dJ9_getBytes_32 : decode cJ9_getBytes 32 = .ok (.iconst 0, 1) := dk_3 (dk_at dksJ9_getBytes_1 10 rfl rfl)
theorem dJ9_getBytes_33 : decode cJ9_getBytes 33 = .ok (.aload_n 1, 1) := dk_43 (dk_at dksJ9_getBytes_1 11 rfl rfl)
theorem dJ9_getBytes_34 : decode cJ9_getBytes 34 = .ok (.iload_n 2, 1) := dk_28 (dk_at dksJ9_getBytes_1 12 rfl rfl)
theorem dJ9_getBytes_35 : decode cJ9_getBytes 35 = .ok (.aload_n 0, 1) := dk_42 (dk_at dksJ9_getBytes_1 13 rfl rfl)
theorem dJ9_getBytes_36 : decode cJ9_getBytes 36 = .ok (.getfield 9, 3) := dk_180 0 9 (dk_at dksJ9_getBytes_1 14 rfl rfl)
theorem dJ9_getBytes_39 : decode cJ9_getBytes 39 = .ok (.arraylength, 1) := dk_190 (dk_at dksJ9_getBytes_1 17 rfl rfl)
theorem dJ9_getBytes_40 : decode cJ9_getBytes 40 = .ok (.invokestatic 106, 3) := dk_184 0 106 (dk_at dksJ9_getBytes_1 18 rfl rfl)
theorem dJ9_getBytes_43 : decode cJ9_getBytes 43 = .ok (.return_, 1) := dk_177 (dk_at dksJ9_getBytes_1 21 rfl rfl)
abbrev cJ10_inflate : ByteArray := prog_49_method_50_code
def dkwJ10_inflate_0 : List UInt8 := [42, 27, 44, 29, 21, 4, 184, 0, 240, 177]
abbrev dktJ10_inflate_0 : List UInt8 := dkwJ10_inflate_0 ++ []
theorem dksJ10_inflate_0 : cJ10_inflate.data.toList.drop 0 = dktJ10_inflate_0 := by decide +kernel
theorem dJ10_inflate_0 : decode cJ10_inflate 0 = .ok (.aload_n 0, 1) := dk_42 (dk_at dksJ10_inflate_0 0 rfl rfl)
theorem dJ10_inflate_1 : decode cJ10_inflate 1 = .ok (.iload_n 1, 1) := dk_27 (dk_at dksJ10_inflate_0 1 rfl rfl)
theorem dJ10_inflate_2 : decode cJ10_inflate 2 = .ok (.aload_n 2, 1) := dk_44 (dk_at dksJ10_inflate_0 2 rfl rfl)
theorem dJ10_inflate_3 : decode cJ10_inflate 3 = .ok (.iload_n 3, 1) := dk_29 (dk_at dksJ10_inflate_0 3 rfl rfl)
theorem dJ10_inflate_4 : decode cJ10_inflate 4 = .ok (.iload 4, 2) := dk_21 4 (dk_at dksJ10_inflate_0 4 rfl rfl)
theorem dJ10_inflate_6 : decode cJ10_inflate 6 = .ok (.invokestatic 240, 3) := dk_184 0 240 (dk_at dksJ10_inflate_0 6 rfl rfl)
theorem dJ10_inflate_9 : decode cJ10_inflate 9 = .ok (.return_, 1) := dk_177 (dk_at dksJ10_inflate_0 9 rfl rfl)
abbrev cJ33_getValue : ByteArray := prog_35_method_64_code
theorem dJ33_getValue_0 : decode cJ33_getValue 0 = .ok (.aload_n 0, 1) := by decide +kernel
theorem dJ33_getValue_1 : decode cJ33_getValue 1 = .ok (.getfield 15, 3) := by decide +kernel
theorem dJ33_getValue_4 : decode cJ33_getValue 4 = .ok (.areturn, 1) := by decide +kernel
abbrev cJ34_length : ByteArray := prog_48_method_93_code
theorem dJ34_length_0 : decode cJ34_length 0 = .ok (.aload_n 0, 1) := by decide +kernel
theorem dJ34_length_1 : decode cJ34_length 1 = .ok (.invokespecial 343, 3) := by decide +kernel
theorem dJ34_length_4 : decode cJ34_length 4 = .ok (.ireturn, 1) := by decide +kernel
abbrev cJ31_copyOfRange : ByteArray := prog_63_method_132_code
def dkwJ31_copyOfRange_1 : List UInt8 := [176]
abbrev dktJ31_copyOfRange_1 : List UInt8 := dkwJ31_copyOfRange_1 ++ []
def dkwJ31_copyOfRange_0 : List UInt8 := [27, 154, 0, 9, 28, 42, 190, 159, 0, 10, 42, 27, 28, 184, 1, 83, 176, 42, 182, 1, 54, 192, 1, 55]
abbrev dktJ31_copyOfRange_0 : List UInt8 := dkwJ31_copyOfRange_0 ++ dktJ31_copyOfRange_1
theorem dksJ31_copyOfRange_0 : cJ31_copyOfRange.data.toList.drop 0 = dktJ31_copyOfRange_0 := by decide +kernel
theorem dksJ31_copyOfRange_1 : cJ31_copyOfRange.data.toList.drop 24 = dktJ31_copyOfRange_1 := dk_seg dksJ31_copyOfRange_0 24 rfl rfl
theorem dJ31_copyOfRange_0 : decode cJ31_copyOfRange 0 = .ok (.iload_n 1, 1) := dk_27 (dk_at dksJ31_copyOfRange_0 0 rfl rfl)
theorem dJ31_copyOfRange_1 : decode cJ31_copyOfRange 1 = .ok (.ifCond .ne 9, 3) := dk_154 0 9 (dk_at dksJ31_copyOfRange_0 1 rfl rfl)
theorem dJ31_copyOfRange_4 : decode cJ31_copyOfRange 4 = .ok (.iload_n 2, 1) := dk_28 (dk_at dksJ31_copyOfRange_0 4 rfl rfl)
theorem dJ31_copyOfRange_5 : decode cJ31_copyOfRange 5 = .ok (.aload_n 0, 1) := dk_42 (dk_at dksJ31_copyOfRange_0 5 rfl rfl)
theorem dJ31_copyOfRange_6 : decode cJ31_copyOfRange 6 = .ok (.arraylength, 1) := dk_190 (dk_at dksJ31_copyOfRange_0 6 rfl rfl)
theorem dJ31_copyOfRange_7 : decode cJ31_copyOfRange 7 = .ok (.if_icmp .eq 10, 3) := dk_159 0 10 (dk_at dksJ31_copyOfRange_0 7 rfl rfl)
theorem dJ31_copyOfRange_10 : decode cJ31_copyOfRange 10 = .ok (.aload_n 0, 1) := dk_42 (dk_at dksJ31_copyOfRange_0 10 rfl rfl)
theorem dJ31_copyOfRange_11 : decode cJ31_copyOfRange 11 = .ok (.iload_n 1, 1) := dk_27 (dk_at dksJ31_copyOfRange_0 11 rfl rfl)
theorem dJ31_copyOfRange_12 : decode cJ31_copyOfRange 12 = .ok (.iload_n 2, 1) := dk_28 (dk_at dksJ31_copyOfRange_0 12 rfl rfl)
theorem dJ31_copyOfRange_13 : decode cJ31_copyOfRange 13 = .ok (.invokestatic 339, 3) := dk_184 1 83 (dk_at dksJ31_copyOfRange_0 13 rfl rfl)
theorem dJ31_copyOfRange_16 : decode cJ31_copyOfRange 16 = .ok (.areturn, 1) := dk_176 (dk_at dksJ31_copyOfRange_0 16 rfl rfl)
theorem dJ31_copyOfRange_17 : decode cJ31_copyOfRange 17 = .ok (.aload_n 0, 1) := dk_42 (dk_at dksJ31_copyOfRange_0 17 rfl rfl)
theorem dJ31_copyOfRange_18 : decode cJ31_copyOfRange 18 = .ok (.invokevirtual 310, 3) := dk_182 1 54 (dk_at dksJ31_copyOfRange_0 18 rfl rfl)
theorem dJ31_copyOfRange_21 : decode cJ31_copyOfRange 21 = .ok (.checkcast 311, 3) := dk_192 1 55 (dk_at dksJ31_copyOfRange_0 21 rfl rfl)
theorem dJ31_copyOfRange_24 : decode cJ31_copyOfRange 24 = .ok (.areturn, 1) := dk_176 (dk_at dksJ31_copyOfRange_1 0 rfl rfl)
abbrev cJ29_getLocalizedMessage : ByteArray := prog_52_method_7_code
theorem dJ29_getLocalizedMessage_0 : decode cJ29_getLocalizedMessage 0 = .ok (.aload_n 0, 1) := by decide +kernel
theorem dJ29_getLocalizedMessage_1 : decode cJ29_getLocalizedMessage 1 = .ok (.invokevirtual 39, 3) := by decide +kernel
theorem dJ29_getLocalizedMessage_4 : decode cJ29_getLocalizedMessage 4 = .ok (.areturn, 1) := by decide +kernel
abbrev cJ8_toString_2 : ByteArray := prog_41_method_10_code
def dkwJ8_toString_2_2 : List UInt8 := [187, 0, 5, 89, 44, 4, 183, 0, 65, 176]
abbrev dktJ8_toString_2_2 : List UInt8 := dkwJ8_toString_2_2 ++ []
def dkwJ8_toString_2_1 : List UInt8 := [187, 0, 5, 89, 44, 3, 183, 0, 65, 176, 27, 5, 104, 188, 8, 77, 26, 27, 44, 184, 0, 79, 87]
abbrev dktJ8_toString_2_1 : List UInt8 := dkwJ8_toString_2_1 ++ dktJ8_toString_2_2
def dkwJ8_toString_2_0 : List UInt8 := [26, 184, 0, 72, 60, 178, 0, 13, 153, 0, 24, 27, 188, 8, 77, 26, 27, 44, 184, 0, 75, 87]
abbrev dktJ8_toString_2_0 : List UInt8 := dkwJ8_toString_2_0 ++ dktJ8_toString_2_1
theorem dksJ8_toString_2_0 : cJ8_toString_2.data.toList.drop 0 = dktJ8_toString_2_0 := by decide +kernel
theorem dksJ8_toString_2_1 : cJ8_toString_2.data.toList.drop 22 = dktJ8_toString_2_1 := dk_seg dksJ8_toString_2_0 22 rfl rfl
theorem dksJ8_toString_2_2 : cJ8_toString_2.data.toList.drop 45 = dktJ8_toString_2_2 := dk_seg dksJ8_toString_2_1 23 rfl rfl
theorem dJ8_toString_2_0 : decode cJ8_toString_2 0 = .ok (.iload_n 0, 1) := dk_26 (dk_at dksJ8_toString_2_0 0 rfl rfl)
theorem dJ8_toString_2_1 : decode cJ8_toString_2 1 = .ok (.invokestatic 72, 3) := dk_184 0 72 (dk_at dksJ8_toString_2_0 1 rfl rfl)
theorem dJ8_toString_2_4 : decode cJ8_toString_2 4 = .ok (.istore_n 1, 1) := dk_60 (dk_at dksJ8_toString_2_0 4 rfl rfl)
theorem dJ8_toString_2_5 : decode cJ8_toString_2 5 = .ok (.getstatic 13, 3) := dk_178 0 13 (dk_at dksJ8_toString_2_0 5 rfl rfl)
theorem dJ8_toString_2_8 : decode cJ8_toString_2 8 = .ok (.ifCond .eq 24, 3) := dk_153 0 24 (dk_at dksJ8_toString_2_0 8 rfl rfl)
theorem dJ8_toString_2_11 : decode cJ8_toString_2 11 = .ok (.iload_n 1, 1) := dk_27 (dk_at dksJ8_toString_2_0 11 rfl rfl)
theorem dJ8_toString_2_12 : decode cJ8_toString_2 12 = .ok (.newarray .byte, 2) := dk_188_8 (dk_at dksJ8_toString_2_0 12 rfl rfl)
theorem dJ8_toString_2_14 : decode cJ8_toString_2 14 = .ok (.astore_n 2, 1) := dk_77 (dk_at dksJ8_toString_2_0 14 rfl rfl)
theorem dJ8_toString_2_15 : decode cJ8_toString_2 15 = .ok (.iload_n 0, 1) := dk_26 (dk_at dksJ8_toString_2_0 15 rfl rfl)
theorem dJ8_toString_2_16 : decode cJ8_toString_2 16 = .ok (.iload_n 1, 1) := dk_27 (dk_at dksJ8_toString_2_0 16 rfl rfl)
theorem dJ8_toString_2_17 : decode cJ8_toString_2 17 = .ok (.aload_n 2, 1) := dk_44 (dk_at dksJ8_toString_2_0 17 rfl rfl)
theorem dJ8_toString_2_18 : decode cJ8_toString_2 18 = .ok (.invokestatic 75, 3) := dk_184 0 75 (dk_at dksJ8_toString_2_0 18 rfl rfl)
theorem dJ8_toString_2_21 : decode cJ8_toString_2 21 = .ok (.pop, 1) := dk_87 (dk_at dksJ8_toString_2_0 21 rfl rfl)
theorem dJ8_toString_2_22 : decode cJ8_toString_2 22 = .ok (.new 5, 3) := dk_187 0 5 (dk_at dksJ8_toString_2_1 0 rfl rfl)
theorem dJ8_toString_2_25 : decode cJ8_toString_2 25 = .ok (.dup, 1) := dk_89 (dk_at dksJ8_toString_2_1 3 rfl rfl)
theorem dJ8_toString_2_26 : decode cJ8_toString_2 26 = .ok (.aload_n 2, 1) := dk_44 (dk_at dksJ8_toString_2_1 4 rfl rfl)
theorem dJ8_toString_2_27 : decode cJ8_toString_2 27 = .ok (.iconst 0, 1) := dk_3 (dk_at dksJ8_toString_2_1 5 rfl rfl)
theorem dJ8_toString_2_28 : decode cJ8_toString_2 28 = .ok (.invokespecial 65, 3) := dk_183 0 65 (dk_at dksJ8_toString_2_1 6 rfl rfl)
theorem dJ8_toString_2_31 : decode cJ8_toString_2 31 = .ok (.areturn, 1) := dk_176 (dk_at dksJ8_toString_2_1 9 rfl rfl)
theorem dJ8_toString_2_32 : decode cJ8_toString_2 32 = .ok (.iload_n 1, 1) := dk_27 (dk_at dksJ8_toString_2_1 10 rfl rfl)
theorem dJ8_toString_2_33 : decode cJ8_toString_2 33 = .ok (.iconst 2, 1) := dk_5 (dk_at dksJ8_toString_2_1 11 rfl rfl)
theorem dJ8_toString_2_34 : decode cJ8_toString_2 34 = .ok (.imul, 1) := dk_104 (dk_at dksJ8_toString_2_1 12 rfl rfl)
theorem dJ8_toString_2_35 : decode cJ8_toString_2 35 = .ok (.newarray .byte, 2) := dk_188_8 (dk_at dksJ8_toString_2_1 13 rfl rfl)
theorem dJ8_toString_2_37 : decode cJ8_toString_2 37 = .ok (.astore_n 2, 1) := dk_77 (dk_at dksJ8_toString_2_1 15 rfl rfl)
theorem dJ8_toString_2_38 : decode cJ8_toString_2 38 = .ok (.iload_n 0, 1) := dk_26 (dk_at dksJ8_toString_2_1 16 rfl rfl)
theorem dJ8_toString_2_39 : decode cJ8_toString_2 39 = .ok (.iload_n 1, 1) := dk_27 (dk_at dksJ8_toString_2_1 17 rfl rfl)
theorem dJ8_toString_2_40 : decode cJ8_toString_2 40 = .ok (.aload_n 2, 1) := dk_44 (dk_at dksJ8_toString_2_1 18 rfl rfl)
theorem dJ8_toString_2_41 : decode cJ8_toString_2 41 = .ok (.invokestatic 79, 3) := dk_184 0 79 (dk_at dksJ8_toString_2_1 19 rfl rfl)
theorem dJ8_toString_2_44 : decode cJ8_toString_2 44 = .ok (.pop, 1) := dk_87 (dk_at dksJ8_toString_2_1 22 rfl rfl)
theorem dJ8_toString_2_45 : decode cJ8_toString_2 45 = .ok (.new 5, 3) := dk_187 0 5 (dk_at dksJ8_toString_2_2 0 rfl rfl)
theorem dJ8_toString_2_48 : decode cJ8_toString_2 48 = .ok (.dup, 1) := dk_89 (dk_at dksJ8_toString_2_2 3 rfl rfl)
theorem dJ8_toString_2_49 : decode cJ8_toString_2 49 = .ok (.aload_n 2, 1) := dk_44 (dk_at dksJ8_toString_2_2 4 rfl rfl)
theorem dJ8_toString_2_50 : decode cJ8_toString_2 50 = .ok (.iconst 1, 1) := dk_4 (dk_at dksJ8_toString_2_2 5 rfl rfl)
theorem dJ8_toString_2_51 : decode cJ8_toString_2 51 = .ok (.invokespecial 65, 3) := dk_183 0 65 (dk_at dksJ8_toString_2_2 6 rfl rfl)
theorem dJ8_toString_2_54 : decode cJ8_toString_2 54 = .ok (.areturn, 1) := dk_176 (dk_at dksJ8_toString_2_2 9 rfl rfl)
abbrev cJ2_rangeCheckForAdd : ByteArray := prog_61_method_45_code
def dkwJ2_rangeCheckForAdd_1 : List UInt8 := [191, 177]
abbrev dktJ2_rangeCheckForAdd_1 : List UInt8 := dkwJ2_rangeCheckForAdd_1 ++ []
def dkwJ2_rangeCheckForAdd_0 : List UInt8 := [27, 42, 180, 0, 48, 163, 0, 7, 27, 156, 0, 16, 187, 0, 187, 89, 42, 27, 182, 0, 198, 183, 0, 193]
abbrev dktJ2_rangeCheckForAdd_0 : List UInt8 := dkwJ2_rangeCheckForAdd_0 ++ dktJ2_rangeCheckForAdd_1
theorem dksJ2_rangeCheckForAdd_0 : cJ2_rangeCheckForAdd.data.toList.drop 0 = dktJ2_rangeCheckForAdd_0 := by decide +kernel
theorem dksJ2_rangeCheckForAdd_1 : cJ2_rangeCheckForAdd.data.toList.drop 24 = dktJ2_rangeCheckForAdd_1 := dk_seg dksJ2_rangeCheckForAdd_0 24 rfl rfl
theorem dJ2_rangeCheckForAdd_0 : decode cJ2_rangeCheckForAdd 0 = .ok (.iload_n 1, 1) := dk_27 (dk_at dksJ2_rangeCheckForAdd_0 0 rfl rfl)
theorem dJ2_rangeCheckForAdd_1 : decode cJ2_rangeCheckForAdd 1 = .ok (.aload_n 0, 1) := dk_42 (dk_at dksJ2_rangeCheckForAdd_0 1 rfl rfl)
theorem dJ2_rangeCheckForAdd_2 : decode cJ2_rangeCheckForAdd 2 = .ok (.getfield 48, 3) := dk_180 0 48 (dk_at dksJ2_rangeCheckForAdd_0 2 rfl rfl)
theorem dJ2_rangeCheckForAdd_5 : decode cJ2_rangeCheckForAdd 5 = .ok (.if_icmp .gt 7, 3) := dk_163 0 7 (dk_at dksJ2_rangeCheckForAdd_0 5 rfl rfl)
theorem dJ2_rangeCheckForAdd_8 : decode cJ2_rangeCheckForAdd 8 = .ok (.iload_n 1, 1) := dk_27 (dk_at dksJ2_rangeCheckForAdd_0 8 rfl rfl)
theorem dJ2_rangeCheckForAdd_9 : decode cJ2_rangeCheckForAdd 9 = .ok (.ifCond .ge 16, 3) := dk_156 0 16 (dk_at dksJ2_rangeCheckForAdd_0 9 rfl rfl)
theorem dJ2_rangeCheckForAdd_12 : decode cJ2_rangeCheckForAdd 12 = .ok (.new 187, 3) := dk_187 0 187 (dk_at dksJ2_rangeCheckForAdd_0 12 rfl rfl)
theorem dJ2_rangeCheckForAdd_15 : decode cJ2_rangeCheckForAdd 15 = .ok (.dup, 1) := dk_89 (dk_at dksJ2_rangeCheckForAdd_0 15 rfl rfl)
theorem dJ2_rangeCheckForAdd_16 : decode cJ2_rangeCheckForAdd 16 = .ok (.aload_n 0, 1) := dk_42 (dk_at dksJ2_rangeCheckForAdd_0 16 rfl rfl)
theorem dJ2_rangeCheckForAdd_17 : decode cJ2_rangeCheckForAdd 17 = .ok (.iload_n 1, 1) := dk_27 (dk_at dksJ2_rangeCheckForAdd_0 17 rfl rfl)
theorem dJ2_rangeCheckForAdd_18 : decode cJ2_rangeCheckForAdd 18 = .ok (.invokevirtual 198, 3) := dk_182 0 198 (dk_at dksJ2_rangeCheckForAdd_0 18 rfl rfl)
theorem dJ2_rangeCheckForAdd_21 : decode cJ2_rangeCheckForAdd 21 = .ok (.invokespecial 193, 3) := dk_183 0 193 (dk_at dksJ2_rangeCheckForAdd_0 21 rfl rfl)
theorem dJ2_rangeCheckForAdd_24 : decode cJ2_rangeCheckForAdd 24 = .ok (.athrow, 1) := dk_191 (dk_at dksJ2_rangeCheckForAdd_1 0 rfl rfl)
theorem dJ2_rangeCheckForAdd_25 : decode cJ2_rangeCheckForAdd 25 = .ok (.return_, 1) := dk_177 (dk_at dksJ2_rangeCheckForAdd_1 1 rfl rfl)
abbrev cJ8_compare : ByteArray := prog_41_method_40_code
def dkwJ8_compare_0 : List UInt8 := [26, 27, 162, 0, 7, 2, 167, 0, 13, 26, 27, 160, 0, 7, 3, 167, 0, 4, 4, 172]
abbrev dktJ8_compare_0 : List UInt8 := dkwJ8_compare_0 ++ []
theorem dksJ8_compare_0 : cJ8_compare.data.toList.drop 0 = dktJ8_compare_0 := by decide +kernel
theorem dJ8_compare_0 : decode cJ8_compare 0 = .ok (.iload_n 0, 1) := dk_26 (dk_at dksJ8_compare_0 0 rfl rfl)
theorem dJ8_compare_1 : decode cJ8_compare 1 = .ok (.iload_n 1, 1) := dk_27 (dk_at dksJ8_compare_0 1 rfl rfl)
theorem dJ8_compare_2 : decode cJ8_compare 2 = .ok (.if_icmp .ge 7, 3) := dk_162 0 7 (dk_at dksJ8_compare_0 2 rfl rfl)
theorem dJ8_compare_5 : decode cJ8_compare 5 = .ok (.iconst (-1), 1) := dk_2 (dk_at dksJ8_compare_0 5 rfl rfl)
theorem dJ8_compare_6 : decode cJ8_compare 6 = .ok (.goto 13, 3) := dk_167 0 13 (dk_at dksJ8_compare_0 6 rfl rfl)
theorem dJ8_compare_9 : decode cJ8_compare 9 = .ok (.iload_n 0, 1) := dk_26 (dk_at dksJ8_compare_0 9 rfl rfl)
theorem dJ8_compare_10 : decode cJ8_compare 10 = .ok (.iload_n 1, 1) := dk_27 (dk_at dksJ8_compare_0 10 rfl rfl)
theorem dJ8_compare_11 : decode cJ8_compare 11 = .ok (.if_icmp .ne 7, 3) := dk_160 0 7 (dk_at dksJ8_compare_0 11 rfl rfl)
theorem dJ8_compare_14 : decode cJ8_compare 14 = .ok (.iconst 0, 1) := dk_3 (dk_at dksJ8_compare_0 14 rfl rfl)
theorem dJ8_compare_15 : decode cJ8_compare 15 = .ok (.goto 4, 3) := dk_167 0 4 (dk_at dksJ8_compare_0 15 rfl rfl)
theorem dJ8_compare_18 : decode cJ8_compare 18 = .ok (.iconst 1, 1) := dk_4 (dk_at dksJ8_compare_0 18 rfl rfl)
theorem dJ8_compare_19 : decode cJ8_compare 19 = .ok (.ireturn, 1) := dk_172 (dk_at dksJ8_compare_0 19 rfl rfl)
abbrev cJ33_compareTo : ByteArray := prog_35_method_5_code
def dkwJ33_compareTo_4 : List UInt8 := [184, 0, 97, 172]
abbrev dktJ33_compareTo_4 : List UInt8 := dkwJ33_compareTo_4 ++ []
def dkwJ33_compareTo_3 : List UInt8 := [182, 0, 83, 153, 0, 15, 44, 45, 21, 4, 21, 5, 184, 0, 94, 167, 0, 12, 44, 45, 21, 4, 21, 5]
abbrev dktJ33_compareTo_3 : List UInt8 := dkwJ33_compareTo_3 ++ dktJ33_compareTo_4
def dkwJ33_compareTo_2 : List UInt8 := [45, 21, 4, 21, 5, 184, 0, 87, 167, 0, 12, 44, 45, 21, 4, 21, 5, 184, 0, 93, 172, 42]
abbrev dktJ33_compareTo_2 : List UInt8 := dkwJ33_compareTo_2 ++ dktJ33_compareTo_3
def dkwJ33_compareTo_1 : List UInt8 := [180, 0, 79, 54, 5, 42, 180, 0, 22, 43, 180, 0, 22, 160, 0, 32, 42, 182, 0, 83, 153, 0, 15, 44]
abbrev dktJ33_compareTo_1 : List UInt8 := dkwJ33_compareTo_1 ++ dktJ33_compareTo_2
def dkwJ33_compareTo_0 : List UInt8 := [42, 43, 166, 0, 5, 3, 172, 42, 180, 0, 15, 77, 43, 180, 0, 15, 78, 42, 180, 0, 79, 54, 4, 43]
abbrev dktJ33_compareTo_0 : List UInt8 := dkwJ33_compareTo_0 ++ dktJ33_compareTo_1
theorem dksJ33_compareTo_0 : cJ33_compareTo.data.toList.drop 0 = dktJ33_compareTo_0 := by decide +kernel
theorem dksJ33_compareTo_1 : cJ33_compareTo.data.toList.drop 24 = dktJ33_compareTo_1 := dk_seg dksJ33_compareTo_0 24 rfl rfl
theorem dksJ33_compareTo_2 : cJ33_compareTo.data.toList.drop 48 = dktJ33_compareTo_2 := dk_seg dksJ33_compareTo_1 24 rfl rfl
theorem dksJ33_compareTo_3 : cJ33_compareTo.data.toList.drop 70 = dktJ33_compareTo_3 := dk_seg dksJ33_compareTo_2 22 rfl rfl
theorem dksJ33_compareTo_4 : cJ33_compareTo.data.toList.drop 94 = dktJ33_compareTo_4 := dk_seg dksJ33_compareTo_3 24 rfl rfl
theorem dJ33_compareTo_0 : decode cJ33_compareTo 0 = .ok (.aload_n 0, 1) := dk_42 (dk_at dksJ33_compareTo_0 0 rfl rfl)
theorem dJ33_compareTo_1 : decode cJ33_compareTo 1 = .ok (.aload_n 1, 1) := dk_43 (dk_at dksJ33_compareTo_0 1 rfl rfl)
theorem dJ33_compareTo_2 : decode cJ33_compareTo 2 = .ok (.if_acmp .ne 5, 3) := dk_166 0 5 (dk_at dksJ33_compareTo_0 2 rfl rfl)
theorem dJ33_compareTo_5 : decode cJ33_compareTo 5 = .ok (.iconst 0, 1) := dk_3 (dk_at dksJ33_compareTo_0 5 rfl rfl)
theorem dJ33_compareTo_6 : decode cJ33_compareTo 6 = .ok (.ireturn, 1) := dk_172 (dk_at dksJ33_compareTo_0 6 rfl rfl)
theorem dJ33_compareTo_7 : decode cJ33_compareTo 7 = .ok (.aload_n 0, 1) := dk_42 (dk_at dksJ33_compareTo_0 7 rfl rfl)
theorem dJ33_compareTo_8 : decode cJ33_compareTo 8 = .ok (.getfield 15, 3) := dk_180 0 15 (dk_at dksJ33_compareTo_0 8 rfl rfl)
theorem dJ33_compareTo_11 : decode cJ33_compareTo 11 = .ok (.astore_n 2, 1) := dk_77 (dk_at dksJ33_compareTo_0 11 rfl rfl)
theorem dJ33_compareTo_12 : decode cJ33_compareTo 12 = .ok (.aload_n 1, 1) := dk_43 (dk_at dksJ33_compareTo_0 12 rfl rfl)
theorem dJ33_compareTo_13 : decode cJ33_compareTo 13 = .ok (.getfield 15, 3) := dk_180 0 15 (dk_at dksJ33_compareTo_0 13 rfl rfl)
theorem dJ33_compareTo_16 : decode cJ33_compareTo 16 = .ok (.astore_n 3, 1) := dk_78 (dk_at dksJ33_compareTo_0 16 rfl rfl)
theorem dJ33_compareTo_17 : decode cJ33_compareTo 17 = .ok (.aload_n 0, 1) := dk_42 (dk_at dksJ33_compareTo_0 17 rfl rfl)
theorem dJ33_compareTo_18 : decode cJ33_compareTo 18 = .ok (.getfield 79, 3) := dk_180 0 79 (dk_at dksJ33_compareTo_0 18 rfl rfl)
theorem dJ33_compareTo_21 : decode cJ33_compareTo 21 = .ok (.istore 4, 2) := dk_54 4 (dk_at dksJ33_compareTo_0 21 rfl rfl)
theorem dJ33_compareTo_23 : decode cJ33_compareTo 23 = .ok (.aload_n 1, 1) := dk_43 (dk_at dksJ33_compareTo_0 23 rfl rfl)
theorem dJ33_compareTo_24 : decode cJ33_compareTo 24 = .ok (.getfield 79, 3) := dk_180 0 79 (dk_at dksJ33_compareTo_1 0 rfl rfl)
theorem dJ33_compareTo_27 : decode cJ33_compareTo 27 = .ok (.istore 5, 2) := dk_54 5 (dk_at dksJ33_compareTo_1 3 rfl rfl)
theorem dJ33_compareTo_29 : decode cJ33_compareTo 29 = .ok (.aload_n 0, 1) := dk_42 (dk_at dksJ33_compareTo_1 5 rfl rfl)
theorem dJ33_compareTo_30 : decode cJ33_compareTo 30 = .ok (.getfield 22, 3) := dk_180 0 22 (dk_at dksJ33_compareTo_1 6 rfl rfl)
theorem dJ33_compareTo_33 : decode cJ33_compareTo 33 = .ok (.aload_n 1, 1) := dk_43 (dk_at dksJ33_compareTo_1 9 rfl rfl)
theorem dJ33_compareTo_34 : decode cJ33_compareTo 34 = .ok (.getfield 22, 3) := dk_180 0 22 (dk_at dksJ33_compareTo_1 10 rfl rfl)
theorem dJ33_compareTo_37 : decode cJ33_compareTo 37 = .ok (.if_icmp .ne 32, 3) := dk_160 0 32 (dk_at dksJ33_compareTo_1 13 rfl rfl)
theorem dJ33_compareTo_40 : decode cJ33_compareTo 40 = .ok (.aload_n 0, 1) := dk_42 (dk_at dksJ33_compareTo_1 16 rfl rfl)
theorem dJ33_compareTo_41 : decode cJ33_compareTo 41 = .ok (.invokevirtual 83, 3) := dk_182 0 83 (dk_at dksJ33_compareTo_1 17 rfl rfl)
theorem dJ33_compareTo_44 : decode cJ33_compareTo 44 = .ok (.ifCond .eq 15, 3) := dk_153 0 15 (dk_at dksJ33_compareTo_1 20 rfl rfl)
theorem dJ33_compareTo_47 : decode cJ33_compareTo 47 = .ok (.aload_n 2, 1) := dk_44 (dk_at dksJ33_compareTo_1 23 rfl rfl)
theorem dJ33_compareTo_48 : decode cJ33_compareTo 48 = .ok (.aload_n 3, 1) := dk_45 (dk_at dksJ33_compareTo_2 0 rfl rfl)
theorem dJ33_compareTo_49 : decode cJ33_compareTo 49 = .ok (.iload 4, 2) := dk_21 4 (dk_at dksJ33_compareTo_2 1 rfl rfl)
theorem dJ33_compareTo_51 : decode cJ33_compareTo 51 = .ok (.iload 5, 2) := dk_21 5 (dk_at dksJ33_compareTo_2 3 rfl rfl)
theorem dJ33_compareTo_53 : decode cJ33_compareTo 53 = .ok (.invokestatic 87, 3) := dk_184 0 87 (dk_at dksJ33_compareTo_2 5 rfl rfl)
theorem dJ33_compareTo_56 : decode cJ33_compareTo 56 = .ok (.goto 12, 3) := dk_167 0 12 (dk_at dksJ33_compareTo_2 8 rfl rfl)
theorem dJ33_compareTo_59 : decode cJ33_compareTo 59 = .ok (.aload_n 2, 1) := dk_44 (dk_at dksJ33_compareTo_2 11 rfl rfl)
theorem dJ33_compareTo_60 : decode cJ33_compareTo 60 = .ok (.aload_n 3, 1) := dk_45 (dk_at dksJ33_compareTo_2 12 rfl rfl)
theorem dJ33_compareTo_61 : decode cJ33_compareTo 61 = .ok (.iload 4, 2) := dk_21 4 (dk_at dksJ33_compareTo_2 13 rfl rfl)
theorem dJ33_compareTo_63 : decode cJ33_compareTo 63 = .ok (.iload 5, 2) := dk_21 5 (dk_at dksJ33_compareTo_2 15 rfl rfl)
theorem dJ33_compareTo_65 : decode cJ33_compareTo 65 = .ok (.invokestatic 93, 3) := dk_184 0 93 (dk_at dksJ33_compareTo_2 17 rfl rfl)
theorem dJ33_compareTo_68 : decode cJ33_compareTo 68 = .ok (.ireturn, 1) := dk_172 (dk_at dksJ33_compareTo_2 20 rfl rfl)
theorem dJ33_compareTo_69 : decode cJ33_compareTo 69 = .ok (.aload_n 0, 1) := dk_42 (dk_at dksJ33_compareTo_2 21 rfl rfl)
theorem dJ33_compareTo_70 : decode cJ33_compareTo 70 = .ok (.invokevirtual 83, 3) := dk_182 0 83 (dk_at dksJ33_compareTo_3 0 rfl rfl)
theorem dJ33_compareTo_73 : decode cJ33_compareTo 73 = .ok (.ifCond .eq 15, 3) := dk_153 0 15 (dk_at dksJ33_compareTo_3 3 rfl rfl)
theorem dJ33_compareTo_76 : decode cJ33_compareTo 76 = .ok (.aload_n 2, 1) := dk_44 (dk_at dksJ33_compareTo_3 6 rfl rfl)
theorem dJ33_compareTo_77 : decode cJ33_compareTo 77 = .ok (.aload_n 3, 1) := dk_45 (dk_at dksJ33_compareTo_3 7 rfl rfl)
theorem dJ33_compareTo_78 : decode cJ33_compareTo 78 = .ok (.iload 4, 2) := dk_21 4 (dk_at dksJ33_compareTo_3 8 rfl rfl)
theorem dJ33_compareTo_80 : decode cJ33_compareTo 80 = .ok (.iload 5, 2) := dk_21 5 (dk_at dksJ33_compareTo_3 10 rfl rfl)
theorem dJ33_compareTo_82 : decode cJ33_compareTo 82 = .ok (.invokestatic 94, 3) := dk_184 0 94 (dk_at dksJ33_compareTo_3 12 rfl rfl)
theorem dJ33_compareTo_85 : decode cJ33_compareTo 85 = .ok (.goto 12, 3) := dk_167 0 12 (dk_at dksJ33_compareTo_3 15 rfl rfl)
theorem dJ33_compareTo_88 : decode cJ33_compareTo 88 = .ok (.aload_n 2, 1) := dk_44 (dk_at dksJ33_compareTo_3 18 rfl rfl)
theorem dJ33_compareTo_89 : decode cJ33_compareTo 89 = .ok (.aload_n 3, 1) := dk_45 (dk_at dksJ33_compareTo_3 19 rfl rfl)
theorem dJ33_compareTo_90 : decode cJ33_compareTo 90 = .ok (.iload 4, 2) := dk_21 4 (dk_at dksJ33_compareTo_3 20 rfl rfl)
theorem dJ33_compareTo_92 : decode cJ33_compareTo 92 = .ok (.iload 5, 2) := dk_21 5 (dk_at dksJ33_compareTo_3 22 rfl rfl)
theorem dJ33_compareTo_94 : decode cJ33_compareTo 94 = .ok (.invokestatic 97, 3) := dk_184 0 97 (dk_at dksJ33_compareTo_4 0 rfl rfl)
theorem dJ33_compareTo_97 : decode cJ33_compareTo 97 = .ok (.ireturn, 1) := dk_172 (dk_at dksJ33_compareTo_4 3 rfl rfl)
abbrev cJ36_equals : ByteArray := object_method_4_code
def dkwJ36_equals_0 : List UInt8 := [42, 43, 166, 0, 7, 4, 167, 0, 4, 3, 172]
abbrev dktJ36_equals_0 : List UInt8 := dkwJ36_equals_0 ++ []
theorem dksJ36_equals_0 : cJ36_equals.data.toList.drop 0 = dktJ36_equals_0 := by decide +kernel
theorem dJ36_equals_0 : decode cJ36_equals 0 = .ok (.aload_n 0, 1) := dk_42 (dk_at dksJ36_equals_0 0 rfl rfl)
theorem dJ36_equals_1 : decode cJ36_equals 1 = .ok (.aload_n 1, 1) := dk_43 (dk_at dksJ36_equals_0 1 rfl rfl)
theorem dJ36_equals_2 : decode cJ36_equals 2 = .ok (.if_acmp .ne 7, 3) := dk_166 0 7 (dk_at dksJ36_equals_0 2 rfl rfl)
theorem dJ36_equals_5 : decode cJ36_equals 5 = .ok (.iconst 1, 1) := dk_4 (dk_at dksJ36_equals_0 5 rfl rfl)
theorem dJ36_equals_6 : decode cJ36_equals 6 = .ok (.goto 4, 3) := dk_167 0 4 (dk_at dksJ36_equals_0 6 rfl rfl)
theorem dJ36_equals_9 : decode cJ36_equals 9 = .ok (.iconst 0, 1) := dk_3 (dk_at dksJ36_equals_0 9 rfl rfl)
theorem dJ36_equals_10 : decode cJ36_equals 10 = .ok (.ireturn, 1) := dk_172 (dk_at dksJ36_equals_0 10 rfl rfl)
abbrev cJ8_equals : ByteArray := prog_41_method_34_code
def dkwJ8_equals_1 : List UInt8 := [167, 0, 4, 3, 172, 3, 172]
abbrev dktJ8_equals_1 : List UInt8 := dkwJ8_equals_1 ++ []
def dkwJ8_equals_0 : List UInt8 := [43, 193, 0, 1, 153, 0, 23, 42, 180, 0, 205, 43, 192, 0, 1, 182, 0, 211, 160, 0, 7, 4]
abbrev dktJ8_equals_0 : List UInt8 := dkwJ8_equals_0 ++ dktJ8_equals_1
theorem dksJ8_equals_0 : cJ8_equals.data.toList.drop 0 = dktJ8_equals_0 := by decide +kernel
theorem dksJ8_equals_1 : cJ8_equals.data.toList.drop 22 = dktJ8_equals_1 := dk_seg dksJ8_equals_0 22 rfl rfl
theorem dJ8_equals_0 : decode cJ8_equals 0 = .ok (.aload_n 1, 1) := dk_43 (dk_at dksJ8_equals_0 0 rfl rfl)
theorem dJ8_equals_1 : decode cJ8_equals 1 = .ok (.instanceof 1, 3) := dk_193 0 1 (dk_at dksJ8_equals_0 1 rfl rfl)
theorem dJ8_equals_4 : decode cJ8_equals 4 = .ok (.ifCond .eq 23, 3) := dk_153 0 23 (dk_at dksJ8_equals_0 4 rfl rfl)
theorem dJ8_equals_7 : decode cJ8_equals 7 = .ok (.aload_n 0, 1) := dk_42 (dk_at dksJ8_equals_0 7 rfl rfl)
theorem dJ8_equals_8 : decode cJ8_equals 8 = .ok (.getfield 205, 3) := dk_180 0 205 (dk_at dksJ8_equals_0 8 rfl rfl)
theorem dJ8_equals_11 : decode cJ8_equals 11 = .ok (.aload_n 1, 1) := dk_43 (dk_at dksJ8_equals_0 11 rfl rfl)
theorem dJ8_equals_12 : decode cJ8_equals 12 = .ok (.checkcast 1, 3) := dk_192 0 1 (dk_at dksJ8_equals_0 12 rfl rfl)
theorem dJ8_equals_15 : decode cJ8_equals 15 = .ok (.invokevirtual 211, 3) := dk_182 0 211 (dk_at dksJ8_equals_0 15 rfl rfl)
theorem dJ8_equals_18 : decode cJ8_equals 18 = .ok (.if_icmp .ne 7, 3) := dk_160 0 7 (dk_at dksJ8_equals_0 18 rfl rfl)
theorem dJ8_equals_21 : decode cJ8_equals 21 = .ok (.iconst 1, 1) := dk_4 (dk_at dksJ8_equals_0 21 rfl rfl)
theorem dJ8_equals_22 : decode cJ8_equals 22 = .ok (.goto 4, 3) := dk_167 0 4 (dk_at dksJ8_equals_1 0 rfl rfl)
theorem dJ8_equals_25 : decode cJ8_equals 25 = .ok (.iconst 0, 1) := dk_3 (dk_at dksJ8_equals_1 3 rfl rfl)
theorem dJ8_equals_26 : decode cJ8_equals 26 = .ok (.ireturn, 1) := dk_172 (dk_at dksJ8_equals_1 4 rfl rfl)
theorem dJ8_equals_27 : decode cJ8_equals 27 = .ok (.iconst 0, 1) := dk_3 (dk_at dksJ8_equals_1 5 rfl rfl)
theorem dJ8_equals_28 : decode cJ8_equals 28 = .ok (.ireturn, 1) := dk_172 (dk_at dksJ8_equals_1 6 rfl rfl)
abbrev cJ9_equals : ByteArray := prog_47_method_66_code
def dkwJ9_equals_2 : List UInt8 := [184, 2, 29, 153, 0, 7, 4, 167, 0, 4, 3, 172]
abbrev dktJ9_equals_2 : List UInt8 := dkwJ9_equals_2 ++ []
def dkwJ9_equals_1 : List UInt8 := [153, 0, 14, 42, 180, 0, 15, 44, 180, 0, 15, 160, 0, 21, 42, 180, 0, 9, 44, 180, 0, 9]
abbrev dktJ9_equals_1 : List UInt8 := dkwJ9_equals_1 ++ dktJ9_equals_2
def dkwJ9_equals_0 : List UInt8 := [42, 43, 166, 0, 5, 4, 172, 43, 193, 0, 10, 153, 0, 43, 43, 192, 0, 10, 77, 178, 0, 38]
abbrev dktJ9_equals_0 : List UInt8 := dkwJ9_equals_0 ++ dktJ9_equals_1
theorem dksJ9_equals_0 : cJ9_equals.data.toList.drop 0 = dktJ9_equals_0 := by decide +kernel
theorem dksJ9_equals_1 : cJ9_equals.data.toList.drop 22 = dktJ9_equals_1 := dk_seg dksJ9_equals_0 22 rfl rfl
theorem dksJ9_equals_2 : cJ9_equals.data.toList.drop 44 = dktJ9_equals_2 := dk_seg dksJ9_equals_1 22 rfl rfl
theorem dJ9_equals_0 : decode cJ9_equals 0 = .ok (.aload_n 0, 1) := dk_42 (dk_at dksJ9_equals_0 0 rfl rfl)
theorem dJ9_equals_1 : decode cJ9_equals 1 = .ok (.aload_n 1, 1) := dk_43 (dk_at dksJ9_equals_0 1 rfl rfl)
theorem dJ9_equals_2 : decode cJ9_equals 2 = .ok (.if_acmp .ne 5, 3) := dk_166 0 5 (dk_at dksJ9_equals_0 2 rfl rfl)
theorem dJ9_equals_5 : decode cJ9_equals 5 = .ok (.iconst 1, 1) := dk_4 (dk_at dksJ9_equals_0 5 rfl rfl)
theorem dJ9_equals_6 : decode cJ9_equals 6 = .ok (.ireturn, 1) := dk_172 (dk_at dksJ9_equals_0 6 rfl rfl)
theorem dJ9_equals_7 : decode cJ9_equals 7 = .ok (.aload_n 1, 1) := dk_43 (dk_at dksJ9_equals_0 7 rfl rfl)
theorem dJ9_equals_8 : decode cJ9_equals 8 = .ok (.instanceof 10, 3) := dk_193 0 10 (dk_at dksJ9_equals_0 8 rfl rfl)
theorem dJ9_equals_11 : decode cJ9_equals 11 = .ok (.ifCond .eq 43, 3) := dk_153 0 43 (dk_at dksJ9_equals_0 11 rfl rfl)
theorem dJ9_equals_14 : decode cJ9_equals 14 = .ok (.aload_n 1, 1) := dk_43 (dk_at dksJ9_equals_0 14 rfl rfl)
theorem dJ9_equals_15 : decode cJ9_equals 15 = .ok (.checkcast 10, 3) := dk_192 0 10 (dk_at dksJ9_equals_0 15 rfl rfl)
theorem dJ9_equals_18 : decode cJ9_equals 18 = .ok (.astore_n 2, 1) := dk_77 (dk_at dksJ9_equals_0 18 rfl rfl)
theorem dJ9_equals_19 : decode cJ9_equals 19 = .ok (.getstatic 38, 3) := dk_178 0 38 (dk_at dksJ9_equals_0 19 rfl rfl)
theorem dJ9_equals_22 : decode cJ9_equals 22 = .ok (.ifCond .eq 14, 3) := dk_153 0 14 (dk_at dksJ9_equals_1 0 rfl rfl)
theorem dJ9_equals_25 : decode cJ9_equals 25 = .ok (.aload_n 0, 1) := dk_42 (dk_at dksJ9_equals_1 3 rfl rfl)
theorem dJ9_equals_26 : decode cJ9_equals 26 = .ok (.getfield 15, 3) := dk_180 0 15 (dk_at dksJ9_equals_1 4 rfl rfl)
theorem dJ9_equals_29 : decode cJ9_equals 29 = .ok (.aload_n 2, 1) := dk_44 (dk_at dksJ9_equals_1 7 rfl rfl)
theorem dJ9_equals_30 : decode cJ9_equals 30 = .ok (.getfield 15, 3) := dk_180 0 15 (dk_at dksJ9_equals_1 8 rfl rfl)
theorem dJ9_equals_33 : decode cJ9_equals 33 = .ok (.if_icmp .ne 21, 3) := dk_160 0 21 (dk_at dksJ9_equals_1 11 rfl rfl)
theorem dJ9_equals_36 : decode cJ9_equals 36 = .ok (.aload_n 0, 1) := dk_42 (dk_at dksJ9_equals_1 14 rfl rfl)
theorem dJ9_equals_37 : decode cJ9_equals 37 = .ok (.getfield 9, 3) := dk_180 0 9 (dk_at dksJ9_equals_1 15 rfl rfl)
theorem dJ9_equals_40 : decode cJ9_equals 40 = .ok (.aload_n 2, 1) := dk_44 (dk_at dksJ9_equals_1 18 rfl rfl)
theorem dJ9_equals_41 : decode cJ9_equals 41 = .ok (.getfield 9, 3) := dk_180 0 9 (dk_at dksJ9_equals_1 19 rfl rfl)
theorem dJ9_equals_44 : decode cJ9_equals 44 = .ok (.invokestatic 541, 3) := dk_184 2 29 (dk_at dksJ9_equals_2 0 rfl rfl)
theorem dJ9_equals_47 : decode cJ9_equals 47 = .ok (.ifCond .eq 7, 3) := dk_153 0 7 (dk_at dksJ9_equals_2 3 rfl rfl)
theorem dJ9_equals_50 : decode cJ9_equals 50 = .ok (.iconst 1, 1) := dk_4 (dk_at dksJ9_equals_2 6 rfl rfl)
theorem dJ9_equals_51 : decode cJ9_equals 51 = .ok (.goto 4, 3) := dk_167 0 4 (dk_at dksJ9_equals_2 7 rfl rfl)
theorem dJ9_equals_54 : decode cJ9_equals 54 = .ok (.iconst 0, 1) := dk_3 (dk_at dksJ9_equals_2 10 rfl rfl)
theorem dJ9_equals_55 : decode cJ9_equals 55 = .ok (.ireturn, 1) := dk_172 (dk_at dksJ9_equals_2 11 rfl rfl)
abbrev cJ35_init : ByteArray := prog_86_method_1_code
def dkwJ35_init_0 : List UInt8 := [42, 43, 181, 0, 1, 42, 183, 0, 7, 177]
abbrev dktJ35_init_0 : List UInt8 := dkwJ35_init_0 ++ []
theorem dksJ35_init_0 : cJ35_init.data.toList.drop 0 = dktJ35_init_0 := by decide +kernel
theorem dJ35_init_0 : decode cJ35_init 0 = .ok (.aload_n 0, 1) := dk_42 (dk_at dksJ35_init_0 0 rfl rfl)
theorem dJ35_init_1 : decode cJ35_init 1 = .ok (.aload_n 1, 1) := dk_43 (dk_at dksJ35_init_0 1 rfl rfl)
theorem dJ35_init_2 : decode cJ35_init 2 = .ok (.putfield 1, 3) := dk_181 0 1 (dk_at dksJ35_init_0 2 rfl rfl)
theorem dJ35_init_5 : decode cJ35_init 5 = .ok (.aload_n 0, 1) := dk_42 (dk_at dksJ35_init_0 5 rfl rfl)
theorem dJ35_init_6 : decode cJ35_init 6 = .ok (.invokespecial 7, 3) := dk_183 0 7 (dk_at dksJ35_init_0 6 rfl rfl)
theorem dJ35_init_9 : decode cJ35_init 9 = .ok (.return_, 1) := dk_177 (dk_at dksJ35_init_0 9 rfl rfl)
abbrev cJ4_computeRedLevel : ByteArray := prog_83_method_92_code
def dkwJ4_computeRedLevel_0 : List UInt8 := [16, 31, 26, 4, 96, 184, 1, 116, 100, 172]
abbrev dktJ4_computeRedLevel_0 : List UInt8 := dkwJ4_computeRedLevel_0 ++ []
theorem dksJ4_computeRedLevel_0 : cJ4_computeRedLevel.data.toList.drop 0 = dktJ4_computeRedLevel_0 := by decide +kernel
theorem dJ4_computeRedLevel_0 : decode cJ4_computeRedLevel 0 = .ok (.bipush 31, 2) := dk_16 31 (dk_at dksJ4_computeRedLevel_0 0 rfl rfl)
theorem dJ4_computeRedLevel_2 : decode cJ4_computeRedLevel 2 = .ok (.iload_n 0, 1) := dk_26 (dk_at dksJ4_computeRedLevel_0 2 rfl rfl)
theorem dJ4_computeRedLevel_3 : decode cJ4_computeRedLevel 3 = .ok (.iconst 1, 1) := dk_4 (dk_at dksJ4_computeRedLevel_0 3 rfl rfl)
theorem dJ4_computeRedLevel_4 : decode cJ4_computeRedLevel 4 = .ok (.iadd, 1) := dk_96 (dk_at dksJ4_computeRedLevel_0 4 rfl rfl)
theorem dJ4_computeRedLevel_5 : decode cJ4_computeRedLevel 5 = .ok (.invokestatic 372, 3) := dk_184 1 116 (dk_at dksJ4_computeRedLevel_0 5 rfl rfl)
theorem dJ4_computeRedLevel_8 : decode cJ4_computeRedLevel 8 = .ok (.isub, 1) := dk_100 (dk_at dksJ4_computeRedLevel_0 8 rfl rfl)
theorem dJ4_computeRedLevel_9 : decode cJ4_computeRedLevel 9 = .ok (.ireturn, 1) := dk_172 (dk_at dksJ4_computeRedLevel_0 9 rfl rfl)
abbrev cJ4_buildFromSorted_2 : ByteArray := prog_83_method_91_code
def dkwJ4_buildFromSorted_2_9 : List UInt8 := [25, 13, 25, 12, 181, 0, 124, 25, 12, 176]
abbrev dktJ4_buildFromSorted_2_9 : List UInt8 := dkwJ4_buildFromSorted_2_9 ++ []
def dkwJ4_buildFromSorted_2_8 : List UInt8 := [4, 96, 29, 21, 4, 25, 5, 25, 6, 25, 7, 182, 1, 110, 58, 13, 25, 12, 25, 13, 181, 0, 114]
abbrev dktJ4_buildFromSorted_2_8 : List UInt8 := dkwJ4_buildFromSorted_2_8 ++ dktJ4_buildFromSorted_2_9
def dkwJ4_buildFromSorted_2_7 : List UInt8 := [25, 9, 181, 0, 111, 25, 9, 25, 12, 181, 0, 124, 21, 8, 29, 162, 0, 39, 42, 27, 4, 96, 21, 8]
abbrev dktJ4_buildFromSorted_2_7 : List UInt8 := dkwJ4_buildFromSorted_2_7 ++ dktJ4_buildFromSorted_2_8
def dkwJ4_buildFromSorted_2_6 : List UInt8 := [183, 0, 167, 58, 12, 27, 21, 4, 160, 0, 9, 25, 12, 3, 181, 1, 34, 25, 9, 198, 0, 17, 25, 12]
abbrev dktJ4_buildFromSorted_2_6 : List UInt8 := dkwJ4_buildFromSorted_2_6 ++ dktJ4_buildFromSorted_2_7
def dkwJ4_buildFromSorted_2_5 : List UInt8 := [198, 0, 8, 25, 7, 167, 0, 8, 25, 6, 182, 1, 113, 58, 11, 187, 0, 59, 89, 25, 10, 25, 11, 1]
abbrev dktJ4_buildFromSorted_2_5 : List UInt8 := dkwJ4_buildFromSorted_2_5 ++ dktJ4_buildFromSorted_2_6
def dkwJ4_buildFromSorted_2_4 : List UInt8 := [185, 1, 79, 1, 0, 58, 10, 25, 7, 58, 11, 167, 0, 27, 25, 6, 182, 1, 113, 58, 10, 25, 7]
abbrev dktJ4_buildFromSorted_2_4 : List UInt8 := dkwJ4_buildFromSorted_2_4 ++ dktJ4_buildFromSorted_2_5
def dkwJ4_buildFromSorted_2_3 : List UInt8 := [185, 1, 84, 1, 0, 58, 10, 25, 12, 185, 1, 91, 1, 0, 58, 11, 167, 0, 43, 25, 5]
abbrev dktJ4_buildFromSorted_2_3 : List UInt8 := dkwJ4_buildFromSorted_2_3 ++ dktJ4_buildFromSorted_2_4
def dkwJ4_buildFromSorted_2_2 : List UInt8 := [198, 0, 57, 25, 7, 199, 0, 36, 25, 5, 185, 1, 79, 1, 0, 192, 1, 82, 58, 12, 25, 12]
abbrev dktJ4_buildFromSorted_2_2 : List UInt8 := dkwJ4_buildFromSorted_2_2 ++ dktJ4_buildFromSorted_2_3
def dkwJ4_buildFromSorted_2_1 : List UInt8 := [27, 4, 96, 28, 21, 8, 4, 100, 21, 4, 25, 5, 25, 6, 25, 7, 182, 1, 110, 58, 9, 25, 5]
abbrev dktJ4_buildFromSorted_2_1 : List UInt8 := dkwJ4_buildFromSorted_2_1 ++ dktJ4_buildFromSorted_2_2
def dkwJ4_buildFromSorted_2_0 : List UInt8 := [29, 28, 162, 0, 5, 1, 176, 28, 29, 96, 4, 124, 54, 8, 1, 58, 9, 28, 21, 8, 162, 0, 25, 42]
abbrev dktJ4_buildFromSorted_2_0 : List UInt8 := dkwJ4_buildFromSorted_2_0 ++ dktJ4_buildFromSorted_2_1
theorem dksJ4_buildFromSorted_2_0 : cJ4_buildFromSorted_2.data.toList.drop 0 = dktJ4_buildFromSorted_2_0 := by decide +kernel
theorem dksJ4_buildFromSorted_2_1 : cJ4_buildFromSorted_2.data.toList.drop 24 = dktJ4_buildFromSorted_2_1 := dk_seg dksJ4_buildFromSorted_2_0 24 rfl rfl
theorem dksJ4_buildFromSorted_2_2 : cJ4_buildFromSorted_2.data.toList.drop 47 = dktJ4_buildFromSorted_2_2 := dk_seg dksJ4_buildFromSorted_2_1 23 rfl rfl
theorem dksJ4_buildFromSorted_2_3 : cJ4_buildFromSorted_2.data.toList.drop 69 = dktJ4_buildFromSorted_2_3 := dk_seg dksJ4_buildFromSorted_2_2 22 rfl rfl
theorem dksJ4_buildFromSorted_2_4 : cJ4_buildFromSorted_2.data.toList.drop 90 = dktJ4_buildFromSorted_2_4 := dk_seg dksJ4_buildFromSorted_2_3 21 rfl rfl
theorem dksJ4_buildFromSorted_2_5 : cJ4_buildFromSorted_2.data.toList.drop 113 = dktJ4_buildFromSorted_2_5 := dk_seg dksJ4_buildFromSorted_2_4 23 rfl rfl
theorem dksJ4_buildFromSorted_2_6 : cJ4_buildFromSorted_2.data.toList.drop 137 = dktJ4_buildFromSorted_2_6 := dk_seg dksJ4_buildFromSorted_2_5 24 rfl rfl
theorem dksJ4_buildFromSorted_2_7 : cJ4_buildFromSorted_2.data.toList.drop 161 = dktJ4_buildFromSorted_2_7 := dk_seg dksJ4_buildFromSorted_2_6 24 rfl rfl
theorem dksJ4_buildFromSorted_2_8 : cJ4_buildFromSorted_2.data.toList.drop 185 = dktJ4_buildFromSorted_2_8 := dk_seg dksJ4_buildFromSorted_2_7 24 rfl rfl
theorem dksJ4_buildFromSorted_2_9 : cJ4_buildFromSorted_2.data.toList.drop 208 = dktJ4_buildFromSorted_2_9 := dk_seg dksJ4_buildFromSorted_2_8 23 rfl rfl
theorem dJ4_buildFromSorted_2_0 : decode cJ4_buildFromSorted_2 0 = .ok (.iload_n 3, 1) := dk_29 (dk_at dksJ4_buildFromSorted_2_0 0 rfl rfl)
theorem dJ4_buildFromSorted_2_1 : decode cJ4_buildFromSorted_2 1 = .ok (.iload_n 2, 1) := dk_28 (dk_at dksJ4_buildFromSorted_2_0 1 rfl rfl)
theorem dJ4_buildFromSorted_2_2 : decode cJ4_buildFromSorted_2 2 = .ok (.if_icmp .ge 5, 3) := dk_162 0 5 (dk_at dksJ4_buildFromSorted_2_0 2 rfl rfl)
theorem dJ4_buildFromSorted_2_5 : decode cJ4_buildFromSorted_2 5 = .ok (.aconst_null, 1) := dk_1 (dk_at dksJ4_buildFromSorted_2_0 5 rfl rfl)
theorem dJ4_buildFromSorted_2_6 : decode cJ4_buildFromSorted_2 6 = .ok (.areturn, 1) := dk_176 (dk_at dksJ4_buildFromSorted_2_0 6 rfl rfl)
theorem dJ4_buildFromSorted_2_7 : decode cJ4_buildFromSorted_2 7 = .ok (.iload_n 2, 1) := dk_28 (dk_at dksJ4_buildFromSorted_2_0 7 rfl rfl)
theorem dJ4_buildFromSorted_2_8 : decode cJ4_buildFromSorted_2 8 = .ok (.iload_n 3, 1) := dk_29 (dk_at dksJ4_buildFromSorted_2_0 8 rfl rfl)
theorem dJ4_buildFromSorted_2_9 : decode cJ4_buildFromSorted_2 9 = .ok (.iadd, 1) := dk_96 (dk_at dksJ4_buildFromSorted_2_0 9 rfl rfl)
theorem dJ4_buildFromSorted_2_10 : decode cJ4_buildFromSorted_2 10 = .ok (.iconst 1, 1) := dk_4 (dk_at dksJ4_buildFromSorted_2_0 10 rfl rfl)
theorem dJ4_buildFromSorted_2_11 : decode cJ4_buildFromSorted_2 11 = .ok (.iushr, 1) := dk_124 (dk_at dksJ4_buildFromSorted_2_0 11 rfl rfl)
theorem dJ4_buildFromSorted_2_12 : decode cJ4_buildFromSorted_2 12 = .ok (.istore 8, 2) := dk_54 8 (dk_at dksJ4_buildFromSorted_2_0 12 rfl rfl)
theorem dJ4_buildFromSorted_2_14 : decode cJ4_buildFromSorted_2 14 = .ok (.aconst_null, 1) := dk_1 (dk_at dksJ4_buildFromSorted_2_0 14 rfl rfl)
theorem dJ4_buildFromSorted_2_15 : decode cJ4_buildFromSorted_2 15 = .ok (.astore 9, 2) := dk_58 9 (dk_at dksJ4_buildFromSorted_2_0 15 rfl rfl)
theorem dJ4_buildFromSorted_2_17 : decode cJ4_buildFromSorted_2 17 = .ok (.iload_n 2, 1) := dk_28 (dk_at dksJ4_buildFromSorted_2_0 17 rfl rfl)
theorem dJ4_buildFromSorted_2_18 : decode cJ4_buildFromSorted_2 18 = .ok (.iload 8, 2) := dk_21 8 (dk_at dksJ4_buildFromSorted_2_0 18 rfl rfl)
theorem dJ4_buildFromSorted_2_20 : decode cJ4_buildFromSorted_2 20 = .ok (.if_icmp .ge 25, 3) := dk_162 0 25 (dk_at dksJ4_buildFromSorted_2_0 20 rfl rfl)
theorem dJ4_buildFromSorted_2_23 : decode cJ4_buildFromSorted_2 23 = .ok (.aload_n 0, 1) := dk_42 (dk_at dksJ4_buildFromSorted_2_0 23 rfl rfl)
theorem dJ4_buildFromSorted_2_24 : decode cJ4_buildFromSorted_2 24 = .ok (.iload_n 1, 1) := dk_27 (dk_at dksJ4_buildFromSorted_2_1 0 rfl rfl)
theorem dJ4_buildFromSorted_2_25 : decode cJ4_buildFromSorted_2 25 = .ok (.iconst 1, 1) := dk_4 (dk_at dksJ4_buildFromSorted_2_1 1 rfl rfl)
theorem dJ4_buildFromSorted_2_26 : decode cJ4_buildFromSorted_2 26 = .ok (.iadd, 1) := dk_96 (dk_at dksJ4_buildFromSorted_2_1 2 rfl rfl)
theorem dJ4_buildFromSorted_2_27 : decode cJ4_buildFromSorted_2 27 = .ok (.iload_n 2, 1) := dk_28 (dk_at dksJ4_buildFromSorted_2_1 3 rfl rfl)
theorem dJ4_buildFromSorted_2_28 : decode cJ4_buildFromSorted_2 28 = .ok (.iload 8, 2) := dk_21 8 (dk_at dksJ4_buildFromSorted_2_1 4 rfl rfl)
theorem dJ4_buildFromSorted_2_30 : decode cJ4_buildFromSorted_2 30 = .ok (.iconst 1, 1) := dk_4 (dk_at dksJ4_buildFromSorted_2_1 6 rfl rfl)
theorem dJ4_buildFromSorted_2_31 : decode cJ4_buildFromSorted_2 31 = .ok (.isub, 1) := dk_100 (dk_at dksJ4_buildFromSorted_2_1 7 rfl rfl)
theorem dJ4_buildFromSorted_2_32 : decode cJ4_buildFromSorted_2 32 = .ok (.iload 4, 2) := dk_21 4 (dk_at dksJ4_buildFromSorted_2_1 8 rfl rfl)
theorem dJ4_buildFromSorted_2_34 : decode cJ4_buildFromSorted_2 34 = .ok (.aload 5, 2) := dk_25 5 (dk_at dksJ4_buildFromSorted_2_1 10 rfl rfl)
theorem dJ4_buildFromSorted_2_36 : decode cJ4_buildFromSorted_2 36 = .ok (.aload 6, 2) := dk_25 6 (dk_at dksJ4_buildFromSorted_2_1 12 rfl rfl)
theorem dJ4_buildFromSorted_2_38 : decode cJ4_buildFromSorted_2 38 = .ok (.aload 7, 2) := dk_25 7 (dk_at dksJ4_buildFromSorted_2_1 14 rfl rfl)
theorem dJ4_buildFromSorted_2_40 : decode cJ4_buildFromSorted_2 40 = .ok (.invokevirtual 366, 3) := dk_182 1 110 (dk_at dksJ4_buildFromSorted_2_1 16 rfl rfl)
theorem dJ4_buildFromSorted_2_43 : decode cJ4_buildFromSorted_2 43 = .ok (.astore 9, 2) := dk_58 9 (dk_at dksJ4_buildFromSorted_2_1 19 rfl rfl)
theorem dJ4_buildFromSorted_2_45 : decode cJ4_buildFromSorted_2 45 = .ok (.aload 5, 2) := dk_25 5 (dk_at dksJ4_buildFromSorted_2_1 21 rfl rfl)
theorem dJ4_buildFromSorted_2_47 : decode cJ4_buildFromSorted_2 47 = .ok (.ifnull 57, 3) := dk_198 0 57 (dk_at dksJ4_buildFromSorted_2_2 0 rfl rfl)
theorem dJ4_buildFromSorted_2_50 : decode cJ4_buildFromSorted_2 50 = .ok (.aload 7, 2) := dk_25 7 (dk_at dksJ4_buildFromSorted_2_2 3 rfl rfl)
theorem dJ4_buildFromSorted_2_52 : decode cJ4_buildFromSorted_2 52 = .ok (.ifnonnull 36, 3) := dk_199 0 36 (dk_at dksJ4_buildFromSorted_2_2 5 rfl rfl)
theorem dJ4_buildFromSorted_2_55 : decode cJ4_buildFromSorted_2 55 = .ok (.aload 5, 2) := dk_25 5 (dk_at dksJ4_buildFromSorted_2_2 8 rfl rfl)
theorem dJ4_buildFromSorted_2_57 : decode cJ4_buildFromSorted_2 57 = .ok (.invokeinterface 335 1, 5) := by decide +kernel
theorem dJ4_buildFromSorted_2_62 : decode cJ4_buildFromSorted_2 62 = .ok (.checkcast 338, 3) := dk_192 1 82 (dk_at dksJ4_buildFromSorted_2_2 15 rfl rfl)
theorem dJ4_buildFromSorted_2_65 : decode cJ4_buildFromSorted_2 65 = .ok (.astore 12, 2) := dk_58 12 (dk_at dksJ4_buildFromSorted_2_2 18 rfl rfl)
theorem dJ4_buildFromSorted_2_67 : decode cJ4_buildFromSorted_2 67 = .ok (.aload 12, 2) := dk_25 12 (dk_at dksJ4_buildFromSorted_2_2 20 rfl rfl)
theorem dJ4_buildFromSorted_2_69 : decode cJ4_buildFromSorted_2 69 = .ok (.invokeinterface 340 1, 5) := by decide +kernel
theorem dJ4_buildFromSorted_2_74 : decode cJ4_buildFromSorted_2 74 = .ok (.astore 10, 2) := dk_58 10 (dk_at dksJ4_buildFromSorted_2_3 5 rfl rfl)
theorem dJ4_buildFromSorted_2_76 : decode cJ4_buildFromSorted_2 76 = .ok (.aload 12, 2) := dk_25 12 (dk_at dksJ4_buildFromSorted_2_3 7 rfl rfl)
theorem dJ4_buildFromSorted_2_78 : decode cJ4_buildFromSorted_2 78 = .ok (.invokeinterface 347 1, 5) := by decide +kernel
theorem dJ4_buildFromSorted_2_83 : decode cJ4_buildFromSorted_2 83 = .ok (.astore 11, 2) := dk_58 11 (dk_at dksJ4_buildFromSorted_2_3 14 rfl rfl)
theorem dJ4_buildFromSorted_2_85 : decode cJ4_buildFromSorted_2 85 = .ok (.goto 43, 3) := dk_167 0 43 (dk_at dksJ4_buildFromSorted_2_3 16 rfl rfl)
theorem dJ4_buildFromSorted_2_88 : decode cJ4_buildFromSorted_2 88 = .ok (.aload 5, 2) := dk_25 5 (dk_at dksJ4_buildFromSorted_2_3 19 rfl rfl)
theorem dJ4_buildFromSorted_2_90 : decode cJ4_buildFromSorted_2 90 = .ok (.invokeinterface 335 1, 5) := by decide +kernel
theorem dJ4_buildFromSorted_2_95 : decode cJ4_buildFromSorted_2 95 = .ok (.astore 10, 2) := dk_58 10 (dk_at dksJ4_buildFromSorted_2_4 5 rfl rfl)
theorem dJ4_buildFromSorted_2_97 : decode cJ4_buildFromSorted_2 97 = .ok (.aload 7, 2) := dk_25 7 (dk_at dksJ4_buildFromSorted_2_4 7 rfl rfl)
theorem dJ4_buildFromSorted_2_99 : decode cJ4_buildFromSorted_2 99 = .ok (.astore 11, 2) := dk_58 11 (dk_at dksJ4_buildFromSorted_2_4 9 rfl rfl)
theorem dJ4_buildFromSorted_2_101 : decode cJ4_buildFromSorted_2 101 = .ok (.goto 27, 3) := dk_167 0 27 (dk_at dksJ4_buildFromSorted_2_4 11 rfl rfl)
theorem dJ4_buildFromSorted_2_104 : decode cJ4_buildFromSorted_2 104 = .ok (.aload 6, 2) := dk_25 6 (dk_at dksJ4_buildFromSorted_2_4 14 rfl rfl)
theorem dJ4_buildFromSorted_2_106 : decode cJ4_buildFromSorted_2 106 = .ok (.invokevirtual 369, 3) := dk_182 1 113 (dk_at dksJ4_buildFromSorted_2_4 16 rfl rfl)
theorem dJ4_buildFromSorted_2_109 : decode cJ4_buildFromSorted_2 109 = .ok (.astore 10, 2) := dk_58 10 (dk_at dksJ4_buildFromSorted_2_4 19 rfl rfl)
theorem dJ4_buildFromSorted_2_111 : decode cJ4_buildFromSorted_2 111 = .ok (.aload 7, 2) := dk_25 7 (dk_at dksJ4_buildFromSorted_2_4 21 rfl rfl)
theorem dJ4_buildFromSorted_2_113 : decode cJ4_buildFromSorted_2 113 = .ok (.ifnull 8, 3) := dk_198 0 8 (dk_at dksJ4_buildFromSorted_2_5 0 rfl rfl)
theorem dJ4_buildFromSorted_2_116 : decode cJ4_buildFromSorted_2 116 = .ok (.aload 7, 2) := dk_25 7 (dk_at dksJ4_buildFromSorted_2_5 3 rfl rfl)
theorem dJ4_buildFromSorted_2_118 : decode cJ4_buildFromSorted_2 118 = .ok (.goto 8, 3) := dk_167 0 8 (dk_at dksJ4_buildFromSorted_2_5 5 rfl rfl)
theorem dJ4_buildFromSorted_2_121 : decode cJ4_buildFromSorted_2 121 = .ok (.aload 6, 2) := dk_25 6 (dk_at dksJ4_buildFromSorted_2_5 8 rfl rfl)
theorem dJ4_buildFromSorted_2_123 : decode cJ4_buildFromSorted_2 123 = .ok (.invokevirtual 369, 3) := dk_182 1 113 (dk_at dksJ4_buildFromSorted_2_5 10 rfl rfl)
theorem dJ4_buildFromSorted_2_126 : decode cJ4_buildFromSorted_2 126 = .ok (.astore 11, 2) := dk_58 11 (dk_at dksJ4_buildFromSorted_2_5 13 rfl rfl)
theorem dJ4_buildFromSorted_2_128 : decode cJ4_buildFromSorted_2 128 = .ok (.new 59, 3) := dk_187 0 59 (dk_at dksJ4_buildFromSorted_2_5 15 rfl rfl)
theorem dJ4_buildFromSorted_2_131 : decode cJ4_buildFromSorted_2 131 = .ok (.dup, 1) := dk_89 (dk_at dksJ4_buildFromSorted_2_5 18 rfl rfl)
theorem dJ4_buildFromSorted_2_132 : decode cJ4_buildFromSorted_2 132 = .ok (.aload 10, 2) := dk_25 10 (dk_at dksJ4_buildFromSorted_2_5 19 rfl rfl)
theorem dJ4_buildFromSorted_2_134 : decode cJ4_buildFromSorted_2 134 = .ok (.aload 11, 2) := dk_25 11 (dk_at dksJ4_buildFromSorted_2_5 21 rfl rfl)
theorem dJ4_buildFromSorted_2_136 : decode cJ4_buildFromSorted_2 136 = .ok (.aconst_null, 1) := dk_1 (dk_at dksJ4_buildFromSorted_2_5 23 rfl rfl)
theorem dJ4_buildFromSorted_2_137 : decode cJ4_buildFromSorted_2 137 = .ok (.invokespecial 167, 3) := dk_183 0 167 (dk_at dksJ4_buildFromSorted_2_6 0 rfl rfl)
theorem dJ4_buildFromSorted_2_140 : decode cJ4_buildFromSorted_2 140 = .ok (.astore 12, 2) := dk_58 12 (dk_at dksJ4_buildFromSorted_2_6 3 rfl rfl)
theorem dJ4_buildFromSorted_2_142 : decode cJ4_buildFromSorted_2 142 = .ok (.iload_n 1, 1) := dk_27 (dk_at dksJ4_buildFromSorted_2_6 5 rfl rfl)
theorem dJ4_buildFromSorted_2_143 : decode cJ4_buildFromSorted_2 143 = .ok (.iload 4, 2) := dk_21 4 (dk_at dksJ4_buildFromSorted_2_6 6 rfl rfl)
theorem dJ4_buildFromSorted_2_145 : decode cJ4_buildFromSorted_2 145 = .ok (.if_icmp .ne 9, 3) := dk_160 0 9 (dk_at dksJ4_buildFromSorted_2_6 8 rfl rfl)
theorem dJ4_buildFromSorted_2_148 : decode cJ4_buildFromSorted_2 148 = .ok (.aload 12, 2) := dk_25 12 (dk_at dksJ4_buildFromSorted_2_6 11 rfl rfl)
theorem dJ4_buildFromSorted_2_150 : decode cJ4_buildFromSorted_2 150 = .ok (.iconst 0, 1) := dk_3 (dk_at dksJ4_buildFromSorted_2_6 13 rfl rfl)
theorem dJ4_buildFromSorted_2_151 : decode cJ4_buildFromSorted_2 151 = .ok (.putfield 290, 3) := dk_181 1 34 (dk_at dksJ4_buildFromSorted_2_6 14 rfl rfl)
theorem dJ4_buildFromSorted_2_154 : decode cJ4_buildFromSorted_2 154 = .ok (.aload 9, 2) := dk_25 9 (dk_at dksJ4_buildFromSorted_2_6 17 rfl rfl)
theorem dJ4_buildFromSorted_2_156 : decode cJ4_buildFromSorted_2 156 = .ok (.ifnull 17, 3) := dk_198 0 17 (dk_at dksJ4_buildFromSorted_2_6 19 rfl rfl)
theorem dJ4_buildFromSorted_2_159 : decode cJ4_buildFromSorted_2 159 = .ok (.aload 12, 2) := dk_25 12 (dk_at dksJ4_buildFromSorted_2_6 22 rfl rfl)
theorem dJ4_buildFromSorted_2_161 : decode cJ4_buildFromSorted_2 161 = .ok (.aload 9, 2) := dk_25 9 (dk_at dksJ4_buildFromSorted_2_7 0 rfl rfl)
theorem dJ4_buildFromSorted_2_163 : decode cJ4_buildFromSorted_2 163 = .ok (.putfield 111, 3) := dk_181 0 111 (dk_at dksJ4_buildFromSorted_2_7 2 rfl rfl)
theorem dJ4_buildFromSorted_2_166 : decode cJ4_buildFromSorted_2 166 = .ok (.aload 9, 2) := dk_25 9 (dk_at dksJ4_buildFromSorted_2_7 5 rfl rfl)
theorem dJ4_buildFromSorted_2_168 : decode cJ4_buildFromSorted_2 168 = .ok (.aload 12, 2) := dk_25 12 (dk_at dksJ4_buildFromSorted_2_7 7 rfl rfl)
theorem dJ4_buildFromSorted_2_170 : decode cJ4_buildFromSorted_2 170 = .ok (.putfield 124, 3) := dk_181 0 124 (dk_at dksJ4_buildFromSorted_2_7 9 rfl rfl)
theorem dJ4_buildFromSorted_2_173 : decode cJ4_buildFromSorted_2 173 = .ok (.iload 8, 2) := dk_21 8 (dk_at dksJ4_buildFromSorted_2_7 12 rfl rfl)
theorem dJ4_buildFromSorted_2_175 : decode cJ4_buildFromSorted_2 175 = .ok (.iload_n 3, 1) := dk_29 (dk_at dksJ4_buildFromSorted_2_7 14 rfl rfl)
theorem dJ4_buildFromSorted_2_176 : decode cJ4_buildFromSorted_2 176 = .ok (.if_icmp .ge 39, 3) := dk_162 0 39 (dk_at dksJ4_buildFromSorted_2_7 15 rfl rfl)
theorem dJ4_buildFromSorted_2_179 : decode cJ4_buildFromSorted_2 179 = .ok (.aload_n 0, 1) := dk_42 (dk_at dksJ4_buildFromSorted_2_7 18 rfl rfl)
theorem dJ4_buildFromSorted_2_180 : decode cJ4_buildFromSorted_2 180 = .ok (.iload_n 1, 1) := dk_27 (dk_at dksJ4_buildFromSorted_2_7 19 rfl rfl)
theorem dJ4_buildFromSorted_2_181 : decode cJ4_buildFromSorted_2 181 = .ok (.iconst 1, 1) := dk_4 (dk_at dksJ4_buildFromSorted_2_7 20 rfl rfl)
theorem dJ4_buildFromSorted_2_182 : decode cJ4_buildFromSorted_2 182 = .ok (.iadd, 1) := dk_96 (dk_at dksJ4_buildFromSorted_2_7 21 rfl rfl)
theorem dJ4_buildFromSorted_2_183 : decode cJ4_buildFromSorted_2 183 = .ok (.iload 8, 2) := dk_21 8 (dk_at dksJ4_buildFromSorted_2_7 22 rfl rfl)
theorem dJ4_buildFromSorted_2_185 : decode cJ4_buildFromSorted_2 185 = .ok (.iconst 1, 1) := dk_4 (dk_at dksJ4_buildFromSorted_2_8 0 rfl rfl)
theorem dJ4_buildFromSorted_2_186 : decode cJ4_buildFromSorted_2 186 = .ok (.iadd, 1) := dk_96 (dk_at dksJ4_buildFromSorted_2_8 1 rfl rfl)
theorem dJ4_buildFromSorted_2_187 : decode cJ4_buildFromSorted_2 187 = .ok (.iload_n 3, 1) := dk_29 (dk_at dksJ4_buildFromSorted_2_8 2 rfl rfl)
theorem dJ4_buildFromSorted_2_188 : decode cJ4_buildFromSorted_2 188 = .ok (.iload 4, 2) := dk_21 4 (dk_at dksJ4_buildFromSorted_2_8 3 rfl rfl)
theorem dJ4_buildFromSorted_2_190 : decode cJ4_buildFromSorted_2 190 = .ok (.aload 5, 2) := dk_25 5 (dk_at dksJ4_buildFromSorted_2_8 5 rfl rfl)
theorem dJ4_buildFromSorted_2_192 : decode cJ4_buildFromSorted_2 192 = .ok (.aload 6, 2) := dk_25 6 (dk_at dksJ4_buildFromSorted_2_8 7 rfl rfl)
theorem dJ4_buildFromSorted_2_194 : decode cJ4_buildFromSorted_2 194 = .ok (.aload 7, 2) := dk_25 7 (dk_at dksJ4_buildFromSorted_2_8 9 rfl rfl)
theorem dJ4_buildFromSorted_2_196 : decode cJ4_buildFromSorted_2 196 = .ok (.invokevirtual 366, 3) := dk_182 1 110 (dk_at dksJ4_buildFromSorted_2_8 11 rfl rfl)
theorem dJ4_buildFromSorted_2_199 : decode cJ4_buildFromSorted_2 199 = .ok (.astore 13, 2) := dk_58 13 (dk_at dksJ4_buildFromSorted_2_8 14 rfl rfl)
theorem dJ4_buildFromSorted_2_201 : decode cJ4_buildFromSorted_2 201 = .ok (.aload 12, 2) := dk_25 12 (dk_at dksJ4_buildFromSorted_2_8 16 rfl rfl)
theorem dJ4_buildFromSorted_2_203 : decode cJ4_buildFromSorted_2 203 = .ok (.aload 13, 2) := dk_25 13 (dk_at dksJ4_buildFromSorted_2_8 18 rfl rfl)
theorem dJ4_buildFromSorted_2_205 : decode cJ4_buildFromSorted_2 205 = .ok (.putfield 114, 3) := dk_181 0 114 (dk_at dksJ4_buildFromSorted_2_8 20 rfl rfl)
theorem dJ4_buildFromSorted_2_208 : decode cJ4_buildFromSorted_2 208 = .ok (.aload 13, 2) := dk_25 13 (dk_at dksJ4_buildFromSorted_2_9 0 rfl rfl)
theorem dJ4_buildFromSorted_2_210 : decode cJ4_buildFromSorted_2 210 = .ok (.aload 12, 2) := dk_25 12 (dk_at dksJ4_buildFromSorted_2_9 2 rfl rfl)
theorem dJ4_buildFromSorted_2_212 : decode cJ4_buildFromSorted_2 212 = .ok (.putfield 124, 3) := dk_181 0 124 (dk_at dksJ4_buildFromSorted_2_9 4 rfl rfl)
theorem dJ4_buildFromSorted_2_215 : decode cJ4_buildFromSorted_2 215 = .ok (.aload 12, 2) := dk_25 12 (dk_at dksJ4_buildFromSorted_2_9 7 rfl rfl)
theorem dJ4_buildFromSorted_2_217 : decode cJ4_buildFromSorted_2 217 = .ok (.areturn, 1) := dk_176 (dk_at dksJ4_buildFromSorted_2_9 9 rfl rfl)
abbrev cJ17_getKey : ByteArray := prog_84_method_2_code
theorem dJ17_getKey_0 : decode cJ17_getKey 0 = .ok (.aload_n 0, 1) := by decide +kernel
theorem dJ17_getKey_1 : decode cJ17_getKey 1 = .ok (.getfield 15, 3) := by decide +kernel
theorem dJ17_getKey_4 : decode cJ17_getKey 4 = .ok (.areturn, 1) := by decide +kernel
abbrev cJ17_getValue : ByteArray := prog_84_method_3_code
theorem dJ17_getValue_0 : decode cJ17_getValue 0 = .ok (.aload_n 0, 1) := by decide +kernel
theorem dJ17_getValue_1 : decode cJ17_getValue 1 = .ok (.getfield 19, 3) := by decide +kernel
theorem dJ17_getValue_4 : decode cJ17_getValue 4 = .ok (.areturn, 1) := by decide +kernel
abbrev cJ31_copyOf_2 : ByteArray := prog_63_method_120_code
def dkwJ31_copyOf_2_1 : List UInt8 := [78, 42, 3, 45, 3, 42, 190, 27, 184, 1, 48, 184, 0, 150, 45, 176]
abbrev dktJ31_copyOf_2_1 : List UInt8 := dkwJ31_copyOf_2_1 ++ []
def dkwJ31_copyOf_2_0 : List UInt8 := [44, 18, 110, 166, 0, 10, 27, 189, 0, 2, 167, 0, 14, 44, 182, 0, 90, 27, 184, 0, 95, 192, 0, 110]
abbrev dktJ31_copyOf_2_0 : List UInt8 := dkwJ31_copyOf_2_0 ++ dktJ31_copyOf_2_1
theorem dksJ31_copyOf_2_0 : cJ31_copyOf_2.data.toList.drop 0 = dktJ31_copyOf_2_0 := by decide +kernel
theorem dksJ31_copyOf_2_1 : cJ31_copyOf_2.data.toList.drop 24 = dktJ31_copyOf_2_1 := dk_seg dksJ31_copyOf_2_0 24 rfl rfl
theorem dJ31_copyOf_2_0 : decode cJ31_copyOf_2 0 = .ok (.aload_n 2, 1) := dk_44 (dk_at dksJ31_copyOf_2_0 0 rfl rfl)
theorem dJ31_copyOf_2_1 : decode cJ31_copyOf_2 1 = .ok (.ldc 110, 2) := dk_18 110 (dk_at dksJ31_copyOf_2_0 1 rfl rfl)
theorem dJ31_copyOf_2_3 : decode cJ31_copyOf_2 3 = .ok (.if_acmp .ne 10, 3) := dk_166 0 10 (dk_at dksJ31_copyOf_2_0 3 rfl rfl)
theorem dJ31_copyOf_2_6 : decode cJ31_copyOf_2 6 = .ok (.iload_n 1, 1) := dk_27 (dk_at dksJ31_copyOf_2_0 6 rfl rfl)
theorem dJ31_copyOf_2_7 : decode cJ31_copyOf_2 7 = .ok (.anewarray 2, 3) := dk_189 0 2 (dk_at dksJ31_copyOf_2_0 7 rfl rfl)
theorem dJ31_copyOf_2_10 : decode cJ31_copyOf_2 10 = .ok (.goto 14, 3) := dk_167 0 14 (dk_at dksJ31_copyOf_2_0 10 rfl rfl)
theorem dJ31_copyOf_2_13 : decode cJ31_copyOf_2 13 = .ok (.aload_n 2, 1) := dk_44 (dk_at dksJ31_copyOf_2_0 13 rfl rfl)
theorem dJ31_copyOf_2_14 : decode cJ31_copyOf_2 14 = .ok (.invokevirtual 90, 3) := dk_182 0 90 (dk_at dksJ31_copyOf_2_0 14 rfl rfl)
theorem dJ31_copyOf_2_17 : decode cJ31_copyOf_2 17 = .ok (.iload_n 1, 1) := dk_27 (dk_at dksJ31_copyOf_2_0 17 rfl rfl)
theorem dJ31_copyOf_2_18 : decode cJ31_copyOf_2 18 = .ok (.invokestatic 95, 3) := dk_184 0 95 (dk_at dksJ31_copyOf_2_0 18 rfl rfl)
theorem dJ31_copyOf_2_21 : decode cJ31_copyOf_2 21 = .ok (.checkcast 110, 3) := dk_192 0 110 (dk_at dksJ31_copyOf_2_0 21 rfl rfl)
theorem dJ31_copyOf_2_24 : decode cJ31_copyOf_2 24 = .ok (.astore_n 3, 1) := dk_78 (dk_at dksJ31_copyOf_2_1 0 rfl rfl)
theorem dJ31_copyOf_2_25 : decode cJ31_copyOf_2 25 = .ok (.aload_n 0, 1) := dk_42 (dk_at dksJ31_copyOf_2_1 1 rfl rfl)
theorem dJ31_copyOf_2_26 : decode cJ31_copyOf_2 26 = .ok (.iconst 0, 1) := dk_3 (dk_at dksJ31_copyOf_2_1 2 rfl rfl)
theorem dJ31_copyOf_2_27 : decode cJ31_copyOf_2 27 = .ok (.aload_n 3, 1) := dk_45 (dk_at dksJ31_copyOf_2_1 3 rfl rfl)
theorem dJ31_copyOf_2_28 : decode cJ31_copyOf_2 28 = .ok (.iconst 0, 1) := dk_3 (dk_at dksJ31_copyOf_2_1 4 rfl rfl)
theorem dJ31_copyOf_2_29 : decode cJ31_copyOf_2 29 = .ok (.aload_n 0, 1) := dk_42 (dk_at dksJ31_copyOf_2_1 5 rfl rfl)
theorem dJ31_copyOf_2_30 : decode cJ31_copyOf_2 30 = .ok (.arraylength, 1) := dk_190 (dk_at dksJ31_copyOf_2_1 6 rfl rfl)
theorem dJ31_copyOf_2_31 : decode cJ31_copyOf_2 31 = .ok (.iload_n 1, 1) := dk_27 (dk_at dksJ31_copyOf_2_1 7 rfl rfl)
theorem dJ31_copyOf_2_32 : decode cJ31_copyOf_2 32 = .ok (.invokestatic 304, 3) := dk_184 1 48 (dk_at dksJ31_copyOf_2_1 8 rfl rfl)
theorem dJ31_copyOf_2_35 : decode cJ31_copyOf_2 35 = .ok (.invokestatic 150, 3) := dk_184 0 150 (dk_at dksJ31_copyOf_2_1 11 rfl rfl)
theorem dJ31_copyOf_2_38 : decode cJ31_copyOf_2 38 = .ok (.aload_n 3, 1) := dk_45 (dk_at dksJ31_copyOf_2_1 14 rfl rfl)
theorem dJ31_copyOf_2_39 : decode cJ31_copyOf_2 39 = .ok (.areturn, 1) := dk_176 (dk_at dksJ31_copyOf_2_1 15 rfl rfl)
abbrev cJ12_hugeLength : ByteArray := prog_96_method_28_code
def dkwJ12_hugeLength_2 : List UInt8 := [191, 28, 18, 200, 163, 0, 6, 18, 200, 172, 28, 172]
abbrev dktJ12_hugeLength_2 : List UInt8 := dkwJ12_hugeLength_2 ++ []
def dkwJ12_hugeLength_1 : List UInt8 := [26, 182, 0, 98, 18, 208, 182, 0, 94, 27, 182, 0, 98, 18, 210, 182, 0, 94, 182, 0, 101, 183, 0, 212]
abbrev dktJ12_hugeLength_1 : List UInt8 := dkwJ12_hugeLength_1 ++ dktJ12_hugeLength_2
def dkwJ12_hugeLength_0 : List UInt8 := [26, 27, 96, 61, 28, 156, 0, 44, 187, 0, 204, 89, 187, 0, 89, 89, 183, 0, 91, 18, 206, 182, 0, 94]
abbrev dktJ12_hugeLength_0 : List UInt8 := dkwJ12_hugeLength_0 ++ dktJ12_hugeLength_1
theorem dksJ12_hugeLength_0 : cJ12_hugeLength.data.toList.drop 0 = dktJ12_hugeLength_0 := by decide +kernel
theorem dksJ12_hugeLength_1 : cJ12_hugeLength.data.toList.drop 24 = dktJ12_hugeLength_1 := dk_seg dksJ12_hugeLength_0 24 rfl rfl
theorem dksJ12_hugeLength_2 : cJ12_hugeLength.data.toList.drop 48 = dktJ12_hugeLength_2 := dk_seg dksJ12_hugeLength_1 24 rfl rfl
theorem dJ12_hugeLength_0 : decode cJ12_hugeLength 0 = .ok (.iload_n 0, 1) := dk_26 (dk_at dksJ12_hugeLength_0 0 rfl rfl)
theorem dJ12_hugeLength_1 : decode cJ12_hugeLength 1 = .ok (.iload_n 1, 1) := dk_27 (dk_at dksJ12_hugeLength_0 1 rfl rfl)
theorem dJ12_hugeLength_2 : decode cJ12_hugeLength 2 = .ok (.iadd, 1) := dk_96 (dk_at dksJ12_hugeLength_0 2 rfl rfl)
theorem dJ12_hugeLength_3 : decode cJ12_hugeLength 3 = .ok (.istore_n 2, 1) := dk_61 (dk_at dksJ12_hugeLength_0 3 rfl rfl)
theorem dJ12_hugeLength_4 : decode cJ12_hugeLength 4 = .ok (.iload_n 2, 1) := dk_28 (dk_at dksJ12_hugeLength_0 4 rfl rfl)
theorem dJ12_hugeLength_5 : decode cJ12_hugeLength 5 = .ok (.ifCond .ge 44, 3) := dk_156 0 44 (dk_at dksJ12_hugeLength_0 5 rfl rfl)
theorem dJ12_hugeLength_8 : decode cJ12_hugeLength 8 = .ok (.new 204, 3) := dk_187 0 204 (dk_at dksJ12_hugeLength_0 8 rfl rfl)
theorem dJ12_hugeLength_11 : decode cJ12_hugeLength 11 = .ok (.dup, 1) := dk_89 (dk_at dksJ12_hugeLength_0 11 rfl rfl)
theorem dJ12_hugeLength_12 : decode cJ12_hugeLength 12 = .ok (.new 89, 3) := dk_187 0 89 (dk_at dksJ12_hugeLength_0 12 rfl rfl)
theorem dJ12_hugeLength_15 : decode cJ12_hugeLength 15 = .ok (.dup, 1) := dk_89 (dk_at dksJ12_hugeLength_0 15 rfl rfl)
theorem dJ12_hugeLength_16 : decode cJ12_hugeLength 16 = .ok (.invokespecial 91, 3) := dk_183 0 91 (dk_at dksJ12_hugeLength_0 16 rfl rfl)
theorem dJ12_hugeLength_19 : decode cJ12_hugeLength 19 = .ok (.ldc 206, 2) := dk_18 206 (dk_at dksJ12_hugeLength_0 19 rfl rfl)
theorem dJ12_hugeLength_21 : decode cJ12_hugeLength 21 = .ok (.invokevirtual 94, 3) := dk_182 0 94 (dk_at dksJ12_hugeLength_0 21 rfl rfl)
theorem dJ12_hugeLength_24 : decode cJ12_hugeLength 24 = .ok (.iload_n 0, 1) := dk_26 (dk_at dksJ12_hugeLength_1 0 rfl rfl)
theorem dJ12_hugeLength_25 : decode cJ12_hugeLength 25 = .ok (.invokevirtual 98, 3) := dk_182 0 98 (dk_at dksJ12_hugeLength_1 1 rfl rfl)
theorem dJ12_hugeLength_28 : decode cJ12_hugeLength 28 = .ok (.ldc 208, 2) := dk_18 208 (dk_at dksJ12_hugeLength_1 4 rfl rfl)
theorem dJ12_hugeLength_30 : decode cJ12_hugeLength 30 = .ok (.invokevirtual 94, 3) := dk_182 0 94 (dk_at dksJ12_hugeLength_1 6 rfl rfl)
theorem dJ12_hugeLength_33 : decode cJ12_hugeLength 33 = .ok (.iload_n 1, 1) := dk_27 (dk_at dksJ12_hugeLength_1 9 rfl rfl)
theorem dJ12_hugeLength_34 : decode cJ12_hugeLength 34 = .ok (.invokevirtual 98, 3) := dk_182 0 98 (dk_at dksJ12_hugeLength_1 10 rfl rfl)
theorem dJ12_hugeLength_37 : decode cJ12_hugeLength 37 = .ok (.ldc 210, 2) := dk_18 210 (dk_at dksJ12_hugeLength_1 13 rfl rfl)
theorem dJ12_hugeLength_39 : decode cJ12_hugeLength 39 = .ok (.invokevirtual 94, 3) := dk_182 0 94 (dk_at dksJ12_hugeLength_1 15 rfl rfl)
theorem dJ12_hugeLength_42 : decode cJ12_hugeLength 42 = .ok (.invokevirtual 101, 3) := dk_182 0 101 (dk_at dksJ12_hugeLength_1 18 rfl rfl)
theorem dJ12_hugeLength_45 : decode cJ12_hugeLength 45 = .ok (.invokespecial 212, 3) := dk_183 0 212 (dk_at dksJ12_hugeLength_1 21 rfl rfl)
theorem dJ12_hugeLength_48 : decode cJ12_hugeLength 48 = .ok (.athrow, 1) := dk_191 (dk_at dksJ12_hugeLength_2 0 rfl rfl)
theorem dJ12_hugeLength_49 : decode cJ12_hugeLength 49 = .ok (.iload_n 2, 1) := dk_28 (dk_at dksJ12_hugeLength_2 1 rfl rfl)
theorem dJ12_hugeLength_50 : decode cJ12_hugeLength 50 = .ok (.ldc 200, 2) := dk_18 200 (dk_at dksJ12_hugeLength_2 2 rfl rfl)
theorem dJ12_hugeLength_52 : decode cJ12_hugeLength 52 = .ok (.if_icmp .gt 6, 3) := dk_163 0 6 (dk_at dksJ12_hugeLength_2 4 rfl rfl)
theorem dJ12_hugeLength_55 : decode cJ12_hugeLength 55 = .ok (.ldc 200, 2) := dk_18 200 (dk_at dksJ12_hugeLength_2 7 rfl rfl)
theorem dJ12_hugeLength_57 : decode cJ12_hugeLength 57 = .ok (.ireturn, 1) := dk_172 (dk_at dksJ12_hugeLength_2 9 rfl rfl)
theorem dJ12_hugeLength_58 : decode cJ12_hugeLength 58 = .ok (.iload_n 2, 1) := dk_28 (dk_at dksJ12_hugeLength_2 10 rfl rfl)
theorem dJ12_hugeLength_59 : decode cJ12_hugeLength 59 = .ok (.ireturn, 1) := dk_172 (dk_at dksJ12_hugeLength_2 11 rfl rfl)
abbrev cJ6_siftUpUsingComparator : ByteArray := prog_73_method_29_code
def dkwJ6_siftUpUsingComparator_2 : List UInt8 := [43, 83, 177]
abbrev dktJ6_siftUpUsingComparator_2 : List UInt8 := dkwJ6_siftUpUsingComparator_2 ++ []
def dkwJ6_siftUpUsingComparator_1 : List UInt8 := [185, 0, 149, 3, 0, 155, 0, 6, 167, 0, 14, 44, 26, 25, 5, 83, 21, 4, 59, 167, 255, 216, 44, 26]
abbrev dktJ6_siftUpUsingComparator_1 : List UInt8 := dkwJ6_siftUpUsingComparator_1 ++ dktJ6_siftUpUsingComparator_2
def dkwJ6_siftUpUsingComparator_0 : List UInt8 := [26, 158, 0, 42, 26, 4, 100, 4, 124, 54, 4, 44, 21, 4, 50, 58, 5, 45, 43, 25, 5]
abbrev dktJ6_siftUpUsingComparator_0 : List UInt8 := dkwJ6_siftUpUsingComparator_0 ++ dktJ6_siftUpUsingComparator_1
theorem dksJ6_siftUpUsingComparator_0 : cJ6_siftUpUsingComparator.data.toList.drop 0 = dktJ6_siftUpUsingComparator_0 := by decide +kernel
theorem dksJ6_siftUpUsingComparator_1 : cJ6_siftUpUsingComparator.data.toList.drop 21 = dktJ6_siftUpUsingComparator_1 := dk_seg dksJ6_siftUpUsingComparator_0 21 rfl rfl
theorem dksJ6_siftUpUsingComparator_2 : cJ6_siftUpUsingComparator.data.toList.drop 45 = dktJ6_siftUpUsingComparator_2 := dk_seg dksJ6_siftUpUsingComparator_1 24 rfl rfl
theorem dJ6_siftUpUsingComparator_0 : decode cJ6_siftUpUsingComparator 0 = .ok (.iload_n 0, 1) := dk_26 (dk_at dksJ6_siftUpUsingComparator_0 0 rfl rfl)
theorem dJ6_siftUpUsingComparator_1 : decode cJ6_siftUpUsingComparator 1 = .ok (.ifCond .le 42, 3) := dk_158 0 42 (dk_at dksJ6_siftUpUsingComparator_0 1 rfl rfl)
theorem dJ6_siftUpUsingComparator_4 : decode cJ6_siftUpUsingComparator 4 = .ok (.iload_n 0, 1) := dk_26 (dk_at dksJ6_siftUpUsingComparator_0 4 rfl rfl)
theorem dJ6_siftUpUsingComparator_5 : decode cJ6_siftUpUsingComparator 5 = .ok (.iconst 1, 1) := dk_4 (dk_at dksJ6_siftUpUsingComparator_0 5 rfl rfl)
theorem dJ6_siftUpUsingComparator_6 : decode cJ6_siftUpUsingComparator 6 = .ok (.isub, 1) := dk_100 (dk_at dksJ6_siftUpUsingComparator_0 6 rfl rfl)
theorem dJ6_siftUpUsingComparator_7 : decode cJ6_siftUpUsingComparator 7 = .ok (.iconst 1, 1) := dk_4 (dk_at dksJ6_siftUpUsingComparator_0 7 rfl rfl)
theorem dJ6_siftUpUsingComparator_8 : decode cJ6_siftUpUsingComparator 8 = .ok (.iushr, 1) := dk_124 (dk_at dksJ6_siftUpUsingComparator_0 8 rfl rfl)
theorem dJ6_siftUpUsingComparator_9 : decode cJ6_siftUpUsingComparator 9 = .ok (.istore 4, 2) := dk_54 4 (dk_at dksJ6_siftUpUsingComparator_0 9 rfl rfl)
theorem dJ6_siftUpUsingComparator_11 : decode cJ6_siftUpUsingComparator 11 = .ok (.aload_n 2, 1) := dk_44 (dk_at dksJ6_siftUpUsingComparator_0 11 rfl rfl)
theorem dJ6_siftUpUsingComparator_12 : decode cJ6_siftUpUsingComparator 12 = .ok (.iload 4, 2) := dk_21 4 (dk_at dksJ6_siftUpUsingComparator_0 12 rfl rfl)
theorem dJ6_siftUpUsingComparator_14 : decode cJ6_siftUpUsingComparator 14 = .ok (.aaload, 1) := dk_50 (dk_at dksJ6_siftUpUsingComparator_0 14 rfl rfl)
theorem dJ6_siftUpUsingComparator_15 : decode cJ6_siftUpUsingComparator 15 = .ok (.astore 5, 2) := dk_58 5 (dk_at dksJ6_siftUpUsingComparator_0 15 rfl rfl)
theorem dJ6_siftUpUsingComparator_17 : decode cJ6_siftUpUsingComparator 17 = .ok (.aload_n 3, 1) := dk_45 (dk_at dksJ6_siftUpUsingComparator_0 17 rfl rfl)
theorem dJ6_siftUpUsingComparator_18 : decode cJ6_siftUpUsingComparator 18 = .ok (.aload_n 1, 1) := dk_43 (dk_at dksJ6_siftUpUsingComparator_0 18 rfl rfl)
theorem dJ6_siftUpUsingComparator_19 : decode cJ6_siftUpUsingComparator 19 = .ok (.aload 5, 2) := dk_25 5 (dk_at dksJ6_siftUpUsingComparator_0 19 rfl rfl)
theorem dJ6_siftUpUsingComparator_21 : decode cJ6_siftUpUsingComparator 21 = .ok (.invokeinterface 149 3, 5) := by decide +kernel
theorem dJ6_siftUpUsingComparator_26 : decode cJ6_siftUpUsingComparator 26 = .ok (.ifCond .lt 6, 3) := dk_155 0 6 (dk_at dksJ6_siftUpUsingComparator_1 5 rfl rfl)
theorem dJ6_siftUpUsingComparator_29 : decode cJ6_siftUpUsingComparator 29 = .ok (.goto 14, 3) := dk_167 0 14 (dk_at dksJ6_siftUpUsingComparator_1 8 rfl rfl)
theorem dJ6_siftUpUsingComparator_32 : decode cJ6_siftUpUsingComparator 32 = .ok (.aload_n 2, 1) := dk_44 (dk_at dksJ6_siftUpUsingComparator_1 11 rfl rfl)
theorem dJ6_siftUpUsingComparator_33 : decode cJ6_siftUpUsingComparator 33 = .ok (.iload_n 0, 1) := dk_26 (dk_at dksJ6_siftUpUsingComparator_1 12 rfl rfl)
theorem dJ6_siftUpUsingComparator_34 : decode cJ6_siftUpUsingComparator 34 = .ok (.aload 5, 2) := dk_25 5 (dk_at dksJ6_siftUpUsingComparator_1 13 rfl rfl)
theorem dJ6_siftUpUsingComparator_36 : decode cJ6_siftUpUsingComparator 36 = .ok (.aastore, 1) := dk_83 (dk_at dksJ6_siftUpUsingComparator_1 15 rfl rfl)
theorem dJ6_siftUpUsingComparator_37 : decode cJ6_siftUpUsingComparator 37 = .ok (.iload 4, 2) := dk_21 4 (dk_at dksJ6_siftUpUsingComparator_1 16 rfl rfl)
theorem dJ6_siftUpUsingComparator_39 : decode cJ6_siftUpUsingComparator 39 = .ok (.istore_n 0, 1) := dk_59 (dk_at dksJ6_siftUpUsingComparator_1 18 rfl rfl)
theorem dJ6_siftUpUsingComparator_40 : decode cJ6_siftUpUsingComparator 40 = .ok (.goto (-40), 3) := dk_167 255 216 (dk_at dksJ6_siftUpUsingComparator_1 19 rfl rfl)
theorem dJ6_siftUpUsingComparator_43 : decode cJ6_siftUpUsingComparator 43 = .ok (.aload_n 2, 1) := dk_44 (dk_at dksJ6_siftUpUsingComparator_1 22 rfl rfl)
theorem dJ6_siftUpUsingComparator_44 : decode cJ6_siftUpUsingComparator 44 = .ok (.iload_n 0, 1) := dk_26 (dk_at dksJ6_siftUpUsingComparator_1 23 rfl rfl)
theorem dJ6_siftUpUsingComparator_45 : decode cJ6_siftUpUsingComparator 45 = .ok (.aload_n 1, 1) := dk_43 (dk_at dksJ6_siftUpUsingComparator_2 0 rfl rfl)
theorem dJ6_siftUpUsingComparator_46 : decode cJ6_siftUpUsingComparator 46 = .ok (.aastore, 1) := dk_83 (dk_at dksJ6_siftUpUsingComparator_2 1 rfl rfl)
theorem dJ6_siftUpUsingComparator_47 : decode cJ6_siftUpUsingComparator 47 = .ok (.return_, 1) := dk_177 (dk_at dksJ6_siftUpUsingComparator_2 2 rfl rfl)
abbrev cJ6_siftUpComparable : ByteArray := prog_73_method_28_code
def dkwJ6_siftUpComparable_2 : List UInt8 := [44, 26, 45, 83, 177]
abbrev dktJ6_siftUpComparable_2 : List UInt8 := dkwJ6_siftUpComparable_2 ++ []
def dkwJ6_siftUpComparable_1 : List UInt8 := [25, 5, 185, 0, 146, 2, 0, 155, 0, 6, 167, 0, 14, 44, 26, 25, 5, 83, 21, 4, 59, 167, 255, 217]
abbrev dktJ6_siftUpComparable_1 : List UInt8 := dkwJ6_siftUpComparable_1 ++ dktJ6_siftUpComparable_2
def dkwJ6_siftUpComparable_0 : List UInt8 := [43, 192, 0, 144, 78, 26, 158, 0, 41, 26, 4, 100, 4, 124, 54, 4, 44, 21, 4, 50, 58, 5, 45]
abbrev dktJ6_siftUpComparable_0 : List UInt8 := dkwJ6_siftUpComparable_0 ++ dktJ6_siftUpComparable_1
theorem dksJ6_siftUpComparable_0 : cJ6_siftUpComparable.data.toList.drop 0 = dktJ6_siftUpComparable_0 := by decide +kernel
theorem dksJ6_siftUpComparable_1 : cJ6_siftUpComparable.data.toList.drop 23 = dktJ6_siftUpComparable_1 := dk_seg dksJ6_siftUpComparable_0 23 rfl rfl
theorem dksJ6_siftUpComparable_2 : cJ6_siftUpComparable.data.toList.drop 47 = dktJ6_siftUpComparable_2 := dk_seg dksJ6_siftUpComparable_1 24 rfl rfl
theorem dJ6_siftUpComparable_0 : decode cJ6_siftUpComparable 0 = .ok (.aload_n 1, 1) := dk_43 (dk_at dksJ6_siftUpComparable_0 0 rfl rfl)
theorem dJ6_siftUpComparable_1 : decode cJ6_siftUpComparable 1 = .ok (.checkcast 144, 3) := dk_192 0 144 (dk_at dksJ6_siftUpComparable_0 1 rfl rfl)
theorem dJ6_siftUpComparable_4 : decode cJ6_siftUpComparable 4 = .ok (.astore_n 3, 1) := dk_78 (dk_at dksJ6_siftUpComparable_0 4 rfl rfl)
theorem dJ6_siftUpComparable_5 : decode cJ6_siftUpComparable 5 = .ok (.iload_n 0, 1) := dk_26 (dk_at dksJ6_siftUpComparable_0 5 rfl rfl)
theorem dJ6_siftUpComparable_6 : decode cJ6_siftUpComparable 6 = .ok (.ifCond .le 41, 3) := dk_158 0 41 (dk_at dksJ6_siftUpComparable_0 6 rfl rfl)
theorem dJ6_siftUpComparable_9 : decode cJ6_siftUpComparable 9 = .ok (.iload_n 0, 1) := dk_26 (dk_at dksJ6_siftUpComparable_0 9 rfl rfl)
theorem dJ6_siftUpComparable_10 : decode cJ6_siftUpComparable 10 = .ok (.iconst 1, 1) := dk_4 (dk_at dksJ6_siftUpComparable_0 10 rfl rfl)
theorem dJ6_siftUpComparable_11 : decode cJ6_siftUpComparable 11 = .ok (.isub, 1) := dk_100 (dk_at dksJ6_siftUpComparable_0 11 rfl rfl)
theorem dJ6_siftUpComparable_12 : decode cJ6_siftUpComparable 12 = .ok (.iconst 1, 1) := dk_4 (dk_at dksJ6_siftUpComparable_0 12 rfl rfl)
theorem dJ6_siftUpComparable_13 : decode cJ6_siftUpComparable 13 = .ok (.iushr, 1) := dk_124 (dk_at dksJ6_siftUpComparable_0 13 rfl rfl)
theorem dJ6_siftUpComparable_14 : decode cJ6_siftUpComparable 14 = .ok (.istore 4, 2) := dk_54 4 (dk_at dksJ6_siftUpComparable_0 14 rfl rfl)
theorem dJ6_siftUpComparable_16 : decode cJ6_siftUpComparable 16 = .ok (.aload_n 2, 1) := dk_44 (dk_at dksJ6_siftUpComparable_0 16 rfl rfl)
theorem dJ6_siftUpComparable_17 : decode cJ6_siftUpComparable 17 = .ok (.iload 4, 2) := dk_21 4 (dk_at dksJ6_siftUpComparable_0 17 rfl rfl)
theorem dJ6_siftUpComparable_19 : decode cJ6_siftUpComparable 19 = .ok (.aaload, 1) := dk_50 (dk_at dksJ6_siftUpComparable_0 19 rfl rfl)
theorem dJ6_siftUpComparable_20 : decode cJ6_siftUpComparable 20 = .ok (.astore 5, 2) := dk_58 5 (dk_at dksJ6_siftUpComparable_0 20 rfl rfl)
theorem dJ6_siftUpComparable_22 : decode cJ6_siftUpComparable 22 = .ok (.aload_n 3, 1) := dk_45 (dk_at dksJ6_siftUpComparable_0 22 rfl rfl)
theorem dJ6_siftUpComparable_23 : decode cJ6_siftUpComparable 23 = .ok (.aload 5, 2) := dk_25 5 (dk_at dksJ6_siftUpComparable_1 0 rfl rfl)
theorem dJ6_siftUpComparable_25 : decode cJ6_siftUpComparable 25 = .ok (.invokeinterface 146 2, 5) := by decide +kernel
theorem dJ6_siftUpComparable_30 : decode cJ6_siftUpComparable 30 = .ok (.ifCond .lt 6, 3) := dk_155 0 6 (dk_at dksJ6_siftUpComparable_1 7 rfl rfl)
theorem dJ6_siftUpComparable_33 : decode cJ6_siftUpComparable 33 = .ok (.goto 14, 3) := dk_167 0 14 (dk_at dksJ6_siftUpComparable_1 10 rfl rfl)
theorem dJ6_siftUpComparable_36 : decode cJ6_siftUpComparable 36 = .ok (.aload_n 2, 1) := dk_44 (dk_at dksJ6_siftUpComparable_1 13 rfl rfl)
theorem dJ6_siftUpComparable_37 : decode cJ6_siftUpComparable 37 = .ok (.iload_n 0, 1) := dk_26 (dk_at dksJ6_siftUpComparable_1 14 rfl rfl)
theorem dJ6_siftUpComparable_38 : decode cJ6_siftUpComparable 38 = .ok (.aload 5, 2) := dk_25 5 (dk_at dksJ6_siftUpComparable_1 15 rfl rfl)
theorem dJ6_siftUpComparable_40 : decode cJ6_siftUpComparable 40 = .ok (.aastore, 1) := dk_83 (dk_at dksJ6_siftUpComparable_1 17 rfl rfl)
theorem dJ6_siftUpComparable_41 : decode cJ6_siftUpComparable 41 = .ok (.iload 4, 2) := dk_21 4 (dk_at dksJ6_siftUpComparable_1 18 rfl rfl)
theorem dJ6_siftUpComparable_43 : decode cJ6_siftUpComparable 43 = .ok (.istore_n 0, 1) := dk_59 (dk_at dksJ6_siftUpComparable_1 20 rfl rfl)
theorem dJ6_siftUpComparable_44 : decode cJ6_siftUpComparable 44 = .ok (.goto (-39), 3) := dk_167 255 217 (dk_at dksJ6_siftUpComparable_1 21 rfl rfl)
theorem dJ6_siftUpComparable_47 : decode cJ6_siftUpComparable 47 = .ok (.aload_n 2, 1) := dk_44 (dk_at dksJ6_siftUpComparable_2 0 rfl rfl)
theorem dJ6_siftUpComparable_48 : decode cJ6_siftUpComparable 48 = .ok (.iload_n 0, 1) := dk_26 (dk_at dksJ6_siftUpComparable_2 1 rfl rfl)
theorem dJ6_siftUpComparable_49 : decode cJ6_siftUpComparable 49 = .ok (.aload_n 3, 1) := dk_45 (dk_at dksJ6_siftUpComparable_2 2 rfl rfl)
theorem dJ6_siftUpComparable_50 : decode cJ6_siftUpComparable 50 = .ok (.aastore, 1) := dk_83 (dk_at dksJ6_siftUpComparable_2 3 rfl rfl)
theorem dJ6_siftUpComparable_51 : decode cJ6_siftUpComparable 51 = .ok (.return_, 1) := dk_177 (dk_at dksJ6_siftUpComparable_2 4 rfl rfl)
abbrev cJ33_length : ByteArray := prog_35_method_6_code
theorem dJ33_length_0 : decode cJ33_length 0 = .ok (.aload_n 0, 1) := by decide +kernel
theorem dJ33_length_1 : decode cJ33_length 1 = .ok (.getfield 79, 3) := by decide +kernel
theorem dJ33_length_4 : decode cJ33_length 4 = .ok (.ireturn, 1) := by decide +kernel
abbrev cJ31_copyOfRangeByte : ByteArray := prog_63_method_133_code
def dkwJ31_copyOfRangeByte_1 : List UInt8 := [184, 1, 48, 184, 0, 150, 25, 4, 176]
abbrev dktJ31_copyOfRangeByte_1 : List UInt8 := dkwJ31_copyOfRangeByte_1 ++ []
def dkwJ31_copyOfRangeByte_0 : List UInt8 := [27, 28, 184, 1, 87, 28, 27, 100, 62, 29, 188, 8, 58, 4, 42, 27, 25, 4, 3, 42, 190, 27, 100, 29]
abbrev dktJ31_copyOfRangeByte_0 : List UInt8 := dkwJ31_copyOfRangeByte_0 ++ dktJ31_copyOfRangeByte_1
theorem dksJ31_copyOfRangeByte_0 : cJ31_copyOfRangeByte.data.toList.drop 0 = dktJ31_copyOfRangeByte_0 := by decide +kernel
theorem dksJ31_copyOfRangeByte_1 : cJ31_copyOfRangeByte.data.toList.drop 24 = dktJ31_copyOfRangeByte_1 := dk_seg dksJ31_copyOfRangeByte_0 24 rfl rfl
theorem dJ31_copyOfRangeByte_0 : decode cJ31_copyOfRangeByte 0 = .ok (.iload_n 1, 1) := dk_27 (dk_at dksJ31_copyOfRangeByte_0 0 rfl rfl)
theorem dJ31_copyOfRangeByte_1 : decode cJ31_copyOfRangeByte 1 = .ok (.iload_n 2, 1) := dk_28 (dk_at dksJ31_copyOfRangeByte_0 1 rfl rfl)
theorem dJ31_copyOfRangeByte_2 : decode cJ31_copyOfRangeByte 2 = .ok (.invokestatic 343, 3) := dk_184 1 87 (dk_at dksJ31_copyOfRangeByte_0 2 rfl rfl)
theorem dJ31_copyOfRangeByte_5 : decode cJ31_copyOfRangeByte 5 = .ok (.iload_n 2, 1) := dk_28 (dk_at dksJ31_copyOfRangeByte_0 5 rfl rfl)
theorem dJ31_copyOfRangeByte_6 : decode cJ31_copyOfRangeByte 6 = .ok (.iload_n 1, 1) := dk_27 (dk_at dksJ31_copyOfRangeByte_0 6 rfl rfl)
theorem dJ31_copyOfRangeByte_7 : decode cJ31_copyOfRangeByte 7 = .ok (.isub, 1) := dk_100 (dk_at dksJ31_copyOfRangeByte_0 7 rfl rfl)
theorem dJ31_copyOfRangeByte_8 : decode cJ31_copyOfRangeByte 8 = .ok (.istore_n 3, 1) := dk_62 (dk_at dksJ31_copyOfRangeByte_0 8 rfl rfl)
theorem dJ31_copyOfRangeByte_9 : decode cJ31_copyOfRangeByte 9 = .ok (.iload_n 3, 1) := dk_29 (dk_at dksJ31_copyOfRangeByte_0 9 rfl rfl)
theorem dJ31_copyOfRangeByte_10 : decode cJ31_copyOfRangeByte 10 = .ok (.newarray .byte, 2) := dk_188_8 (dk_at dksJ31_copyOfRangeByte_0 10 rfl rfl)
theorem dJ31_copyOfRangeByte_12 : decode cJ31_copyOfRangeByte 12 = .ok (.astore 4, 2) := dk_58 4 (dk_at dksJ31_copyOfRangeByte_0 12 rfl rfl)
theorem dJ31_copyOfRangeByte_14 : decode cJ31_copyOfRangeByte 14 = .ok (.aload_n 0, 1) := dk_42 (dk_at dksJ31_copyOfRangeByte_0 14 rfl rfl)
theorem dJ31_copyOfRangeByte_15 : decode cJ31_copyOfRangeByte 15 = .ok (.iload_n 1, 1) := dk_27 (dk_at dksJ31_copyOfRangeByte_0 15 rfl rfl)
theorem dJ31_copyOfRangeByte_16 : decode cJ31_copyOfRangeByte 16 = .ok (.aload 4, 2) := dk_25 4 (dk_at dksJ31_copyOfRangeByte_0 16 rfl rfl)
theorem dJ31_copyOfRangeByte_18 : decode cJ31_copyOfRangeByte 18 = .ok (.iconst 0, 1) := dk_3 (dk_at dksJ31_copyOfRangeByte_0 18 rfl rfl)
theorem dJ31_copyOfRangeByte_19 : decode cJ31_copyOfRangeByte 19 = .ok (.aload_n 0, 1) := dk_42 (dk_at dksJ31_copyOfRangeByte_0 19 rfl rfl)
theorem dJ31_copyOfRangeByte_20 : decode cJ31_copyOfRangeByte 20 = .ok (.arraylength, 1) := dk_190 (dk_at dksJ31_copyOfRangeByte_0 20 rfl rfl)
theorem dJ31_copyOfRangeByte_21 : decode cJ31_copyOfRangeByte 21 = .ok (.iload_n 1, 1) := dk_27 (dk_at dksJ31_copyOfRangeByte_0 21 rfl rfl)
theorem dJ31_copyOfRangeByte_22 : decode cJ31_copyOfRangeByte 22 = .ok (.isub, 1) := dk_100 (dk_at dksJ31_copyOfRangeByte_0 22 rfl rfl)
theorem dJ31_copyOfRangeByte_23 : decode cJ31_copyOfRangeByte 23 = .ok (.iload_n 3, 1) := dk_29 (dk_at dksJ31_copyOfRangeByte_0 23 rfl rfl)
theorem dJ31_copyOfRangeByte_24 : decode cJ31_copyOfRangeByte 24 = .ok (.invokestatic 304, 3) := dk_184 1 48 (dk_at dksJ31_copyOfRangeByte_1 0 rfl rfl)
theorem dJ31_copyOfRangeByte_27 : decode cJ31_copyOfRangeByte 27 = .ok (.invokestatic 150, 3) := dk_184 0 150 (dk_at dksJ31_copyOfRangeByte_1 3 rfl rfl)
theorem dJ31_copyOfRangeByte_30 : decode cJ31_copyOfRangeByte 30 = .ok (.aload 4, 2) := dk_25 4 (dk_at dksJ31_copyOfRangeByte_1 6 rfl rfl)
theorem dJ31_copyOfRangeByte_32 : decode cJ31_copyOfRangeByte 32 = .ok (.areturn, 1) := dk_176 (dk_at dksJ31_copyOfRangeByte_1 8 rfl rfl)
abbrev cJ29_getMessage : ByteArray := prog_52_method_6_code
theorem dJ29_getMessage_0 : decode cJ29_getMessage 0 = .ok (.aload_n 0, 1) := by decide +kernel
theorem dJ29_getMessage_1 : decode cJ29_getMessage 1 = .ok (.getfield 31, 3) := by decide +kernel
theorem dJ29_getMessage_4 : decode cJ29_getMessage 4 = .ok (.areturn, 1) := by decide +kernel
abbrev cJ9_init_3 : ByteArray := prog_47_method_151_code
def dkwJ9_init_3_0 : List UInt8 := [42, 183, 0, 1, 42, 43, 181, 0, 9, 42, 28, 181, 0, 15, 177]
abbrev dktJ9_init_3_0 : List UInt8 := dkwJ9_init_3_0 ++ []
theorem dksJ9_init_3_0 : cJ9_init_3.data.toList.drop 0 = dktJ9_init_3_0 := by decide +kernel
theorem dJ9_init_3_0 : decode cJ9_init_3 0 = .ok (.aload_n 0, 1) := dk_42 (dk_at dksJ9_init_3_0 0 rfl rfl)
theorem dJ9_init_3_1 : decode cJ9_init_3 1 = .ok (.invokespecial 1, 3) := dk_183 0 1 (dk_at dksJ9_init_3_0 1 rfl rfl)
theorem dJ9_init_3_4 : decode cJ9_init_3 4 = .ok (.aload_n 0, 1) := dk_42 (dk_at dksJ9_init_3_0 4 rfl rfl)
theorem dJ9_init_3_5 : decode cJ9_init_3 5 = .ok (.aload_n 1, 1) := dk_43 (dk_at dksJ9_init_3_0 5 rfl rfl)
theorem dJ9_init_3_6 : decode cJ9_init_3 6 = .ok (.putfield 9, 3) := dk_181 0 9 (dk_at dksJ9_init_3_0 6 rfl rfl)
theorem dJ9_init_3_9 : decode cJ9_init_3 9 = .ok (.aload_n 0, 1) := dk_42 (dk_at dksJ9_init_3_0 9 rfl rfl)
theorem dJ9_init_3_10 : decode cJ9_init_3 10 = .ok (.iload_n 2, 1) := dk_28 (dk_at dksJ9_init_3_0 10 rfl rfl)
theorem dJ9_init_3_11 : decode cJ9_init_3 11 = .ok (.putfield 15, 3) := dk_181 0 15 (dk_at dksJ9_init_3_0 11 rfl rfl)
theorem dJ9_init_3_14 : decode cJ9_init_3 14 = .ok (.return_, 1) := dk_177 (dk_at dksJ9_init_3_0 14 rfl rfl)
abbrev cJ10_equals : ByteArray := prog_49_method_13_code
def dkwJ10_equals_1 : List UInt8 := [3, 172, 132, 2, 1, 167, 255, 236, 4, 172, 3, 172]
abbrev dktJ10_equals_1 : List UInt8 := dkwJ10_equals_1 ++ []
def dkwJ10_equals_0 : List UInt8 := [42, 190, 43, 190, 160, 0, 30, 3, 61, 28, 42, 190, 162, 0, 20, 42, 28, 51, 43, 28, 51, 159, 0, 5]
abbrev dktJ10_equals_0 : List UInt8 := dkwJ10_equals_0 ++ dktJ10_equals_1
theorem dksJ10_equals_0 : cJ10_equals.data.toList.drop 0 = dktJ10_equals_0 := by decide +kernel
theorem dksJ10_equals_1 : cJ10_equals.data.toList.drop 24 = dktJ10_equals_1 := dk_seg dksJ10_equals_0 24 rfl rfl
theorem dJ10_equals_0 : decode cJ10_equals 0 = .ok (.aload_n 0, 1) := dk_42 (dk_at dksJ10_equals_0 0 rfl rfl)
theorem dJ10_equals_1 : decode cJ10_equals 1 = .ok (.arraylength, 1) := dk_190 (dk_at dksJ10_equals_0 1 rfl rfl)
theorem dJ10_equals_2 : decode cJ10_equals 2 = .ok (.aload_n 1, 1) := dk_43 (dk_at dksJ10_equals_0 2 rfl rfl)
theorem dJ10_equals_3 : decode cJ10_equals 3 = .ok (.arraylength, 1) := dk_190 (dk_at dksJ10_equals_0 3 rfl rfl)
theorem dJ10_equals_4 : decode cJ10_equals 4 = .ok (.if_icmp .ne 30, 3) := dk_160 0 30 (dk_at dksJ10_equals_0 4 rfl rfl)
theorem dJ10_equals_7 : decode cJ10_equals 7 = .ok (.iconst 0, 1) := dk_3 (dk_at dksJ10_equals_0 7 rfl rfl)
theorem dJ10_equals_8 : decode cJ10_equals 8 = .ok (.istore_n 2, 1) := dk_61 (dk_at dksJ10_equals_0 8 rfl rfl)
theorem dJ10_equals_9 : decode cJ10_equals 9 = .ok (.iload_n 2, 1) := dk_28 (dk_at dksJ10_equals_0 9 rfl rfl)
theorem dJ10_equals_10 : decode cJ10_equals 10 = .ok (.aload_n 0, 1) := dk_42 (dk_at dksJ10_equals_0 10 rfl rfl)
theorem dJ10_equals_11 : decode cJ10_equals 11 = .ok (.arraylength, 1) := dk_190 (dk_at dksJ10_equals_0 11 rfl rfl)
theorem dJ10_equals_12 : decode cJ10_equals 12 = .ok (.if_icmp .ge 20, 3) := dk_162 0 20 (dk_at dksJ10_equals_0 12 rfl rfl)
theorem dJ10_equals_15 : decode cJ10_equals 15 = .ok (.aload_n 0, 1) := dk_42 (dk_at dksJ10_equals_0 15 rfl rfl)
theorem dJ10_equals_16 : decode cJ10_equals 16 = .ok (.iload_n 2, 1) := dk_28 (dk_at dksJ10_equals_0 16 rfl rfl)
theorem dJ10_equals_17 : decode cJ10_equals 17 = .ok (.baload, 1) := dk_51 (dk_at dksJ10_equals_0 17 rfl rfl)
theorem dJ10_equals_18 : decode cJ10_equals 18 = .ok (.aload_n 1, 1) := dk_43 (dk_at dksJ10_equals_0 18 rfl rfl)
theorem dJ10_equals_19 : decode cJ10_equals 19 = .ok (.iload_n 2, 1) := dk_28 (dk_at dksJ10_equals_0 19 rfl rfl)
theorem dJ10_equals_20 : decode cJ10_equals 20 = .ok (.baload, 1) := dk_51 (dk_at dksJ10_equals_0 20 rfl rfl)
theorem dJ10_equals_21 : decode cJ10_equals 21 = .ok (.if_icmp .eq 5, 3) := dk_159 0 5 (dk_at dksJ10_equals_0 21 rfl rfl)
theorem dJ10_equals_24 : decode cJ10_equals 24 = .ok (.iconst 0, 1) := dk_3 (dk_at dksJ10_equals_1 0 rfl rfl)
theorem dJ10_equals_25 : decode cJ10_equals 25 = .ok (.ireturn, 1) := dk_172 (dk_at dksJ10_equals_1 1 rfl rfl)
theorem dJ10_equals_26 : decode cJ10_equals 26 = .ok (.iinc 2 1, 3) := dk_132 2 1 (dk_at dksJ10_equals_1 2 rfl rfl)
theorem dJ10_equals_29 : decode cJ10_equals 29 = .ok (.goto (-20), 3) := dk_167 255 236 (dk_at dksJ10_equals_1 5 rfl rfl)
theorem dJ10_equals_32 : decode cJ10_equals 32 = .ok (.iconst 1, 1) := dk_4 (dk_at dksJ10_equals_1 8 rfl rfl)
theorem dJ10_equals_33 : decode cJ10_equals 33 = .ok (.ireturn, 1) := dk_172 (dk_at dksJ10_equals_1 9 rfl rfl)
theorem dJ10_equals_34 : decode cJ10_equals 34 = .ok (.iconst 0, 1) := dk_3 (dk_at dksJ10_equals_1 10 rfl rfl)
theorem dJ10_equals_35 : decode cJ10_equals 35 = .ok (.ireturn, 1) := dk_172 (dk_at dksJ10_equals_1 11 rfl rfl)
abbrev cJ8_numberOfLeadingZeros : ByteArray := prog_41_method_47_code
def dkwJ8_numberOfLeadingZeros_3 : List UInt8 := [5, 124, 59, 27, 26, 4, 124, 100, 172]
abbrev dktJ8_numberOfLeadingZeros_3 : List UInt8 := dkwJ8_numberOfLeadingZeros_3 ++ []
def dkwJ8_numberOfLeadingZeros_2 : List UInt8 := [124, 59, 26, 16, 16, 161, 0, 10, 132, 1, 252, 26, 7, 124, 59, 26, 7, 161, 0, 10, 132, 1, 254, 26]
abbrev dktJ8_numberOfLeadingZeros_2 : List UInt8 := dkwJ8_numberOfLeadingZeros_2 ++ dktJ8_numberOfLeadingZeros_3
def dkwJ8_numberOfLeadingZeros_1 : List UInt8 := [161, 0, 11, 132, 1, 240, 26, 16, 16, 124, 59, 26, 17, 1, 0, 161, 0, 11, 132, 1, 248, 26, 16, 8]
abbrev dktJ8_numberOfLeadingZeros_1 : List UInt8 := dkwJ8_numberOfLeadingZeros_1 ++ dktJ8_numberOfLeadingZeros_2
def dkwJ8_numberOfLeadingZeros_0 : List UInt8 := [26, 157, 0, 14, 26, 154, 0, 8, 16, 32, 167, 0, 4, 3, 172, 16, 31, 60, 26, 19, 1, 8]
abbrev dktJ8_numberOfLeadingZeros_0 : List UInt8 := dkwJ8_numberOfLeadingZeros_0 ++ dktJ8_numberOfLeadingZeros_1
theorem dksJ8_numberOfLeadingZeros_0 : cJ8_numberOfLeadingZeros.data.toList.drop 0 = dktJ8_numberOfLeadingZeros_0 := by decide +kernel
theorem dksJ8_numberOfLeadingZeros_1 : cJ8_numberOfLeadingZeros.data.toList.drop 22 = dktJ8_numberOfLeadingZeros_1 := dk_seg dksJ8_numberOfLeadingZeros_0 22 rfl rfl
theorem dksJ8_numberOfLeadingZeros_2 : cJ8_numberOfLeadingZeros.data.toList.drop 46 = dktJ8_numberOfLeadingZeros_2 := dk_seg dksJ8_numberOfLeadingZeros_1 24 rfl rfl
theorem dksJ8_numberOfLeadingZeros_3 : cJ8_numberOfLeadingZeros.data.toList.drop 70 = dktJ8_numberOfLeadingZeros_3 := dk_seg dksJ8_numberOfLeadingZeros_2 24 rfl rfl
theorem dJ8_numberOfLeadingZeros_0 : decode cJ8_numberOfLeadingZeros 0 = .ok (.iload_n 0, 1) := dk_26 (dk_at dksJ8_numberOfLeadingZeros_0 0 rfl rfl)
theorem dJ8_numberOfLeadingZeros_1 : decode cJ8_numberOfLeadingZeros 1 = .ok (.ifCond .gt 14, 3) := dk_157 0 14 (dk_at dksJ8_numberOfLeadingZeros_0 1 rfl rfl)
theorem dJ8_numberOfLeadingZeros_4 : decode cJ8_numberOfLeadingZeros 4 = .ok (.iload_n 0, 1) := dk_26 (dk_at dksJ8_numberOfLeadingZeros_0 4 rfl rfl)
theorem dJ8_numberOfLeadingZeros_5 : decode cJ8_numberOfLeadingZeros 5 = .ok (.ifCond .ne 8, 3) := dk_154 0 8 (dk_at dksJ8_numberOfLeadingZeros_0 5 rfl rfl)
theorem dJ8_numberOfLeadingZeros_8 : decode cJ8_numberOfLeadingZeros 8 = .ok (.bipush 32, 2) := dk_16 32 (dk_at dksJ8_numberOfLeadingZeros_0 8 rfl rfl)
theorem dJ8_numberOfLeadingZeros_10 : decode cJ8_numberOfLeadingZeros 10 = .ok (.goto 4, 3) := dk_167 0 4 (dk_at dksJ8_numberOfLeadingZeros_0 10 rfl rfl)
theorem dJ8_numberOfLeadingZeros_13 : decode cJ8_numberOfLeadingZeros 13 = .ok (.iconst 0, 1) := dk_3 (dk_at dksJ8_numberOfLeadingZeros_0 13 rfl rfl)
theorem dJ8_numberOfLeadingZeros_14 : decode cJ8_numberOfLeadingZeros 14 = .ok (.ireturn, 1) := dk_172 (dk_at dksJ8_numberOfLeadingZeros_0 14 rfl rfl)
theorem dJ8_numberOfLeadingZeros_15 : decode cJ8_numberOfLeadingZeros 15 = .ok (.bipush 31, 2) := dk_16 31 (dk_at dksJ8_numberOfLeadingZeros_0 15 rfl rfl)
theorem dJ8_numberOfLeadingZeros_17 : decode cJ8_numberOfLeadingZeros 17 = .ok (.istore_n 1, 1) := dk_60 (dk_at dksJ8_numberOfLeadingZeros_0 17 rfl rfl)
theorem dJ8_numberOfLeadingZeros_18 : decode cJ8_numberOfLeadingZeros 18 = .ok (.iload_n 0, 1) := dk_26 (dk_at dksJ8_numberOfLeadingZeros_0 18 rfl rfl)
theorem dJ8_numberOfLeadingZeros_19 : decode cJ8_numberOfLeadingZeros 19 = .ok (.ldc_w 264, 3) := dk_19 1 8 (dk_at dksJ8_numberOfLeadingZeros_0 19 rfl rfl)
theorem dJ8_numberOfLeadingZeros_22 : decode cJ8_numberOfLeadingZeros 22 = .ok (.if_icmp .lt 11, 3) := dk_161 0 11 (dk_at dksJ8_numberOfLeadingZeros_1 0 rfl rfl)
theorem dJ8_numberOfLeadingZeros_25 : decode cJ8_numberOfLeadingZeros 25 = .ok (.iinc 1 (-16), 3) := dk_132 1 240 (dk_at dksJ8_numberOfLeadingZeros_1 3 rfl rfl)
theorem dJ8_numberOfLeadingZeros_28 : decode cJ8_numberOfLeadingZeros 28 = .ok (.iload_n 0, 1) := dk_26 (dk_at dksJ8_numberOfLeadingZeros_1 6 rfl rfl)
theorem dJ8_numberOfLeadingZeros_29 : decode cJ8_numberOfLeadingZeros 29 = .ok (.bipush 16, 2) := dk_16 16 (dk_at dksJ8_numberOfLeadingZeros_1 7 rfl rfl)
theorem dJ8_numberOfLeadingZeros_31 : decode cJ8_numberOfLeadingZeros 31 = .ok (.iushr, 1) := dk_124 (dk_at dksJ8_numberOfLeadingZeros_1 9 rfl rfl)
theorem dJ8_numberOfLeadingZeros_32 : decode cJ8_numberOfLeadingZeros 32 = .ok (.istore_n 0, 1) := dk_59 (dk_at dksJ8_numberOfLeadingZeros_1 10 rfl rfl)
theorem dJ8_numberOfLeadingZeros_33 : decode cJ8_numberOfLeadingZeros 33 = .ok (.iload_n 0, 1) := dk_26 (dk_at dksJ8_numberOfLeadingZeros_1 11 rfl rfl)
theorem dJ8_numberOfLeadingZeros_34 : decode cJ8_numberOfLeadingZeros 34 = .ok (.sipush 256, 3) := dk_17 1 0 (dk_at dksJ8_numberOfLeadingZeros_1 12 rfl rfl)
theorem dJ8_numberOfLeadingZeros_37 : decode cJ8_numberOfLeadingZeros 37 = .ok (.if_icmp .lt 11, 3) := dk_161 0 11 (dk_at dksJ8_numberOfLeadingZeros_1 15 rfl rfl)
theorem dJ8_numberOfLeadingZeros_40 : decode cJ8_numberOfLeadingZeros 40 = .ok (.iinc 1 (-8), 3) := dk_132 1 248 (dk_at dksJ8_numberOfLeadingZeros_1 18 rfl rfl)
theorem dJ8_numberOfLeadingZeros_43 : decode cJ8_numberOfLeadingZeros 43 = .ok (.iload_n 0, 1) := dk_26 (dk_at dksJ8_numberOfLeadingZeros_1 21 rfl rfl)
theorem dJ8_numberOfLeadingZeros_44 : decode cJ8_numberOfLeadingZeros 44 = .ok (.bipush 8, 2) := dk_16 8 (dk_at dksJ8_numberOfLeadingZeros_1 22 rfl rfl)
theorem dJ8_numberOfLeadingZeros_46 : decode cJ8_numberOfLeadingZeros 46 = .ok (.iushr, 1) := dk_124 (dk_at dksJ8_numberOfLeadingZeros_2 0 rfl rfl)
theorem dJ8_numberOfLeadingZeros_47 : decode cJ8_numberOfLeadingZeros 47 = .ok (.istore_n 0, 1) := dk_59 (dk_at dksJ8_numberOfLeadingZeros_2 1 rfl rfl)
theorem dJ8_numberOfLeadingZeros_48 : decode cJ8_numberOfLeadingZeros 48 = .ok (.iload_n 0, 1) := dk_26 (dk_at dksJ8_numberOfLeadingZeros_2 2 rfl rfl)
theorem dJ8_numberOfLeadingZeros_49 : decode cJ8_numberOfLeadingZeros 49 = .ok (.bipush 16, 2) := dk_16 16 (dk_at dksJ8_numberOfLeadingZeros_2 3 rfl rfl)
theorem dJ8_numberOfLeadingZeros_51 : decode cJ8_numberOfLeadingZeros 51 = .ok (.if_icmp .lt 10, 3) := dk_161 0 10 (dk_at dksJ8_numberOfLeadingZeros_2 5 rfl rfl)
theorem dJ8_numberOfLeadingZeros_54 : decode cJ8_numberOfLeadingZeros 54 = .ok (.iinc 1 (-4), 3) := dk_132 1 252 (dk_at dksJ8_numberOfLeadingZeros_2 8 rfl rfl)
theorem dJ8_numberOfLeadingZeros_57 : decode cJ8_numberOfLeadingZeros 57 = .ok (.iload_n 0, 1) := dk_26 (dk_at dksJ8_numberOfLeadingZeros_2 11 rfl rfl)
theorem dJ8_numberOfLeadingZeros_58 : decode cJ8_numberOfLeadingZeros 58 = .ok (.iconst 4, 1) := dk_7 (dk_at dksJ8_numberOfLeadingZeros_2 12 rfl rfl)
theorem dJ8_numberOfLeadingZeros_59 : decode cJ8_numberOfLeadingZeros 59 = .ok (.iushr, 1) := dk_124 (dk_at dksJ8_numberOfLeadingZeros_2 13 rfl rfl)
theorem dJ8_numberOfLeadingZeros_60 : decode cJ8_numberOfLeadingZeros 60 = .ok (.istore_n 0, 1) := dk_59 (dk_at dksJ8_numberOfLeadingZeros_2 14 rfl rfl)
theorem dJ8_numberOfLeadingZeros_61 : decode cJ8_numberOfLeadingZeros 61 = .ok (.iload_n 0, 1) := dk_26 (dk_at dksJ8_numberOfLeadingZeros_2 15 rfl rfl)
theorem dJ8_numberOfLeadingZeros_62 : decode cJ8_numberOfLeadingZeros 62 = .ok (.iconst 4, 1) := dk_7 (dk_at dksJ8_numberOfLeadingZeros_2 16 rfl rfl)
theorem dJ8_numberOfLeadingZeros_63 : decode cJ8_numberOfLeadingZeros 63 = .ok (.if_icmp .lt 10, 3) := dk_161 0 10 (dk_at dksJ8_numberOfLeadingZeros_2 17 rfl rfl)
theorem dJ8_numberOfLeadingZeros_66 : decode cJ8_numberOfLeadingZeros 66 = .ok (.iinc 1 (-2), 3) := dk_132 1 254 (dk_at dksJ8_numberOfLeadingZeros_2 20 rfl rfl)
theorem dJ8_numberOfLeadingZeros_69 : decode cJ8_numberOfLeadingZeros 69 = .ok (.iload_n 0, 1) := dk_26 (dk_at dksJ8_numberOfLeadingZeros_2 23 rfl rfl)
theorem dJ8_numberOfLeadingZeros_70 : decode cJ8_numberOfLeadingZeros 70 = .ok (.iconst 2, 1) := dk_5 (dk_at dksJ8_numberOfLeadingZeros_3 0 rfl rfl)
theorem dJ8_numberOfLeadingZeros_71 : decode cJ8_numberOfLeadingZeros 71 = .ok (.iushr, 1) := dk_124 (dk_at dksJ8_numberOfLeadingZeros_3 1 rfl rfl)
theorem dJ8_numberOfLeadingZeros_72 : decode cJ8_numberOfLeadingZeros 72 = .ok (.istore_n 0, 1) := dk_59 (dk_at dksJ8_numberOfLeadingZeros_3 2 rfl rfl)
theorem dJ8_numberOfLeadingZeros_73 : decode cJ8_numberOfLeadingZeros 73 = .ok (.iload_n 1, 1) := dk_27 (dk_at dksJ8_numberOfLeadingZeros_3 3 rfl rfl)
theorem dJ8_numberOfLeadingZeros_74 : decode cJ8_numberOfLeadingZeros 74 = .ok (.iload_n 0, 1) := dk_26 (dk_at dksJ8_numberOfLeadingZeros_3 4 rfl rfl)
theorem dJ8_numberOfLeadingZeros_75 : decode cJ8_numberOfLeadingZeros 75 = .ok (.iconst 1, 1) := dk_4 (dk_at dksJ8_numberOfLeadingZeros_3 5 rfl rfl)
theorem dJ8_numberOfLeadingZeros_76 : decode cJ8_numberOfLeadingZeros 76 = .ok (.iushr, 1) := dk_124 (dk_at dksJ8_numberOfLeadingZeros_3 6 rfl rfl)
theorem dJ8_numberOfLeadingZeros_77 : decode cJ8_numberOfLeadingZeros 77 = .ok (.isub, 1) := dk_100 (dk_at dksJ8_numberOfLeadingZeros_3 7 rfl rfl)
theorem dJ8_numberOfLeadingZeros_78 : decode cJ8_numberOfLeadingZeros 78 = .ok (.ireturn, 1) := dk_172 (dk_at dksJ8_numberOfLeadingZeros_3 8 rfl rfl)
abbrev cJ31_checkLength : ByteArray := prog_63_method_131_code
def dkwJ31_checkLength_1 : List UInt8 := [182, 0, 50, 27, 182, 0, 54, 182, 0, 61, 183, 0, 65, 191, 177]
abbrev dktJ31_checkLength_1 : List UInt8 := dkwJ31_checkLength_1 ++ []
def dkwJ31_checkLength_0 : List UInt8 := [27, 26, 162, 0, 35, 187, 0, 43, 89, 187, 0, 45, 89, 183, 0, 47, 26, 182, 0, 54, 19, 1, 81]
abbrev dktJ31_checkLength_0 : List UInt8 := dkwJ31_checkLength_0 ++ dktJ31_checkLength_1
theorem dksJ31_checkLength_0 : cJ31_checkLength.data.toList.drop 0 = dktJ31_checkLength_0 := by decide +kernel
theorem dksJ31_checkLength_1 : cJ31_checkLength.data.toList.drop 23 = dktJ31_checkLength_1 := dk_seg dksJ31_checkLength_0 23 rfl rfl
theorem dJ31_checkLength_0 : decode cJ31_checkLength 0 = .ok (.iload_n 1, 1) := dk_27 (dk_at dksJ31_checkLength_0 0 rfl rfl)
theorem dJ31_checkLength_1 : decode cJ31_checkLength 1 = .ok (.iload_n 0, 1) := dk_26 (dk_at dksJ31_checkLength_0 1 rfl rfl)
theorem dJ31_checkLength_2 : decode cJ31_checkLength 2 = .ok (.if_icmp .ge 35, 3) := dk_162 0 35 (dk_at dksJ31_checkLength_0 2 rfl rfl)
theorem dJ31_checkLength_5 : decode cJ31_checkLength 5 = .ok (.new 43, 3) := dk_187 0 43 (dk_at dksJ31_checkLength_0 5 rfl rfl)
theorem dJ31_checkLength_8 : decode cJ31_checkLength 8 = .ok (.dup, 1) := dk_89 (dk_at dksJ31_checkLength_0 8 rfl rfl)
theorem dJ31_checkLength_9 : decode cJ31_checkLength 9 = .ok (.new 45, 3) := dk_187 0 45 (dk_at dksJ31_checkLength_0 9 rfl rfl)
theorem dJ31_checkLength_12 : decode cJ31_checkLength 12 = .ok (.dup, 1) := dk_89 (dk_at dksJ31_checkLength_0 12 rfl rfl)
theorem dJ31_checkLength_13 : decode cJ31_checkLength 13 = .ok (.invokespecial 47, 3) := dk_183 0 47 (dk_at dksJ31_checkLength_0 13 rfl rfl)
theorem dJ31_checkLength_16 : decode cJ31_checkLength 16 = .ok (.iload_n 0, 1) := dk_26 (dk_at dksJ31_checkLength_0 16 rfl rfl)
theorem dJ31_checkLength_17 : decode cJ31_checkLength 17 = .ok (.invokevirtual 54, 3) := dk_182 0 54 (dk_at dksJ31_checkLength_0 17 rfl rfl)
theorem dJ31_checkLength_20 : decode cJ31_checkLength 20 = .ok (.ldc_w 337, 3) := dk_19 1 81 (dk_at dksJ31_checkLength_0 20 rfl rfl)
theorem dJ31_checkLength_23 : decode cJ31_checkLength 23 = .ok (.invokevirtual 50, 3) := dk_182 0 50 (dk_at dksJ31_checkLength_1 0 rfl rfl)
theorem dJ31_checkLength_26 : decode cJ31_checkLength 26 = .ok (.iload_n 1, 1) := dk_27 (dk_at dksJ31_checkLength_1 3 rfl rfl)
theorem dJ31_checkLength_27 : decode cJ31_checkLength 27 = .ok (.invokevirtual 54, 3) := dk_182 0 54 (dk_at dksJ31_checkLength_1 4 rfl rfl)
theorem dJ31_checkLength_30 : decode cJ31_checkLength 30 = .ok (.invokevirtual 61, 3) := dk_182 0 61 (dk_at dksJ31_checkLength_1 7 rfl rfl)
theorem dJ31_checkLength_33 : decode cJ31_checkLength 33 = .ok (.invokespecial 65, 3) := dk_183 0 65 (dk_at dksJ31_checkLength_1 10 rfl rfl)
theorem dJ31_checkLength_36 : decode cJ31_checkLength 36 = .ok (.athrow, 1) := dk_191 (dk_at dksJ31_checkLength_1 13 rfl rfl)
theorem dJ31_checkLength_37 : decode cJ31_checkLength 37 = .ok (.return_, 1) := dk_177 (dk_at dksJ31_checkLength_1 14 rfl rfl)
