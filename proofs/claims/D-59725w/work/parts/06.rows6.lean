/-! decode rows (out of claim/names) -/
set_option maxRecDepth 100000
def dkwJ10_init_0 : List UInt8 := [42, 183, 0, 1, 42, 178, 0, 39, 181, 0, 9, 177]
abbrev dktJ10_init_0 : List UInt8 := dkwJ10_init_0 ++ []
theorem dksJ10_init_0 : cJ10_init.data.toList.drop 0 = dktJ10_init_0 := by decide +kernel
theorem dJ10_init_0 : decode cJ10_init 0 = .ok (.aload_n 0, 1) := dk_42 (dk_at dksJ10_init_0 0 rfl rfl)
theorem dJ10_init_1 : decode cJ10_init 1 = .ok (.invokespecial 1, 3) := dk_183 0 1 (dk_at dksJ10_init_0 1 rfl rfl)
theorem dJ10_init_4 : decode cJ10_init 4 = .ok (.aload_n 0, 1) := dk_42 (dk_at dksJ10_init_0 4 rfl rfl)
theorem dJ10_init_5 : decode cJ10_init 5 = .ok (.getstatic 39, 3) := dk_178 0 39 (dk_at dksJ10_init_0 5 rfl rfl)
theorem dJ10_init_8 : decode cJ10_init 8 = .ok (.putfield 9, 3) := dk_181 0 9 (dk_at dksJ10_init_0 8 rfl rfl)
theorem dJ10_init_11 : decode cJ10_init 11 = .ok (.return_, 1) := dk_177 (dk_at dksJ10_init_0 11 rfl rfl)
def dkwJ10_add_1 : List UInt8 := [172]
abbrev dktJ10_add_1 : List UInt8 := dkwJ10_add_1 ++ []
def dkwJ10_add_0 : List UInt8 := [42, 89, 180, 0, 63, 4, 96, 181, 0, 63, 42, 43, 42, 180, 0, 9, 42, 180, 0, 48, 182, 0, 131, 4]
abbrev dktJ10_add_0 : List UInt8 := dkwJ10_add_0 ++ dktJ10_add_1
theorem dksJ10_add_0 : cJ10_add.data.toList.drop 0 = dktJ10_add_0 := by decide +kernel
theorem dksJ10_add_1 : cJ10_add.data.toList.drop 24 = dktJ10_add_1 := dk_seg dksJ10_add_0 24 rfl rfl
theorem dJ10_add_0 : decode cJ10_add 0 = .ok (.aload_n 0, 1) := dk_42 (dk_at dksJ10_add_0 0 rfl rfl)
theorem dJ10_add_1 : decode cJ10_add 1 = .ok (.dup, 1) := dk_89 (dk_at dksJ10_add_0 1 rfl rfl)
theorem dJ10_add_2 : decode cJ10_add 2 = .ok (.getfield 63, 3) := dk_180 0 63 (dk_at dksJ10_add_0 2 rfl rfl)
theorem dJ10_add_5 : decode cJ10_add 5 = .ok (.iconst 1, 1) := dk_4 (dk_at dksJ10_add_0 5 rfl rfl)
theorem dJ10_add_6 : decode cJ10_add 6 = .ok (.iadd, 1) := dk_96 (dk_at dksJ10_add_0 6 rfl rfl)
theorem dJ10_add_7 : decode cJ10_add 7 = .ok (.putfield 63, 3) := dk_181 0 63 (dk_at dksJ10_add_0 7 rfl rfl)
theorem dJ10_add_10 : decode cJ10_add 10 = .ok (.aload_n 0, 1) := dk_42 (dk_at dksJ10_add_0 10 rfl rfl)
theorem dJ10_add_11 : decode cJ10_add 11 = .ok (.aload_n 1, 1) := dk_43 (dk_at dksJ10_add_0 11 rfl rfl)
theorem dJ10_add_12 : decode cJ10_add 12 = .ok (.aload_n 0, 1) := dk_42 (dk_at dksJ10_add_0 12 rfl rfl)
theorem dJ10_add_13 : decode cJ10_add 13 = .ok (.getfield 9, 3) := dk_180 0 9 (dk_at dksJ10_add_0 13 rfl rfl)
theorem dJ10_add_16 : decode cJ10_add 16 = .ok (.aload_n 0, 1) := dk_42 (dk_at dksJ10_add_0 16 rfl rfl)
theorem dJ10_add_17 : decode cJ10_add 17 = .ok (.getfield 48, 3) := dk_180 0 48 (dk_at dksJ10_add_0 17 rfl rfl)
theorem dJ10_add_20 : decode cJ10_add 20 = .ok (.invokevirtual 131, 3) := dk_182 0 131 (dk_at dksJ10_add_0 20 rfl rfl)
theorem dJ10_add_23 : decode cJ10_add 23 = .ok (.iconst 1, 1) := dk_4 (dk_at dksJ10_add_0 23 rfl rfl)
theorem dJ10_add_24 : decode cJ10_add 24 = .ok (.ireturn, 1) := dk_172 (dk_at dksJ10_add_1 0 rfl rfl)
def dkwJ10_add_2_0 : List UInt8 := [29, 44, 190, 160, 0, 8, 42, 182, 0, 129, 77, 44, 29, 43, 83, 42, 29, 4, 96, 181, 0, 48, 177]
abbrev dktJ10_add_2_0 : List UInt8 := dkwJ10_add_2_0 ++ []
theorem dksJ10_add_2_0 : cJ10_add_2.data.toList.drop 0 = dktJ10_add_2_0 := by decide +kernel
theorem dJ10_add_2_0 : decode cJ10_add_2 0 = .ok (.iload_n 3, 1) := dk_29 (dk_at dksJ10_add_2_0 0 rfl rfl)
theorem dJ10_add_2_1 : decode cJ10_add_2 1 = .ok (.aload_n 2, 1) := dk_44 (dk_at dksJ10_add_2_0 1 rfl rfl)
theorem dJ10_add_2_2 : decode cJ10_add_2 2 = .ok (.arraylength, 1) := dk_190 (dk_at dksJ10_add_2_0 2 rfl rfl)
theorem dJ10_add_2_3 : decode cJ10_add_2 3 = .ok (.if_icmp .ne 8, 3) := dk_160 0 8 (dk_at dksJ10_add_2_0 3 rfl rfl)
theorem dJ10_add_2_6 : decode cJ10_add_2 6 = .ok (.aload_n 0, 1) := dk_42 (dk_at dksJ10_add_2_0 6 rfl rfl)
theorem dJ10_add_2_7 : decode cJ10_add_2 7 = .ok (.invokevirtual 129, 3) := dk_182 0 129 (dk_at dksJ10_add_2_0 7 rfl rfl)
theorem dJ10_add_2_10 : decode cJ10_add_2 10 = .ok (.astore_n 2, 1) := dk_77 (dk_at dksJ10_add_2_0 10 rfl rfl)
theorem dJ10_add_2_11 : decode cJ10_add_2 11 = .ok (.aload_n 2, 1) := dk_44 (dk_at dksJ10_add_2_0 11 rfl rfl)
theorem dJ10_add_2_12 : decode cJ10_add_2 12 = .ok (.iload_n 3, 1) := dk_29 (dk_at dksJ10_add_2_0 12 rfl rfl)
theorem dJ10_add_2_13 : decode cJ10_add_2 13 = .ok (.aload_n 1, 1) := dk_43 (dk_at dksJ10_add_2_0 13 rfl rfl)
theorem dJ10_add_2_14 : decode cJ10_add_2 14 = .ok (.aastore, 1) := dk_83 (dk_at dksJ10_add_2_0 14 rfl rfl)
theorem dJ10_add_2_15 : decode cJ10_add_2 15 = .ok (.aload_n 0, 1) := dk_42 (dk_at dksJ10_add_2_0 15 rfl rfl)
theorem dJ10_add_2_16 : decode cJ10_add_2 16 = .ok (.iload_n 3, 1) := dk_29 (dk_at dksJ10_add_2_0 16 rfl rfl)
theorem dJ10_add_2_17 : decode cJ10_add_2 17 = .ok (.iconst 1, 1) := dk_4 (dk_at dksJ10_add_2_0 17 rfl rfl)
theorem dJ10_add_2_18 : decode cJ10_add_2 18 = .ok (.iadd, 1) := dk_96 (dk_at dksJ10_add_2_0 18 rfl rfl)
theorem dJ10_add_2_19 : decode cJ10_add_2 19 = .ok (.putfield 48, 3) := dk_181 0 48 (dk_at dksJ10_add_2_0 19 rfl rfl)
theorem dJ10_add_2_22 : decode cJ10_add_2 22 = .ok (.return_, 1) := dk_177 (dk_at dksJ10_add_2_0 22 rfl rfl)
def dkwJ10_grow_0 : List UInt8 := [42, 42, 180, 0, 48, 4, 96, 182, 0, 69, 176]
abbrev dktJ10_grow_0 : List UInt8 := dkwJ10_grow_0 ++ []
theorem dksJ10_grow_0 : cJ10_grow.data.toList.drop 0 = dktJ10_grow_0 := by decide +kernel
theorem dJ10_grow_0 : decode cJ10_grow 0 = .ok (.aload_n 0, 1) := dk_42 (dk_at dksJ10_grow_0 0 rfl rfl)
theorem dJ10_grow_1 : decode cJ10_grow 1 = .ok (.aload_n 0, 1) := dk_42 (dk_at dksJ10_grow_0 1 rfl rfl)
theorem dJ10_grow_2 : decode cJ10_grow 2 = .ok (.getfield 48, 3) := dk_180 0 48 (dk_at dksJ10_grow_0 2 rfl rfl)
theorem dJ10_grow_5 : decode cJ10_grow 5 = .ok (.iconst 1, 1) := dk_4 (dk_at dksJ10_grow_0 5 rfl rfl)
theorem dJ10_grow_6 : decode cJ10_grow 6 = .ok (.iadd, 1) := dk_96 (dk_at dksJ10_grow_0 6 rfl rfl)
theorem dJ10_grow_7 : decode cJ10_grow 7 = .ok (.invokevirtual 69, 3) := dk_182 0 69 (dk_at dksJ10_grow_0 7 rfl rfl)
theorem dJ10_grow_10 : decode cJ10_grow 10 = .ok (.areturn, 1) := dk_176 (dk_at dksJ10_grow_0 10 rfl rfl)
def dkwJ10_grow_2_2 : List UInt8 := [27, 184, 0, 79, 189, 0, 7, 90, 181, 0, 9, 176]
abbrev dktJ10_grow_2_2 : List UInt8 := dkwJ10_grow_2_2 ++ []
def dkwJ10_grow_2_1 : List UInt8 := [28, 4, 122, 184, 0, 73, 62, 42, 42, 180, 0, 9, 29, 184, 0, 66, 90, 181, 0, 9, 176, 42, 16, 10]
abbrev dktJ10_grow_2_1 : List UInt8 := dkwJ10_grow_2_1 ++ dktJ10_grow_2_2
def dkwJ10_grow_2_0 : List UInt8 := [42, 180, 0, 9, 190, 61, 28, 157, 0, 13, 42, 180, 0, 9, 178, 0, 39, 165, 0, 28, 28, 27, 28, 100]
abbrev dktJ10_grow_2_0 : List UInt8 := dkwJ10_grow_2_0 ++ dktJ10_grow_2_1
theorem dksJ10_grow_2_0 : cJ10_grow_2.data.toList.drop 0 = dktJ10_grow_2_0 := by decide +kernel
theorem dksJ10_grow_2_1 : cJ10_grow_2.data.toList.drop 24 = dktJ10_grow_2_1 := dk_seg dksJ10_grow_2_0 24 rfl rfl
theorem dksJ10_grow_2_2 : cJ10_grow_2.data.toList.drop 48 = dktJ10_grow_2_2 := dk_seg dksJ10_grow_2_1 24 rfl rfl
theorem dJ10_grow_2_0 : decode cJ10_grow_2 0 = .ok (.aload_n 0, 1) := dk_42 (dk_at dksJ10_grow_2_0 0 rfl rfl)
theorem dJ10_grow_2_1 : decode cJ10_grow_2 1 = .ok (.getfield 9, 3) := dk_180 0 9 (dk_at dksJ10_grow_2_0 1 rfl rfl)
theorem dJ10_grow_2_4 : decode cJ10_grow_2 4 = .ok (.arraylength, 1) := dk_190 (dk_at dksJ10_grow_2_0 4 rfl rfl)
theorem dJ10_grow_2_5 : decode cJ10_grow_2 5 = .ok (.istore_n 2, 1) := dk_61 (dk_at dksJ10_grow_2_0 5 rfl rfl)
theorem dJ10_grow_2_6 : decode cJ10_grow_2 6 = .ok (.iload_n 2, 1) := dk_28 (dk_at dksJ10_grow_2_0 6 rfl rfl)
theorem dJ10_grow_2_7 : decode cJ10_grow_2 7 = .ok (.ifCond .gt 13, 3) := dk_157 0 13 (dk_at dksJ10_grow_2_0 7 rfl rfl)
theorem dJ10_grow_2_10 : decode cJ10_grow_2 10 = .ok (.aload_n 0, 1) := dk_42 (dk_at dksJ10_grow_2_0 10 rfl rfl)
theorem dJ10_grow_2_11 : decode cJ10_grow_2 11 = .ok (.getfield 9, 3) := dk_180 0 9 (dk_at dksJ10_grow_2_0 11 rfl rfl)
theorem dJ10_grow_2_14 : decode cJ10_grow_2 14 = .ok (.getstatic 39, 3) := dk_178 0 39 (dk_at dksJ10_grow_2_0 14 rfl rfl)
theorem dJ10_grow_2_17 : decode cJ10_grow_2 17 = .ok (.if_acmp .eq 28, 3) := dk_165 0 28 (dk_at dksJ10_grow_2_0 17 rfl rfl)
theorem dJ10_grow_2_20 : decode cJ10_grow_2 20 = .ok (.iload_n 2, 1) := dk_28 (dk_at dksJ10_grow_2_0 20 rfl rfl)
theorem dJ10_grow_2_21 : decode cJ10_grow_2 21 = .ok (.iload_n 1, 1) := dk_27 (dk_at dksJ10_grow_2_0 21 rfl rfl)
theorem dJ10_grow_2_22 : decode cJ10_grow_2 22 = .ok (.iload_n 2, 1) := dk_28 (dk_at dksJ10_grow_2_0 22 rfl rfl)
theorem dJ10_grow_2_23 : decode cJ10_grow_2 23 = .ok (.isub, 1) := dk_100 (dk_at dksJ10_grow_2_0 23 rfl rfl)
theorem dJ10_grow_2_24 : decode cJ10_grow_2 24 = .ok (.iload_n 2, 1) := dk_28 (dk_at dksJ10_grow_2_1 0 rfl rfl)
theorem dJ10_grow_2_25 : decode cJ10_grow_2 25 = .ok (.iconst 1, 1) := dk_4 (dk_at dksJ10_grow_2_1 1 rfl rfl)
theorem dJ10_grow_2_26 : decode cJ10_grow_2 26 = .ok (.ishr, 1) := dk_122 (dk_at dksJ10_grow_2_1 2 rfl rfl)
theorem dJ10_grow_2_27 : decode cJ10_grow_2 27 = .ok (.invokestatic 73, 3) := dk_184 0 73 (dk_at dksJ10_grow_2_1 3 rfl rfl)
theorem dJ10_grow_2_30 : decode cJ10_grow_2 30 = .ok (.istore_n 3, 1) := dk_62 (dk_at dksJ10_grow_2_1 6 rfl rfl)
theorem dJ10_grow_2_31 : decode cJ10_grow_2 31 = .ok (.aload_n 0, 1) := dk_42 (dk_at dksJ10_grow_2_1 7 rfl rfl)
theorem dJ10_grow_2_32 : decode cJ10_grow_2 32 = .ok (.aload_n 0, 1) := dk_42 (dk_at dksJ10_grow_2_1 8 rfl rfl)
theorem dJ10_grow_2_33 : decode cJ10_grow_2 33 = .ok (.getfield 9, 3) := dk_180 0 9 (dk_at dksJ10_grow_2_1 9 rfl rfl)
theorem dJ10_grow_2_36 : decode cJ10_grow_2 36 = .ok (.iload_n 3, 1) := dk_29 (dk_at dksJ10_grow_2_1 12 rfl rfl)
theorem dJ10_grow_2_37 : decode cJ10_grow_2 37 = .ok (.invokestatic 66, 3) := dk_184 0 66 (dk_at dksJ10_grow_2_1 13 rfl rfl)
theorem dJ10_grow_2_40 : decode cJ10_grow_2 40 = .ok (.dup_x1, 1) := dk_90 (dk_at dksJ10_grow_2_1 16 rfl rfl)
theorem dJ10_grow_2_41 : decode cJ10_grow_2 41 = .ok (.putfield 9, 3) := dk_181 0 9 (dk_at dksJ10_grow_2_1 17 rfl rfl)
theorem dJ10_grow_2_44 : decode cJ10_grow_2 44 = .ok (.areturn, 1) := dk_176 (dk_at dksJ10_grow_2_1 20 rfl rfl)
theorem dJ10_grow_2_45 : decode cJ10_grow_2 45 = .ok (.aload_n 0, 1) := dk_42 (dk_at dksJ10_grow_2_1 21 rfl rfl)
theorem dJ10_grow_2_46 : decode cJ10_grow_2 46 = .ok (.bipush 10, 2) := dk_16 10 (dk_at dksJ10_grow_2_1 22 rfl rfl)
theorem dJ10_grow_2_48 : decode cJ10_grow_2 48 = .ok (.iload_n 1, 1) := dk_27 (dk_at dksJ10_grow_2_2 0 rfl rfl)
theorem dJ10_grow_2_49 : decode cJ10_grow_2 49 = .ok (.invokestatic 79, 3) := dk_184 0 79 (dk_at dksJ10_grow_2_2 1 rfl rfl)
theorem dJ10_grow_2_52 : decode cJ10_grow_2 52 = .ok (.anewarray 7, 3) := dk_189 0 7 (dk_at dksJ10_grow_2_2 4 rfl rfl)
theorem dJ10_grow_2_55 : decode cJ10_grow_2 55 = .ok (.dup_x1, 1) := dk_90 (dk_at dksJ10_grow_2_2 7 rfl rfl)
theorem dJ10_grow_2_56 : decode cJ10_grow_2 56 = .ok (.putfield 9, 3) := dk_181 0 9 (dk_at dksJ10_grow_2_2 8 rfl rfl)
theorem dJ10_grow_2_59 : decode cJ10_grow_2 59 = .ok (.areturn, 1) := dk_176 (dk_at dksJ10_grow_2_2 11 rfl rfl)
def dkwJ10_iterator_0 : List UInt8 := [187, 1, 11, 89, 42, 183, 1, 13, 176]
abbrev dktJ10_iterator_0 : List UInt8 := dkwJ10_iterator_0 ++ []
theorem dksJ10_iterator_0 : cJ10_iterator.data.toList.drop 0 = dktJ10_iterator_0 := by decide +kernel
theorem dJ10_iterator_0 : decode cJ10_iterator 0 = .ok (.new 267, 3) := dk_187 1 11 (dk_at dksJ10_iterator_0 0 rfl rfl)
theorem dJ10_iterator_3 : decode cJ10_iterator 3 = .ok (.dup, 1) := dk_89 (dk_at dksJ10_iterator_0 3 rfl rfl)
theorem dJ10_iterator_4 : decode cJ10_iterator 4 = .ok (.aload_n 0, 1) := dk_42 (dk_at dksJ10_iterator_0 4 rfl rfl)
theorem dJ10_iterator_5 : decode cJ10_iterator 5 = .ok (.invokespecial 269, 3) := dk_183 1 13 (dk_at dksJ10_iterator_0 5 rfl rfl)
theorem dJ10_iterator_8 : decode cJ10_iterator 8 = .ok (.areturn, 1) := dk_176 (dk_at dksJ10_iterator_0 8 rfl rfl)
theorem dJ10_size_0 : decode cJ10_size 0 = .ok (.aload_n 0, 1) := by decide +kernel
theorem dJ10_size_1 : decode cJ10_size 1 = .ok (.getfield 48, 3) := by decide +kernel
theorem dJ10_size_4 : decode cJ10_size 4 = .ok (.ireturn, 1) := by decide +kernel
def dkwJ10_remove_1 : List UInt8 := [45, 176]
abbrev dktJ10_remove_1 : List UInt8 := dkwJ10_remove_1 ++ []
def dkwJ10_remove_0 : List UInt8 := [27, 42, 180, 0, 48, 184, 0, 118, 87, 42, 180, 0, 9, 77, 44, 27, 50, 78, 42, 44, 27, 182, 0, 144]
abbrev dktJ10_remove_0 : List UInt8 := dkwJ10_remove_0 ++ dktJ10_remove_1
theorem dksJ10_remove_0 : cJ10_remove.data.toList.drop 0 = dktJ10_remove_0 := by decide +kernel
theorem dksJ10_remove_1 : cJ10_remove.data.toList.drop 24 = dktJ10_remove_1 := dk_seg dksJ10_remove_0 24 rfl rfl
theorem dJ10_remove_0 : decode cJ10_remove 0 = .ok (.iload_n 1, 1) := dk_27 (dk_at dksJ10_remove_0 0 rfl rfl)
theorem dJ10_remove_1 : decode cJ10_remove 1 = .ok (.aload_n 0, 1) := dk_42 (dk_at dksJ10_remove_0 1 rfl rfl)
theorem dJ10_remove_2 : decode cJ10_remove 2 = .ok (.getfield 48, 3) := dk_180 0 48 (dk_at dksJ10_remove_0 2 rfl rfl)
theorem dJ10_remove_5 : decode cJ10_remove 5 = .ok (.invokestatic 118, 3) := dk_184 0 118 (dk_at dksJ10_remove_0 5 rfl rfl)
theorem dJ10_remove_8 : decode cJ10_remove 8 = .ok (.pop, 1) := dk_87 (dk_at dksJ10_remove_0 8 rfl rfl)
theorem dJ10_remove_9 : decode cJ10_remove 9 = .ok (.aload_n 0, 1) := dk_42 (dk_at dksJ10_remove_0 9 rfl rfl)
theorem dJ10_remove_10 : decode cJ10_remove 10 = .ok (.getfield 9, 3) := dk_180 0 9 (dk_at dksJ10_remove_0 10 rfl rfl)
theorem dJ10_remove_13 : decode cJ10_remove 13 = .ok (.astore_n 2, 1) := dk_77 (dk_at dksJ10_remove_0 13 rfl rfl)
theorem dJ10_remove_14 : decode cJ10_remove 14 = .ok (.aload_n 2, 1) := dk_44 (dk_at dksJ10_remove_0 14 rfl rfl)
theorem dJ10_remove_15 : decode cJ10_remove 15 = .ok (.iload_n 1, 1) := dk_27 (dk_at dksJ10_remove_0 15 rfl rfl)
theorem dJ10_remove_16 : decode cJ10_remove 16 = .ok (.aaload, 1) := dk_50 (dk_at dksJ10_remove_0 16 rfl rfl)
theorem dJ10_remove_17 : decode cJ10_remove 17 = .ok (.astore_n 3, 1) := dk_78 (dk_at dksJ10_remove_0 17 rfl rfl)
theorem dJ10_remove_18 : decode cJ10_remove 18 = .ok (.aload_n 0, 1) := dk_42 (dk_at dksJ10_remove_0 18 rfl rfl)
theorem dJ10_remove_19 : decode cJ10_remove 19 = .ok (.aload_n 2, 1) := dk_44 (dk_at dksJ10_remove_0 19 rfl rfl)
theorem dJ10_remove_20 : decode cJ10_remove 20 = .ok (.iload_n 1, 1) := dk_27 (dk_at dksJ10_remove_0 20 rfl rfl)
theorem dJ10_remove_21 : decode cJ10_remove 21 = .ok (.invokevirtual 144, 3) := dk_182 0 144 (dk_at dksJ10_remove_0 21 rfl rfl)
theorem dJ10_remove_24 : decode cJ10_remove 24 = .ok (.aload_n 3, 1) := dk_45 (dk_at dksJ10_remove_1 0 rfl rfl)
theorem dJ10_remove_25 : decode cJ10_remove 25 = .ok (.areturn, 1) := dk_176 (dk_at dksJ10_remove_1 1 rfl rfl)
def dkwJ10_fastRemove_1 : List UInt8 := [4, 96, 43, 28, 29, 28, 100, 184, 0, 112, 43, 42, 29, 90, 181, 0, 48, 1, 83, 177]
abbrev dktJ10_fastRemove_1 : List UInt8 := dkwJ10_fastRemove_1 ++ []
def dkwJ10_fastRemove_0 : List UInt8 := [42, 89, 180, 0, 63, 4, 96, 181, 0, 63, 42, 180, 0, 48, 4, 100, 89, 62, 28, 164, 0, 15, 43, 28]
abbrev dktJ10_fastRemove_0 : List UInt8 := dkwJ10_fastRemove_0 ++ dktJ10_fastRemove_1
theorem dksJ10_fastRemove_0 : cJ10_fastRemove.data.toList.drop 0 = dktJ10_fastRemove_0 := by decide +kernel
theorem dksJ10_fastRemove_1 : cJ10_fastRemove.data.toList.drop 24 = dktJ10_fastRemove_1 := dk_seg dksJ10_fastRemove_0 24 rfl rfl
theorem dJ10_fastRemove_0 : decode cJ10_fastRemove 0 = .ok (.aload_n 0, 1) := dk_42 (dk_at dksJ10_fastRemove_0 0 rfl rfl)
theorem dJ10_fastRemove_1 : decode cJ10_fastRemove 1 = .ok (.dup, 1) := dk_89 (dk_at dksJ10_fastRemove_0 1 rfl rfl)
theorem dJ10_fastRemove_2 : decode cJ10_fastRemove 2 = .ok (.getfield 63, 3) := dk_180 0 63 (dk_at dksJ10_fastRemove_0 2 rfl rfl)
theorem dJ10_fastRemove_5 : decode cJ10_fastRemove 5 = .ok (.iconst 1, 1) := dk_4 (dk_at dksJ10_fastRemove_0 5 rfl rfl)
theorem dJ10_fastRemove_6 : decode cJ10_fastRemove 6 = .ok (.iadd, 1) := dk_96 (dk_at dksJ10_fastRemove_0 6 rfl rfl)
theorem dJ10_fastRemove_7 : decode cJ10_fastRemove 7 = .ok (.putfield 63, 3) := dk_181 0 63 (dk_at dksJ10_fastRemove_0 7 rfl rfl)
theorem dJ10_fastRemove_10 : decode cJ10_fastRemove 10 = .ok (.aload_n 0, 1) := dk_42 (dk_at dksJ10_fastRemove_0 10 rfl rfl)
theorem dJ10_fastRemove_11 : decode cJ10_fastRemove 11 = .ok (.getfield 48, 3) := dk_180 0 48 (dk_at dksJ10_fastRemove_0 11 rfl rfl)
theorem dJ10_fastRemove_14 : decode cJ10_fastRemove 14 = .ok (.iconst 1, 1) := dk_4 (dk_at dksJ10_fastRemove_0 14 rfl rfl)
theorem dJ10_fastRemove_15 : decode cJ10_fastRemove 15 = .ok (.isub, 1) := dk_100 (dk_at dksJ10_fastRemove_0 15 rfl rfl)
theorem dJ10_fastRemove_16 : decode cJ10_fastRemove 16 = .ok (.dup, 1) := dk_89 (dk_at dksJ10_fastRemove_0 16 rfl rfl)
theorem dJ10_fastRemove_17 : decode cJ10_fastRemove 17 = .ok (.istore_n 3, 1) := dk_62 (dk_at dksJ10_fastRemove_0 17 rfl rfl)
theorem dJ10_fastRemove_18 : decode cJ10_fastRemove 18 = .ok (.iload_n 2, 1) := dk_28 (dk_at dksJ10_fastRemove_0 18 rfl rfl)
theorem dJ10_fastRemove_19 : decode cJ10_fastRemove 19 = .ok (.if_icmp .le 15, 3) := dk_164 0 15 (dk_at dksJ10_fastRemove_0 19 rfl rfl)
theorem dJ10_fastRemove_22 : decode cJ10_fastRemove 22 = .ok (.aload_n 1, 1) := dk_43 (dk_at dksJ10_fastRemove_0 22 rfl rfl)
theorem dJ10_fastRemove_23 : decode cJ10_fastRemove 23 = .ok (.iload_n 2, 1) := dk_28 (dk_at dksJ10_fastRemove_0 23 rfl rfl)
theorem dJ10_fastRemove_24 : decode cJ10_fastRemove 24 = .ok (.iconst 1, 1) := dk_4 (dk_at dksJ10_fastRemove_1 0 rfl rfl)
theorem dJ10_fastRemove_25 : decode cJ10_fastRemove 25 = .ok (.iadd, 1) := dk_96 (dk_at dksJ10_fastRemove_1 1 rfl rfl)
theorem dJ10_fastRemove_26 : decode cJ10_fastRemove 26 = .ok (.aload_n 1, 1) := dk_43 (dk_at dksJ10_fastRemove_1 2 rfl rfl)
theorem dJ10_fastRemove_27 : decode cJ10_fastRemove 27 = .ok (.iload_n 2, 1) := dk_28 (dk_at dksJ10_fastRemove_1 3 rfl rfl)
theorem dJ10_fastRemove_28 : decode cJ10_fastRemove 28 = .ok (.iload_n 3, 1) := dk_29 (dk_at dksJ10_fastRemove_1 4 rfl rfl)
theorem dJ10_fastRemove_29 : decode cJ10_fastRemove 29 = .ok (.iload_n 2, 1) := dk_28 (dk_at dksJ10_fastRemove_1 5 rfl rfl)
theorem dJ10_fastRemove_30 : decode cJ10_fastRemove 30 = .ok (.isub, 1) := dk_100 (dk_at dksJ10_fastRemove_1 6 rfl rfl)
theorem dJ10_fastRemove_31 : decode cJ10_fastRemove 31 = .ok (.invokestatic 112, 3) := dk_184 0 112 (dk_at dksJ10_fastRemove_1 7 rfl rfl)
theorem dJ10_fastRemove_34 : decode cJ10_fastRemove 34 = .ok (.aload_n 1, 1) := dk_43 (dk_at dksJ10_fastRemove_1 10 rfl rfl)
theorem dJ10_fastRemove_35 : decode cJ10_fastRemove 35 = .ok (.aload_n 0, 1) := dk_42 (dk_at dksJ10_fastRemove_1 11 rfl rfl)
theorem dJ10_fastRemove_36 : decode cJ10_fastRemove 36 = .ok (.iload_n 3, 1) := dk_29 (dk_at dksJ10_fastRemove_1 12 rfl rfl)
theorem dJ10_fastRemove_37 : decode cJ10_fastRemove 37 = .ok (.dup_x1, 1) := dk_90 (dk_at dksJ10_fastRemove_1 13 rfl rfl)
theorem dJ10_fastRemove_38 : decode cJ10_fastRemove 38 = .ok (.putfield 48, 3) := dk_181 0 48 (dk_at dksJ10_fastRemove_1 14 rfl rfl)
theorem dJ10_fastRemove_41 : decode cJ10_fastRemove 41 = .ok (.aconst_null, 1) := dk_1 (dk_at dksJ10_fastRemove_1 17 rfl rfl)
theorem dJ10_fastRemove_42 : decode cJ10_fastRemove 42 = .ok (.aastore, 1) := dk_83 (dk_at dksJ10_fastRemove_1 18 rfl rfl)
theorem dJ10_fastRemove_43 : decode cJ10_fastRemove 43 = .ok (.return_, 1) := dk_177 (dk_at dksJ10_fastRemove_1 19 rfl rfl)
def dkwJ10_isEmpty_0 : List UInt8 := [42, 180, 0, 48, 154, 0, 7, 4, 167, 0, 4, 3, 172]
abbrev dktJ10_isEmpty_0 : List UInt8 := dkwJ10_isEmpty_0 ++ []
theorem dksJ10_isEmpty_0 : cJ10_isEmpty.data.toList.drop 0 = dktJ10_isEmpty_0 := by decide +kernel
theorem dJ10_isEmpty_0 : decode cJ10_isEmpty 0 = .ok (.aload_n 0, 1) := dk_42 (dk_at dksJ10_isEmpty_0 0 rfl rfl)
theorem dJ10_isEmpty_1 : decode cJ10_isEmpty 1 = .ok (.getfield 48, 3) := dk_180 0 48 (dk_at dksJ10_isEmpty_0 1 rfl rfl)
theorem dJ10_isEmpty_4 : decode cJ10_isEmpty 4 = .ok (.ifCond .ne 7, 3) := dk_154 0 7 (dk_at dksJ10_isEmpty_0 4 rfl rfl)
theorem dJ10_isEmpty_7 : decode cJ10_isEmpty 7 = .ok (.iconst 1, 1) := dk_4 (dk_at dksJ10_isEmpty_0 7 rfl rfl)
theorem dJ10_isEmpty_8 : decode cJ10_isEmpty 8 = .ok (.goto 4, 3) := dk_167 0 4 (dk_at dksJ10_isEmpty_0 8 rfl rfl)
theorem dJ10_isEmpty_11 : decode cJ10_isEmpty 11 = .ok (.iconst 0, 1) := dk_3 (dk_at dksJ10_isEmpty_0 11 rfl rfl)
theorem dJ10_isEmpty_12 : decode cJ10_isEmpty 12 = .ok (.ireturn, 1) := dk_172 (dk_at dksJ10_isEmpty_0 12 rfl rfl)
def dkwJ11_init_1 : List UInt8 := [167, 0, 16, 42, 27, 184, 0, 26, 181, 0, 15, 42, 4, 181, 0, 22, 177]
abbrev dktJ11_init_1 : List UInt8 := dkwJ11_init_1 ++ []
def dkwJ11_init_0 : List UInt8 := [42, 183, 0, 3, 178, 0, 18, 153, 0, 18, 42, 27, 188, 8, 181, 0, 15, 42, 3, 181, 0, 22]
abbrev dktJ11_init_0 : List UInt8 := dkwJ11_init_0 ++ dktJ11_init_1
theorem dksJ11_init_0 : cJ11_init.data.toList.drop 0 = dktJ11_init_0 := by decide +kernel
theorem dksJ11_init_1 : cJ11_init.data.toList.drop 22 = dktJ11_init_1 := dk_seg dksJ11_init_0 22 rfl rfl
theorem dJ11_init_0 : decode cJ11_init 0 = .ok (.aload_n 0, 1) := dk_42 (dk_at dksJ11_init_0 0 rfl rfl)
theorem dJ11_init_1 : decode cJ11_init 1 = .ok (.invokespecial 3, 3) := dk_183 0 3 (dk_at dksJ11_init_0 1 rfl rfl)
theorem dJ11_init_4 : decode cJ11_init 4 = .ok (.getstatic 18, 3) := dk_178 0 18 (dk_at dksJ11_init_0 4 rfl rfl)
theorem dJ11_init_7 : decode cJ11_init 7 = .ok (.ifCond .eq 18, 3) := dk_153 0 18 (dk_at dksJ11_init_0 7 rfl rfl)
theorem dJ11_init_10 : decode cJ11_init 10 = .ok (.aload_n 0, 1) := dk_42 (dk_at dksJ11_init_0 10 rfl rfl)
theorem dJ11_init_11 : decode cJ11_init 11 = .ok (.iload_n 1, 1) := dk_27 (dk_at dksJ11_init_0 11 rfl rfl)
theorem dJ11_init_12 : decode cJ11_init 12 = .ok (.newarray .byte, 2) := dk_188_8 (dk_at dksJ11_init_0 12 rfl rfl)
theorem dJ11_init_14 : decode cJ11_init 14 = .ok (.putfield 15, 3) := dk_181 0 15 (dk_at dksJ11_init_0 14 rfl rfl)
theorem dJ11_init_17 : decode cJ11_init 17 = .ok (.aload_n 0, 1) := dk_42 (dk_at dksJ11_init_0 17 rfl rfl)
theorem dJ11_init_18 : decode cJ11_init 18 = .ok (.iconst 0, 1) := dk_3 (dk_at dksJ11_init_0 18 rfl rfl)
theorem dJ11_init_19 : decode cJ11_init 19 = .ok (.putfield 22, 3) := dk_181 0 22 (dk_at dksJ11_init_0 19 rfl rfl)
theorem dJ11_init_22 : decode cJ11_init 22 = .ok (.goto 16, 3) := dk_167 0 16 (dk_at dksJ11_init_1 0 rfl rfl)
theorem dJ11_init_25 : decode cJ11_init 25 = .ok (.aload_n 0, 1) := dk_42 (dk_at dksJ11_init_1 3 rfl rfl)
theorem dJ11_init_26 : decode cJ11_init 26 = .ok (.iload_n 1, 1) := dk_27 (dk_at dksJ11_init_1 4 rfl rfl)
theorem dJ11_init_27 : decode cJ11_init 27 = .ok (.invokestatic 26, 3) := dk_184 0 26 (dk_at dksJ11_init_1 5 rfl rfl)
theorem dJ11_init_30 : decode cJ11_init 30 = .ok (.putfield 15, 3) := dk_181 0 15 (dk_at dksJ11_init_1 8 rfl rfl)
theorem dJ11_init_33 : decode cJ11_init 33 = .ok (.aload_n 0, 1) := dk_42 (dk_at dksJ11_init_1 11 rfl rfl)
theorem dJ11_init_34 : decode cJ11_init 34 = .ok (.iconst 1, 1) := dk_4 (dk_at dksJ11_init_1 12 rfl rfl)
theorem dJ11_init_35 : decode cJ11_init 35 = .ok (.putfield 22, 3) := dk_181 0 22 (dk_at dksJ11_init_1 13 rfl rfl)
theorem dJ11_init_38 : decode cJ11_init 38 = .ok (.return_, 1) := dk_177 (dk_at dksJ11_init_1 16 rfl rfl)
theorem dJ11_length_0 : decode cJ11_length 0 = .ok (.aload_n 0, 1) := by decide +kernel
theorem dJ11_length_1 : decode cJ11_length 1 = .ok (.getfield 79, 3) := by decide +kernel
theorem dJ11_length_4 : decode cJ11_length 4 = .ok (.ireturn, 1) := by decide +kernel
def dkwJ11_setLength_3 : List UInt8 := [164, 0, 8, 42, 4, 181, 0, 73, 42, 27, 181, 0, 79, 177]
abbrev dktJ11_setLength_3 : List UInt8 := dkwJ11_setLength_3 ++ []
def dkwJ11_setLength_2 : List UInt8 := [167, 0, 31, 42, 180, 0, 15, 42, 180, 0, 79, 27, 184, 0, 137, 167, 0, 16, 42, 180, 0, 79, 27]
abbrev dktJ11_setLength_2 : List UInt8 := dkwJ11_setLength_2 ++ dktJ11_setLength_3
def dkwJ11_setLength_1 : List UInt8 := [162, 0, 40, 42, 182, 0, 83, 153, 0, 18, 42, 180, 0, 15, 42, 180, 0, 79, 27, 184, 0, 133]
abbrev dktJ11_setLength_1 : List UInt8 := dkwJ11_setLength_1 ++ dktJ11_setLength_2
def dkwJ11_setLength_0 : List UInt8 := [27, 156, 0, 12, 187, 0, 129, 89, 27, 183, 0, 131, 191, 42, 27, 182, 0, 100, 42, 180, 0, 79, 27]
abbrev dktJ11_setLength_0 : List UInt8 := dkwJ11_setLength_0 ++ dktJ11_setLength_1
theorem dksJ11_setLength_0 : cJ11_setLength.data.toList.drop 0 = dktJ11_setLength_0 := by decide +kernel
theorem dksJ11_setLength_1 : cJ11_setLength.data.toList.drop 23 = dktJ11_setLength_1 := dk_seg dksJ11_setLength_0 23 rfl rfl
theorem dksJ11_setLength_2 : cJ11_setLength.data.toList.drop 45 = dktJ11_setLength_2 := dk_seg dksJ11_setLength_1 22 rfl rfl
theorem dksJ11_setLength_3 : cJ11_setLength.data.toList.drop 68 = dktJ11_setLength_3 := dk_seg dksJ11_setLength_2 23 rfl rfl
theorem dJ11_setLength_0 : decode cJ11_setLength 0 = .ok (.iload_n 1, 1) := dk_27 (dk_at dksJ11_setLength_0 0 rfl rfl)
theorem dJ11_setLength_1 : decode cJ11_setLength 1 = .ok (.ifCond .ge 12, 3) := dk_156 0 12 (dk_at dksJ11_setLength_0 1 rfl rfl)
theorem dJ11_setLength_4 : decode cJ11_setLength 4 = .ok (.new 129, 3) := dk_187 0 129 (dk_at dksJ11_setLength_0 4 rfl rfl)
theorem dJ11_setLength_7 : decode cJ11_setLength 7 = .ok (.dup, 1) := dk_89 (dk_at dksJ11_setLength_0 7 rfl rfl)
theorem dJ11_setLength_8 : decode cJ11_setLength 8 = .ok (.iload_n 1, 1) := dk_27 (dk_at dksJ11_setLength_0 8 rfl rfl)
theorem dJ11_setLength_9 : decode cJ11_setLength 9 = .ok (.invokespecial 131, 3) := dk_183 0 131 (dk_at dksJ11_setLength_0 9 rfl rfl)
theorem dJ11_setLength_12 : decode cJ11_setLength 12 = .ok (.athrow, 1) := dk_191 (dk_at dksJ11_setLength_0 12 rfl rfl)
theorem dJ11_setLength_13 : decode cJ11_setLength 13 = .ok (.aload_n 0, 1) := dk_42 (dk_at dksJ11_setLength_0 13 rfl rfl)
theorem dJ11_setLength_14 : decode cJ11_setLength 14 = .ok (.iload_n 1, 1) := dk_27 (dk_at dksJ11_setLength_0 14 rfl rfl)
theorem dJ11_setLength_15 : decode cJ11_setLength 15 = .ok (.invokevirtual 100, 3) := dk_182 0 100 (dk_at dksJ11_setLength_0 15 rfl rfl)
theorem dJ11_setLength_18 : decode cJ11_setLength 18 = .ok (.aload_n 0, 1) := dk_42 (dk_at dksJ11_setLength_0 18 rfl rfl)
theorem dJ11_setLength_19 : decode cJ11_setLength 19 = .ok (.getfield 79, 3) := dk_180 0 79 (dk_at dksJ11_setLength_0 19 rfl rfl)
theorem dJ11_setLength_22 : decode cJ11_setLength 22 = .ok (.iload_n 1, 1) := dk_27 (dk_at dksJ11_setLength_0 22 rfl rfl)
theorem dJ11_setLength_23 : decode cJ11_setLength 23 = .ok (.if_icmp .ge 40, 3) := dk_162 0 40 (dk_at dksJ11_setLength_1 0 rfl rfl)
theorem dJ11_setLength_26 : decode cJ11_setLength 26 = .ok (.aload_n 0, 1) := dk_42 (dk_at dksJ11_setLength_1 3 rfl rfl)
theorem dJ11_setLength_27 : decode cJ11_setLength 27 = .ok (.invokevirtual 83, 3) := dk_182 0 83 (dk_at dksJ11_setLength_1 4 rfl rfl)
theorem dJ11_setLength_30 : decode cJ11_setLength 30 = .ok (.ifCond .eq 18, 3) := dk_153 0 18 (dk_at dksJ11_setLength_1 7 rfl rfl)
theorem dJ11_setLength_33 : decode cJ11_setLength 33 = .ok (.aload_n 0, 1) := dk_42 (dk_at dksJ11_setLength_1 10 rfl rfl)
theorem dJ11_setLength_34 : decode cJ11_setLength 34 = .ok (.getfield 15, 3) := dk_180 0 15 (dk_at dksJ11_setLength_1 11 rfl rfl)
theorem dJ11_setLength_37 : decode cJ11_setLength 37 = .ok (.aload_n 0, 1) := dk_42 (dk_at dksJ11_setLength_1 14 rfl rfl)
theorem dJ11_setLength_38 : decode cJ11_setLength 38 = .ok (.getfield 79, 3) := dk_180 0 79 (dk_at dksJ11_setLength_1 15 rfl rfl)
theorem dJ11_setLength_41 : decode cJ11_setLength 41 = .ok (.iload_n 1, 1) := dk_27 (dk_at dksJ11_setLength_1 18 rfl rfl)
theorem dJ11_setLength_42 : decode cJ11_setLength 42 = .ok (.invokestatic 133, 3) := dk_184 0 133 (dk_at dksJ11_setLength_1 19 rfl rfl)
theorem dJ11_setLength_45 : decode cJ11_setLength 45 = .ok (.goto 31, 3) := dk_167 0 31 (dk_at dksJ11_setLength_2 0 rfl rfl)
theorem dJ11_setLength_48 : decode cJ11_setLength 48 = .ok (.aload_n 0, 1) := dk_42 (dk_at dksJ11_setLength_2 3 rfl rfl)
theorem dJ11_setLength_49 : decode cJ11_setLength 49 = .ok (.getfield 15, 3) := dk_180 0 15 (dk_at dksJ11_setLength_2 4 rfl rfl)
theorem dJ11_setLength_52 : decode cJ11_setLength 52 = .ok (.aload_n 0, 1) := dk_42 (dk_at dksJ11_setLength_2 7 rfl rfl)
theorem dJ11_setLength_53 : decode cJ11_setLength 53 = .ok (.getfield 79, 3) := dk_180 0 79 (dk_at dksJ11_setLength_2 8 rfl rfl)
theorem dJ11_setLength_56 : decode cJ11_setLength 56 = .ok (.iload_n 1, 1) := dk_27 (dk_at dksJ11_setLength_2 11 rfl rfl)
theorem dJ11_setLength_57 : decode cJ11_setLength 57 = .ok (.invokestatic 137, 3) := dk_184 0 137 (dk_at dksJ11_setLength_2 12 rfl rfl)
theorem dJ11_setLength_60 : decode cJ11_setLength 60 = .ok (.goto 16, 3) := dk_167 0 16 (dk_at dksJ11_setLength_2 15 rfl rfl)
theorem dJ11_setLength_63 : decode cJ11_setLength 63 = .ok (.aload_n 0, 1) := dk_42 (dk_at dksJ11_setLength_2 18 rfl rfl)
theorem dJ11_setLength_64 : decode cJ11_setLength 64 = .ok (.getfield 79, 3) := dk_180 0 79 (dk_at dksJ11_setLength_2 19 rfl rfl)
theorem dJ11_setLength_67 : decode cJ11_setLength 67 = .ok (.iload_n 1, 1) := dk_27 (dk_at dksJ11_setLength_2 22 rfl rfl)
theorem dJ11_setLength_68 : decode cJ11_setLength 68 = .ok (.if_icmp .le 8, 3) := dk_164 0 8 (dk_at dksJ11_setLength_3 0 rfl rfl)
theorem dJ11_setLength_71 : decode cJ11_setLength 71 = .ok (.aload_n 0, 1) := dk_42 (dk_at dksJ11_setLength_3 3 rfl rfl)
theorem dJ11_setLength_72 : decode cJ11_setLength 72 = .ok (.iconst 1, 1) := dk_4 (dk_at dksJ11_setLength_3 4 rfl rfl)
theorem dJ11_setLength_73 : decode cJ11_setLength 73 = .ok (.putfield 73, 3) := dk_181 0 73 (dk_at dksJ11_setLength_3 5 rfl rfl)
theorem dJ11_setLength_76 : decode cJ11_setLength 76 = .ok (.aload_n 0, 1) := dk_42 (dk_at dksJ11_setLength_3 8 rfl rfl)
theorem dJ11_setLength_77 : decode cJ11_setLength 77 = .ok (.iload_n 1, 1) := dk_27 (dk_at dksJ11_setLength_3 9 rfl rfl)
theorem dJ11_setLength_78 : decode cJ11_setLength 78 = .ok (.putfield 79, 3) := dk_181 0 79 (dk_at dksJ11_setLength_3 10 rfl rfl)
theorem dJ11_setLength_81 : decode cJ11_setLength 81 = .ok (.return_, 1) := dk_177 (dk_at dksJ11_setLength_3 13 rfl rfl)
def dkwJ11_append_1 : List UInt8 := [42, 42, 180, 0, 79, 43, 182, 0, 208, 42, 89, 180, 0, 79, 28, 96, 181, 0, 79, 42, 176]
abbrev dktJ11_append_1 : List UInt8 := dkwJ11_append_1 ++ []
def dkwJ11_append_0 : List UInt8 := [43, 199, 0, 8, 42, 182, 0, 204, 176, 43, 182, 0, 32, 61, 42, 42, 180, 0, 79, 28, 96, 182, 0, 100]
abbrev dktJ11_append_0 : List UInt8 := dkwJ11_append_0 ++ dktJ11_append_1
theorem dksJ11_append_0 : cJ11_append.data.toList.drop 0 = dktJ11_append_0 := by decide +kernel
theorem dksJ11_append_1 : cJ11_append.data.toList.drop 24 = dktJ11_append_1 := dk_seg dksJ11_append_0 24 rfl rfl
theorem dJ11_append_0 : decode cJ11_append 0 = .ok (.aload_n 1, 1) := dk_43 (dk_at dksJ11_append_0 0 rfl rfl)
theorem dJ11_append_1 : decode cJ11_append 1 = .ok (.ifnonnull 8, 3) := dk_199 0 8 (dk_at dksJ11_append_0 1 rfl rfl)
theorem dJ11_append_4 : decode cJ11_append 4 = .ok (.aload_n 0, 1) := dk_42 (dk_at dksJ11_append_0 4 rfl rfl)
theorem dJ11_append_5 : decode cJ11_append 5 = .ok (.invokevirtual 204, 3) := dk_182 0 204 (dk_at dksJ11_append_0 5 rfl rfl)
theorem dJ11_append_8 : decode cJ11_append 8 = .ok (.areturn, 1) := dk_176 (dk_at dksJ11_append_0 8 rfl rfl)
theorem dJ11_append_9 : decode cJ11_append 9 = .ok (.aload_n 1, 1) := dk_43 (dk_at dksJ11_append_0 9 rfl rfl)
theorem dJ11_append_10 : decode cJ11_append 10 = .ok (.invokevirtual 32, 3) := dk_182 0 32 (dk_at dksJ11_append_0 10 rfl rfl)
theorem dJ11_append_13 : decode cJ11_append 13 = .ok (.istore_n 2, 1) := dk_61 (dk_at dksJ11_append_0 13 rfl rfl)
theorem dJ11_append_14 : decode cJ11_append 14 = .ok (.aload_n 0, 1) := dk_42 (dk_at dksJ11_append_0 14 rfl rfl)
theorem dJ11_append_15 : decode cJ11_append 15 = .ok (.aload_n 0, 1) := dk_42 (dk_at dksJ11_append_0 15 rfl rfl)
theorem dJ11_append_16 : decode cJ11_append 16 = .ok (.getfield 79, 3) := dk_180 0 79 (dk_at dksJ11_append_0 16 rfl rfl)
theorem dJ11_append_19 : decode cJ11_append 19 = .ok (.iload_n 2, 1) := dk_28 (dk_at dksJ11_append_0 19 rfl rfl)
theorem dJ11_append_20 : decode cJ11_append 20 = .ok (.iadd, 1) := dk_96 (dk_at dksJ11_append_0 20 rfl rfl)
theorem dJ11_append_21 : decode cJ11_append 21 = .ok (.invokevirtual 100, 3) := dk_182 0 100 (dk_at dksJ11_append_0 21 rfl rfl)
theorem dJ11_append_24 : decode cJ11_append 24 = .ok (.aload_n 0, 1) := dk_42 (dk_at dksJ11_append_1 0 rfl rfl)
theorem dJ11_append_25 : decode cJ11_append 25 = .ok (.aload_n 0, 1) := dk_42 (dk_at dksJ11_append_1 1 rfl rfl)
theorem dJ11_append_26 : decode cJ11_append 26 = .ok (.getfield 79, 3) := dk_180 0 79 (dk_at dksJ11_append_1 2 rfl rfl)
theorem dJ11_append_29 : decode cJ11_append 29 = .ok (.aload_n 1, 1) := dk_43 (dk_at dksJ11_append_1 5 rfl rfl)
theorem dJ11_append_30 : decode cJ11_append 30 = .ok (.invokevirtual 208, 3) := dk_182 0 208 (dk_at dksJ11_append_1 6 rfl rfl)
theorem dJ11_append_33 : decode cJ11_append 33 = .ok (.aload_n 0, 1) := dk_42 (dk_at dksJ11_append_1 9 rfl rfl)
theorem dJ11_append_34 : decode cJ11_append 34 = .ok (.dup, 1) := dk_89 (dk_at dksJ11_append_1 10 rfl rfl)
theorem dJ11_append_35 : decode cJ11_append 35 = .ok (.getfield 79, 3) := dk_180 0 79 (dk_at dksJ11_append_1 11 rfl rfl)
theorem dJ11_append_38 : decode cJ11_append 38 = .ok (.iload_n 2, 1) := dk_28 (dk_at dksJ11_append_1 14 rfl rfl)
theorem dJ11_append_39 : decode cJ11_append 39 = .ok (.iadd, 1) := dk_96 (dk_at dksJ11_append_1 15 rfl rfl)
theorem dJ11_append_40 : decode cJ11_append 40 = .ok (.putfield 79, 3) := dk_181 0 79 (dk_at dksJ11_append_1 16 rfl rfl)
theorem dJ11_append_43 : decode cJ11_append 43 = .ok (.aload_n 0, 1) := dk_42 (dk_at dksJ11_append_1 19 rfl rfl)
theorem dJ11_append_44 : decode cJ11_append 44 = .ok (.areturn, 1) := dk_176 (dk_at dksJ11_append_1 20 rfl rfl)
def dkwJ11_ensureCapacityInternal_1 : List UInt8 := [182, 0, 104, 42, 180, 0, 22, 120, 184, 0, 108, 181, 0, 15, 177]
abbrev dktJ11_ensureCapacityInternal_1 : List UInt8 := dkwJ11_ensureCapacityInternal_1 ++ []
def dkwJ11_ensureCapacityInternal_0 : List UInt8 := [42, 180, 0, 15, 190, 42, 180, 0, 22, 122, 61, 27, 28, 100, 158, 0, 24, 42, 42, 180, 0, 15, 42, 27]
abbrev dktJ11_ensureCapacityInternal_0 : List UInt8 := dkwJ11_ensureCapacityInternal_0 ++ dktJ11_ensureCapacityInternal_1
theorem dksJ11_ensureCapacityInternal_0 : cJ11_ensureCapacityInternal.data.toList.drop 0 = dktJ11_ensureCapacityInternal_0 := by decide +kernel
theorem dksJ11_ensureCapacityInternal_1 : cJ11_ensureCapacityInternal.data.toList.drop 24 = dktJ11_ensureCapacityInternal_1 := dk_seg dksJ11_ensureCapacityInternal_0 24 rfl rfl
theorem dJ11_ensureCapacityInternal_0 : decode cJ11_ensureCapacityInternal 0 = .ok (.aload_n 0, 1) := dk_42 (dk_at dksJ11_ensureCapacityInternal_0 0 rfl rfl)
theorem dJ11_ensureCapacityInternal_1 : decode cJ11_ensureCapacityInternal 1 = .ok (.getfield 15, 3) := dk_180 0 15 (dk_at dksJ11_ensureCapacityInternal_0 1 rfl rfl)
theorem dJ11_ensureCapacityInternal_4 : decode cJ11_ensureCapacityInternal 4 = .ok (.arraylength, 1) := dk_190 (dk_at dksJ11_ensureCapacityInternal_0 4 rfl rfl)
theorem dJ11_ensureCapacityInternal_5 : decode cJ11_ensureCapacityInternal 5 = .ok (.aload_n 0, 1) := dk_42 (dk_at dksJ11_ensureCapacityInternal_0 5 rfl rfl)
theorem dJ11_ensureCapacityInternal_6 : decode cJ11_ensureCapacityInternal 6 = .ok (.getfield 22, 3) := dk_180 0 22 (dk_at dksJ11_ensureCapacityInternal_0 6 rfl rfl)
theorem dJ11_ensureCapacityInternal_9 : decode cJ11_ensureCapacityInternal 9 = .ok (.ishr, 1) := dk_122 (dk_at dksJ11_ensureCapacityInternal_0 9 rfl rfl)
theorem dJ11_ensureCapacityInternal_10 : decode cJ11_ensureCapacityInternal 10 = .ok (.istore_n 2, 1) := dk_61 (dk_at dksJ11_ensureCapacityInternal_0 10 rfl rfl)
theorem dJ11_ensureCapacityInternal_11 : decode cJ11_ensureCapacityInternal 11 = .ok (.iload_n 1, 1) := dk_27 (dk_at dksJ11_ensureCapacityInternal_0 11 rfl rfl)
theorem dJ11_ensureCapacityInternal_12 : decode cJ11_ensureCapacityInternal 12 = .ok (.iload_n 2, 1) := dk_28 (dk_at dksJ11_ensureCapacityInternal_0 12 rfl rfl)
theorem dJ11_ensureCapacityInternal_13 : decode cJ11_ensureCapacityInternal 13 = .ok (.isub, 1) := dk_100 (dk_at dksJ11_ensureCapacityInternal_0 13 rfl rfl)
theorem dJ11_ensureCapacityInternal_14 : decode cJ11_ensureCapacityInternal 14 = .ok (.ifCond .le 24, 3) := dk_158 0 24 (dk_at dksJ11_ensureCapacityInternal_0 14 rfl rfl)
theorem dJ11_ensureCapacityInternal_17 : decode cJ11_ensureCapacityInternal 17 = .ok (.aload_n 0, 1) := dk_42 (dk_at dksJ11_ensureCapacityInternal_0 17 rfl rfl)
theorem dJ11_ensureCapacityInternal_18 : decode cJ11_ensureCapacityInternal 18 = .ok (.aload_n 0, 1) := dk_42 (dk_at dksJ11_ensureCapacityInternal_0 18 rfl rfl)
theorem dJ11_ensureCapacityInternal_19 : decode cJ11_ensureCapacityInternal 19 = .ok (.getfield 15, 3) := dk_180 0 15 (dk_at dksJ11_ensureCapacityInternal_0 19 rfl rfl)
theorem dJ11_ensureCapacityInternal_22 : decode cJ11_ensureCapacityInternal 22 = .ok (.aload_n 0, 1) := dk_42 (dk_at dksJ11_ensureCapacityInternal_0 22 rfl rfl)
theorem dJ11_ensureCapacityInternal_23 : decode cJ11_ensureCapacityInternal 23 = .ok (.iload_n 1, 1) := dk_27 (dk_at dksJ11_ensureCapacityInternal_0 23 rfl rfl)
theorem dJ11_ensureCapacityInternal_24 : decode cJ11_ensureCapacityInternal 24 = .ok (.invokevirtual 104, 3) := dk_182 0 104 (dk_at dksJ11_ensureCapacityInternal_1 0 rfl rfl)
theorem dJ11_ensureCapacityInternal_27 : decode cJ11_ensureCapacityInternal 27 = .ok (.aload_n 0, 1) := dk_42 (dk_at dksJ11_ensureCapacityInternal_1 3 rfl rfl)
theorem dJ11_ensureCapacityInternal_28 : decode cJ11_ensureCapacityInternal 28 = .ok (.getfield 22, 3) := dk_180 0 22 (dk_at dksJ11_ensureCapacityInternal_1 4 rfl rfl)
theorem dJ11_ensureCapacityInternal_31 : decode cJ11_ensureCapacityInternal 31 = .ok (.ishl, 1) := dk_120 (dk_at dksJ11_ensureCapacityInternal_1 7 rfl rfl)
theorem dJ11_ensureCapacityInternal_32 : decode cJ11_ensureCapacityInternal 32 = .ok (.invokestatic 108, 3) := dk_184 0 108 (dk_at dksJ11_ensureCapacityInternal_1 8 rfl rfl)
theorem dJ11_ensureCapacityInternal_35 : decode cJ11_ensureCapacityInternal 35 = .ok (.putfield 15, 3) := dk_181 0 15 (dk_at dksJ11_ensureCapacityInternal_1 11 rfl rfl)
theorem dJ11_ensureCapacityInternal_38 : decode cJ11_ensureCapacityInternal 38 = .ok (.return_, 1) := dk_177 (dk_at dksJ11_ensureCapacityInternal_1 14 rfl rfl)
def dkwJ11_newCapacity_2 : List UInt8 := [183, 0, 124, 191, 21, 5, 42, 180, 0, 22, 122, 172]
abbrev dktJ11_newCapacity_2 : List UInt8 := dkwJ11_newCapacity_2 ++ []
def dkwJ11_newCapacity_1 : List UInt8 := [180, 0, 22, 120, 96, 184, 0, 114, 54, 5, 21, 5, 18, 39, 160, 0, 13, 187, 0, 120, 89, 18, 122]
abbrev dktJ11_newCapacity_1 : List UInt8 := dkwJ11_newCapacity_1 ++ dktJ11_newCapacity_2
def dkwJ11_newCapacity_0 : List UInt8 := [42, 180, 0, 15, 190, 61, 27, 42, 180, 0, 22, 120, 62, 29, 28, 100, 54, 4, 28, 21, 4, 28, 5, 42]
abbrev dktJ11_newCapacity_0 : List UInt8 := dkwJ11_newCapacity_0 ++ dktJ11_newCapacity_1
theorem dksJ11_newCapacity_0 : cJ11_newCapacity.data.toList.drop 0 = dktJ11_newCapacity_0 := by decide +kernel
theorem dksJ11_newCapacity_1 : cJ11_newCapacity.data.toList.drop 24 = dktJ11_newCapacity_1 := dk_seg dksJ11_newCapacity_0 24 rfl rfl
theorem dksJ11_newCapacity_2 : cJ11_newCapacity.data.toList.drop 47 = dktJ11_newCapacity_2 := dk_seg dksJ11_newCapacity_1 23 rfl rfl
theorem dJ11_newCapacity_0 : decode cJ11_newCapacity 0 = .ok (.aload_n 0, 1) := dk_42 (dk_at dksJ11_newCapacity_0 0 rfl rfl)
theorem dJ11_newCapacity_1 : decode cJ11_newCapacity 1 = .ok (.getfield 15, 3) := dk_180 0 15 (dk_at dksJ11_newCapacity_0 1 rfl rfl)
theorem dJ11_newCapacity_4 : decode cJ11_newCapacity 4 = .ok (.arraylength, 1) := dk_190 (dk_at dksJ11_newCapacity_0 4 rfl rfl)
theorem dJ11_newCapacity_5 : decode cJ11_newCapacity 5 = .ok (.istore_n 2, 1) := dk_61 (dk_at dksJ11_newCapacity_0 5 rfl rfl)
theorem dJ11_newCapacity_6 : decode cJ11_newCapacity 6 = .ok (.iload_n 1, 1) := dk_27 (dk_at dksJ11_newCapacity_0 6 rfl rfl)
theorem dJ11_newCapacity_7 : decode cJ11_newCapacity 7 = .ok (.aload_n 0, 1) := dk_42 (dk_at dksJ11_newCapacity_0 7 rfl rfl)
theorem dJ11_newCapacity_8 : decode cJ11_newCapacity 8 = .ok (.getfield 22, 3) := dk_180 0 22 (dk_at dksJ11_newCapacity_0 8 rfl rfl)
theorem dJ11_newCapacity_11 : decode cJ11_newCapacity 11 = .ok (.ishl, 1) := dk_120 (dk_at dksJ11_newCapacity_0 11 rfl rfl)
theorem dJ11_newCapacity_12 : decode cJ11_newCapacity 12 = .ok (.istore_n 3, 1) := dk_62 (dk_at dksJ11_newCapacity_0 12 rfl rfl)
theorem dJ11_newCapacity_13 : decode cJ11_newCapacity 13 = .ok (.iload_n 3, 1) := dk_29 (dk_at dksJ11_newCapacity_0 13 rfl rfl)
theorem dJ11_newCapacity_14 : decode cJ11_newCapacity 14 = .ok (.iload_n 2, 1) := dk_28 (dk_at dksJ11_newCapacity_0 14 rfl rfl)
theorem dJ11_newCapacity_15 : decode cJ11_newCapacity 15 = .ok (.isub, 1) := dk_100 (dk_at dksJ11_newCapacity_0 15 rfl rfl)
theorem dJ11_newCapacity_16 : decode cJ11_newCapacity 16 = .ok (.istore 4, 2) := dk_54 4 (dk_at dksJ11_newCapacity_0 16 rfl rfl)
theorem dJ11_newCapacity_18 : decode cJ11_newCapacity 18 = .ok (.iload_n 2, 1) := dk_28 (dk_at dksJ11_newCapacity_0 18 rfl rfl)
theorem dJ11_newCapacity_19 : decode cJ11_newCapacity 19 = .ok (.iload 4, 2) := dk_21 4 (dk_at dksJ11_newCapacity_0 19 rfl rfl)
theorem dJ11_newCapacity_21 : decode cJ11_newCapacity 21 = .ok (.iload_n 2, 1) := dk_28 (dk_at dksJ11_newCapacity_0 21 rfl rfl)
theorem dJ11_newCapacity_22 : decode cJ11_newCapacity 22 = .ok (.iconst 2, 1) := dk_5 (dk_at dksJ11_newCapacity_0 22 rfl rfl)
theorem dJ11_newCapacity_23 : decode cJ11_newCapacity 23 = .ok (.aload_n 0, 1) := dk_42 (dk_at dksJ11_newCapacity_0 23 rfl rfl)
theorem dJ11_newCapacity_24 : decode cJ11_newCapacity 24 = .ok (.getfield 22, 3) := dk_180 0 22 (dk_at dksJ11_newCapacity_1 0 rfl rfl)
theorem dJ11_newCapacity_27 : decode cJ11_newCapacity 27 = .ok (.ishl, 1) := dk_120 (dk_at dksJ11_newCapacity_1 3 rfl rfl)
theorem dJ11_newCapacity_28 : decode cJ11_newCapacity 28 = .ok (.iadd, 1) := dk_96 (dk_at dksJ11_newCapacity_1 4 rfl rfl)
theorem dJ11_newCapacity_29 : decode cJ11_newCapacity 29 = .ok (.invokestatic 114, 3) := dk_184 0 114 (dk_at dksJ11_newCapacity_1 5 rfl rfl)
theorem dJ11_newCapacity_32 : decode cJ11_newCapacity 32 = .ok (.istore 5, 2) := dk_54 5 (dk_at dksJ11_newCapacity_1 8 rfl rfl)
theorem dJ11_newCapacity_34 : decode cJ11_newCapacity 34 = .ok (.iload 5, 2) := dk_21 5 (dk_at dksJ11_newCapacity_1 10 rfl rfl)
theorem dJ11_newCapacity_36 : decode cJ11_newCapacity 36 = .ok (.ldc 39, 2) := dk_18 39 (dk_at dksJ11_newCapacity_1 12 rfl rfl)
theorem dJ11_newCapacity_38 : decode cJ11_newCapacity 38 = .ok (.if_icmp .ne 13, 3) := dk_160 0 13 (dk_at dksJ11_newCapacity_1 14 rfl rfl)
theorem dJ11_newCapacity_41 : decode cJ11_newCapacity 41 = .ok (.new 120, 3) := dk_187 0 120 (dk_at dksJ11_newCapacity_1 17 rfl rfl)
theorem dJ11_newCapacity_44 : decode cJ11_newCapacity 44 = .ok (.dup, 1) := dk_89 (dk_at dksJ11_newCapacity_1 20 rfl rfl)
theorem dJ11_newCapacity_45 : decode cJ11_newCapacity 45 = .ok (.ldc 122, 2) := dk_18 122 (dk_at dksJ11_newCapacity_1 21 rfl rfl)
theorem dJ11_newCapacity_47 : decode cJ11_newCapacity 47 = .ok (.invokespecial 124, 3) := dk_183 0 124 (dk_at dksJ11_newCapacity_2 0 rfl rfl)
theorem dJ11_newCapacity_50 : decode cJ11_newCapacity 50 = .ok (.athrow, 1) := dk_191 (dk_at dksJ11_newCapacity_2 3 rfl rfl)
theorem dJ11_newCapacity_51 : decode cJ11_newCapacity 51 = .ok (.iload 5, 2) := dk_21 5 (dk_at dksJ11_newCapacity_2 4 rfl rfl)
theorem dJ11_newCapacity_53 : decode cJ11_newCapacity 53 = .ok (.aload_n 0, 1) := dk_42 (dk_at dksJ11_newCapacity_2 6 rfl rfl)
theorem dJ11_newCapacity_54 : decode cJ11_newCapacity 54 = .ok (.getfield 22, 3) := dk_180 0 22 (dk_at dksJ11_newCapacity_2 7 rfl rfl)
theorem dJ11_newCapacity_57 : decode cJ11_newCapacity 57 = .ok (.ishr, 1) := dk_122 (dk_at dksJ11_newCapacity_2 10 rfl rfl)
theorem dJ11_newCapacity_58 : decode cJ11_newCapacity 58 = .ok (.ireturn, 1) := dk_172 (dk_at dksJ11_newCapacity_2 11 rfl rfl)
def dkwJ11_isLatin1_0 : List UInt8 := [178, 0, 18, 153, 0, 14, 42, 180, 0, 22, 154, 0, 7, 4, 167, 0, 4, 3, 172]
abbrev dktJ11_isLatin1_0 : List UInt8 := dkwJ11_isLatin1_0 ++ []
theorem dksJ11_isLatin1_0 : cJ11_isLatin1.data.toList.drop 0 = dktJ11_isLatin1_0 := by decide +kernel
theorem dJ11_isLatin1_0 : decode cJ11_isLatin1 0 = .ok (.getstatic 18, 3) := dk_178 0 18 (dk_at dksJ11_isLatin1_0 0 rfl rfl)
theorem dJ11_isLatin1_3 : decode cJ11_isLatin1 3 = .ok (.ifCond .eq 14, 3) := dk_153 0 14 (dk_at dksJ11_isLatin1_0 3 rfl rfl)
theorem dJ11_isLatin1_6 : decode cJ11_isLatin1 6 = .ok (.aload_n 0, 1) := dk_42 (dk_at dksJ11_isLatin1_0 6 rfl rfl)
theorem dJ11_isLatin1_7 : decode cJ11_isLatin1 7 = .ok (.getfield 22, 3) := dk_180 0 22 (dk_at dksJ11_isLatin1_0 7 rfl rfl)
theorem dJ11_isLatin1_10 : decode cJ11_isLatin1 10 = .ok (.ifCond .ne 7, 3) := dk_154 0 7 (dk_at dksJ11_isLatin1_0 10 rfl rfl)
theorem dJ11_isLatin1_13 : decode cJ11_isLatin1 13 = .ok (.iconst 1, 1) := dk_4 (dk_at dksJ11_isLatin1_0 13 rfl rfl)
theorem dJ11_isLatin1_14 : decode cJ11_isLatin1 14 = .ok (.goto 4, 3) := dk_167 0 4 (dk_at dksJ11_isLatin1_0 14 rfl rfl)
theorem dJ11_isLatin1_17 : decode cJ11_isLatin1 17 = .ok (.iconst 0, 1) := dk_3 (dk_at dksJ11_isLatin1_0 17 rfl rfl)
theorem dJ11_isLatin1_18 : decode cJ11_isLatin1 18 = .ok (.ireturn, 1) := dk_172 (dk_at dksJ11_isLatin1_0 18 rfl rfl)
def dkwJ11_charAt_1 : List UInt8 := [21, 4, 184, 0, 144, 28, 154, 0, 12, 45, 27, 51, 17, 0, 255, 126, 146, 172, 45, 27, 184, 0, 148, 172]
abbrev dktJ11_charAt_1 : List UInt8 := dkwJ11_charAt_1 ++ []
def dkwJ11_charAt_0 : List UInt8 := [42, 180, 0, 22, 61, 42, 180, 0, 15, 78, 42, 180, 0, 79, 45, 190, 28, 122, 184, 0, 138, 54, 4, 27]
abbrev dktJ11_charAt_0 : List UInt8 := dkwJ11_charAt_0 ++ dktJ11_charAt_1
theorem dksJ11_charAt_0 : cJ11_charAt.data.toList.drop 0 = dktJ11_charAt_0 := by decide +kernel
theorem dksJ11_charAt_1 : cJ11_charAt.data.toList.drop 24 = dktJ11_charAt_1 := dk_seg dksJ11_charAt_0 24 rfl rfl
theorem dJ11_charAt_0 : decode cJ11_charAt 0 = .ok (.aload_n 0, 1) := dk_42 (dk_at dksJ11_charAt_0 0 rfl rfl)
theorem dJ11_charAt_1 : decode cJ11_charAt 1 = .ok (.getfield 22, 3) := dk_180 0 22 (dk_at dksJ11_charAt_0 1 rfl rfl)
theorem dJ11_charAt_4 : decode cJ11_charAt 4 = .ok (.istore_n 2, 1) := dk_61 (dk_at dksJ11_charAt_0 4 rfl rfl)
theorem dJ11_charAt_5 : decode cJ11_charAt 5 = .ok (.aload_n 0, 1) := dk_42 (dk_at dksJ11_charAt_0 5 rfl rfl)
theorem dJ11_charAt_6 : decode cJ11_charAt 6 = .ok (.getfield 15, 3) := dk_180 0 15 (dk_at dksJ11_charAt_0 6 rfl rfl)
theorem dJ11_charAt_9 : decode cJ11_charAt 9 = .ok (.astore_n 3, 1) := dk_78 (dk_at dksJ11_charAt_0 9 rfl rfl)
theorem dJ11_charAt_10 : decode cJ11_charAt 10 = .ok (.aload_n 0, 1) := dk_42 (dk_at dksJ11_charAt_0 10 rfl rfl)
theorem dJ11_charAt_11 : decode cJ11_charAt 11 = .ok (.getfield 79, 3) := dk_180 0 79 (dk_at dksJ11_charAt_0 11 rfl rfl)
theorem dJ11_charAt_14 : decode cJ11_charAt 14 = .ok (.aload_n 3, 1) := dk_45 (dk_at dksJ11_charAt_0 14 rfl rfl)
theorem dJ11_charAt_15 : decode cJ11_charAt 15 = .ok (.arraylength, 1) := dk_190 (dk_at dksJ11_charAt_0 15 rfl rfl)
theorem dJ11_charAt_16 : decode cJ11_charAt 16 = .ok (.iload_n 2, 1) := dk_28 (dk_at dksJ11_charAt_0 16 rfl rfl)
theorem dJ11_charAt_17 : decode cJ11_charAt 17 = .ok (.ishr, 1) := dk_122 (dk_at dksJ11_charAt_0 17 rfl rfl)
theorem dJ11_charAt_18 : decode cJ11_charAt 18 = .ok (.invokestatic 138, 3) := dk_184 0 138 (dk_at dksJ11_charAt_0 18 rfl rfl)
theorem dJ11_charAt_21 : decode cJ11_charAt 21 = .ok (.istore 4, 2) := dk_54 4 (dk_at dksJ11_charAt_0 21 rfl rfl)
theorem dJ11_charAt_23 : decode cJ11_charAt 23 = .ok (.iload_n 1, 1) := dk_27 (dk_at dksJ11_charAt_0 23 rfl rfl)
theorem dJ11_charAt_24 : decode cJ11_charAt 24 = .ok (.iload 4, 2) := dk_21 4 (dk_at dksJ11_charAt_1 0 rfl rfl)
theorem dJ11_charAt_26 : decode cJ11_charAt 26 = .ok (.invokestatic 144, 3) := dk_184 0 144 (dk_at dksJ11_charAt_1 2 rfl rfl)
theorem dJ11_charAt_29 : decode cJ11_charAt 29 = .ok (.iload_n 2, 1) := dk_28 (dk_at dksJ11_charAt_1 5 rfl rfl)
theorem dJ11_charAt_30 : decode cJ11_charAt 30 = .ok (.ifCond .ne 12, 3) := dk_154 0 12 (dk_at dksJ11_charAt_1 6 rfl rfl)
theorem dJ11_charAt_33 : decode cJ11_charAt 33 = .ok (.aload_n 3, 1) := dk_45 (dk_at dksJ11_charAt_1 9 rfl rfl)
theorem dJ11_charAt_34 : decode cJ11_charAt 34 = .ok (.iload_n 1, 1) := dk_27 (dk_at dksJ11_charAt_1 10 rfl rfl)
theorem dJ11_charAt_35 : decode cJ11_charAt 35 = .ok (.baload, 1) := dk_51 (dk_at dksJ11_charAt_1 11 rfl rfl)
theorem dJ11_charAt_36 : decode cJ11_charAt 36 = .ok (.sipush 255, 3) := dk_17 0 255 (dk_at dksJ11_charAt_1 12 rfl rfl)
theorem dJ11_charAt_39 : decode cJ11_charAt 39 = .ok (.iand, 1) := dk_126 (dk_at dksJ11_charAt_1 15 rfl rfl)
theorem dJ11_charAt_40 : decode cJ11_charAt 40 = .ok (.i2c, 1) := dk_146 (dk_at dksJ11_charAt_1 16 rfl rfl)
theorem dJ11_charAt_41 : decode cJ11_charAt 41 = .ok (.ireturn, 1) := dk_172 (dk_at dksJ11_charAt_1 17 rfl rfl)
theorem dJ11_charAt_42 : decode cJ11_charAt 42 = .ok (.aload_n 3, 1) := dk_45 (dk_at dksJ11_charAt_1 18 rfl rfl)
theorem dJ11_charAt_43 : decode cJ11_charAt 43 = .ok (.iload_n 1, 1) := dk_27 (dk_at dksJ11_charAt_1 19 rfl rfl)
theorem dJ11_charAt_44 : decode cJ11_charAt 44 = .ok (.invokestatic 148, 3) := dk_184 0 148 (dk_at dksJ11_charAt_1 20 rfl rfl)
theorem dJ11_charAt_47 : decode cJ11_charAt 47 = .ok (.ireturn, 1) := dk_172 (dk_at dksJ11_charAt_1 23 rfl rfl)
def dkwJ11_compareTo_4 : List UInt8 := [184, 0, 97, 172]
abbrev dktJ11_compareTo_4 : List UInt8 := dkwJ11_compareTo_4 ++ []
def dkwJ11_compareTo_3 : List UInt8 := [182, 0, 83, 153, 0, 15, 44, 45, 21, 4, 21, 5, 184, 0, 94, 167, 0, 12, 44, 45, 21, 4, 21, 5]
abbrev dktJ11_compareTo_3 : List UInt8 := dkwJ11_compareTo_3 ++ dktJ11_compareTo_4
def dkwJ11_compareTo_2 : List UInt8 := [45, 21, 4, 21, 5, 184, 0, 87, 167, 0, 12, 44, 45, 21, 4, 21, 5, 184, 0, 93, 172, 42]
abbrev dktJ11_compareTo_2 : List UInt8 := dkwJ11_compareTo_2 ++ dktJ11_compareTo_3
def dkwJ11_compareTo_1 : List UInt8 := [180, 0, 79, 54, 5, 42, 180, 0, 22, 43, 180, 0, 22, 160, 0, 32, 42, 182, 0, 83, 153, 0, 15, 44]
abbrev dktJ11_compareTo_1 : List UInt8 := dkwJ11_compareTo_1 ++ dktJ11_compareTo_2
def dkwJ11_compareTo_0 : List UInt8 := [42, 43, 166, 0, 5, 3, 172, 42, 180, 0, 15, 77, 43, 180, 0, 15, 78, 42, 180, 0, 79, 54, 4, 43]
abbrev dktJ11_compareTo_0 : List UInt8 := dkwJ11_compareTo_0 ++ dktJ11_compareTo_1
theorem dksJ11_compareTo_0 : cJ11_compareTo.data.toList.drop 0 = dktJ11_compareTo_0 := by decide +kernel
theorem dksJ11_compareTo_1 : cJ11_compareTo.data.toList.drop 24 = dktJ11_compareTo_1 := dk_seg dksJ11_compareTo_0 24 rfl rfl
theorem dksJ11_compareTo_2 : cJ11_compareTo.data.toList.drop 48 = dktJ11_compareTo_2 := dk_seg dksJ11_compareTo_1 24 rfl rfl
theorem dksJ11_compareTo_3 : cJ11_compareTo.data.toList.drop 70 = dktJ11_compareTo_3 := dk_seg dksJ11_compareTo_2 22 rfl rfl
theorem dksJ11_compareTo_4 : cJ11_compareTo.data.toList.drop 94 = dktJ11_compareTo_4 := dk_seg dksJ11_compareTo_3 24 rfl rfl
theorem dJ11_compareTo_0 : decode cJ11_compareTo 0 = .ok (.aload_n 0, 1) := dk_42 (dk_at dksJ11_compareTo_0 0 rfl rfl)
theorem dJ11_compareTo_1 : decode cJ11_compareTo 1 = .ok (.aload_n 1, 1) := dk_43 (dk_at dksJ11_compareTo_0 1 rfl rfl)
theorem dJ11_compareTo_2 : decode cJ11_compareTo 2 = .ok (.if_acmp .ne 5, 3) := dk_166 0 5 (dk_at dksJ11_compareTo_0 2 rfl rfl)
theorem dJ11_compareTo_5 : decode cJ11_compareTo 5 = .ok (.iconst 0, 1) := dk_3 (dk_at dksJ11_compareTo_0 5 rfl rfl)
theorem dJ11_compareTo_6 : decode cJ11_compareTo 6 = .ok (.ireturn, 1) := dk_172 (dk_at dksJ11_compareTo_0 6 rfl rfl)
theorem dJ11_compareTo_7 : decode cJ11_compareTo 7 = .ok (.aload_n 0, 1) := dk_42 (dk_at dksJ11_compareTo_0 7 rfl rfl)
theorem dJ11_compareTo_8 : decode cJ11_compareTo 8 = .ok (.getfield 15, 3) := dk_180 0 15 (dk_at dksJ11_compareTo_0 8 rfl rfl)
theorem dJ11_compareTo_11 : decode cJ11_compareTo 11 = .ok (.astore_n 2, 1) := dk_77 (dk_at dksJ11_compareTo_0 11 rfl rfl)
theorem dJ11_compareTo_12 : decode cJ11_compareTo 12 = .ok (.aload_n 1, 1) := dk_43 (dk_at dksJ11_compareTo_0 12 rfl rfl)
theorem dJ11_compareTo_13 : decode cJ11_compareTo 13 = .ok (.getfield 15, 3) := dk_180 0 15 (dk_at dksJ11_compareTo_0 13 rfl rfl)
theorem dJ11_compareTo_16 : decode cJ11_compareTo 16 = .ok (.astore_n 3, 1) := dk_78 (dk_at dksJ11_compareTo_0 16 rfl rfl)
theorem dJ11_compareTo_17 : decode cJ11_compareTo 17 = .ok (.aload_n 0, 1) := dk_42 (dk_at dksJ11_compareTo_0 17 rfl rfl)
theorem dJ11_compareTo_18 : decode cJ11_compareTo 18 = .ok (.getfield 79, 3) := dk_180 0 79 (dk_at dksJ11_compareTo_0 18 rfl rfl)
theorem dJ11_compareTo_21 : decode cJ11_compareTo 21 = .ok (.istore 4, 2) := dk_54 4 (dk_at dksJ11_compareTo_0 21 rfl rfl)
theorem dJ11_compareTo_23 : decode cJ11_compareTo 23 = .ok (.aload_n 1, 1) := dk_43 (dk_at dksJ11_compareTo_0 23 rfl rfl)
theorem dJ11_compareTo_24 : decode cJ11_compareTo 24 = .ok (.getfield 79, 3) := dk_180 0 79 (dk_at dksJ11_compareTo_1 0 rfl rfl)
theorem dJ11_compareTo_27 : decode cJ11_compareTo 27 = .ok (.istore 5, 2) := dk_54 5 (dk_at dksJ11_compareTo_1 3 rfl rfl)
theorem dJ11_compareTo_29 : decode cJ11_compareTo 29 = .ok (.aload_n 0, 1) := dk_42 (dk_at dksJ11_compareTo_1 5 rfl rfl)
theorem dJ11_compareTo_30 : decode cJ11_compareTo 30 = .ok (.getfield 22, 3) := dk_180 0 22 (dk_at dksJ11_compareTo_1 6 rfl rfl)
theorem dJ11_compareTo_33 : decode cJ11_compareTo 33 = .ok (.aload_n 1, 1) := dk_43 (dk_at dksJ11_compareTo_1 9 rfl rfl)
theorem dJ11_compareTo_34 : decode cJ11_compareTo 34 = .ok (.getfield 22, 3) := dk_180 0 22 (dk_at dksJ11_compareTo_1 10 rfl rfl)
theorem dJ11_compareTo_37 : decode cJ11_compareTo 37 = .ok (.if_icmp .ne 32, 3) := dk_160 0 32 (dk_at dksJ11_compareTo_1 13 rfl rfl)
theorem dJ11_compareTo_40 : decode cJ11_compareTo 40 = .ok (.aload_n 0, 1) := dk_42 (dk_at dksJ11_compareTo_1 16 rfl rfl)
theorem dJ11_compareTo_41 : decode cJ11_compareTo 41 = .ok (.invokevirtual 83, 3) := dk_182 0 83 (dk_at dksJ11_compareTo_1 17 rfl rfl)
theorem dJ11_compareTo_44 : decode cJ11_compareTo 44 = .ok (.ifCond .eq 15, 3) := dk_153 0 15 (dk_at dksJ11_compareTo_1 20 rfl rfl)
theorem dJ11_compareTo_47 : decode cJ11_compareTo 47 = .ok (.aload_n 2, 1) := dk_44 (dk_at dksJ11_compareTo_1 23 rfl rfl)
theorem dJ11_compareTo_48 : decode cJ11_compareTo 48 = .ok (.aload_n 3, 1) := dk_45 (dk_at dksJ11_compareTo_2 0 rfl rfl)
theorem dJ11_compareTo_49 : decode cJ11_compareTo 49 = .ok (.iload 4, 2) := dk_21 4 (dk_at dksJ11_compareTo_2 1 rfl rfl)
theorem dJ11_compareTo_51 : decode cJ11_compareTo 51 = .ok (.iload 5, 2) := dk_21 5 (dk_at dksJ11_compareTo_2 3 rfl rfl)
theorem dJ11_compareTo_53 : decode cJ11_compareTo 53 = .ok (.invokestatic 87, 3) := dk_184 0 87 (dk_at dksJ11_compareTo_2 5 rfl rfl)
theorem dJ11_compareTo_56 : decode cJ11_compareTo 56 = .ok (.goto 12, 3) := dk_167 0 12 (dk_at dksJ11_compareTo_2 8 rfl rfl)
theorem dJ11_compareTo_59 : decode cJ11_compareTo 59 = .ok (.aload_n 2, 1) := dk_44 (dk_at dksJ11_compareTo_2 11 rfl rfl)
theorem dJ11_compareTo_60 : decode cJ11_compareTo 60 = .ok (.aload_n 3, 1) := dk_45 (dk_at dksJ11_compareTo_2 12 rfl rfl)
theorem dJ11_compareTo_61 : decode cJ11_compareTo 61 = .ok (.iload 4, 2) := dk_21 4 (dk_at dksJ11_compareTo_2 13 rfl rfl)
theorem dJ11_compareTo_63 : decode cJ11_compareTo 63 = .ok (.iload 5, 2) := dk_21 5 (dk_at dksJ11_compareTo_2 15 rfl rfl)
theorem dJ11_compareTo_65 : decode cJ11_compareTo 65 = .ok (.invokestatic 93, 3) := dk_184 0 93 (dk_at dksJ11_compareTo_2 17 rfl rfl)
theorem dJ11_compareTo_68 : decode cJ11_compareTo 68 = .ok (.ireturn, 1) := dk_172 (dk_at dksJ11_compareTo_2 20 rfl rfl)
theorem dJ11_compareTo_69 : decode cJ11_compareTo 69 = .ok (.aload_n 0, 1) := dk_42 (dk_at dksJ11_compareTo_2 21 rfl rfl)
theorem dJ11_compareTo_70 : decode cJ11_compareTo 70 = .ok (.invokevirtual 83, 3) := dk_182 0 83 (dk_at dksJ11_compareTo_3 0 rfl rfl)
theorem dJ11_compareTo_73 : decode cJ11_compareTo 73 = .ok (.ifCond .eq 15, 3) := dk_153 0 15 (dk_at dksJ11_compareTo_3 3 rfl rfl)
theorem dJ11_compareTo_76 : decode cJ11_compareTo 76 = .ok (.aload_n 2, 1) := dk_44 (dk_at dksJ11_compareTo_3 6 rfl rfl)
theorem dJ11_compareTo_77 : decode cJ11_compareTo 77 = .ok (.aload_n 3, 1) := dk_45 (dk_at dksJ11_compareTo_3 7 rfl rfl)
theorem dJ11_compareTo_78 : decode cJ11_compareTo 78 = .ok (.iload 4, 2) := dk_21 4 (dk_at dksJ11_compareTo_3 8 rfl rfl)
theorem dJ11_compareTo_80 : decode cJ11_compareTo 80 = .ok (.iload 5, 2) := dk_21 5 (dk_at dksJ11_compareTo_3 10 rfl rfl)
theorem dJ11_compareTo_82 : decode cJ11_compareTo 82 = .ok (.invokestatic 94, 3) := dk_184 0 94 (dk_at dksJ11_compareTo_3 12 rfl rfl)
theorem dJ11_compareTo_85 : decode cJ11_compareTo 85 = .ok (.goto 12, 3) := dk_167 0 12 (dk_at dksJ11_compareTo_3 15 rfl rfl)
theorem dJ11_compareTo_88 : decode cJ11_compareTo 88 = .ok (.aload_n 2, 1) := dk_44 (dk_at dksJ11_compareTo_3 18 rfl rfl)
theorem dJ11_compareTo_89 : decode cJ11_compareTo 89 = .ok (.aload_n 3, 1) := dk_45 (dk_at dksJ11_compareTo_3 19 rfl rfl)
theorem dJ11_compareTo_90 : decode cJ11_compareTo 90 = .ok (.iload 4, 2) := dk_21 4 (dk_at dksJ11_compareTo_3 20 rfl rfl)
theorem dJ11_compareTo_92 : decode cJ11_compareTo 92 = .ok (.iload 5, 2) := dk_21 5 (dk_at dksJ11_compareTo_3 22 rfl rfl)
theorem dJ11_compareTo_94 : decode cJ11_compareTo 94 = .ok (.invokestatic 97, 3) := dk_184 0 97 (dk_at dksJ11_compareTo_4 0 rfl rfl)
theorem dJ11_compareTo_97 : decode cJ11_compareTo 97 = .ok (.ireturn, 1) := dk_172 (dk_at dksJ11_compareTo_4 3 rfl rfl)
def dkwJ12_init_0 : List UInt8 := [42, 27, 183, 0, 1, 177]
abbrev dktJ12_init_0 : List UInt8 := dkwJ12_init_0 ++ []
theorem dksJ12_init_0 : cJ12_init.data.toList.drop 0 = dktJ12_init_0 := by decide +kernel
theorem dJ12_init_0 : decode cJ12_init 0 = .ok (.aload_n 0, 1) := dk_42 (dk_at dksJ12_init_0 0 rfl rfl)
theorem dJ12_init_1 : decode cJ12_init 1 = .ok (.iload_n 1, 1) := dk_27 (dk_at dksJ12_init_0 1 rfl rfl)
theorem dJ12_init_2 : decode cJ12_init 2 = .ok (.invokespecial 1, 3) := dk_183 0 1 (dk_at dksJ12_init_0 2 rfl rfl)
theorem dJ12_init_5 : decode cJ12_init 5 = .ok (.return_, 1) := dk_177 (dk_at dksJ12_init_0 5 rfl rfl)
theorem dJ12_length_0 : decode cJ12_length 0 = .ok (.aload_n 0, 1) := by decide +kernel
theorem dJ12_length_1 : decode cJ12_length 1 = .ok (.invokespecial 343, 3) := by decide +kernel
theorem dJ12_length_4 : decode cJ12_length 4 = .ok (.ireturn, 1) := by decide +kernel
def dkwJ12_setLength_0 : List UInt8 := [42, 27, 183, 1, 77, 177]
abbrev dktJ12_setLength_0 : List UInt8 := dkwJ12_setLength_0 ++ []
theorem dksJ12_setLength_0 : cJ12_setLength.data.toList.drop 0 = dktJ12_setLength_0 := by decide +kernel
theorem dJ12_setLength_0 : decode cJ12_setLength 0 = .ok (.aload_n 0, 1) := dk_42 (dk_at dksJ12_setLength_0 0 rfl rfl)
theorem dJ12_setLength_1 : decode cJ12_setLength 1 = .ok (.iload_n 1, 1) := dk_27 (dk_at dksJ12_setLength_0 1 rfl rfl)
theorem dJ12_setLength_2 : decode cJ12_setLength 2 = .ok (.invokespecial 333, 3) := dk_183 1 77 (dk_at dksJ12_setLength_0 2 rfl rfl)
theorem dJ12_setLength_5 : decode cJ12_setLength 5 = .ok (.return_, 1) := dk_177 (dk_at dksJ12_setLength_0 5 rfl rfl)
def dkwJ12_init_2_0 : List UInt8 := [42, 16, 16, 183, 0, 1, 177]
abbrev dktJ12_init_2_0 : List UInt8 := dkwJ12_init_2_0 ++ []
theorem dksJ12_init_2_0 : cJ12_init_2.data.toList.drop 0 = dktJ12_init_2_0 := by decide +kernel
theorem dJ12_init_2_0 : decode cJ12_init_2 0 = .ok (.aload_n 0, 1) := dk_42 (dk_at dksJ12_init_2_0 0 rfl rfl)
theorem dJ12_init_2_1 : decode cJ12_init_2 1 = .ok (.bipush 16, 2) := dk_16 16 (dk_at dksJ12_init_2_0 1 rfl rfl)
theorem dJ12_init_2_3 : decode cJ12_init_2 3 = .ok (.invokespecial 1, 3) := dk_183 0 1 (dk_at dksJ12_init_2_0 3 rfl rfl)
theorem dJ12_init_2_6 : decode cJ12_init_2 6 = .ok (.return_, 1) := dk_177 (dk_at dksJ12_init_2_0 6 rfl rfl)
def dkwJ12_append_0 : List UInt8 := [42, 43, 183, 0, 29, 87, 42, 176]
abbrev dktJ12_append_0 : List UInt8 := dkwJ12_append_0 ++ []
theorem dksJ12_append_0 : cJ12_append.data.toList.drop 0 = dktJ12_append_0 := by decide +kernel
theorem dJ12_append_0 : decode cJ12_append 0 = .ok (.aload_n 0, 1) := dk_42 (dk_at dksJ12_append_0 0 rfl rfl)
theorem dJ12_append_1 : decode cJ12_append 1 = .ok (.aload_n 1, 1) := dk_43 (dk_at dksJ12_append_0 1 rfl rfl)
theorem dJ12_append_2 : decode cJ12_append 2 = .ok (.invokespecial 29, 3) := dk_183 0 29 (dk_at dksJ12_append_0 2 rfl rfl)
theorem dJ12_append_5 : decode cJ12_append 5 = .ok (.pop, 1) := dk_87 (dk_at dksJ12_append_0 5 rfl rfl)
theorem dJ12_append_6 : decode cJ12_append 6 = .ok (.aload_n 0, 1) := dk_42 (dk_at dksJ12_append_0 6 rfl rfl)
theorem dJ12_append_7 : decode cJ12_append 7 = .ok (.areturn, 1) := dk_176 (dk_at dksJ12_append_0 7 rfl rfl)
def dkwJ12_append_2_0 : List UInt8 := [42, 27, 183, 0, 53, 87, 42, 176]
abbrev dktJ12_append_2_0 : List UInt8 := dkwJ12_append_2_0 ++ []
theorem dksJ12_append_2_0 : cJ12_append_2.data.toList.drop 0 = dktJ12_append_2_0 := by decide +kernel
theorem dJ12_append_2_0 : decode cJ12_append_2 0 = .ok (.aload_n 0, 1) := dk_42 (dk_at dksJ12_append_2_0 0 rfl rfl)
theorem dJ12_append_2_1 : decode cJ12_append_2 1 = .ok (.iload_n 1, 1) := dk_27 (dk_at dksJ12_append_2_0 1 rfl rfl)
theorem dJ12_append_2_2 : decode cJ12_append_2 2 = .ok (.invokespecial 53, 3) := dk_183 0 53 (dk_at dksJ12_append_2_0 2 rfl rfl)
theorem dJ12_append_2_5 : decode cJ12_append_2 5 = .ok (.pop, 1) := dk_87 (dk_at dksJ12_append_2_0 5 rfl rfl)
theorem dJ12_append_2_6 : decode cJ12_append_2 6 = .ok (.aload_n 0, 1) := dk_42 (dk_at dksJ12_append_2_0 6 rfl rfl)
theorem dJ12_append_2_7 : decode cJ12_append_2 7 = .ok (.areturn, 1) := dk_176 (dk_at dksJ12_append_2_0 7 rfl rfl)
def dkwJ12_toString_0 : List UInt8 := [187, 0, 18, 89, 42, 183, 0, 137, 176]
abbrev dktJ12_toString_0 : List UInt8 := dkwJ12_toString_0 ++ []
theorem dksJ12_toString_0 : cJ12_toString.data.toList.drop 0 = dktJ12_toString_0 := by decide +kernel
theorem dJ12_toString_0 : decode cJ12_toString 0 = .ok (.new 18, 3) := dk_187 0 18 (dk_at dksJ12_toString_0 0 rfl rfl)
theorem dJ12_toString_3 : decode cJ12_toString 3 = .ok (.dup, 1) := dk_89 (dk_at dksJ12_toString_0 3 rfl rfl)
theorem dJ12_toString_4 : decode cJ12_toString 4 = .ok (.aload_n 0, 1) := dk_42 (dk_at dksJ12_toString_0 4 rfl rfl)
theorem dJ12_toString_5 : decode cJ12_toString 5 = .ok (.invokespecial 137, 3) := dk_183 0 137 (dk_at dksJ12_toString_0 5 rfl rfl)
theorem dJ12_toString_8 : decode cJ12_toString 8 = .ok (.areturn, 1) := dk_176 (dk_at dksJ12_toString_0 8 rfl rfl)
def dkwJ12_charAt_0 : List UInt8 := [42, 27, 183, 1, 73, 172]
abbrev dktJ12_charAt_0 : List UInt8 := dkwJ12_charAt_0 ++ []
theorem dksJ12_charAt_0 : cJ12_charAt.data.toList.drop 0 = dktJ12_charAt_0 := by decide +kernel
theorem dJ12_charAt_0 : decode cJ12_charAt 0 = .ok (.aload_n 0, 1) := dk_42 (dk_at dksJ12_charAt_0 0 rfl rfl)
theorem dJ12_charAt_1 : decode cJ12_charAt 1 = .ok (.iload_n 1, 1) := dk_27 (dk_at dksJ12_charAt_0 1 rfl rfl)
theorem dJ12_charAt_2 : decode cJ12_charAt 2 = .ok (.invokespecial 329, 3) := dk_183 1 73 (dk_at dksJ12_charAt_0 2 rfl rfl)
theorem dJ12_charAt_5 : decode cJ12_charAt 5 = .ok (.ireturn, 1) := dk_172 (dk_at dksJ12_charAt_0 5 rfl rfl)
def dkwJ12_compareTo_0 : List UInt8 := [42, 43, 192, 0, 24, 182, 1, 90, 172]
abbrev dktJ12_compareTo_0 : List UInt8 := dkwJ12_compareTo_0 ++ []
theorem dksJ12_compareTo_0 : cJ12_compareTo.data.toList.drop 0 = dktJ12_compareTo_0 := by decide +kernel
theorem dJ12_compareTo_0 : decode cJ12_compareTo 0 = .ok (.aload_n 0, 1) := dk_42 (dk_at dksJ12_compareTo_0 0 rfl rfl)
theorem dJ12_compareTo_1 : decode cJ12_compareTo 1 = .ok (.aload_n 1, 1) := dk_43 (dk_at dksJ12_compareTo_0 1 rfl rfl)
theorem dJ12_compareTo_2 : decode cJ12_compareTo 2 = .ok (.checkcast 24, 3) := dk_192 0 24 (dk_at dksJ12_compareTo_0 2 rfl rfl)
theorem dJ12_compareTo_5 : decode cJ12_compareTo 5 = .ok (.invokevirtual 346, 3) := dk_182 1 90 (dk_at dksJ12_compareTo_0 5 rfl rfl)
theorem dJ12_compareTo_8 : decode cJ12_compareTo 8 = .ok (.ireturn, 1) := dk_172 (dk_at dksJ12_compareTo_0 8 rfl rfl)
def dkwJ12_compareTo_2_0 : List UInt8 := [42, 43, 183, 0, 13, 172]
abbrev dktJ12_compareTo_2_0 : List UInt8 := dkwJ12_compareTo_2_0 ++ []
theorem dksJ12_compareTo_2_0 : cJ12_compareTo_2.data.toList.drop 0 = dktJ12_compareTo_2_0 := by decide +kernel
theorem dJ12_compareTo_2_0 : decode cJ12_compareTo_2 0 = .ok (.aload_n 0, 1) := dk_42 (dk_at dksJ12_compareTo_2_0 0 rfl rfl)
theorem dJ12_compareTo_2_1 : decode cJ12_compareTo_2 1 = .ok (.aload_n 1, 1) := dk_43 (dk_at dksJ12_compareTo_2_0 1 rfl rfl)
theorem dJ12_compareTo_2_2 : decode cJ12_compareTo_2 2 = .ok (.invokespecial 13, 3) := dk_183 0 13 (dk_at dksJ12_compareTo_2_0 2 rfl rfl)
theorem dJ12_compareTo_2_5 : decode cJ12_compareTo_2 5 = .ok (.ireturn, 1) := dk_172 (dk_at dksJ12_compareTo_2_0 5 rfl rfl)
def dkwJ12_append_3_0 : List UInt8 := [42, 27, 183, 0, 50, 87, 42, 176]
abbrev dktJ12_append_3_0 : List UInt8 := dkwJ12_append_3_0 ++ []
theorem dksJ12_append_3_0 : cJ12_append_3.data.toList.drop 0 = dktJ12_append_3_0 := by decide +kernel
theorem dJ12_append_3_0 : decode cJ12_append_3 0 = .ok (.aload_n 0, 1) := dk_42 (dk_at dksJ12_append_3_0 0 rfl rfl)
theorem dJ12_append_3_1 : decode cJ12_append_3 1 = .ok (.iload_n 1, 1) := dk_27 (dk_at dksJ12_append_3_0 1 rfl rfl)
theorem dJ12_append_3_2 : decode cJ12_append_3 2 = .ok (.invokespecial 50, 3) := dk_183 0 50 (dk_at dksJ12_append_3_0 2 rfl rfl)
theorem dJ12_append_3_5 : decode cJ12_append_3 5 = .ok (.pop, 1) := dk_87 (dk_at dksJ12_append_3_0 5 rfl rfl)
theorem dJ12_append_3_6 : decode cJ12_append_3 6 = .ok (.aload_n 0, 1) := dk_42 (dk_at dksJ12_append_3_0 6 rfl rfl)
theorem dJ12_append_3_7 : decode cJ12_append_3 7 = .ok (.areturn, 1) := dk_176 (dk_at dksJ12_append_3_0 7 rfl rfl)
def dkwJ13_length_0 : List UInt8 := [42, 180, 0, 9, 190, 42, 182, 1, 79, 122, 172]
abbrev dktJ13_length_0 : List UInt8 := dkwJ13_length_0 ++ []
theorem dksJ13_length_0 : cJ13_length.data.toList.drop 0 = dktJ13_length_0 := by decide +kernel
theorem dJ13_length_0 : decode cJ13_length 0 = .ok (.aload_n 0, 1) := dk_42 (dk_at dksJ13_length_0 0 rfl rfl)
theorem dJ13_length_1 : decode cJ13_length 1 = .ok (.getfield 9, 3) := dk_180 0 9 (dk_at dksJ13_length_0 1 rfl rfl)
theorem dJ13_length_4 : decode cJ13_length 4 = .ok (.arraylength, 1) := dk_190 (dk_at dksJ13_length_0 4 rfl rfl)
theorem dJ13_length_5 : decode cJ13_length 5 = .ok (.aload_n 0, 1) := dk_42 (dk_at dksJ13_length_0 5 rfl rfl)
theorem dJ13_length_6 : decode cJ13_length 6 = .ok (.invokevirtual 335, 3) := dk_182 1 79 (dk_at dksJ13_length_0 6 rfl rfl)
theorem dJ13_length_9 : decode cJ13_length 9 = .ok (.ishr, 1) := dk_122 (dk_at dksJ13_length_0 9 rfl rfl)
theorem dJ13_length_10 : decode cJ13_length 10 = .ok (.ireturn, 1) := dk_172 (dk_at dksJ13_length_0 10 rfl rfl)
def dkwJ13_checkIndex_0 : List UInt8 := [26, 27, 178, 4, 29, 184, 4, 35, 87, 177]
abbrev dktJ13_checkIndex_0 : List UInt8 := dkwJ13_checkIndex_0 ++ []
theorem dksJ13_checkIndex_0 : cJ13_checkIndex.data.toList.drop 0 = dktJ13_checkIndex_0 := by decide +kernel
theorem dJ13_checkIndex_0 : decode cJ13_checkIndex 0 = .ok (.iload_n 0, 1) := dk_26 (dk_at dksJ13_checkIndex_0 0 rfl rfl)
theorem dJ13_checkIndex_1 : decode cJ13_checkIndex 1 = .ok (.iload_n 1, 1) := dk_27 (dk_at dksJ13_checkIndex_0 1 rfl rfl)
theorem dJ13_checkIndex_2 : decode cJ13_checkIndex 2 = .ok (.getstatic 1053, 3) := dk_178 4 29 (dk_at dksJ13_checkIndex_0 2 rfl rfl)
theorem dJ13_checkIndex_5 : decode cJ13_checkIndex 5 = .ok (.invokestatic 1059, 3) := dk_184 4 35 (dk_at dksJ13_checkIndex_0 5 rfl rfl)
theorem dJ13_checkIndex_8 : decode cJ13_checkIndex 8 = .ok (.pop, 1) := dk_87 (dk_at dksJ13_checkIndex_0 8 rfl rfl)
theorem dJ13_checkIndex_9 : decode cJ13_checkIndex 9 = .ok (.return_, 1) := dk_177 (dk_at dksJ13_checkIndex_0 9 rfl rfl)
def dkwJ13_compareTo_0 : List UInt8 := [42, 43, 192, 0, 10, 182, 4, 60, 172]
abbrev dktJ13_compareTo_0 : List UInt8 := dkwJ13_compareTo_0 ++ []
theorem dksJ13_compareTo_0 : cJ13_compareTo.data.toList.drop 0 = dktJ13_compareTo_0 := by decide +kernel
theorem dJ13_compareTo_0 : decode cJ13_compareTo 0 = .ok (.aload_n 0, 1) := dk_42 (dk_at dksJ13_compareTo_0 0 rfl rfl)
theorem dJ13_compareTo_1 : decode cJ13_compareTo 1 = .ok (.aload_n 1, 1) := dk_43 (dk_at dksJ13_compareTo_0 1 rfl rfl)
theorem dJ13_compareTo_2 : decode cJ13_compareTo 2 = .ok (.checkcast 10, 3) := dk_192 0 10 (dk_at dksJ13_compareTo_0 2 rfl rfl)
theorem dJ13_compareTo_5 : decode cJ13_compareTo 5 = .ok (.invokevirtual 1084, 3) := dk_182 4 60 (dk_at dksJ13_compareTo_0 5 rfl rfl)
theorem dJ13_compareTo_8 : decode cJ13_compareTo 8 = .ok (.ireturn, 1) := dk_172 (dk_at dksJ13_compareTo_0 8 rfl rfl)
def dkwJ13_compareTo_2_2 : List UInt8 := [154, 0, 11, 44, 45, 184, 2, 79, 167, 0, 8, 44, 45, 184, 2, 82, 172]
abbrev dktJ13_compareTo_2_2 : List UInt8 := dkwJ13_compareTo_2_2 ++ []
def dkwJ13_compareTo_2_1 : List UInt8 := [160, 0, 22, 21, 4, 154, 0, 11, 44, 45, 184, 2, 74, 167, 0, 8, 44, 45, 184, 2, 78, 172, 21, 4]
abbrev dktJ13_compareTo_2_1 : List UInt8 := dkwJ13_compareTo_2_1 ++ dktJ13_compareTo_2_2
def dkwJ13_compareTo_2_0 : List UInt8 := [42, 180, 0, 9, 77, 43, 180, 0, 9, 78, 42, 182, 1, 79, 54, 4, 21, 4, 43, 182, 1, 79]
abbrev dktJ13_compareTo_2_0 : List UInt8 := dkwJ13_compareTo_2_0 ++ dktJ13_compareTo_2_1
theorem dksJ13_compareTo_2_0 : cJ13_compareTo_2.data.toList.drop 0 = dktJ13_compareTo_2_0 := by decide +kernel
theorem dksJ13_compareTo_2_1 : cJ13_compareTo_2.data.toList.drop 22 = dktJ13_compareTo_2_1 := dk_seg dksJ13_compareTo_2_0 22 rfl rfl
theorem dksJ13_compareTo_2_2 : cJ13_compareTo_2.data.toList.drop 46 = dktJ13_compareTo_2_2 := dk_seg dksJ13_compareTo_2_1 24 rfl rfl
theorem dJ13_compareTo_2_0 : decode cJ13_compareTo_2 0 = .ok (.aload_n 0, 1) := dk_42 (dk_at dksJ13_compareTo_2_0 0 rfl rfl)
theorem dJ13_compareTo_2_1 : decode cJ13_compareTo_2 1 = .ok (.getfield 9, 3) := dk_180 0 9 (dk_at dksJ13_compareTo_2_0 1 rfl rfl)
theorem dJ13_compareTo_2_4 : decode cJ13_compareTo_2 4 = .ok (.astore_n 2, 1) := dk_77 (dk_at dksJ13_compareTo_2_0 4 rfl rfl)
theorem dJ13_compareTo_2_5 : decode cJ13_compareTo_2 5 = .ok (.aload_n 1, 1) := dk_43 (dk_at dksJ13_compareTo_2_0 5 rfl rfl)
theorem dJ13_compareTo_2_6 : decode cJ13_compareTo_2 6 = .ok (.getfield 9, 3) := dk_180 0 9 (dk_at dksJ13_compareTo_2_0 6 rfl rfl)
theorem dJ13_compareTo_2_9 : decode cJ13_compareTo_2 9 = .ok (.astore_n 3, 1) := dk_78 (dk_at dksJ13_compareTo_2_0 9 rfl rfl)
theorem dJ13_compareTo_2_10 : decode cJ13_compareTo_2 10 = .ok (.aload_n 0, 1) := dk_42 (dk_at dksJ13_compareTo_2_0 10 rfl rfl)
theorem dJ13_compareTo_2_11 : decode cJ13_compareTo_2 11 = .ok (.invokevirtual 335, 3) := dk_182 1 79 (dk_at dksJ13_compareTo_2_0 11 rfl rfl)
theorem dJ13_compareTo_2_14 : decode cJ13_compareTo_2 14 = .ok (.istore 4, 2) := dk_54 4 (dk_at dksJ13_compareTo_2_0 14 rfl rfl)
theorem dJ13_compareTo_2_16 : decode cJ13_compareTo_2 16 = .ok (.iload 4, 2) := dk_21 4 (dk_at dksJ13_compareTo_2_0 16 rfl rfl)
theorem dJ13_compareTo_2_18 : decode cJ13_compareTo_2 18 = .ok (.aload_n 1, 1) := dk_43 (dk_at dksJ13_compareTo_2_0 18 rfl rfl)
theorem dJ13_compareTo_2_19 : decode cJ13_compareTo_2 19 = .ok (.invokevirtual 335, 3) := dk_182 1 79 (dk_at dksJ13_compareTo_2_0 19 rfl rfl)
theorem dJ13_compareTo_2_22 : decode cJ13_compareTo_2 22 = .ok (.if_icmp .ne 22, 3) := dk_160 0 22 (dk_at dksJ13_compareTo_2_1 0 rfl rfl)
theorem dJ13_compareTo_2_25 : decode cJ13_compareTo_2 25 = .ok (.iload 4, 2) := dk_21 4 (dk_at dksJ13_compareTo_2_1 3 rfl rfl)
theorem dJ13_compareTo_2_27 : decode cJ13_compareTo_2 27 = .ok (.ifCond .ne 11, 3) := dk_154 0 11 (dk_at dksJ13_compareTo_2_1 5 rfl rfl)
theorem dJ13_compareTo_2_30 : decode cJ13_compareTo_2 30 = .ok (.aload_n 2, 1) := dk_44 (dk_at dksJ13_compareTo_2_1 8 rfl rfl)
theorem dJ13_compareTo_2_31 : decode cJ13_compareTo_2 31 = .ok (.aload_n 3, 1) := dk_45 (dk_at dksJ13_compareTo_2_1 9 rfl rfl)
theorem dJ13_compareTo_2_32 : decode cJ13_compareTo_2 32 = .ok (.invokestatic 586, 3) := dk_184 2 74 (dk_at dksJ13_compareTo_2_1 10 rfl rfl)
theorem dJ13_compareTo_2_35 : decode cJ13_compareTo_2 35 = .ok (.goto 8, 3) := dk_167 0 8 (dk_at dksJ13_compareTo_2_1 13 rfl rfl)
theorem dJ13_compareTo_2_38 : decode cJ13_compareTo_2 38 = .ok (.aload_n 2, 1) := dk_44 (dk_at dksJ13_compareTo_2_1 16 rfl rfl)
theorem dJ13_compareTo_2_39 : decode cJ13_compareTo_2 39 = .ok (.aload_n 3, 1) := dk_45 (dk_at dksJ13_compareTo_2_1 17 rfl rfl)
theorem dJ13_compareTo_2_40 : decode cJ13_compareTo_2 40 = .ok (.invokestatic 590, 3) := dk_184 2 78 (dk_at dksJ13_compareTo_2_1 18 rfl rfl)
theorem dJ13_compareTo_2_43 : decode cJ13_compareTo_2 43 = .ok (.ireturn, 1) := dk_172 (dk_at dksJ13_compareTo_2_1 21 rfl rfl)
theorem dJ13_compareTo_2_44 : decode cJ13_compareTo_2 44 = .ok (.iload 4, 2) := dk_21 4 (dk_at dksJ13_compareTo_2_1 22 rfl rfl)
theorem dJ13_compareTo_2_46 : decode cJ13_compareTo_2 46 = .ok (.ifCond .ne 11, 3) := dk_154 0 11 (dk_at dksJ13_compareTo_2_2 0 rfl rfl)
theorem dJ13_compareTo_2_49 : decode cJ13_compareTo_2 49 = .ok (.aload_n 2, 1) := dk_44 (dk_at dksJ13_compareTo_2_2 3 rfl rfl)
theorem dJ13_compareTo_2_50 : decode cJ13_compareTo_2 50 = .ok (.aload_n 3, 1) := dk_45 (dk_at dksJ13_compareTo_2_2 4 rfl rfl)
theorem dJ13_compareTo_2_51 : decode cJ13_compareTo_2 51 = .ok (.invokestatic 591, 3) := dk_184 2 79 (dk_at dksJ13_compareTo_2_2 5 rfl rfl)
theorem dJ13_compareTo_2_54 : decode cJ13_compareTo_2 54 = .ok (.goto 8, 3) := dk_167 0 8 (dk_at dksJ13_compareTo_2_2 8 rfl rfl)
theorem dJ13_compareTo_2_57 : decode cJ13_compareTo_2 57 = .ok (.aload_n 2, 1) := dk_44 (dk_at dksJ13_compareTo_2_2 11 rfl rfl)
theorem dJ13_compareTo_2_58 : decode cJ13_compareTo_2 58 = .ok (.aload_n 3, 1) := dk_45 (dk_at dksJ13_compareTo_2_2 12 rfl rfl)
theorem dJ13_compareTo_2_59 : decode cJ13_compareTo_2 59 = .ok (.invokestatic 594, 3) := dk_184 2 82 (dk_at dksJ13_compareTo_2_2 13 rfl rfl)
theorem dJ13_compareTo_2_62 : decode cJ13_compareTo_2 62 = .ok (.ireturn, 1) := dk_172 (dk_at dksJ13_compareTo_2_2 16 rfl rfl)
def dkwJ13_checkOffset_0 : List UInt8 := [26, 27, 27, 178, 4, 29, 184, 4, 38, 87, 177]
abbrev dktJ13_checkOffset_0 : List UInt8 := dkwJ13_checkOffset_0 ++ []
theorem dksJ13_checkOffset_0 : cJ13_checkOffset.data.toList.drop 0 = dktJ13_checkOffset_0 := by decide +kernel
theorem dJ13_checkOffset_0 : decode cJ13_checkOffset 0 = .ok (.iload_n 0, 1) := dk_26 (dk_at dksJ13_checkOffset_0 0 rfl rfl)
theorem dJ13_checkOffset_1 : decode cJ13_checkOffset 1 = .ok (.iload_n 1, 1) := dk_27 (dk_at dksJ13_checkOffset_0 1 rfl rfl)
theorem dJ13_checkOffset_2 : decode cJ13_checkOffset 2 = .ok (.iload_n 1, 1) := dk_27 (dk_at dksJ13_checkOffset_0 2 rfl rfl)
theorem dJ13_checkOffset_3 : decode cJ13_checkOffset 3 = .ok (.getstatic 1053, 3) := dk_178 4 29 (dk_at dksJ13_checkOffset_0 3 rfl rfl)
theorem dJ13_checkOffset_6 : decode cJ13_checkOffset 6 = .ok (.invokestatic 1062, 3) := dk_184 4 38 (dk_at dksJ13_checkOffset_0 6 rfl rfl)
theorem dJ13_checkOffset_9 : decode cJ13_checkOffset 9 = .ok (.pop, 1) := dk_87 (dk_at dksJ13_checkOffset_0 9 rfl rfl)
theorem dJ13_checkOffset_10 : decode cJ13_checkOffset 10 = .ok (.return_, 1) := dk_177 (dk_at dksJ13_checkOffset_0 10 rfl rfl)
def dkwJ17_requireNonNull_0 : List UInt8 := [42, 199, 0, 11, 187, 0, 84, 89, 183, 0, 86, 191, 42, 176]
abbrev dktJ17_requireNonNull_0 : List UInt8 := dkwJ17_requireNonNull_0 ++ []
theorem dksJ17_requireNonNull_0 : cJ17_requireNonNull.data.toList.drop 0 = dktJ17_requireNonNull_0 := by decide +kernel
theorem dJ17_requireNonNull_0 : decode cJ17_requireNonNull 0 = .ok (.aload_n 0, 1) := dk_42 (dk_at dksJ17_requireNonNull_0 0 rfl rfl)
theorem dJ17_requireNonNull_1 : decode cJ17_requireNonNull 1 = .ok (.ifnonnull 11, 3) := dk_199 0 11 (dk_at dksJ17_requireNonNull_0 1 rfl rfl)
theorem dJ17_requireNonNull_4 : decode cJ17_requireNonNull 4 = .ok (.new 84, 3) := dk_187 0 84 (dk_at dksJ17_requireNonNull_0 4 rfl rfl)
theorem dJ17_requireNonNull_7 : decode cJ17_requireNonNull 7 = .ok (.dup, 1) := dk_89 (dk_at dksJ17_requireNonNull_0 7 rfl rfl)
theorem dJ17_requireNonNull_8 : decode cJ17_requireNonNull 8 = .ok (.invokespecial 86, 3) := dk_183 0 86 (dk_at dksJ17_requireNonNull_0 8 rfl rfl)
theorem dJ17_requireNonNull_11 : decode cJ17_requireNonNull 11 = .ok (.athrow, 1) := dk_191 (dk_at dksJ17_requireNonNull_0 11 rfl rfl)
theorem dJ17_requireNonNull_12 : decode cJ17_requireNonNull 12 = .ok (.aload_n 0, 1) := dk_42 (dk_at dksJ17_requireNonNull_0 12 rfl rfl)
theorem dJ17_requireNonNull_13 : decode cJ17_requireNonNull 13 = .ok (.areturn, 1) := dk_176 (dk_at dksJ17_requireNonNull_0 13 rfl rfl)
def dkwJ17_equals_0 : List UInt8 := [42, 43, 165, 0, 15, 42, 198, 0, 15, 42, 43, 182, 0, 14, 153, 0, 7, 4, 167, 0, 4, 3, 172]
abbrev dktJ17_equals_0 : List UInt8 := dkwJ17_equals_0 ++ []
theorem dksJ17_equals_0 : cJ17_equals.data.toList.drop 0 = dktJ17_equals_0 := by decide +kernel
theorem dJ17_equals_0 : decode cJ17_equals 0 = .ok (.aload_n 0, 1) := dk_42 (dk_at dksJ17_equals_0 0 rfl rfl)
theorem dJ17_equals_1 : decode cJ17_equals 1 = .ok (.aload_n 1, 1) := dk_43 (dk_at dksJ17_equals_0 1 rfl rfl)
theorem dJ17_equals_2 : decode cJ17_equals 2 = .ok (.if_acmp .eq 15, 3) := dk_165 0 15 (dk_at dksJ17_equals_0 2 rfl rfl)
theorem dJ17_equals_5 : decode cJ17_equals 5 = .ok (.aload_n 0, 1) := dk_42 (dk_at dksJ17_equals_0 5 rfl rfl)
theorem dJ17_equals_6 : decode cJ17_equals 6 = .ok (.ifnull 15, 3) := dk_198 0 15 (dk_at dksJ17_equals_0 6 rfl rfl)
theorem dJ17_equals_9 : decode cJ17_equals 9 = .ok (.aload_n 0, 1) := dk_42 (dk_at dksJ17_equals_0 9 rfl rfl)
theorem dJ17_equals_10 : decode cJ17_equals 10 = .ok (.aload_n 1, 1) := dk_43 (dk_at dksJ17_equals_0 10 rfl rfl)
theorem dJ17_equals_11 : decode cJ17_equals 11 = .ok (.invokevirtual 14, 3) := dk_182 0 14 (dk_at dksJ17_equals_0 11 rfl rfl)
theorem dJ17_equals_14 : decode cJ17_equals 14 = .ok (.ifCond .eq 7, 3) := dk_153 0 7 (dk_at dksJ17_equals_0 14 rfl rfl)
theorem dJ17_equals_17 : decode cJ17_equals 17 = .ok (.iconst 1, 1) := dk_4 (dk_at dksJ17_equals_0 17 rfl rfl)
theorem dJ17_equals_18 : decode cJ17_equals 18 = .ok (.goto 4, 3) := dk_167 0 4 (dk_at dksJ17_equals_0 18 rfl rfl)
theorem dJ17_equals_21 : decode cJ17_equals 21 = .ok (.iconst 0, 1) := dk_3 (dk_at dksJ17_equals_0 21 rfl rfl)
theorem dJ17_equals_22 : decode cJ17_equals 22 = .ok (.ireturn, 1) := dk_172 (dk_at dksJ17_equals_0 22 rfl rfl)
def dkwJ17_checkIndex_0 : List UInt8 := [26, 27, 1, 184, 0, 105, 172]
abbrev dktJ17_checkIndex_0 : List UInt8 := dkwJ17_checkIndex_0 ++ []
theorem dksJ17_checkIndex_0 : cJ17_checkIndex.data.toList.drop 0 = dktJ17_checkIndex_0 := by decide +kernel
theorem dJ17_checkIndex_0 : decode cJ17_checkIndex 0 = .ok (.iload_n 0, 1) := dk_26 (dk_at dksJ17_checkIndex_0 0 rfl rfl)
theorem dJ17_checkIndex_1 : decode cJ17_checkIndex 1 = .ok (.iload_n 1, 1) := dk_27 (dk_at dksJ17_checkIndex_0 1 rfl rfl)
theorem dJ17_checkIndex_2 : decode cJ17_checkIndex 2 = .ok (.aconst_null, 1) := dk_1 (dk_at dksJ17_checkIndex_0 2 rfl rfl)
theorem dJ17_checkIndex_3 : decode cJ17_checkIndex 3 = .ok (.invokestatic 105, 3) := dk_184 0 105 (dk_at dksJ17_checkIndex_0 3 rfl rfl)
theorem dJ17_checkIndex_6 : decode cJ17_checkIndex 6 = .ok (.ireturn, 1) := dk_172 (dk_at dksJ17_checkIndex_0 6 rfl rfl)
def dkwJ18_checkFromToIndex_0 : List UInt8 := [26, 155, 0, 13, 26, 27, 163, 0, 8, 27, 28, 164, 0, 11, 45, 26, 27, 28, 184, 0, 99, 191, 26, 172]
abbrev dktJ18_checkFromToIndex_0 : List UInt8 := dkwJ18_checkFromToIndex_0 ++ []
theorem dksJ18_checkFromToIndex_0 : cJ18_checkFromToIndex.data.toList.drop 0 = dktJ18_checkFromToIndex_0 := by decide +kernel
theorem dJ18_checkFromToIndex_0 : decode cJ18_checkFromToIndex 0 = .ok (.iload_n 0, 1) := dk_26 (dk_at dksJ18_checkFromToIndex_0 0 rfl rfl)
theorem dJ18_checkFromToIndex_1 : decode cJ18_checkFromToIndex 1 = .ok (.ifCond .lt 13, 3) := dk_155 0 13 (dk_at dksJ18_checkFromToIndex_0 1 rfl rfl)
theorem dJ18_checkFromToIndex_4 : decode cJ18_checkFromToIndex 4 = .ok (.iload_n 0, 1) := dk_26 (dk_at dksJ18_checkFromToIndex_0 4 rfl rfl)
theorem dJ18_checkFromToIndex_5 : decode cJ18_checkFromToIndex 5 = .ok (.iload_n 1, 1) := dk_27 (dk_at dksJ18_checkFromToIndex_0 5 rfl rfl)
theorem dJ18_checkFromToIndex_6 : decode cJ18_checkFromToIndex 6 = .ok (.if_icmp .gt 8, 3) := dk_163 0 8 (dk_at dksJ18_checkFromToIndex_0 6 rfl rfl)
theorem dJ18_checkFromToIndex_9 : decode cJ18_checkFromToIndex 9 = .ok (.iload_n 1, 1) := dk_27 (dk_at dksJ18_checkFromToIndex_0 9 rfl rfl)
theorem dJ18_checkFromToIndex_10 : decode cJ18_checkFromToIndex 10 = .ok (.iload_n 2, 1) := dk_28 (dk_at dksJ18_checkFromToIndex_0 10 rfl rfl)
theorem dJ18_checkFromToIndex_11 : decode cJ18_checkFromToIndex 11 = .ok (.if_icmp .le 11, 3) := dk_164 0 11 (dk_at dksJ18_checkFromToIndex_0 11 rfl rfl)
theorem dJ18_checkFromToIndex_14 : decode cJ18_checkFromToIndex 14 = .ok (.aload_n 3, 1) := dk_45 (dk_at dksJ18_checkFromToIndex_0 14 rfl rfl)
theorem dJ18_checkFromToIndex_15 : decode cJ18_checkFromToIndex 15 = .ok (.iload_n 0, 1) := dk_26 (dk_at dksJ18_checkFromToIndex_0 15 rfl rfl)
theorem dJ18_checkFromToIndex_16 : decode cJ18_checkFromToIndex 16 = .ok (.iload_n 1, 1) := dk_27 (dk_at dksJ18_checkFromToIndex_0 16 rfl rfl)
theorem dJ18_checkFromToIndex_17 : decode cJ18_checkFromToIndex 17 = .ok (.iload_n 2, 1) := dk_28 (dk_at dksJ18_checkFromToIndex_0 17 rfl rfl)
theorem dJ18_checkFromToIndex_18 : decode cJ18_checkFromToIndex 18 = .ok (.invokestatic 99, 3) := dk_184 0 99 (dk_at dksJ18_checkFromToIndex_0 18 rfl rfl)
theorem dJ18_checkFromToIndex_21 : decode cJ18_checkFromToIndex 21 = .ok (.athrow, 1) := dk_191 (dk_at dksJ18_checkFromToIndex_0 21 rfl rfl)
theorem dJ18_checkFromToIndex_22 : decode cJ18_checkFromToIndex 22 = .ok (.iload_n 0, 1) := dk_26 (dk_at dksJ18_checkFromToIndex_0 22 rfl rfl)
theorem dJ18_checkFromToIndex_23 : decode cJ18_checkFromToIndex 23 = .ok (.ireturn, 1) := dk_172 (dk_at dksJ18_checkFromToIndex_0 23 rfl rfl)
def dkwJ18_checkFromIndexSize_1 : List UInt8 := [172]
abbrev dktJ18_checkFromIndexSize_1 : List UInt8 := dkwJ18_checkFromIndexSize_1 ++ []
def dkwJ18_checkFromIndexSize_0 : List UInt8 := [28, 26, 128, 27, 128, 155, 0, 10, 27, 28, 26, 100, 164, 0, 11, 45, 26, 27, 28, 184, 0, 103, 191, 26]
abbrev dktJ18_checkFromIndexSize_0 : List UInt8 := dkwJ18_checkFromIndexSize_0 ++ dktJ18_checkFromIndexSize_1
theorem dksJ18_checkFromIndexSize_0 : cJ18_checkFromIndexSize.data.toList.drop 0 = dktJ18_checkFromIndexSize_0 := by decide +kernel
theorem dksJ18_checkFromIndexSize_1 : cJ18_checkFromIndexSize.data.toList.drop 24 = dktJ18_checkFromIndexSize_1 := dk_seg dksJ18_checkFromIndexSize_0 24 rfl rfl
theorem dJ18_checkFromIndexSize_0 : decode cJ18_checkFromIndexSize 0 = .ok (.iload_n 2, 1) := dk_28 (dk_at dksJ18_checkFromIndexSize_0 0 rfl rfl)
theorem dJ18_checkFromIndexSize_1 : decode cJ18_checkFromIndexSize 1 = .ok (.iload_n 0, 1) := dk_26 (dk_at dksJ18_checkFromIndexSize_0 1 rfl rfl)
theorem dJ18_checkFromIndexSize_2 : decode cJ18_checkFromIndexSize 2 = .ok (.ior, 1) := dk_128 (dk_at dksJ18_checkFromIndexSize_0 2 rfl rfl)
theorem dJ18_checkFromIndexSize_3 : decode cJ18_checkFromIndexSize 3 = .ok (.iload_n 1, 1) := dk_27 (dk_at dksJ18_checkFromIndexSize_0 3 rfl rfl)
theorem dJ18_checkFromIndexSize_4 : decode cJ18_checkFromIndexSize 4 = .ok (.ior, 1) := dk_128 (dk_at dksJ18_checkFromIndexSize_0 4 rfl rfl)
theorem dJ18_checkFromIndexSize_5 : decode cJ18_checkFromIndexSize 5 = .ok (.ifCond .lt 10, 3) := dk_155 0 10 (dk_at dksJ18_checkFromIndexSize_0 5 rfl rfl)
theorem dJ18_checkFromIndexSize_8 : decode cJ18_checkFromIndexSize 8 = .ok (.iload_n 1, 1) := dk_27 (dk_at dksJ18_checkFromIndexSize_0 8 rfl rfl)
theorem dJ18_checkFromIndexSize_9 : decode cJ18_checkFromIndexSize 9 = .ok (.iload_n 2, 1) := dk_28 (dk_at dksJ18_checkFromIndexSize_0 9 rfl rfl)
theorem dJ18_checkFromIndexSize_10 : decode cJ18_checkFromIndexSize 10 = .ok (.iload_n 0, 1) := dk_26 (dk_at dksJ18_checkFromIndexSize_0 10 rfl rfl)
theorem dJ18_checkFromIndexSize_11 : decode cJ18_checkFromIndexSize 11 = .ok (.isub, 1) := dk_100 (dk_at dksJ18_checkFromIndexSize_0 11 rfl rfl)
theorem dJ18_checkFromIndexSize_12 : decode cJ18_checkFromIndexSize 12 = .ok (.if_icmp .le 11, 3) := dk_164 0 11 (dk_at dksJ18_checkFromIndexSize_0 12 rfl rfl)
theorem dJ18_checkFromIndexSize_15 : decode cJ18_checkFromIndexSize 15 = .ok (.aload_n 3, 1) := dk_45 (dk_at dksJ18_checkFromIndexSize_0 15 rfl rfl)
theorem dJ18_checkFromIndexSize_16 : decode cJ18_checkFromIndexSize 16 = .ok (.iload_n 0, 1) := dk_26 (dk_at dksJ18_checkFromIndexSize_0 16 rfl rfl)
theorem dJ18_checkFromIndexSize_17 : decode cJ18_checkFromIndexSize 17 = .ok (.iload_n 1, 1) := dk_27 (dk_at dksJ18_checkFromIndexSize_0 17 rfl rfl)
theorem dJ18_checkFromIndexSize_18 : decode cJ18_checkFromIndexSize 18 = .ok (.iload_n 2, 1) := dk_28 (dk_at dksJ18_checkFromIndexSize_0 18 rfl rfl)
theorem dJ18_checkFromIndexSize_19 : decode cJ18_checkFromIndexSize 19 = .ok (.invokestatic 103, 3) := dk_184 0 103 (dk_at dksJ18_checkFromIndexSize_0 19 rfl rfl)
theorem dJ18_checkFromIndexSize_22 : decode cJ18_checkFromIndexSize 22 = .ok (.athrow, 1) := dk_191 (dk_at dksJ18_checkFromIndexSize_0 22 rfl rfl)
theorem dJ18_checkFromIndexSize_23 : decode cJ18_checkFromIndexSize 23 = .ok (.iload_n 0, 1) := dk_26 (dk_at dksJ18_checkFromIndexSize_0 23 rfl rfl)
theorem dJ18_checkFromIndexSize_24 : decode cJ18_checkFromIndexSize 24 = .ok (.ireturn, 1) := dk_172 (dk_at dksJ18_checkFromIndexSize_1 0 rfl rfl)
def dkwJ18_checkIndex_0 : List UInt8 := [26, 155, 0, 8, 26, 27, 161, 0, 10, 44, 26, 27, 184, 0, 95, 191, 26, 172]
abbrev dktJ18_checkIndex_0 : List UInt8 := dkwJ18_checkIndex_0 ++ []
theorem dksJ18_checkIndex_0 : cJ18_checkIndex.data.toList.drop 0 = dktJ18_checkIndex_0 := by decide +kernel
theorem dJ18_checkIndex_0 : decode cJ18_checkIndex 0 = .ok (.iload_n 0, 1) := dk_26 (dk_at dksJ18_checkIndex_0 0 rfl rfl)
theorem dJ18_checkIndex_1 : decode cJ18_checkIndex 1 = .ok (.ifCond .lt 8, 3) := dk_155 0 8 (dk_at dksJ18_checkIndex_0 1 rfl rfl)
theorem dJ18_checkIndex_4 : decode cJ18_checkIndex 4 = .ok (.iload_n 0, 1) := dk_26 (dk_at dksJ18_checkIndex_0 4 rfl rfl)
theorem dJ18_checkIndex_5 : decode cJ18_checkIndex 5 = .ok (.iload_n 1, 1) := dk_27 (dk_at dksJ18_checkIndex_0 5 rfl rfl)
theorem dJ18_checkIndex_6 : decode cJ18_checkIndex 6 = .ok (.if_icmp .lt 10, 3) := dk_161 0 10 (dk_at dksJ18_checkIndex_0 6 rfl rfl)
theorem dJ18_checkIndex_9 : decode cJ18_checkIndex 9 = .ok (.aload_n 2, 1) := dk_44 (dk_at dksJ18_checkIndex_0 9 rfl rfl)
theorem dJ18_checkIndex_10 : decode cJ18_checkIndex 10 = .ok (.iload_n 0, 1) := dk_26 (dk_at dksJ18_checkIndex_0 10 rfl rfl)
theorem dJ18_checkIndex_11 : decode cJ18_checkIndex 11 = .ok (.iload_n 1, 1) := dk_27 (dk_at dksJ18_checkIndex_0 11 rfl rfl)
theorem dJ18_checkIndex_12 : decode cJ18_checkIndex 12 = .ok (.invokestatic 95, 3) := dk_184 0 95 (dk_at dksJ18_checkIndex_0 12 rfl rfl)
theorem dJ18_checkIndex_15 : decode cJ18_checkIndex 15 = .ok (.athrow, 1) := dk_191 (dk_at dksJ18_checkIndex_0 15 rfl rfl)
theorem dJ18_checkIndex_16 : decode cJ18_checkIndex 16 = .ok (.iload_n 0, 1) := dk_26 (dk_at dksJ18_checkIndex_0 16 rfl rfl)
theorem dJ18_checkIndex_17 : decode cJ18_checkIndex 17 = .ok (.ireturn, 1) := dk_172 (dk_at dksJ18_checkIndex_0 17 rfl rfl)
def dkwJ19_inflate_0 : List UInt8 := [42, 27, 44, 29, 21, 4, 184, 0, 240, 177]
abbrev dktJ19_inflate_0 : List UInt8 := dkwJ19_inflate_0 ++ []
theorem dksJ19_inflate_0 : cJ19_inflate.data.toList.drop 0 = dktJ19_inflate_0 := by decide +kernel
theorem dJ19_inflate_0 : decode cJ19_inflate 0 = .ok (.aload_n 0, 1) := dk_42 (dk_at dksJ19_inflate_0 0 rfl rfl)
theorem dJ19_inflate_1 : decode cJ19_inflate 1 = .ok (.iload_n 1, 1) := dk_27 (dk_at dksJ19_inflate_0 1 rfl rfl)
theorem dJ19_inflate_2 : decode cJ19_inflate 2 = .ok (.aload_n 2, 1) := dk_44 (dk_at dksJ19_inflate_0 2 rfl rfl)
theorem dJ19_inflate_3 : decode cJ19_inflate 3 = .ok (.iload_n 3, 1) := dk_29 (dk_at dksJ19_inflate_0 3 rfl rfl)
theorem dJ19_inflate_4 : decode cJ19_inflate 4 = .ok (.iload 4, 2) := dk_21 4 (dk_at dksJ19_inflate_0 4 rfl rfl)
theorem dJ19_inflate_6 : decode cJ19_inflate 6 = .ok (.invokestatic 240, 3) := dk_184 0 240 (dk_at dksJ19_inflate_0 6 rfl rfl)
theorem dJ19_inflate_9 : decode cJ19_inflate 9 = .ok (.return_, 1) := dk_177 (dk_at dksJ19_inflate_0 9 rfl rfl)
def dkwJ19_fillNull_0 : List UInt8 := [42, 27, 28, 3, 184, 0, 236, 177]
abbrev dktJ19_fillNull_0 : List UInt8 := dkwJ19_fillNull_0 ++ []
theorem dksJ19_fillNull_0 : cJ19_fillNull.data.toList.drop 0 = dktJ19_fillNull_0 := by decide +kernel
theorem dJ19_fillNull_0 : decode cJ19_fillNull 0 = .ok (.aload_n 0, 1) := dk_42 (dk_at dksJ19_fillNull_0 0 rfl rfl)
theorem dJ19_fillNull_1 : decode cJ19_fillNull 1 = .ok (.iload_n 1, 1) := dk_27 (dk_at dksJ19_fillNull_0 1 rfl rfl)
theorem dJ19_fillNull_2 : decode cJ19_fillNull 2 = .ok (.iload_n 2, 1) := dk_28 (dk_at dksJ19_fillNull_0 2 rfl rfl)
theorem dJ19_fillNull_3 : decode cJ19_fillNull 3 = .ok (.iconst 0, 1) := dk_3 (dk_at dksJ19_fillNull_0 3 rfl rfl)
theorem dJ19_fillNull_4 : decode cJ19_fillNull 4 = .ok (.invokestatic 236, 3) := dk_184 0 236 (dk_at dksJ19_fillNull_0 4 rfl rfl)
theorem dJ19_fillNull_7 : decode cJ19_fillNull 7 = .ok (.return_, 1) := dk_177 (dk_at dksJ19_fillNull_0 7 rfl rfl)
def dkwJ19_compareTo_0 : List UInt8 := [42, 190, 61, 43, 190, 62, 42, 43, 28, 29, 184, 0, 34, 172]
abbrev dktJ19_compareTo_0 : List UInt8 := dkwJ19_compareTo_0 ++ []
theorem dksJ19_compareTo_0 : cJ19_compareTo.data.toList.drop 0 = dktJ19_compareTo_0 := by decide +kernel
theorem dJ19_compareTo_0 : decode cJ19_compareTo 0 = .ok (.aload_n 0, 1) := dk_42 (dk_at dksJ19_compareTo_0 0 rfl rfl)
theorem dJ19_compareTo_1 : decode cJ19_compareTo 1 = .ok (.arraylength, 1) := dk_190 (dk_at dksJ19_compareTo_0 1 rfl rfl)
theorem dJ19_compareTo_2 : decode cJ19_compareTo 2 = .ok (.istore_n 2, 1) := dk_61 (dk_at dksJ19_compareTo_0 2 rfl rfl)
theorem dJ19_compareTo_3 : decode cJ19_compareTo 3 = .ok (.aload_n 1, 1) := dk_43 (dk_at dksJ19_compareTo_0 3 rfl rfl)
theorem dJ19_compareTo_4 : decode cJ19_compareTo 4 = .ok (.arraylength, 1) := dk_190 (dk_at dksJ19_compareTo_0 4 rfl rfl)
theorem dJ19_compareTo_5 : decode cJ19_compareTo 5 = .ok (.istore_n 3, 1) := dk_62 (dk_at dksJ19_compareTo_0 5 rfl rfl)
theorem dJ19_compareTo_6 : decode cJ19_compareTo 6 = .ok (.aload_n 0, 1) := dk_42 (dk_at dksJ19_compareTo_0 6 rfl rfl)
theorem dJ19_compareTo_7 : decode cJ19_compareTo 7 = .ok (.aload_n 1, 1) := dk_43 (dk_at dksJ19_compareTo_0 7 rfl rfl)
theorem dJ19_compareTo_8 : decode cJ19_compareTo 8 = .ok (.iload_n 2, 1) := dk_28 (dk_at dksJ19_compareTo_0 8 rfl rfl)
theorem dJ19_compareTo_9 : decode cJ19_compareTo 9 = .ok (.iload_n 3, 1) := dk_29 (dk_at dksJ19_compareTo_0 9 rfl rfl)
theorem dJ19_compareTo_10 : decode cJ19_compareTo 10 = .ok (.invokestatic 34, 3) := dk_184 0 34 (dk_at dksJ19_compareTo_0 10 rfl rfl)
theorem dJ19_compareTo_13 : decode cJ19_compareTo 13 = .ok (.ireturn, 1) := dk_172 (dk_at dksJ19_compareTo_0 13 rfl rfl)
def dkwJ19_compareTo_2_1 : List UInt8 := [167, 0, 16, 42, 21, 5, 184, 0, 50, 43, 21, 5, 184, 0, 50, 100, 172]
abbrev dktJ19_compareTo_2_1 : List UInt8 := dkwJ19_compareTo_2_1 ++ []
def dkwJ19_compareTo_2_0 : List UInt8 := [28, 29, 184, 0, 38, 54, 4, 42, 43, 21, 4, 184, 0, 44, 54, 5, 21, 5, 156, 0, 9, 28, 29, 100]
abbrev dktJ19_compareTo_2_0 : List UInt8 := dkwJ19_compareTo_2_0 ++ dktJ19_compareTo_2_1
theorem dksJ19_compareTo_2_0 : cJ19_compareTo_2.data.toList.drop 0 = dktJ19_compareTo_2_0 := by decide +kernel
theorem dksJ19_compareTo_2_1 : cJ19_compareTo_2.data.toList.drop 24 = dktJ19_compareTo_2_1 := dk_seg dksJ19_compareTo_2_0 24 rfl rfl
theorem dJ19_compareTo_2_0 : decode cJ19_compareTo_2 0 = .ok (.iload_n 2, 1) := dk_28 (dk_at dksJ19_compareTo_2_0 0 rfl rfl)
theorem dJ19_compareTo_2_1 : decode cJ19_compareTo_2 1 = .ok (.iload_n 3, 1) := dk_29 (dk_at dksJ19_compareTo_2_0 1 rfl rfl)
theorem dJ19_compareTo_2_2 : decode cJ19_compareTo_2 2 = .ok (.invokestatic 38, 3) := dk_184 0 38 (dk_at dksJ19_compareTo_2_0 2 rfl rfl)
theorem dJ19_compareTo_2_5 : decode cJ19_compareTo_2 5 = .ok (.istore 4, 2) := dk_54 4 (dk_at dksJ19_compareTo_2_0 5 rfl rfl)
theorem dJ19_compareTo_2_7 : decode cJ19_compareTo_2 7 = .ok (.aload_n 0, 1) := dk_42 (dk_at dksJ19_compareTo_2_0 7 rfl rfl)
theorem dJ19_compareTo_2_8 : decode cJ19_compareTo_2 8 = .ok (.aload_n 1, 1) := dk_43 (dk_at dksJ19_compareTo_2_0 8 rfl rfl)
theorem dJ19_compareTo_2_9 : decode cJ19_compareTo_2 9 = .ok (.iload 4, 2) := dk_21 4 (dk_at dksJ19_compareTo_2_0 9 rfl rfl)
theorem dJ19_compareTo_2_11 : decode cJ19_compareTo_2 11 = .ok (.invokestatic 44, 3) := dk_184 0 44 (dk_at dksJ19_compareTo_2_0 11 rfl rfl)
theorem dJ19_compareTo_2_14 : decode cJ19_compareTo_2 14 = .ok (.istore 5, 2) := dk_54 5 (dk_at dksJ19_compareTo_2_0 14 rfl rfl)
theorem dJ19_compareTo_2_16 : decode cJ19_compareTo_2 16 = .ok (.iload 5, 2) := dk_21 5 (dk_at dksJ19_compareTo_2_0 16 rfl rfl)
theorem dJ19_compareTo_2_18 : decode cJ19_compareTo_2 18 = .ok (.ifCond .ge 9, 3) := dk_156 0 9 (dk_at dksJ19_compareTo_2_0 18 rfl rfl)
theorem dJ19_compareTo_2_21 : decode cJ19_compareTo_2 21 = .ok (.iload_n 2, 1) := dk_28 (dk_at dksJ19_compareTo_2_0 21 rfl rfl)
theorem dJ19_compareTo_2_22 : decode cJ19_compareTo_2 22 = .ok (.iload_n 3, 1) := dk_29 (dk_at dksJ19_compareTo_2_0 22 rfl rfl)
theorem dJ19_compareTo_2_23 : decode cJ19_compareTo_2 23 = .ok (.isub, 1) := dk_100 (dk_at dksJ19_compareTo_2_0 23 rfl rfl)
theorem dJ19_compareTo_2_24 : decode cJ19_compareTo_2 24 = .ok (.goto 16, 3) := dk_167 0 16 (dk_at dksJ19_compareTo_2_1 0 rfl rfl)
theorem dJ19_compareTo_2_27 : decode cJ19_compareTo_2 27 = .ok (.aload_n 0, 1) := dk_42 (dk_at dksJ19_compareTo_2_1 3 rfl rfl)
theorem dJ19_compareTo_2_28 : decode cJ19_compareTo_2 28 = .ok (.iload 5, 2) := dk_21 5 (dk_at dksJ19_compareTo_2_1 4 rfl rfl)
theorem dJ19_compareTo_2_30 : decode cJ19_compareTo_2 30 = .ok (.invokestatic 50, 3) := dk_184 0 50 (dk_at dksJ19_compareTo_2_1 6 rfl rfl)
theorem dJ19_compareTo_2_33 : decode cJ19_compareTo_2 33 = .ok (.aload_n 1, 1) := dk_43 (dk_at dksJ19_compareTo_2_1 9 rfl rfl)
theorem dJ19_compareTo_2_34 : decode cJ19_compareTo_2 34 = .ok (.iload 5, 2) := dk_21 5 (dk_at dksJ19_compareTo_2_1 10 rfl rfl)
theorem dJ19_compareTo_2_36 : decode cJ19_compareTo_2 36 = .ok (.invokestatic 50, 3) := dk_184 0 50 (dk_at dksJ19_compareTo_2_1 12 rfl rfl)
theorem dJ19_compareTo_2_39 : decode cJ19_compareTo_2 39 = .ok (.isub, 1) := dk_100 (dk_at dksJ19_compareTo_2_1 15 rfl rfl)
theorem dJ19_compareTo_2_40 : decode cJ19_compareTo_2 40 = .ok (.ireturn, 1) := dk_172 (dk_at dksJ19_compareTo_2_1 16 rfl rfl)
def dkwJ19_getChar_0 : List UInt8 := [42, 27, 51, 17, 0, 255, 126, 146, 172]
abbrev dktJ19_getChar_0 : List UInt8 := dkwJ19_getChar_0 ++ []
theorem dksJ19_getChar_0 : cJ19_getChar.data.toList.drop 0 = dktJ19_getChar_0 := by decide +kernel
theorem dJ19_getChar_0 : decode cJ19_getChar 0 = .ok (.aload_n 0, 1) := dk_42 (dk_at dksJ19_getChar_0 0 rfl rfl)
theorem dJ19_getChar_1 : decode cJ19_getChar 1 = .ok (.iload_n 1, 1) := dk_27 (dk_at dksJ19_getChar_0 1 rfl rfl)
theorem dJ19_getChar_2 : decode cJ19_getChar 2 = .ok (.baload, 1) := dk_51 (dk_at dksJ19_getChar_0 2 rfl rfl)
theorem dJ19_getChar_3 : decode cJ19_getChar 3 = .ok (.sipush 255, 3) := dk_17 0 255 (dk_at dksJ19_getChar_0 3 rfl rfl)
theorem dJ19_getChar_6 : decode cJ19_getChar 6 = .ok (.iand, 1) := dk_126 (dk_at dksJ19_getChar_0 6 rfl rfl)
theorem dJ19_getChar_7 : decode cJ19_getChar 7 = .ok (.i2c, 1) := dk_146 (dk_at dksJ19_getChar_0 7 rfl rfl)
theorem dJ19_getChar_8 : decode cJ19_getChar 8 = .ok (.ireturn, 1) := dk_172 (dk_at dksJ19_getChar_0 8 rfl rfl)
def dkwJ19_compareToUTF16_0 : List UInt8 := [42, 184, 0, 54, 61, 43, 184, 0, 58, 62, 42, 43, 28, 29, 184, 0, 59, 172]
abbrev dktJ19_compareToUTF16_0 : List UInt8 := dkwJ19_compareToUTF16_0 ++ []
theorem dksJ19_compareToUTF16_0 : cJ19_compareToUTF16.data.toList.drop 0 = dktJ19_compareToUTF16_0 := by decide +kernel
theorem dJ19_compareToUTF16_0 : decode cJ19_compareToUTF16 0 = .ok (.aload_n 0, 1) := dk_42 (dk_at dksJ19_compareToUTF16_0 0 rfl rfl)
theorem dJ19_compareToUTF16_1 : decode cJ19_compareToUTF16 1 = .ok (.invokestatic 54, 3) := dk_184 0 54 (dk_at dksJ19_compareToUTF16_0 1 rfl rfl)
theorem dJ19_compareToUTF16_4 : decode cJ19_compareToUTF16 4 = .ok (.istore_n 2, 1) := dk_61 (dk_at dksJ19_compareToUTF16_0 4 rfl rfl)
theorem dJ19_compareToUTF16_5 : decode cJ19_compareToUTF16 5 = .ok (.aload_n 1, 1) := dk_43 (dk_at dksJ19_compareToUTF16_0 5 rfl rfl)
theorem dJ19_compareToUTF16_6 : decode cJ19_compareToUTF16 6 = .ok (.invokestatic 58, 3) := dk_184 0 58 (dk_at dksJ19_compareToUTF16_0 6 rfl rfl)
theorem dJ19_compareToUTF16_9 : decode cJ19_compareToUTF16 9 = .ok (.istore_n 3, 1) := dk_62 (dk_at dksJ19_compareToUTF16_0 9 rfl rfl)
theorem dJ19_compareToUTF16_10 : decode cJ19_compareToUTF16 10 = .ok (.aload_n 0, 1) := dk_42 (dk_at dksJ19_compareToUTF16_0 10 rfl rfl)
theorem dJ19_compareToUTF16_11 : decode cJ19_compareToUTF16 11 = .ok (.aload_n 1, 1) := dk_43 (dk_at dksJ19_compareToUTF16_0 11 rfl rfl)
theorem dJ19_compareToUTF16_12 : decode cJ19_compareToUTF16 12 = .ok (.iload_n 2, 1) := dk_28 (dk_at dksJ19_compareToUTF16_0 12 rfl rfl)
theorem dJ19_compareToUTF16_13 : decode cJ19_compareToUTF16 13 = .ok (.iload_n 3, 1) := dk_29 (dk_at dksJ19_compareToUTF16_0 13 rfl rfl)
theorem dJ19_compareToUTF16_14 : decode cJ19_compareToUTF16 14 = .ok (.invokestatic 59, 3) := dk_184 0 59 (dk_at dksJ19_compareToUTF16_0 14 rfl rfl)
theorem dJ19_compareToUTF16_17 : decode cJ19_compareToUTF16 17 = .ok (.ireturn, 1) := dk_172 (dk_at dksJ19_compareToUTF16_0 17 rfl rfl)
theorem dJ19_length_0 : decode cJ19_length 0 = .ok (.aload_n 0, 1) := by decide +kernel
theorem dJ19_length_1 : decode cJ19_length 1 = .ok (.arraylength, 1) := by decide +kernel
theorem dJ19_length_2 : decode cJ19_length 2 = .ok (.ireturn, 1) := by decide +kernel
def dkwJ19_compareToUTF16Values_2 : List UInt8 := [132, 5, 1, 167, 255, 217, 28, 29, 100, 172]
abbrev dktJ19_compareToUTF16Values_2 : List UInt8 := dkwJ19_compareToUTF16Values_2 ++ []
def dkwJ19_compareToUTF16Values_1 : List UInt8 := [54, 6, 43, 21, 5, 184, 0, 65, 54, 7, 21, 6, 21, 7, 159, 0, 9, 21, 6, 21, 7, 100, 172]
abbrev dktJ19_compareToUTF16Values_1 : List UInt8 := dkwJ19_compareToUTF16Values_1 ++ dktJ19_compareToUTF16Values_2
def dkwJ19_compareToUTF16Values_0 : List UInt8 := [28, 29, 184, 0, 38, 54, 4, 3, 54, 5, 21, 5, 21, 4, 162, 0, 38, 42, 21, 5, 184, 0, 50]
abbrev dktJ19_compareToUTF16Values_0 : List UInt8 := dkwJ19_compareToUTF16Values_0 ++ dktJ19_compareToUTF16Values_1
theorem dksJ19_compareToUTF16Values_0 : cJ19_compareToUTF16Values.data.toList.drop 0 = dktJ19_compareToUTF16Values_0 := by decide +kernel
theorem dksJ19_compareToUTF16Values_1 : cJ19_compareToUTF16Values.data.toList.drop 23 = dktJ19_compareToUTF16Values_1 := dk_seg dksJ19_compareToUTF16Values_0 23 rfl rfl
theorem dksJ19_compareToUTF16Values_2 : cJ19_compareToUTF16Values.data.toList.drop 46 = dktJ19_compareToUTF16Values_2 := dk_seg dksJ19_compareToUTF16Values_1 23 rfl rfl
theorem dJ19_compareToUTF16Values_0 : decode cJ19_compareToUTF16Values 0 = .ok (.iload_n 2, 1) := dk_28 (dk_at dksJ19_compareToUTF16Values_0 0 rfl rfl)
theorem dJ19_compareToUTF16Values_1 : decode cJ19_compareToUTF16Values 1 = .ok (.iload_n 3, 1) := dk_29 (dk_at dksJ19_compareToUTF16Values_0 1 rfl rfl)
theorem dJ19_compareToUTF16Values_2 : decode cJ19_compareToUTF16Values 2 = .ok (.invokestatic 38, 3) := dk_184 0 38 (dk_at dksJ19_compareToUTF16Values_0 2 rfl rfl)
theorem dJ19_compareToUTF16Values_5 : decode cJ19_compareToUTF16Values 5 = .ok (.istore 4, 2) := dk_54 4 (dk_at dksJ19_compareToUTF16Values_0 5 rfl rfl)
theorem dJ19_compareToUTF16Values_7 : decode cJ19_compareToUTF16Values 7 = .ok (.iconst 0, 1) := dk_3 (dk_at dksJ19_compareToUTF16Values_0 7 rfl rfl)
theorem dJ19_compareToUTF16Values_8 : decode cJ19_compareToUTF16Values 8 = .ok (.istore 5, 2) := dk_54 5 (dk_at dksJ19_compareToUTF16Values_0 8 rfl rfl)
theorem dJ19_compareToUTF16Values_10 : decode cJ19_compareToUTF16Values 10 = .ok (.iload 5, 2) := dk_21 5 (dk_at dksJ19_compareToUTF16Values_0 10 rfl rfl)
theorem dJ19_compareToUTF16Values_12 : decode cJ19_compareToUTF16Values 12 = .ok (.iload 4, 2) := dk_21 4 (dk_at dksJ19_compareToUTF16Values_0 12 rfl rfl)
theorem dJ19_compareToUTF16Values_14 : decode cJ19_compareToUTF16Values 14 = .ok (.if_icmp .ge 38, 3) := dk_162 0 38 (dk_at dksJ19_compareToUTF16Values_0 14 rfl rfl)
theorem dJ19_compareToUTF16Values_17 : decode cJ19_compareToUTF16Values 17 = .ok (.aload_n 0, 1) := dk_42 (dk_at dksJ19_compareToUTF16Values_0 17 rfl rfl)
theorem dJ19_compareToUTF16Values_18 : decode cJ19_compareToUTF16Values 18 = .ok (.iload 5, 2) := dk_21 5 (dk_at dksJ19_compareToUTF16Values_0 18 rfl rfl)
theorem dJ19_compareToUTF16Values_20 : decode cJ19_compareToUTF16Values 20 = .ok (.invokestatic 50, 3) := dk_184 0 50 (dk_at dksJ19_compareToUTF16Values_0 20 rfl rfl)
theorem dJ19_compareToUTF16Values_23 : decode cJ19_compareToUTF16Values 23 = .ok (.istore 6, 2) := dk_54 6 (dk_at dksJ19_compareToUTF16Values_1 0 rfl rfl)
theorem dJ19_compareToUTF16Values_25 : decode cJ19_compareToUTF16Values 25 = .ok (.aload_n 1, 1) := dk_43 (dk_at dksJ19_compareToUTF16Values_1 2 rfl rfl)
theorem dJ19_compareToUTF16Values_26 : decode cJ19_compareToUTF16Values 26 = .ok (.iload 5, 2) := dk_21 5 (dk_at dksJ19_compareToUTF16Values_1 3 rfl rfl)
theorem dJ19_compareToUTF16Values_28 : decode cJ19_compareToUTF16Values 28 = .ok (.invokestatic 65, 3) := dk_184 0 65 (dk_at dksJ19_compareToUTF16Values_1 5 rfl rfl)
theorem dJ19_compareToUTF16Values_31 : decode cJ19_compareToUTF16Values 31 = .ok (.istore 7, 2) := dk_54 7 (dk_at dksJ19_compareToUTF16Values_1 8 rfl rfl)
theorem dJ19_compareToUTF16Values_33 : decode cJ19_compareToUTF16Values 33 = .ok (.iload 6, 2) := dk_21 6 (dk_at dksJ19_compareToUTF16Values_1 10 rfl rfl)
theorem dJ19_compareToUTF16Values_35 : decode cJ19_compareToUTF16Values 35 = .ok (.iload 7, 2) := dk_21 7 (dk_at dksJ19_compareToUTF16Values_1 12 rfl rfl)
theorem dJ19_compareToUTF16Values_37 : decode cJ19_compareToUTF16Values 37 = .ok (.if_icmp .eq 9, 3) := dk_159 0 9 (dk_at dksJ19_compareToUTF16Values_1 14 rfl rfl)
theorem dJ19_compareToUTF16Values_40 : decode cJ19_compareToUTF16Values 40 = .ok (.iload 6, 2) := dk_21 6 (dk_at dksJ19_compareToUTF16Values_1 17 rfl rfl)
theorem dJ19_compareToUTF16Values_42 : decode cJ19_compareToUTF16Values 42 = .ok (.iload 7, 2) := dk_21 7 (dk_at dksJ19_compareToUTF16Values_1 19 rfl rfl)
theorem dJ19_compareToUTF16Values_44 : decode cJ19_compareToUTF16Values 44 = .ok (.isub, 1) := dk_100 (dk_at dksJ19_compareToUTF16Values_1 21 rfl rfl)
theorem dJ19_compareToUTF16Values_45 : decode cJ19_compareToUTF16Values 45 = .ok (.ireturn, 1) := dk_172 (dk_at dksJ19_compareToUTF16Values_1 22 rfl rfl)
theorem dJ19_compareToUTF16Values_46 : decode cJ19_compareToUTF16Values 46 = .ok (.iinc 5 1, 3) := dk_132 5 1 (dk_at dksJ19_compareToUTF16Values_2 0 rfl rfl)
theorem dJ19_compareToUTF16Values_49 : decode cJ19_compareToUTF16Values 49 = .ok (.goto (-39), 3) := dk_167 255 217 (dk_at dksJ19_compareToUTF16Values_2 3 rfl rfl)
theorem dJ19_compareToUTF16Values_52 : decode cJ19_compareToUTF16Values 52 = .ok (.iload_n 2, 1) := dk_28 (dk_at dksJ19_compareToUTF16Values_2 6 rfl rfl)
theorem dJ19_compareToUTF16Values_53 : decode cJ19_compareToUTF16Values 53 = .ok (.iload_n 3, 1) := dk_29 (dk_at dksJ19_compareToUTF16Values_2 7 rfl rfl)
theorem dJ19_compareToUTF16Values_54 : decode cJ19_compareToUTF16Values 54 = .ok (.isub, 1) := dk_100 (dk_at dksJ19_compareToUTF16Values_2 8 rfl rfl)
theorem dJ19_compareToUTF16Values_55 : decode cJ19_compareToUTF16Values 55 = .ok (.ireturn, 1) := dk_172 (dk_at dksJ19_compareToUTF16Values_2 9 rfl rfl)
def dkwJ19_compareToUTF16_2_0 : List UInt8 := [28, 42, 184, 0, 54, 184, 0, 62, 29, 43, 184, 0, 58, 184, 0, 62, 42, 43, 28, 29, 184, 0, 59, 172]
abbrev dktJ19_compareToUTF16_2_0 : List UInt8 := dkwJ19_compareToUTF16_2_0 ++ []
theorem dksJ19_compareToUTF16_2_0 : cJ19_compareToUTF16_2.data.toList.drop 0 = dktJ19_compareToUTF16_2_0 := by decide +kernel
theorem dJ19_compareToUTF16_2_0 : decode cJ19_compareToUTF16_2 0 = .ok (.iload_n 2, 1) := dk_28 (dk_at dksJ19_compareToUTF16_2_0 0 rfl rfl)
theorem dJ19_compareToUTF16_2_1 : decode cJ19_compareToUTF16_2 1 = .ok (.aload_n 0, 1) := dk_42 (dk_at dksJ19_compareToUTF16_2_0 1 rfl rfl)
theorem dJ19_compareToUTF16_2_2 : decode cJ19_compareToUTF16_2 2 = .ok (.invokestatic 54, 3) := dk_184 0 54 (dk_at dksJ19_compareToUTF16_2_0 2 rfl rfl)
theorem dJ19_compareToUTF16_2_5 : decode cJ19_compareToUTF16_2 5 = .ok (.invokestatic 62, 3) := dk_184 0 62 (dk_at dksJ19_compareToUTF16_2_0 5 rfl rfl)
theorem dJ19_compareToUTF16_2_8 : decode cJ19_compareToUTF16_2 8 = .ok (.iload_n 3, 1) := dk_29 (dk_at dksJ19_compareToUTF16_2_0 8 rfl rfl)
theorem dJ19_compareToUTF16_2_9 : decode cJ19_compareToUTF16_2 9 = .ok (.aload_n 1, 1) := dk_43 (dk_at dksJ19_compareToUTF16_2_0 9 rfl rfl)
theorem dJ19_compareToUTF16_2_10 : decode cJ19_compareToUTF16_2 10 = .ok (.invokestatic 58, 3) := dk_184 0 58 (dk_at dksJ19_compareToUTF16_2_0 10 rfl rfl)
theorem dJ19_compareToUTF16_2_13 : decode cJ19_compareToUTF16_2 13 = .ok (.invokestatic 62, 3) := dk_184 0 62 (dk_at dksJ19_compareToUTF16_2_0 13 rfl rfl)
theorem dJ19_compareToUTF16_2_16 : decode cJ19_compareToUTF16_2 16 = .ok (.aload_n 0, 1) := dk_42 (dk_at dksJ19_compareToUTF16_2_0 16 rfl rfl)
theorem dJ19_compareToUTF16_2_17 : decode cJ19_compareToUTF16_2 17 = .ok (.aload_n 1, 1) := dk_43 (dk_at dksJ19_compareToUTF16_2_0 17 rfl rfl)
theorem dJ19_compareToUTF16_2_18 : decode cJ19_compareToUTF16_2 18 = .ok (.iload_n 2, 1) := dk_28 (dk_at dksJ19_compareToUTF16_2_0 18 rfl rfl)
theorem dJ19_compareToUTF16_2_19 : decode cJ19_compareToUTF16_2 19 = .ok (.iload_n 3, 1) := dk_29 (dk_at dksJ19_compareToUTF16_2_0 19 rfl rfl)
theorem dJ19_compareToUTF16_2_20 : decode cJ19_compareToUTF16_2 20 = .ok (.invokestatic 59, 3) := dk_184 0 59 (dk_at dksJ19_compareToUTF16_2_0 20 rfl rfl)
theorem dJ19_compareToUTF16_2_23 : decode cJ19_compareToUTF16_2 23 = .ok (.ireturn, 1) := dk_172 (dk_at dksJ19_compareToUTF16_2_0 23 rfl rfl)
def dkwJ19_equals_1 : List UInt8 := [3, 172, 132, 2, 1, 167, 255, 236, 4, 172, 3, 172]
abbrev dktJ19_equals_1 : List UInt8 := dkwJ19_equals_1 ++ []
def dkwJ19_equals_0 : List UInt8 := [42, 190, 43, 190, 160, 0, 30, 3, 61, 28, 42, 190, 162, 0, 20, 42, 28, 51, 43, 28, 51, 159, 0, 5]
abbrev dktJ19_equals_0 : List UInt8 := dkwJ19_equals_0 ++ dktJ19_equals_1
theorem dksJ19_equals_0 : cJ19_equals.data.toList.drop 0 = dktJ19_equals_0 := by decide +kernel
theorem dksJ19_equals_1 : cJ19_equals.data.toList.drop 24 = dktJ19_equals_1 := dk_seg dksJ19_equals_0 24 rfl rfl
theorem dJ19_equals_0 : decode cJ19_equals 0 = .ok (.aload_n 0, 1) := dk_42 (dk_at dksJ19_equals_0 0 rfl rfl)
theorem dJ19_equals_1 : decode cJ19_equals 1 = .ok (.arraylength, 1) := dk_190 (dk_at dksJ19_equals_0 1 rfl rfl)
theorem dJ19_equals_2 : decode cJ19_equals 2 = .ok (.aload_n 1, 1) := dk_43 (dk_at dksJ19_equals_0 2 rfl rfl)
theorem dJ19_equals_3 : decode cJ19_equals 3 = .ok (.arraylength, 1) := dk_190 (dk_at dksJ19_equals_0 3 rfl rfl)
theorem dJ19_equals_4 : decode cJ19_equals 4 = .ok (.if_icmp .ne 30, 3) := dk_160 0 30 (dk_at dksJ19_equals_0 4 rfl rfl)
theorem dJ19_equals_7 : decode cJ19_equals 7 = .ok (.iconst 0, 1) := dk_3 (dk_at dksJ19_equals_0 7 rfl rfl)
theorem dJ19_equals_8 : decode cJ19_equals 8 = .ok (.istore_n 2, 1) := dk_61 (dk_at dksJ19_equals_0 8 rfl rfl)
theorem dJ19_equals_9 : decode cJ19_equals 9 = .ok (.iload_n 2, 1) := dk_28 (dk_at dksJ19_equals_0 9 rfl rfl)
theorem dJ19_equals_10 : decode cJ19_equals 10 = .ok (.aload_n 0, 1) := dk_42 (dk_at dksJ19_equals_0 10 rfl rfl)
theorem dJ19_equals_11 : decode cJ19_equals 11 = .ok (.arraylength, 1) := dk_190 (dk_at dksJ19_equals_0 11 rfl rfl)
theorem dJ19_equals_12 : decode cJ19_equals 12 = .ok (.if_icmp .ge 20, 3) := dk_162 0 20 (dk_at dksJ19_equals_0 12 rfl rfl)
theorem dJ19_equals_15 : decode cJ19_equals 15 = .ok (.aload_n 0, 1) := dk_42 (dk_at dksJ19_equals_0 15 rfl rfl)
theorem dJ19_equals_16 : decode cJ19_equals 16 = .ok (.iload_n 2, 1) := dk_28 (dk_at dksJ19_equals_0 16 rfl rfl)
theorem dJ19_equals_17 : decode cJ19_equals 17 = .ok (.baload, 1) := dk_51 (dk_at dksJ19_equals_0 17 rfl rfl)
theorem dJ19_equals_18 : decode cJ19_equals 18 = .ok (.aload_n 1, 1) := dk_43 (dk_at dksJ19_equals_0 18 rfl rfl)
theorem dJ19_equals_19 : decode cJ19_equals 19 = .ok (.iload_n 2, 1) := dk_28 (dk_at dksJ19_equals_0 19 rfl rfl)
theorem dJ19_equals_20 : decode cJ19_equals 20 = .ok (.baload, 1) := dk_51 (dk_at dksJ19_equals_0 20 rfl rfl)
theorem dJ19_equals_21 : decode cJ19_equals 21 = .ok (.if_icmp .eq 5, 3) := dk_159 0 5 (dk_at dksJ19_equals_0 21 rfl rfl)
theorem dJ19_equals_24 : decode cJ19_equals 24 = .ok (.iconst 0, 1) := dk_3 (dk_at dksJ19_equals_1 0 rfl rfl)
theorem dJ19_equals_25 : decode cJ19_equals 25 = .ok (.ireturn, 1) := dk_172 (dk_at dksJ19_equals_1 1 rfl rfl)
theorem dJ19_equals_26 : decode cJ19_equals 26 = .ok (.iinc 2 1, 3) := dk_132 2 1 (dk_at dksJ19_equals_1 2 rfl rfl)
theorem dJ19_equals_29 : decode cJ19_equals 29 = .ok (.goto (-20), 3) := dk_167 255 236 (dk_at dksJ19_equals_1 5 rfl rfl)
theorem dJ19_equals_32 : decode cJ19_equals 32 = .ok (.iconst 1, 1) := dk_4 (dk_at dksJ19_equals_1 8 rfl rfl)
theorem dJ19_equals_33 : decode cJ19_equals 33 = .ok (.ireturn, 1) := dk_172 (dk_at dksJ19_equals_1 9 rfl rfl)
theorem dJ19_equals_34 : decode cJ19_equals 34 = .ok (.iconst 0, 1) := dk_3 (dk_at dksJ19_equals_1 10 rfl rfl)
theorem dJ19_equals_35 : decode cJ19_equals 35 = .ok (.ireturn, 1) := dk_172 (dk_at dksJ19_equals_1 11 rfl rfl)
def dkwJ19_canEncode_0 : List UInt8 := [26, 17, 0, 255, 163, 0, 7, 4, 167, 0, 4, 3, 172]
abbrev dktJ19_canEncode_0 : List UInt8 := dkwJ19_canEncode_0 ++ []
theorem dksJ19_canEncode_0 : cJ19_canEncode.data.toList.drop 0 = dktJ19_canEncode_0 := by decide +kernel
theorem dJ19_canEncode_0 : decode cJ19_canEncode 0 = .ok (.iload_n 0, 1) := dk_26 (dk_at dksJ19_canEncode_0 0 rfl rfl)
theorem dJ19_canEncode_1 : decode cJ19_canEncode 1 = .ok (.sipush 255, 3) := dk_17 0 255 (dk_at dksJ19_canEncode_0 1 rfl rfl)
theorem dJ19_canEncode_4 : decode cJ19_canEncode 4 = .ok (.if_icmp .gt 7, 3) := dk_163 0 7 (dk_at dksJ19_canEncode_0 4 rfl rfl)
theorem dJ19_canEncode_7 : decode cJ19_canEncode 7 = .ok (.iconst 1, 1) := dk_4 (dk_at dksJ19_canEncode_0 7 rfl rfl)
theorem dJ19_canEncode_8 : decode cJ19_canEncode 8 = .ok (.goto 4, 3) := dk_167 0 4 (dk_at dksJ19_canEncode_0 8 rfl rfl)
theorem dJ19_canEncode_11 : decode cJ19_canEncode 11 = .ok (.iconst 0, 1) := dk_3 (dk_at dksJ19_canEncode_0 11 rfl rfl)
theorem dJ19_canEncode_12 : decode cJ19_canEncode 12 = .ok (.ireturn, 1) := dk_172 (dk_at dksJ19_canEncode_0 12 rfl rfl)
def dkwJ27_compare_0 : List UInt8 := [26, 27, 162, 0, 7, 2, 167, 0, 13, 26, 27, 160, 0, 7, 3, 167, 0, 4, 4, 172]
abbrev dktJ27_compare_0 : List UInt8 := dkwJ27_compare_0 ++ []
theorem dksJ27_compare_0 : cJ27_compare.data.toList.drop 0 = dktJ27_compare_0 := by decide +kernel
theorem dJ27_compare_0 : decode cJ27_compare 0 = .ok (.iload_n 0, 1) := dk_26 (dk_at dksJ27_compare_0 0 rfl rfl)
theorem dJ27_compare_1 : decode cJ27_compare 1 = .ok (.iload_n 1, 1) := dk_27 (dk_at dksJ27_compare_0 1 rfl rfl)
theorem dJ27_compare_2 : decode cJ27_compare 2 = .ok (.if_icmp .ge 7, 3) := dk_162 0 7 (dk_at dksJ27_compare_0 2 rfl rfl)
theorem dJ27_compare_5 : decode cJ27_compare 5 = .ok (.iconst (-1), 1) := dk_2 (dk_at dksJ27_compare_0 5 rfl rfl)
theorem dJ27_compare_6 : decode cJ27_compare 6 = .ok (.goto 13, 3) := dk_167 0 13 (dk_at dksJ27_compare_0 6 rfl rfl)
theorem dJ27_compare_9 : decode cJ27_compare 9 = .ok (.iload_n 0, 1) := dk_26 (dk_at dksJ27_compare_0 9 rfl rfl)
theorem dJ27_compare_10 : decode cJ27_compare 10 = .ok (.iload_n 1, 1) := dk_27 (dk_at dksJ27_compare_0 10 rfl rfl)
theorem dJ27_compare_11 : decode cJ27_compare 11 = .ok (.if_icmp .ne 7, 3) := dk_160 0 7 (dk_at dksJ27_compare_0 11 rfl rfl)
theorem dJ27_compare_14 : decode cJ27_compare 14 = .ok (.iconst 0, 1) := dk_3 (dk_at dksJ27_compare_0 14 rfl rfl)
theorem dJ27_compare_15 : decode cJ27_compare 15 = .ok (.goto 4, 3) := dk_167 0 4 (dk_at dksJ27_compare_0 15 rfl rfl)
theorem dJ27_compare_18 : decode cJ27_compare 18 = .ok (.iconst 1, 1) := dk_4 (dk_at dksJ27_compare_0 18 rfl rfl)
theorem dJ27_compare_19 : decode cJ27_compare 19 = .ok (.ireturn, 1) := dk_172 (dk_at dksJ27_compare_0 19 rfl rfl)
def dkwJ27_compareTo_0 : List UInt8 := [42, 43, 192, 0, 1, 182, 1, 28, 172]
abbrev dktJ27_compareTo_0 : List UInt8 := dkwJ27_compareTo_0 ++ []
theorem dksJ27_compareTo_0 : cJ27_compareTo.data.toList.drop 0 = dktJ27_compareTo_0 := by decide +kernel
theorem dJ27_compareTo_0 : decode cJ27_compareTo 0 = .ok (.aload_n 0, 1) := dk_42 (dk_at dksJ27_compareTo_0 0 rfl rfl)
theorem dJ27_compareTo_1 : decode cJ27_compareTo 1 = .ok (.aload_n 1, 1) := dk_43 (dk_at dksJ27_compareTo_0 1 rfl rfl)
theorem dJ27_compareTo_2 : decode cJ27_compareTo 2 = .ok (.checkcast 1, 3) := dk_192 0 1 (dk_at dksJ27_compareTo_0 2 rfl rfl)
theorem dJ27_compareTo_5 : decode cJ27_compareTo 5 = .ok (.invokevirtual 284, 3) := dk_182 1 28 (dk_at dksJ27_compareTo_0 5 rfl rfl)
theorem dJ27_compareTo_8 : decode cJ27_compareTo 8 = .ok (.ireturn, 1) := dk_172 (dk_at dksJ27_compareTo_0 8 rfl rfl)
def dkwJ27_compareTo_2_0 : List UInt8 := [42, 180, 0, 205, 43, 180, 0, 205, 184, 1, 3, 172]
abbrev dktJ27_compareTo_2_0 : List UInt8 := dkwJ27_compareTo_2_0 ++ []
theorem dksJ27_compareTo_2_0 : cJ27_compareTo_2.data.toList.drop 0 = dktJ27_compareTo_2_0 := by decide +kernel
theorem dJ27_compareTo_2_0 : decode cJ27_compareTo_2 0 = .ok (.aload_n 0, 1) := dk_42 (dk_at dksJ27_compareTo_2_0 0 rfl rfl)
theorem dJ27_compareTo_2_1 : decode cJ27_compareTo_2 1 = .ok (.getfield 205, 3) := dk_180 0 205 (dk_at dksJ27_compareTo_2_0 1 rfl rfl)
theorem dJ27_compareTo_2_4 : decode cJ27_compareTo_2 4 = .ok (.aload_n 1, 1) := dk_43 (dk_at dksJ27_compareTo_2_0 4 rfl rfl)
theorem dJ27_compareTo_2_5 : decode cJ27_compareTo_2 5 = .ok (.getfield 205, 3) := dk_180 0 205 (dk_at dksJ27_compareTo_2_0 5 rfl rfl)
theorem dJ27_compareTo_2_8 : decode cJ27_compareTo_2 8 = .ok (.invokestatic 259, 3) := dk_184 1 3 (dk_at dksJ27_compareTo_2_0 8 rfl rfl)
theorem dJ27_compareTo_2_11 : decode cJ27_compareTo_2 11 = .ok (.ireturn, 1) := dk_172 (dk_at dksJ27_compareTo_2_0 11 rfl rfl)
def dkwJ27_numberOfLeadingZeros_3 : List UInt8 := [5, 124, 59, 27, 26, 4, 124, 100, 172]
abbrev dktJ27_numberOfLeadingZeros_3 : List UInt8 := dkwJ27_numberOfLeadingZeros_3 ++ []
def dkwJ27_numberOfLeadingZeros_2 : List UInt8 := [124, 59, 26, 16, 16, 161, 0, 10, 132, 1, 252, 26, 7, 124, 59, 26, 7, 161, 0, 10, 132, 1, 254, 26]
abbrev dktJ27_numberOfLeadingZeros_2 : List UInt8 := dkwJ27_numberOfLeadingZeros_2 ++ dktJ27_numberOfLeadingZeros_3
def dkwJ27_numberOfLeadingZeros_1 : List UInt8 := [161, 0, 11, 132, 1, 240, 26, 16, 16, 124, 59, 26, 17, 1, 0, 161, 0, 11, 132, 1, 248, 26, 16, 8]
abbrev dktJ27_numberOfLeadingZeros_1 : List UInt8 := dkwJ27_numberOfLeadingZeros_1 ++ dktJ27_numberOfLeadingZeros_2
def dkwJ27_numberOfLeadingZeros_0 : List UInt8 := [26, 157, 0, 14, 26, 154, 0, 8, 16, 32, 167, 0, 4, 3, 172, 16, 31, 60, 26, 19, 1, 8]
abbrev dktJ27_numberOfLeadingZeros_0 : List UInt8 := dkwJ27_numberOfLeadingZeros_0 ++ dktJ27_numberOfLeadingZeros_1
theorem dksJ27_numberOfLeadingZeros_0 : cJ27_numberOfLeadingZeros.data.toList.drop 0 = dktJ27_numberOfLeadingZeros_0 := by decide +kernel
theorem dksJ27_numberOfLeadingZeros_1 : cJ27_numberOfLeadingZeros.data.toList.drop 22 = dktJ27_numberOfLeadingZeros_1 := dk_seg dksJ27_numberOfLeadingZeros_0 22 rfl rfl
theorem dksJ27_numberOfLeadingZeros_2 : cJ27_numberOfLeadingZeros.data.toList.drop 46 = dktJ27_numberOfLeadingZeros_2 := dk_seg dksJ27_numberOfLeadingZeros_1 24 rfl rfl
theorem dksJ27_numberOfLeadingZeros_3 : cJ27_numberOfLeadingZeros.data.toList.drop 70 = dktJ27_numberOfLeadingZeros_3 := dk_seg dksJ27_numberOfLeadingZeros_2 24 rfl rfl
theorem dJ27_numberOfLeadingZeros_0 : decode cJ27_numberOfLeadingZeros 0 = .ok (.iload_n 0, 1) := dk_26 (dk_at dksJ27_numberOfLeadingZeros_0 0 rfl rfl)
theorem dJ27_numberOfLeadingZeros_1 : decode cJ27_numberOfLeadingZeros 1 = .ok (.ifCond .gt 14, 3) := dk_157 0 14 (dk_at dksJ27_numberOfLeadingZeros_0 1 rfl rfl)
theorem dJ27_numberOfLeadingZeros_4 : decode cJ27_numberOfLeadingZeros 4 = .ok (.iload_n 0, 1) := dk_26 (dk_at dksJ27_numberOfLeadingZeros_0 4 rfl rfl)
theorem dJ27_numberOfLeadingZeros_5 : decode cJ27_numberOfLeadingZeros 5 = .ok (.ifCond .ne 8, 3) := dk_154 0 8 (dk_at dksJ27_numberOfLeadingZeros_0 5 rfl rfl)
theorem dJ27_numberOfLeadingZeros_8 : decode cJ27_numberOfLeadingZeros 8 = .ok (.bipush 32, 2) := dk_16 32 (dk_at dksJ27_numberOfLeadingZeros_0 8 rfl rfl)
theorem dJ27_numberOfLeadingZeros_10 : decode cJ27_numberOfLeadingZeros 10 = .ok (.goto 4, 3) := dk_167 0 4 (dk_at dksJ27_numberOfLeadingZeros_0 10 rfl rfl)
theorem dJ27_numberOfLeadingZeros_13 : decode cJ27_numberOfLeadingZeros 13 = .ok (.iconst 0, 1) := dk_3 (dk_at dksJ27_numberOfLeadingZeros_0 13 rfl rfl)
theorem dJ27_numberOfLeadingZeros_14 : decode cJ27_numberOfLeadingZeros 14 = .ok (.ireturn, 1) := dk_172 (dk_at dksJ27_numberOfLeadingZeros_0 14 rfl rfl)
theorem dJ27_numberOfLeadingZeros_15 : decode cJ27_numberOfLeadingZeros 15 = .ok (.bipush 31, 2) := dk_16 31 (dk_at dksJ27_numberOfLeadingZeros_0 15 rfl rfl)
theorem dJ27_numberOfLeadingZeros_17 : decode cJ27_numberOfLeadingZeros 17 = .ok (.istore_n 1, 1) := dk_60 (dk_at dksJ27_numberOfLeadingZeros_0 17 rfl rfl)
theorem dJ27_numberOfLeadingZeros_18 : decode cJ27_numberOfLeadingZeros 18 = .ok (.iload_n 0, 1) := dk_26 (dk_at dksJ27_numberOfLeadingZeros_0 18 rfl rfl)
theorem dJ27_numberOfLeadingZeros_19 : decode cJ27_numberOfLeadingZeros 19 = .ok (.ldc_w 264, 3) := dk_19 1 8 (dk_at dksJ27_numberOfLeadingZeros_0 19 rfl rfl)
theorem dJ27_numberOfLeadingZeros_22 : decode cJ27_numberOfLeadingZeros 22 = .ok (.if_icmp .lt 11, 3) := dk_161 0 11 (dk_at dksJ27_numberOfLeadingZeros_1 0 rfl rfl)
theorem dJ27_numberOfLeadingZeros_25 : decode cJ27_numberOfLeadingZeros 25 = .ok (.iinc 1 (-16), 3) := dk_132 1 240 (dk_at dksJ27_numberOfLeadingZeros_1 3 rfl rfl)
theorem dJ27_numberOfLeadingZeros_28 : decode cJ27_numberOfLeadingZeros 28 = .ok (.iload_n 0, 1) := dk_26 (dk_at dksJ27_numberOfLeadingZeros_1 6 rfl rfl)
theorem dJ27_numberOfLeadingZeros_29 : decode cJ27_numberOfLeadingZeros 29 = .ok (.bipush 16, 2) := dk_16 16 (dk_at dksJ27_numberOfLeadingZeros_1 7 rfl rfl)
theorem dJ27_numberOfLeadingZeros_31 : decode cJ27_numberOfLeadingZeros 31 = .ok (.iushr, 1) := dk_124 (dk_at dksJ27_numberOfLeadingZeros_1 9 rfl rfl)
theorem dJ27_numberOfLeadingZeros_32 : decode cJ27_numberOfLeadingZeros 32 = .ok (.istore_n 0, 1) := dk_59 (dk_at dksJ27_numberOfLeadingZeros_1 10 rfl rfl)
theorem dJ27_numberOfLeadingZeros_33 : decode cJ27_numberOfLeadingZeros 33 = .ok (.iload_n 0, 1) := dk_26 (dk_at dksJ27_numberOfLeadingZeros_1 11 rfl rfl)
theorem dJ27_numberOfLeadingZeros_34 : decode cJ27_numberOfLeadingZeros 34 = .ok (.sipush 256, 3) := dk_17 1 0 (dk_at dksJ27_numberOfLeadingZeros_1 12 rfl rfl)
theorem dJ27_numberOfLeadingZeros_37 : decode cJ27_numberOfLeadingZeros 37 = .ok (.if_icmp .lt 11, 3) := dk_161 0 11 (dk_at dksJ27_numberOfLeadingZeros_1 15 rfl rfl)
theorem dJ27_numberOfLeadingZeros_40 : decode cJ27_numberOfLeadingZeros 40 = .ok (.iinc 1 (-8), 3) := dk_132 1 248 (dk_at dksJ27_numberOfLeadingZeros_1 18 rfl rfl)
theorem dJ27_numberOfLeadingZeros_43 : decode cJ27_numberOfLeadingZeros 43 = .ok (.iload_n 0, 1) := dk_26 (dk_at dksJ27_numberOfLeadingZeros_1 21 rfl rfl)
theorem dJ27_numberOfLeadingZeros_44 : decode cJ27_numberOfLeadingZeros 44 = .ok (.bipush 8, 2) := dk_16 8 (dk_at dksJ27_numberOfLeadingZeros_1 22 rfl rfl)
theorem dJ27_numberOfLeadingZeros_46 : decode cJ27_numberOfLeadingZeros 46 = .ok (.iushr, 1) := dk_124 (dk_at dksJ27_numberOfLeadingZeros_2 0 rfl rfl)
theorem dJ27_numberOfLeadingZeros_47 : decode cJ27_numberOfLeadingZeros 47 = .ok (.istore_n 0, 1) := dk_59 (dk_at dksJ27_numberOfLeadingZeros_2 1 rfl rfl)
theorem dJ27_numberOfLeadingZeros_48 : decode cJ27_numberOfLeadingZeros 48 = .ok (.iload_n 0, 1) := dk_26 (dk_at dksJ27_numberOfLeadingZeros_2 2 rfl rfl)
theorem dJ27_numberOfLeadingZeros_49 : decode cJ27_numberOfLeadingZeros 49 = .ok (.bipush 16, 2) := dk_16 16 (dk_at dksJ27_numberOfLeadingZeros_2 3 rfl rfl)
theorem dJ27_numberOfLeadingZeros_51 : decode cJ27_numberOfLeadingZeros 51 = .ok (.if_icmp .lt 10, 3) := dk_161 0 10 (dk_at dksJ27_numberOfLeadingZeros_2 5 rfl rfl)
theorem dJ27_numberOfLeadingZeros_54 : decode cJ27_numberOfLeadingZeros 54 = .ok (.iinc 1 (-4), 3) := dk_132 1 252 (dk_at dksJ27_numberOfLeadingZeros_2 8 rfl rfl)
theorem dJ27_numberOfLeadingZeros_57 : decode cJ27_numberOfLeadingZeros 57 = .ok (.iload_n 0, 1) := dk_26 (dk_at dksJ27_numberOfLeadingZeros_2 11 rfl rfl)
theorem dJ27_numberOfLeadingZeros_58 : decode cJ27_numberOfLeadingZeros 58 = .ok (.iconst 4, 1) := dk_7 (dk_at dksJ27_numberOfLeadingZeros_2 12 rfl rfl)
theorem dJ27_numberOfLeadingZeros_59 : decode cJ27_numberOfLeadingZeros 59 = .ok (.iushr, 1) := dk_124 (dk_at dksJ27_numberOfLeadingZeros_2 13 rfl rfl)
theorem dJ27_numberOfLeadingZeros_60 : decode cJ27_numberOfLeadingZeros 60 = .ok (.istore_n 0, 1) := dk_59 (dk_at dksJ27_numberOfLeadingZeros_2 14 rfl rfl)
theorem dJ27_numberOfLeadingZeros_61 : decode cJ27_numberOfLeadingZeros 61 = .ok (.iload_n 0, 1) := dk_26 (dk_at dksJ27_numberOfLeadingZeros_2 15 rfl rfl)
theorem dJ27_numberOfLeadingZeros_62 : decode cJ27_numberOfLeadingZeros 62 = .ok (.iconst 4, 1) := dk_7 (dk_at dksJ27_numberOfLeadingZeros_2 16 rfl rfl)
theorem dJ27_numberOfLeadingZeros_63 : decode cJ27_numberOfLeadingZeros 63 = .ok (.if_icmp .lt 10, 3) := dk_161 0 10 (dk_at dksJ27_numberOfLeadingZeros_2 17 rfl rfl)
theorem dJ27_numberOfLeadingZeros_66 : decode cJ27_numberOfLeadingZeros 66 = .ok (.iinc 1 (-2), 3) := dk_132 1 254 (dk_at dksJ27_numberOfLeadingZeros_2 20 rfl rfl)
theorem dJ27_numberOfLeadingZeros_69 : decode cJ27_numberOfLeadingZeros 69 = .ok (.iload_n 0, 1) := dk_26 (dk_at dksJ27_numberOfLeadingZeros_2 23 rfl rfl)
theorem dJ27_numberOfLeadingZeros_70 : decode cJ27_numberOfLeadingZeros 70 = .ok (.iconst 2, 1) := dk_5 (dk_at dksJ27_numberOfLeadingZeros_3 0 rfl rfl)
theorem dJ27_numberOfLeadingZeros_71 : decode cJ27_numberOfLeadingZeros 71 = .ok (.iushr, 1) := dk_124 (dk_at dksJ27_numberOfLeadingZeros_3 1 rfl rfl)
theorem dJ27_numberOfLeadingZeros_72 : decode cJ27_numberOfLeadingZeros 72 = .ok (.istore_n 0, 1) := dk_59 (dk_at dksJ27_numberOfLeadingZeros_3 2 rfl rfl)
theorem dJ27_numberOfLeadingZeros_73 : decode cJ27_numberOfLeadingZeros 73 = .ok (.iload_n 1, 1) := dk_27 (dk_at dksJ27_numberOfLeadingZeros_3 3 rfl rfl)
theorem dJ27_numberOfLeadingZeros_74 : decode cJ27_numberOfLeadingZeros 74 = .ok (.iload_n 0, 1) := dk_26 (dk_at dksJ27_numberOfLeadingZeros_3 4 rfl rfl)
theorem dJ27_numberOfLeadingZeros_75 : decode cJ27_numberOfLeadingZeros 75 = .ok (.iconst 1, 1) := dk_4 (dk_at dksJ27_numberOfLeadingZeros_3 5 rfl rfl)
theorem dJ27_numberOfLeadingZeros_76 : decode cJ27_numberOfLeadingZeros 76 = .ok (.iushr, 1) := dk_124 (dk_at dksJ27_numberOfLeadingZeros_3 6 rfl rfl)
theorem dJ27_numberOfLeadingZeros_77 : decode cJ27_numberOfLeadingZeros 77 = .ok (.isub, 1) := dk_100 (dk_at dksJ27_numberOfLeadingZeros_3 7 rfl rfl)
theorem dJ27_numberOfLeadingZeros_78 : decode cJ27_numberOfLeadingZeros 78 = .ok (.ireturn, 1) := dk_172 (dk_at dksJ27_numberOfLeadingZeros_3 8 rfl rfl)
def dkwJ27_equals_1 : List UInt8 := [167, 0, 4, 3, 172, 3, 172]
abbrev dktJ27_equals_1 : List UInt8 := dkwJ27_equals_1 ++ []
def dkwJ27_equals_0 : List UInt8 := [43, 193, 0, 1, 153, 0, 23, 42, 180, 0, 205, 43, 192, 0, 1, 182, 0, 211, 160, 0, 7, 4]
abbrev dktJ27_equals_0 : List UInt8 := dkwJ27_equals_0 ++ dktJ27_equals_1
theorem dksJ27_equals_0 : cJ27_equals.data.toList.drop 0 = dktJ27_equals_0 := by decide +kernel
theorem dksJ27_equals_1 : cJ27_equals.data.toList.drop 22 = dktJ27_equals_1 := dk_seg dksJ27_equals_0 22 rfl rfl
theorem dJ27_equals_0 : decode cJ27_equals 0 = .ok (.aload_n 1, 1) := dk_43 (dk_at dksJ27_equals_0 0 rfl rfl)
theorem dJ27_equals_1 : decode cJ27_equals 1 = .ok (.instanceof 1, 3) := dk_193 0 1 (dk_at dksJ27_equals_0 1 rfl rfl)
theorem dJ27_equals_4 : decode cJ27_equals 4 = .ok (.ifCond .eq 23, 3) := dk_153 0 23 (dk_at dksJ27_equals_0 4 rfl rfl)
theorem dJ27_equals_7 : decode cJ27_equals 7 = .ok (.aload_n 0, 1) := dk_42 (dk_at dksJ27_equals_0 7 rfl rfl)
theorem dJ27_equals_8 : decode cJ27_equals 8 = .ok (.getfield 205, 3) := dk_180 0 205 (dk_at dksJ27_equals_0 8 rfl rfl)
theorem dJ27_equals_11 : decode cJ27_equals 11 = .ok (.aload_n 1, 1) := dk_43 (dk_at dksJ27_equals_0 11 rfl rfl)
theorem dJ27_equals_12 : decode cJ27_equals 12 = .ok (.checkcast 1, 3) := dk_192 0 1 (dk_at dksJ27_equals_0 12 rfl rfl)
theorem dJ27_equals_15 : decode cJ27_equals 15 = .ok (.invokevirtual 211, 3) := dk_182 0 211 (dk_at dksJ27_equals_0 15 rfl rfl)
theorem dJ27_equals_18 : decode cJ27_equals 18 = .ok (.if_icmp .ne 7, 3) := dk_160 0 7 (dk_at dksJ27_equals_0 18 rfl rfl)
theorem dJ27_equals_21 : decode cJ27_equals 21 = .ok (.iconst 1, 1) := dk_4 (dk_at dksJ27_equals_0 21 rfl rfl)
theorem dJ27_equals_22 : decode cJ27_equals 22 = .ok (.goto 4, 3) := dk_167 0 4 (dk_at dksJ27_equals_1 0 rfl rfl)
theorem dJ27_equals_25 : decode cJ27_equals 25 = .ok (.iconst 0, 1) := dk_3 (dk_at dksJ27_equals_1 3 rfl rfl)
theorem dJ27_equals_26 : decode cJ27_equals 26 = .ok (.ireturn, 1) := dk_172 (dk_at dksJ27_equals_1 4 rfl rfl)
theorem dJ27_equals_27 : decode cJ27_equals 27 = .ok (.iconst 0, 1) := dk_3 (dk_at dksJ27_equals_1 5 rfl rfl)
theorem dJ27_equals_28 : decode cJ27_equals 28 = .ok (.ireturn, 1) := dk_172 (dk_at dksJ27_equals_1 6 rfl rfl)
theorem dJ27_intValue_0 : decode cJ27_intValue 0 = .ok (.aload_n 0, 1) := by decide +kernel
theorem dJ27_intValue_1 : decode cJ27_intValue 1 = .ok (.getfield 205, 3) := by decide +kernel
theorem dJ27_intValue_4 : decode cJ27_intValue 4 = .ok (.ireturn, 1) := by decide +kernel
def dkwJ27_valueOf_1 : List UInt8 := [187, 0, 1, 89, 26, 183, 0, 199, 176]
abbrev dktJ27_valueOf_1 : List UInt8 := dkwJ27_valueOf_1 ++ []
def dkwJ27_valueOf_0 : List UInt8 := [26, 16, 128, 161, 0, 20, 26, 178, 0, 191, 163, 0, 13, 178, 0, 195, 26, 17, 0, 128, 96, 50, 176]
abbrev dktJ27_valueOf_0 : List UInt8 := dkwJ27_valueOf_0 ++ dktJ27_valueOf_1
theorem dksJ27_valueOf_0 : cJ27_valueOf.data.toList.drop 0 = dktJ27_valueOf_0 := by decide +kernel
theorem dksJ27_valueOf_1 : cJ27_valueOf.data.toList.drop 23 = dktJ27_valueOf_1 := dk_seg dksJ27_valueOf_0 23 rfl rfl
theorem dJ27_valueOf_0 : decode cJ27_valueOf 0 = .ok (.iload_n 0, 1) := dk_26 (dk_at dksJ27_valueOf_0 0 rfl rfl)
theorem dJ27_valueOf_1 : decode cJ27_valueOf 1 = .ok (.bipush (-128), 2) := dk_16 128 (dk_at dksJ27_valueOf_0 1 rfl rfl)
theorem dJ27_valueOf_3 : decode cJ27_valueOf 3 = .ok (.if_icmp .lt 20, 3) := dk_161 0 20 (dk_at dksJ27_valueOf_0 3 rfl rfl)
theorem dJ27_valueOf_6 : decode cJ27_valueOf 6 = .ok (.iload_n 0, 1) := dk_26 (dk_at dksJ27_valueOf_0 6 rfl rfl)
theorem dJ27_valueOf_7 : decode cJ27_valueOf 7 = .ok (.getstatic 191, 3) := dk_178 0 191 (dk_at dksJ27_valueOf_0 7 rfl rfl)
theorem dJ27_valueOf_10 : decode cJ27_valueOf 10 = .ok (.if_icmp .gt 13, 3) := dk_163 0 13 (dk_at dksJ27_valueOf_0 10 rfl rfl)
theorem dJ27_valueOf_13 : decode cJ27_valueOf 13 = .ok (.getstatic 195, 3) := dk_178 0 195 (dk_at dksJ27_valueOf_0 13 rfl rfl)
theorem dJ27_valueOf_16 : decode cJ27_valueOf 16 = .ok (.iload_n 0, 1) := dk_26 (dk_at dksJ27_valueOf_0 16 rfl rfl)
theorem dJ27_valueOf_17 : decode cJ27_valueOf 17 = .ok (.sipush 128, 3) := dk_17 0 128 (dk_at dksJ27_valueOf_0 17 rfl rfl)
theorem dJ27_valueOf_20 : decode cJ27_valueOf 20 = .ok (.iadd, 1) := dk_96 (dk_at dksJ27_valueOf_0 20 rfl rfl)
theorem dJ27_valueOf_21 : decode cJ27_valueOf 21 = .ok (.aaload, 1) := dk_50 (dk_at dksJ27_valueOf_0 21 rfl rfl)
theorem dJ27_valueOf_22 : decode cJ27_valueOf 22 = .ok (.areturn, 1) := dk_176 (dk_at dksJ27_valueOf_0 22 rfl rfl)
theorem dJ27_valueOf_23 : decode cJ27_valueOf 23 = .ok (.new 1, 3) := dk_187 0 1 (dk_at dksJ27_valueOf_1 0 rfl rfl)
theorem dJ27_valueOf_26 : decode cJ27_valueOf 26 = .ok (.dup, 1) := dk_89 (dk_at dksJ27_valueOf_1 3 rfl rfl)
theorem dJ27_valueOf_27 : decode cJ27_valueOf 27 = .ok (.iload_n 0, 1) := dk_26 (dk_at dksJ27_valueOf_1 4 rfl rfl)
theorem dJ27_valueOf_28 : decode cJ27_valueOf 28 = .ok (.invokespecial 199, 3) := dk_183 0 199 (dk_at dksJ27_valueOf_1 5 rfl rfl)
theorem dJ27_valueOf_31 : decode cJ27_valueOf 31 = .ok (.areturn, 1) := dk_176 (dk_at dksJ27_valueOf_1 8 rfl rfl)
def dkwJ27_init_0 : List UInt8 := [42, 183, 0, 202, 42, 27, 181, 0, 205, 177]
abbrev dktJ27_init_0 : List UInt8 := dkwJ27_init_0 ++ []
theorem dksJ27_init_0 : cJ27_init.data.toList.drop 0 = dktJ27_init_0 := by decide +kernel
theorem dJ27_init_0 : decode cJ27_init 0 = .ok (.aload_n 0, 1) := dk_42 (dk_at dksJ27_init_0 0 rfl rfl)
theorem dJ27_init_1 : decode cJ27_init 1 = .ok (.invokespecial 202, 3) := dk_183 0 202 (dk_at dksJ27_init_0 1 rfl rfl)
theorem dJ27_init_4 : decode cJ27_init 4 = .ok (.aload_n 0, 1) := dk_42 (dk_at dksJ27_init_0 4 rfl rfl)
theorem dJ27_init_5 : decode cJ27_init 5 = .ok (.iload_n 1, 1) := dk_27 (dk_at dksJ27_init_0 5 rfl rfl)
theorem dJ27_init_6 : decode cJ27_init 6 = .ok (.putfield 205, 3) := dk_181 0 205 (dk_at dksJ27_init_0 6 rfl rfl)
theorem dJ27_init_9 : decode cJ27_init 9 = .ok (.return_, 1) := dk_177 (dk_at dksJ27_init_0 9 rfl rfl)
def dkwJ30_max_0 : List UInt8 := [26, 27, 161, 0, 7, 26, 167, 0, 4, 27, 172]
abbrev dktJ30_max_0 : List UInt8 := dkwJ30_max_0 ++ []
theorem dksJ30_max_0 : cJ30_max.data.toList.drop 0 = dktJ30_max_0 := by decide +kernel
theorem dJ30_max_0 : decode cJ30_max 0 = .ok (.iload_n 0, 1) := dk_26 (dk_at dksJ30_max_0 0 rfl rfl)
theorem dJ30_max_1 : decode cJ30_max 1 = .ok (.iload_n 1, 1) := dk_27 (dk_at dksJ30_max_0 1 rfl rfl)
theorem dJ30_max_2 : decode cJ30_max 2 = .ok (.if_icmp .lt 7, 3) := dk_161 0 7 (dk_at dksJ30_max_0 2 rfl rfl)
theorem dJ30_max_5 : decode cJ30_max 5 = .ok (.iload_n 0, 1) := dk_26 (dk_at dksJ30_max_0 5 rfl rfl)
theorem dJ30_max_6 : decode cJ30_max 6 = .ok (.goto 4, 3) := dk_167 0 4 (dk_at dksJ30_max_0 6 rfl rfl)
theorem dJ30_max_9 : decode cJ30_max 9 = .ok (.iload_n 1, 1) := dk_27 (dk_at dksJ30_max_0 9 rfl rfl)
theorem dJ30_max_10 : decode cJ30_max 10 = .ok (.ireturn, 1) := dk_172 (dk_at dksJ30_max_0 10 rfl rfl)
def dkwJ30_min_0 : List UInt8 := [26, 27, 163, 0, 7, 26, 167, 0, 4, 27, 172]
abbrev dktJ30_min_0 : List UInt8 := dkwJ30_min_0 ++ []
theorem dksJ30_min_0 : cJ30_min.data.toList.drop 0 = dktJ30_min_0 := by decide +kernel
theorem dJ30_min_0 : decode cJ30_min 0 = .ok (.iload_n 0, 1) := dk_26 (dk_at dksJ30_min_0 0 rfl rfl)
theorem dJ30_min_1 : decode cJ30_min 1 = .ok (.iload_n 1, 1) := dk_27 (dk_at dksJ30_min_0 1 rfl rfl)
theorem dJ30_min_2 : decode cJ30_min 2 = .ok (.if_icmp .gt 7, 3) := dk_163 0 7 (dk_at dksJ30_min_0 2 rfl rfl)
theorem dJ30_min_5 : decode cJ30_min 5 = .ok (.iload_n 0, 1) := dk_26 (dk_at dksJ30_min_0 5 rfl rfl)
theorem dJ30_min_6 : decode cJ30_min 6 = .ok (.goto 4, 3) := dk_167 0 4 (dk_at dksJ30_min_0 6 rfl rfl)
theorem dJ30_min_9 : decode cJ30_min 9 = .ok (.iload_n 1, 1) := dk_27 (dk_at dksJ30_min_0 9 rfl rfl)
theorem dJ30_min_10 : decode cJ30_min 10 = .ok (.ireturn, 1) := dk_172 (dk_at dksJ30_min_0 10 rfl rfl)
def dkwJ31_newLength_1 : List UInt8 := [184, 0, 201, 172]
abbrev dktJ31_newLength_1 : List UInt8 := dkwJ31_newLength_1 ++ []
def dkwJ31_newLength_0 : List UInt8 := [26, 27, 28, 184, 0, 194, 96, 62, 3, 29, 162, 0, 11, 29, 18, 200, 163, 0, 5, 29, 172, 26, 27]
abbrev dktJ31_newLength_0 : List UInt8 := dkwJ31_newLength_0 ++ dktJ31_newLength_1
theorem dksJ31_newLength_0 : cJ31_newLength.data.toList.drop 0 = dktJ31_newLength_0 := by decide +kernel
theorem dksJ31_newLength_1 : cJ31_newLength.data.toList.drop 23 = dktJ31_newLength_1 := dk_seg dksJ31_newLength_0 23 rfl rfl
theorem dJ31_newLength_0 : decode cJ31_newLength 0 = .ok (.iload_n 0, 1) := dk_26 (dk_at dksJ31_newLength_0 0 rfl rfl)
theorem dJ31_newLength_1 : decode cJ31_newLength 1 = .ok (.iload_n 1, 1) := dk_27 (dk_at dksJ31_newLength_0 1 rfl rfl)
theorem dJ31_newLength_2 : decode cJ31_newLength 2 = .ok (.iload_n 2, 1) := dk_28 (dk_at dksJ31_newLength_0 2 rfl rfl)
theorem dJ31_newLength_3 : decode cJ31_newLength 3 = .ok (.invokestatic 194, 3) := dk_184 0 194 (dk_at dksJ31_newLength_0 3 rfl rfl)
theorem dJ31_newLength_6 : decode cJ31_newLength 6 = .ok (.iadd, 1) := dk_96 (dk_at dksJ31_newLength_0 6 rfl rfl)
theorem dJ31_newLength_7 : decode cJ31_newLength 7 = .ok (.istore_n 3, 1) := dk_62 (dk_at dksJ31_newLength_0 7 rfl rfl)
theorem dJ31_newLength_8 : decode cJ31_newLength 8 = .ok (.iconst 0, 1) := dk_3 (dk_at dksJ31_newLength_0 8 rfl rfl)
theorem dJ31_newLength_9 : decode cJ31_newLength 9 = .ok (.iload_n 3, 1) := dk_29 (dk_at dksJ31_newLength_0 9 rfl rfl)
theorem dJ31_newLength_10 : decode cJ31_newLength 10 = .ok (.if_icmp .ge 11, 3) := dk_162 0 11 (dk_at dksJ31_newLength_0 10 rfl rfl)
theorem dJ31_newLength_13 : decode cJ31_newLength 13 = .ok (.iload_n 3, 1) := dk_29 (dk_at dksJ31_newLength_0 13 rfl rfl)
theorem dJ31_newLength_14 : decode cJ31_newLength 14 = .ok (.ldc 200, 2) := dk_18 200 (dk_at dksJ31_newLength_0 14 rfl rfl)
theorem dJ31_newLength_16 : decode cJ31_newLength 16 = .ok (.if_icmp .gt 5, 3) := dk_163 0 5 (dk_at dksJ31_newLength_0 16 rfl rfl)
theorem dJ31_newLength_19 : decode cJ31_newLength 19 = .ok (.iload_n 3, 1) := dk_29 (dk_at dksJ31_newLength_0 19 rfl rfl)
theorem dJ31_newLength_20 : decode cJ31_newLength 20 = .ok (.ireturn, 1) := dk_172 (dk_at dksJ31_newLength_0 20 rfl rfl)
theorem dJ31_newLength_21 : decode cJ31_newLength 21 = .ok (.iload_n 0, 1) := dk_26 (dk_at dksJ31_newLength_0 21 rfl rfl)
theorem dJ31_newLength_22 : decode cJ31_newLength 22 = .ok (.iload_n 1, 1) := dk_27 (dk_at dksJ31_newLength_0 22 rfl rfl)
theorem dJ31_newLength_23 : decode cJ31_newLength 23 = .ok (.invokestatic 201, 3) := dk_184 0 201 (dk_at dksJ31_newLength_1 0 rfl rfl)
theorem dJ31_newLength_26 : decode cJ31_newLength 26 = .ok (.ireturn, 1) := dk_172 (dk_at dksJ31_newLength_1 3 rfl rfl)
def dkwJ31_hugeLength_2 : List UInt8 := [191, 28, 18, 200, 163, 0, 6, 18, 200, 172, 28, 172]
abbrev dktJ31_hugeLength_2 : List UInt8 := dkwJ31_hugeLength_2 ++ []
def dkwJ31_hugeLength_1 : List UInt8 := [26, 182, 0, 98, 18, 208, 182, 0, 94, 27, 182, 0, 98, 18, 210, 182, 0, 94, 182, 0, 101, 183, 0, 212]
abbrev dktJ31_hugeLength_1 : List UInt8 := dkwJ31_hugeLength_1 ++ dktJ31_hugeLength_2
def dkwJ31_hugeLength_0 : List UInt8 := [26, 27, 96, 61, 28, 156, 0, 44, 187, 0, 204, 89, 187, 0, 89, 89, 183, 0, 91, 18, 206, 182, 0, 94]
abbrev dktJ31_hugeLength_0 : List UInt8 := dkwJ31_hugeLength_0 ++ dktJ31_hugeLength_1
theorem dksJ31_hugeLength_0 : cJ31_hugeLength.data.toList.drop 0 = dktJ31_hugeLength_0 := by decide +kernel
theorem dksJ31_hugeLength_1 : cJ31_hugeLength.data.toList.drop 24 = dktJ31_hugeLength_1 := dk_seg dksJ31_hugeLength_0 24 rfl rfl
theorem dksJ31_hugeLength_2 : cJ31_hugeLength.data.toList.drop 48 = dktJ31_hugeLength_2 := dk_seg dksJ31_hugeLength_1 24 rfl rfl
theorem dJ31_hugeLength_0 : decode cJ31_hugeLength 0 = .ok (.iload_n 0, 1) := dk_26 (dk_at dksJ31_hugeLength_0 0 rfl rfl)
theorem dJ31_hugeLength_1 : decode cJ31_hugeLength 1 = .ok (.iload_n 1, 1) := dk_27 (dk_at dksJ31_hugeLength_0 1 rfl rfl)
theorem dJ31_hugeLength_2 : decode cJ31_hugeLength 2 = .ok (.iadd, 1) := dk_96 (dk_at dksJ31_hugeLength_0 2 rfl rfl)
theorem dJ31_hugeLength_3 : decode cJ31_hugeLength 3 = .ok (.istore_n 2, 1) := dk_61 (dk_at dksJ31_hugeLength_0 3 rfl rfl)
theorem dJ31_hugeLength_4 : decode cJ31_hugeLength 4 = .ok (.iload_n 2, 1) := dk_28 (dk_at dksJ31_hugeLength_0 4 rfl rfl)
theorem dJ31_hugeLength_5 : decode cJ31_hugeLength 5 = .ok (.ifCond .ge 44, 3) := dk_156 0 44 (dk_at dksJ31_hugeLength_0 5 rfl rfl)
theorem dJ31_hugeLength_8 : decode cJ31_hugeLength 8 = .ok (.new 204, 3) := dk_187 0 204 (dk_at dksJ31_hugeLength_0 8 rfl rfl)
theorem dJ31_hugeLength_11 : decode cJ31_hugeLength 11 = .ok (.dup, 1) := dk_89 (dk_at dksJ31_hugeLength_0 11 rfl rfl)
theorem dJ31_hugeLength_12 : decode cJ31_hugeLength 12 = .ok (.new 89, 3) := dk_187 0 89 (dk_at dksJ31_hugeLength_0 12 rfl rfl)
theorem dJ31_hugeLength_15 : decode cJ31_hugeLength 15 = .ok (.dup, 1) := dk_89 (dk_at dksJ31_hugeLength_0 15 rfl rfl)
theorem dJ31_hugeLength_16 : decode cJ31_hugeLength 16 = .ok (.invokespecial 91, 3) := dk_183 0 91 (dk_at dksJ31_hugeLength_0 16 rfl rfl)
theorem dJ31_hugeLength_19 : decode cJ31_hugeLength 19 = .ok (.ldc 206, 2) := dk_18 206 (dk_at dksJ31_hugeLength_0 19 rfl rfl)
theorem dJ31_hugeLength_21 : decode cJ31_hugeLength 21 = .ok (.invokevirtual 94, 3) := dk_182 0 94 (dk_at dksJ31_hugeLength_0 21 rfl rfl)
theorem dJ31_hugeLength_24 : decode cJ31_hugeLength 24 = .ok (.iload_n 0, 1) := dk_26 (dk_at dksJ31_hugeLength_1 0 rfl rfl)
theorem dJ31_hugeLength_25 : decode cJ31_hugeLength 25 = .ok (.invokevirtual 98, 3) := dk_182 0 98 (dk_at dksJ31_hugeLength_1 1 rfl rfl)
theorem dJ31_hugeLength_28 : decode cJ31_hugeLength 28 = .ok (.ldc 208, 2) := dk_18 208 (dk_at dksJ31_hugeLength_1 4 rfl rfl)
theorem dJ31_hugeLength_30 : decode cJ31_hugeLength 30 = .ok (.invokevirtual 94, 3) := dk_182 0 94 (dk_at dksJ31_hugeLength_1 6 rfl rfl)
theorem dJ31_hugeLength_33 : decode cJ31_hugeLength 33 = .ok (.iload_n 1, 1) := dk_27 (dk_at dksJ31_hugeLength_1 9 rfl rfl)
theorem dJ31_hugeLength_34 : decode cJ31_hugeLength 34 = .ok (.invokevirtual 98, 3) := dk_182 0 98 (dk_at dksJ31_hugeLength_1 10 rfl rfl)
theorem dJ31_hugeLength_37 : decode cJ31_hugeLength 37 = .ok (.ldc 210, 2) := dk_18 210 (dk_at dksJ31_hugeLength_1 13 rfl rfl)
theorem dJ31_hugeLength_39 : decode cJ31_hugeLength 39 = .ok (.invokevirtual 94, 3) := dk_182 0 94 (dk_at dksJ31_hugeLength_1 15 rfl rfl)
theorem dJ31_hugeLength_42 : decode cJ31_hugeLength 42 = .ok (.invokevirtual 101, 3) := dk_182 0 101 (dk_at dksJ31_hugeLength_1 18 rfl rfl)
theorem dJ31_hugeLength_45 : decode cJ31_hugeLength 45 = .ok (.invokespecial 212, 3) := dk_183 0 212 (dk_at dksJ31_hugeLength_1 21 rfl rfl)
theorem dJ31_hugeLength_48 : decode cJ31_hugeLength 48 = .ok (.athrow, 1) := dk_191 (dk_at dksJ31_hugeLength_2 0 rfl rfl)
theorem dJ31_hugeLength_49 : decode cJ31_hugeLength 49 = .ok (.iload_n 2, 1) := dk_28 (dk_at dksJ31_hugeLength_2 1 rfl rfl)
theorem dJ31_hugeLength_50 : decode cJ31_hugeLength 50 = .ok (.ldc 200, 2) := dk_18 200 (dk_at dksJ31_hugeLength_2 2 rfl rfl)
theorem dJ31_hugeLength_52 : decode cJ31_hugeLength 52 = .ok (.if_icmp .gt 6, 3) := dk_163 0 6 (dk_at dksJ31_hugeLength_2 4 rfl rfl)
theorem dJ31_hugeLength_55 : decode cJ31_hugeLength 55 = .ok (.ldc 200, 2) := dk_18 200 (dk_at dksJ31_hugeLength_2 7 rfl rfl)
theorem dJ31_hugeLength_57 : decode cJ31_hugeLength 57 = .ok (.ireturn, 1) := dk_172 (dk_at dksJ31_hugeLength_2 9 rfl rfl)
theorem dJ31_hugeLength_58 : decode cJ31_hugeLength 58 = .ok (.iload_n 2, 1) := dk_28 (dk_at dksJ31_hugeLength_2 10 rfl rfl)
theorem dJ31_hugeLength_59 : decode cJ31_hugeLength 59 = .ok (.ireturn, 1) := dk_172 (dk_at dksJ31_hugeLength_2 11 rfl rfl)
def dkwJ31_mismatch_3 : List UInt8 := [172]
abbrev dktJ31_mismatch_3 : List UInt8 := dkwJ31_mismatch_3 ++ []
def dkwJ31_mismatch_2 : List UInt8 := [62, 29, 28, 162, 0, 20, 42, 29, 51, 43, 29, 51, 159, 0, 5, 29, 172, 132, 3, 1, 167, 255, 237, 2]
abbrev dktJ31_mismatch_2 : List UInt8 := dkwJ31_mismatch_2 ++ dktJ31_mismatch_3
def dkwJ31_mismatch_1 : List UInt8 := [43, 178, 0, 126, 133, 28, 178, 0, 129, 184, 0, 122, 62, 29, 155, 0, 5, 29, 172, 28, 29, 2, 130, 100]
abbrev dktJ31_mismatch_1 : List UInt8 := dkwJ31_mismatch_1 ++ dktJ31_mismatch_2
def dkwJ31_mismatch_0 : List UInt8 := [3, 62, 28, 16, 7, 164, 0, 44, 42, 3, 51, 43, 3, 51, 159, 0, 5, 3, 172, 42, 178, 0, 126, 133]
abbrev dktJ31_mismatch_0 : List UInt8 := dkwJ31_mismatch_0 ++ dktJ31_mismatch_1
theorem dksJ31_mismatch_0 : cJ31_mismatch.data.toList.drop 0 = dktJ31_mismatch_0 := by decide +kernel
theorem dksJ31_mismatch_1 : cJ31_mismatch.data.toList.drop 24 = dktJ31_mismatch_1 := dk_seg dksJ31_mismatch_0 24 rfl rfl
theorem dksJ31_mismatch_2 : cJ31_mismatch.data.toList.drop 48 = dktJ31_mismatch_2 := dk_seg dksJ31_mismatch_1 24 rfl rfl
theorem dksJ31_mismatch_3 : cJ31_mismatch.data.toList.drop 72 = dktJ31_mismatch_3 := dk_seg dksJ31_mismatch_2 24 rfl rfl
theorem dJ31_mismatch_0 : decode cJ31_mismatch 0 = .ok (.iconst 0, 1) := dk_3 (dk_at dksJ31_mismatch_0 0 rfl rfl)
theorem dJ31_mismatch_1 : decode cJ31_mismatch 1 = .ok (.istore_n 3, 1) := dk_62 (dk_at dksJ31_mismatch_0 1 rfl rfl)
theorem dJ31_mismatch_2 : decode cJ31_mismatch 2 = .ok (.iload_n 2, 1) := dk_28 (dk_at dksJ31_mismatch_0 2 rfl rfl)
theorem dJ31_mismatch_3 : decode cJ31_mismatch 3 = .ok (.bipush 7, 2) := dk_16 7 (dk_at dksJ31_mismatch_0 3 rfl rfl)
theorem dJ31_mismatch_5 : decode cJ31_mismatch 5 = .ok (.if_icmp .le 44, 3) := dk_164 0 44 (dk_at dksJ31_mismatch_0 5 rfl rfl)
theorem dJ31_mismatch_8 : decode cJ31_mismatch 8 = .ok (.aload_n 0, 1) := dk_42 (dk_at dksJ31_mismatch_0 8 rfl rfl)
theorem dJ31_mismatch_9 : decode cJ31_mismatch 9 = .ok (.iconst 0, 1) := dk_3 (dk_at dksJ31_mismatch_0 9 rfl rfl)
theorem dJ31_mismatch_10 : decode cJ31_mismatch 10 = .ok (.baload, 1) := dk_51 (dk_at dksJ31_mismatch_0 10 rfl rfl)
theorem dJ31_mismatch_11 : decode cJ31_mismatch 11 = .ok (.aload_n 1, 1) := dk_43 (dk_at dksJ31_mismatch_0 11 rfl rfl)
theorem dJ31_mismatch_12 : decode cJ31_mismatch 12 = .ok (.iconst 0, 1) := dk_3 (dk_at dksJ31_mismatch_0 12 rfl rfl)
theorem dJ31_mismatch_13 : decode cJ31_mismatch 13 = .ok (.baload, 1) := dk_51 (dk_at dksJ31_mismatch_0 13 rfl rfl)
theorem dJ31_mismatch_14 : decode cJ31_mismatch 14 = .ok (.if_icmp .eq 5, 3) := dk_159 0 5 (dk_at dksJ31_mismatch_0 14 rfl rfl)
theorem dJ31_mismatch_17 : decode cJ31_mismatch 17 = .ok (.iconst 0, 1) := dk_3 (dk_at dksJ31_mismatch_0 17 rfl rfl)
theorem dJ31_mismatch_18 : decode cJ31_mismatch 18 = .ok (.ireturn, 1) := dk_172 (dk_at dksJ31_mismatch_0 18 rfl rfl)
theorem dJ31_mismatch_19 : decode cJ31_mismatch 19 = .ok (.aload_n 0, 1) := dk_42 (dk_at dksJ31_mismatch_0 19 rfl rfl)
theorem dJ31_mismatch_20 : decode cJ31_mismatch 20 = .ok (.getstatic 126, 3) := dk_178 0 126 (dk_at dksJ31_mismatch_0 20 rfl rfl)
theorem dJ31_mismatch_23 : decode cJ31_mismatch 23 = .ok (.i2l, 1) := dk_133 (dk_at dksJ31_mismatch_0 23 rfl rfl)
theorem dJ31_mismatch_24 : decode cJ31_mismatch 24 = .ok (.aload_n 1, 1) := dk_43 (dk_at dksJ31_mismatch_1 0 rfl rfl)
theorem dJ31_mismatch_25 : decode cJ31_mismatch 25 = .ok (.getstatic 126, 3) := dk_178 0 126 (dk_at dksJ31_mismatch_1 1 rfl rfl)
theorem dJ31_mismatch_28 : decode cJ31_mismatch 28 = .ok (.i2l, 1) := dk_133 (dk_at dksJ31_mismatch_1 4 rfl rfl)
theorem dJ31_mismatch_29 : decode cJ31_mismatch 29 = .ok (.iload_n 2, 1) := dk_28 (dk_at dksJ31_mismatch_1 5 rfl rfl)
theorem dJ31_mismatch_30 : decode cJ31_mismatch 30 = .ok (.getstatic 129, 3) := dk_178 0 129 (dk_at dksJ31_mismatch_1 6 rfl rfl)
theorem dJ31_mismatch_33 : decode cJ31_mismatch 33 = .ok (.invokestatic 122, 3) := dk_184 0 122 (dk_at dksJ31_mismatch_1 9 rfl rfl)
theorem dJ31_mismatch_36 : decode cJ31_mismatch 36 = .ok (.istore_n 3, 1) := dk_62 (dk_at dksJ31_mismatch_1 12 rfl rfl)
theorem dJ31_mismatch_37 : decode cJ31_mismatch 37 = .ok (.iload_n 3, 1) := dk_29 (dk_at dksJ31_mismatch_1 13 rfl rfl)
theorem dJ31_mismatch_38 : decode cJ31_mismatch 38 = .ok (.ifCond .lt 5, 3) := dk_155 0 5 (dk_at dksJ31_mismatch_1 14 rfl rfl)
theorem dJ31_mismatch_41 : decode cJ31_mismatch 41 = .ok (.iload_n 3, 1) := dk_29 (dk_at dksJ31_mismatch_1 17 rfl rfl)
theorem dJ31_mismatch_42 : decode cJ31_mismatch 42 = .ok (.ireturn, 1) := dk_172 (dk_at dksJ31_mismatch_1 18 rfl rfl)
theorem dJ31_mismatch_43 : decode cJ31_mismatch 43 = .ok (.iload_n 2, 1) := dk_28 (dk_at dksJ31_mismatch_1 19 rfl rfl)
theorem dJ31_mismatch_44 : decode cJ31_mismatch 44 = .ok (.iload_n 3, 1) := dk_29 (dk_at dksJ31_mismatch_1 20 rfl rfl)
theorem dJ31_mismatch_45 : decode cJ31_mismatch 45 = .ok (.iconst (-1), 1) := dk_2 (dk_at dksJ31_mismatch_1 21 rfl rfl)
theorem dJ31_mismatch_46 : decode cJ31_mismatch 46 = .ok (.ixor, 1) := dk_130 (dk_at dksJ31_mismatch_1 22 rfl rfl)
theorem dJ31_mismatch_47 : decode cJ31_mismatch 47 = .ok (.isub, 1) := dk_100 (dk_at dksJ31_mismatch_1 23 rfl rfl)
theorem dJ31_mismatch_48 : decode cJ31_mismatch 48 = .ok (.istore_n 3, 1) := dk_62 (dk_at dksJ31_mismatch_2 0 rfl rfl)
theorem dJ31_mismatch_49 : decode cJ31_mismatch 49 = .ok (.iload_n 3, 1) := dk_29 (dk_at dksJ31_mismatch_2 1 rfl rfl)
theorem dJ31_mismatch_50 : decode cJ31_mismatch 50 = .ok (.iload_n 2, 1) := dk_28 (dk_at dksJ31_mismatch_2 2 rfl rfl)
theorem dJ31_mismatch_51 : decode cJ31_mismatch 51 = .ok (.if_icmp .ge 20, 3) := dk_162 0 20 (dk_at dksJ31_mismatch_2 3 rfl rfl)
theorem dJ31_mismatch_54 : decode cJ31_mismatch 54 = .ok (.aload_n 0, 1) := dk_42 (dk_at dksJ31_mismatch_2 6 rfl rfl)
theorem dJ31_mismatch_55 : decode cJ31_mismatch 55 = .ok (.iload_n 3, 1) := dk_29 (dk_at dksJ31_mismatch_2 7 rfl rfl)
theorem dJ31_mismatch_56 : decode cJ31_mismatch 56 = .ok (.baload, 1) := dk_51 (dk_at dksJ31_mismatch_2 8 rfl rfl)
theorem dJ31_mismatch_57 : decode cJ31_mismatch 57 = .ok (.aload_n 1, 1) := dk_43 (dk_at dksJ31_mismatch_2 9 rfl rfl)
theorem dJ31_mismatch_58 : decode cJ31_mismatch 58 = .ok (.iload_n 3, 1) := dk_29 (dk_at dksJ31_mismatch_2 10 rfl rfl)
theorem dJ31_mismatch_59 : decode cJ31_mismatch 59 = .ok (.baload, 1) := dk_51 (dk_at dksJ31_mismatch_2 11 rfl rfl)
theorem dJ31_mismatch_60 : decode cJ31_mismatch 60 = .ok (.if_icmp .eq 5, 3) := dk_159 0 5 (dk_at dksJ31_mismatch_2 12 rfl rfl)
theorem dJ31_mismatch_63 : decode cJ31_mismatch 63 = .ok (.iload_n 3, 1) := dk_29 (dk_at dksJ31_mismatch_2 15 rfl rfl)
theorem dJ31_mismatch_64 : decode cJ31_mismatch 64 = .ok (.ireturn, 1) := dk_172 (dk_at dksJ31_mismatch_2 16 rfl rfl)
theorem dJ31_mismatch_65 : decode cJ31_mismatch 65 = .ok (.iinc 3 1, 3) := dk_132 3 1 (dk_at dksJ31_mismatch_2 17 rfl rfl)
theorem dJ31_mismatch_68 : decode cJ31_mismatch 68 = .ok (.goto (-19), 3) := dk_167 255 237 (dk_at dksJ31_mismatch_2 20 rfl rfl)
theorem dJ31_mismatch_71 : decode cJ31_mismatch 71 = .ok (.iconst (-1), 1) := dk_2 (dk_at dksJ31_mismatch_2 23 rfl rfl)
theorem dJ31_mismatch_72 : decode cJ31_mismatch 72 = .ok (.ireturn, 1) := dk_172 (dk_at dksJ31_mismatch_3 0 rfl rfl)
def dkwJ31_vectorizedMismatch_11 : List UInt8 := [54, 10, 21, 10, 2, 130, 172, 21, 10, 2, 130, 172]
abbrev dktJ31_vectorizedMismatch_11 : List UInt8 := dkwJ31_vectorizedMismatch_11 ++ []
def dkwJ31_vectorizedMismatch_10 : List UInt8 := [178, 0, 46, 21, 7, 96, 122, 54, 17, 21, 9, 21, 8, 120, 21, 17, 96, 172, 21, 10, 21, 11, 100]
abbrev dktJ31_vectorizedMismatch_10 : List UInt8 := dkwJ31_vectorizedMismatch_10 ++ dktJ31_vectorizedMismatch_11
def dkwJ31_vectorizedMismatch_9 : List UInt8 := [153, 0, 18, 21, 16, 184, 0, 58, 178, 0, 46, 21, 7, 96, 122, 167, 0, 15, 21, 16, 184, 0, 11]
abbrev dktJ31_vectorizedMismatch_9 : List UInt8 := dkwJ31_vectorizedMismatch_9 ++ dktJ31_vectorizedMismatch_10
def dkwJ31_vectorizedMismatch_8 : List UInt8 := [182, 0, 54, 54, 15, 21, 14, 21, 15, 159, 0, 54, 21, 14, 21, 15, 130, 54, 16, 178, 0, 36]
abbrev dktJ31_vectorizedMismatch_8 : List UInt8 := dkwJ31_vectorizedMismatch_8 ++ dktJ31_vectorizedMismatch_9
def dkwJ31_vectorizedMismatch_7 : List UInt8 := [55, 12, 178, 0, 26, 42, 31, 22, 12, 97, 182, 0, 54, 54, 14, 178, 0, 26, 45, 22, 4, 22, 12, 97]
abbrev dktJ31_vectorizedMismatch_7 : List UInt8 := dkwJ31_vectorizedMismatch_7 ++ dktJ31_vectorizedMismatch_8
def dkwJ31_vectorizedMismatch_6 : List UInt8 := [4, 178, 0, 51, 21, 7, 100, 120, 54, 11, 21, 10, 21, 11, 161, 0, 104, 21, 9, 133, 178, 0, 20, 121]
abbrev dktJ31_vectorizedMismatch_6 : List UInt8 := dkwJ31_vectorizedMismatch_6 ++ dktJ31_vectorizedMismatch_7
def dkwJ31_vectorizedMismatch_5 : List UInt8 := [132, 9, 1, 167, 255, 148, 21, 6, 21, 9, 21, 8, 120, 100, 54, 10, 21, 7, 178, 0, 51, 162, 0, 126]
abbrev dktJ31_vectorizedMismatch_5 : List UInt8 := dkwJ31_vectorizedMismatch_5 ++ dktJ31_vectorizedMismatch_6
def dkwJ31_vectorizedMismatch_4 : List UInt8 := [22, 16, 184, 0, 49, 178, 0, 46, 21, 7, 96, 122, 54, 18, 21, 9, 21, 8, 120, 21, 18, 96, 172]
abbrev dktJ31_vectorizedMismatch_4 : List UInt8 := dkwJ31_vectorizedMismatch_4 ++ dktJ31_vectorizedMismatch_5
def dkwJ31_vectorizedMismatch_3 : List UInt8 := [55, 16, 178, 0, 36, 153, 0, 18, 22, 16, 184, 0, 40, 178, 0, 46, 21, 7, 96, 122, 167, 0, 15]
abbrev dktJ31_vectorizedMismatch_3 : List UInt8 := dkwJ31_vectorizedMismatch_3 ++ dktJ31_vectorizedMismatch_4
def dkwJ31_vectorizedMismatch_2 : List UInt8 := [22, 4, 22, 10, 97, 182, 0, 30, 55, 14, 22, 12, 22, 14, 148, 153, 0, 54, 22, 12, 22, 14, 131]
abbrev dktJ31_vectorizedMismatch_2 : List UInt8 := dkwJ31_vectorizedMismatch_2 ++ dktJ31_vectorizedMismatch_3
def dkwJ31_vectorizedMismatch_1 : List UInt8 := [178, 0, 20, 121, 55, 10, 178, 0, 26, 42, 31, 22, 10, 97, 182, 0, 30, 55, 12, 178, 0, 26, 45]
abbrev dktJ31_vectorizedMismatch_1 : List UInt8 := dkwJ31_vectorizedMismatch_1 ++ dktJ31_vectorizedMismatch_2
def dkwJ31_vectorizedMismatch_0 : List UInt8 := [178, 0, 20, 21, 7, 100, 54, 8, 3, 54, 9, 21, 9, 21, 6, 21, 8, 122, 162, 0, 104, 21, 9, 133]
abbrev dktJ31_vectorizedMismatch_0 : List UInt8 := dkwJ31_vectorizedMismatch_0 ++ dktJ31_vectorizedMismatch_1
theorem dksJ31_vectorizedMismatch_0 : cJ31_vectorizedMismatch.data.toList.drop 0 = dktJ31_vectorizedMismatch_0 := by decide +kernel
theorem dksJ31_vectorizedMismatch_1 : cJ31_vectorizedMismatch.data.toList.drop 24 = dktJ31_vectorizedMismatch_1 := dk_seg dksJ31_vectorizedMismatch_0 24 rfl rfl
theorem dksJ31_vectorizedMismatch_2 : cJ31_vectorizedMismatch.data.toList.drop 47 = dktJ31_vectorizedMismatch_2 := dk_seg dksJ31_vectorizedMismatch_1 23 rfl rfl
theorem dksJ31_vectorizedMismatch_3 : cJ31_vectorizedMismatch.data.toList.drop 70 = dktJ31_vectorizedMismatch_3 := dk_seg dksJ31_vectorizedMismatch_2 23 rfl rfl
theorem dksJ31_vectorizedMismatch_4 : cJ31_vectorizedMismatch.data.toList.drop 93 = dktJ31_vectorizedMismatch_4 := dk_seg dksJ31_vectorizedMismatch_3 23 rfl rfl
theorem dksJ31_vectorizedMismatch_5 : cJ31_vectorizedMismatch.data.toList.drop 116 = dktJ31_vectorizedMismatch_5 := dk_seg dksJ31_vectorizedMismatch_4 23 rfl rfl
theorem dksJ31_vectorizedMismatch_6 : cJ31_vectorizedMismatch.data.toList.drop 140 = dktJ31_vectorizedMismatch_6 := dk_seg dksJ31_vectorizedMismatch_5 24 rfl rfl
theorem dksJ31_vectorizedMismatch_7 : cJ31_vectorizedMismatch.data.toList.drop 164 = dktJ31_vectorizedMismatch_7 := dk_seg dksJ31_vectorizedMismatch_6 24 rfl rfl
theorem dksJ31_vectorizedMismatch_8 : cJ31_vectorizedMismatch.data.toList.drop 188 = dktJ31_vectorizedMismatch_8 := dk_seg dksJ31_vectorizedMismatch_7 24 rfl rfl
theorem dksJ31_vectorizedMismatch_9 : cJ31_vectorizedMismatch.data.toList.drop 210 = dktJ31_vectorizedMismatch_9 := dk_seg dksJ31_vectorizedMismatch_8 22 rfl rfl
theorem dksJ31_vectorizedMismatch_10 : cJ31_vectorizedMismatch.data.toList.drop 233 = dktJ31_vectorizedMismatch_10 := dk_seg dksJ31_vectorizedMismatch_9 23 rfl rfl
theorem dksJ31_vectorizedMismatch_11 : cJ31_vectorizedMismatch.data.toList.drop 256 = dktJ31_vectorizedMismatch_11 := dk_seg dksJ31_vectorizedMismatch_10 23 rfl rfl
theorem dJ31_vectorizedMismatch_0 : decode cJ31_vectorizedMismatch 0 = .ok (.getstatic 20, 3) := dk_178 0 20 (dk_at dksJ31_vectorizedMismatch_0 0 rfl rfl)
theorem dJ31_vectorizedMismatch_3 : decode cJ31_vectorizedMismatch 3 = .ok (.iload 7, 2) := dk_21 7 (dk_at dksJ31_vectorizedMismatch_0 3 rfl rfl)
theorem dJ31_vectorizedMismatch_5 : decode cJ31_vectorizedMismatch 5 = .ok (.isub, 1) := dk_100 (dk_at dksJ31_vectorizedMismatch_0 5 rfl rfl)
theorem dJ31_vectorizedMismatch_6 : decode cJ31_vectorizedMismatch 6 = .ok (.istore 8, 2) := dk_54 8 (dk_at dksJ31_vectorizedMismatch_0 6 rfl rfl)
theorem dJ31_vectorizedMismatch_8 : decode cJ31_vectorizedMismatch 8 = .ok (.iconst 0, 1) := dk_3 (dk_at dksJ31_vectorizedMismatch_0 8 rfl rfl)
theorem dJ31_vectorizedMismatch_9 : decode cJ31_vectorizedMismatch 9 = .ok (.istore 9, 2) := dk_54 9 (dk_at dksJ31_vectorizedMismatch_0 9 rfl rfl)
theorem dJ31_vectorizedMismatch_11 : decode cJ31_vectorizedMismatch 11 = .ok (.iload 9, 2) := dk_21 9 (dk_at dksJ31_vectorizedMismatch_0 11 rfl rfl)
theorem dJ31_vectorizedMismatch_13 : decode cJ31_vectorizedMismatch 13 = .ok (.iload 6, 2) := dk_21 6 (dk_at dksJ31_vectorizedMismatch_0 13 rfl rfl)
theorem dJ31_vectorizedMismatch_15 : decode cJ31_vectorizedMismatch 15 = .ok (.iload 8, 2) := dk_21 8 (dk_at dksJ31_vectorizedMismatch_0 15 rfl rfl)
theorem dJ31_vectorizedMismatch_17 : decode cJ31_vectorizedMismatch 17 = .ok (.ishr, 1) := dk_122 (dk_at dksJ31_vectorizedMismatch_0 17 rfl rfl)
theorem dJ31_vectorizedMismatch_18 : decode cJ31_vectorizedMismatch 18 = .ok (.if_icmp .ge 104, 3) := dk_162 0 104 (dk_at dksJ31_vectorizedMismatch_0 18 rfl rfl)
theorem dJ31_vectorizedMismatch_21 : decode cJ31_vectorizedMismatch 21 = .ok (.iload 9, 2) := dk_21 9 (dk_at dksJ31_vectorizedMismatch_0 21 rfl rfl)
theorem dJ31_vectorizedMismatch_23 : decode cJ31_vectorizedMismatch 23 = .ok (.i2l, 1) := dk_133 (dk_at dksJ31_vectorizedMismatch_0 23 rfl rfl)
theorem dJ31_vectorizedMismatch_24 : decode cJ31_vectorizedMismatch 24 = .ok (.getstatic 20, 3) := dk_178 0 20 (dk_at dksJ31_vectorizedMismatch_1 0 rfl rfl)
theorem dJ31_vectorizedMismatch_27 : decode cJ31_vectorizedMismatch 27 = .ok (.lshl, 1) := dk_121 (dk_at dksJ31_vectorizedMismatch_1 3 rfl rfl)
theorem dJ31_vectorizedMismatch_28 : decode cJ31_vectorizedMismatch 28 = .ok (.lstore 10, 2) := dk_55 10 (dk_at dksJ31_vectorizedMismatch_1 4 rfl rfl)
theorem dJ31_vectorizedMismatch_30 : decode cJ31_vectorizedMismatch 30 = .ok (.getstatic 26, 3) := dk_178 0 26 (dk_at dksJ31_vectorizedMismatch_1 6 rfl rfl)
theorem dJ31_vectorizedMismatch_33 : decode cJ31_vectorizedMismatch 33 = .ok (.aload_n 0, 1) := dk_42 (dk_at dksJ31_vectorizedMismatch_1 9 rfl rfl)
theorem dJ31_vectorizedMismatch_34 : decode cJ31_vectorizedMismatch 34 = .ok (.lload_n 1, 1) := dk_31 (dk_at dksJ31_vectorizedMismatch_1 10 rfl rfl)
theorem dJ31_vectorizedMismatch_35 : decode cJ31_vectorizedMismatch 35 = .ok (.lload 10, 2) := dk_22 10 (dk_at dksJ31_vectorizedMismatch_1 11 rfl rfl)
theorem dJ31_vectorizedMismatch_37 : decode cJ31_vectorizedMismatch 37 = .ok (.ladd, 1) := dk_97 (dk_at dksJ31_vectorizedMismatch_1 13 rfl rfl)
theorem dJ31_vectorizedMismatch_38 : decode cJ31_vectorizedMismatch 38 = .ok (.invokevirtual 30, 3) := dk_182 0 30 (dk_at dksJ31_vectorizedMismatch_1 14 rfl rfl)
theorem dJ31_vectorizedMismatch_41 : decode cJ31_vectorizedMismatch 41 = .ok (.lstore 12, 2) := dk_55 12 (dk_at dksJ31_vectorizedMismatch_1 17 rfl rfl)
theorem dJ31_vectorizedMismatch_43 : decode cJ31_vectorizedMismatch 43 = .ok (.getstatic 26, 3) := dk_178 0 26 (dk_at dksJ31_vectorizedMismatch_1 19 rfl rfl)
theorem dJ31_vectorizedMismatch_46 : decode cJ31_vectorizedMismatch 46 = .ok (.aload_n 3, 1) := dk_45 (dk_at dksJ31_vectorizedMismatch_1 22 rfl rfl)
theorem dJ31_vectorizedMismatch_47 : decode cJ31_vectorizedMismatch 47 = .ok (.lload 4, 2) := dk_22 4 (dk_at dksJ31_vectorizedMismatch_2 0 rfl rfl)
theorem dJ31_vectorizedMismatch_49 : decode cJ31_vectorizedMismatch 49 = .ok (.lload 10, 2) := dk_22 10 (dk_at dksJ31_vectorizedMismatch_2 2 rfl rfl)
theorem dJ31_vectorizedMismatch_51 : decode cJ31_vectorizedMismatch 51 = .ok (.ladd, 1) := dk_97 (dk_at dksJ31_vectorizedMismatch_2 4 rfl rfl)
theorem dJ31_vectorizedMismatch_52 : decode cJ31_vectorizedMismatch 52 = .ok (.invokevirtual 30, 3) := dk_182 0 30 (dk_at dksJ31_vectorizedMismatch_2 5 rfl rfl)
theorem dJ31_vectorizedMismatch_55 : decode cJ31_vectorizedMismatch 55 = .ok (.lstore 14, 2) := dk_55 14 (dk_at dksJ31_vectorizedMismatch_2 8 rfl rfl)
theorem dJ31_vectorizedMismatch_57 : decode cJ31_vectorizedMismatch 57 = .ok (.lload 12, 2) := dk_22 12 (dk_at dksJ31_vectorizedMismatch_2 10 rfl rfl)
theorem dJ31_vectorizedMismatch_59 : decode cJ31_vectorizedMismatch 59 = .ok (.lload 14, 2) := dk_22 14 (dk_at dksJ31_vectorizedMismatch_2 12 rfl rfl)
theorem dJ31_vectorizedMismatch_61 : decode cJ31_vectorizedMismatch 61 = .ok (.lcmp, 1) := dk_148 (dk_at dksJ31_vectorizedMismatch_2 14 rfl rfl)
theorem dJ31_vectorizedMismatch_62 : decode cJ31_vectorizedMismatch 62 = .ok (.ifCond .eq 54, 3) := dk_153 0 54 (dk_at dksJ31_vectorizedMismatch_2 15 rfl rfl)
theorem dJ31_vectorizedMismatch_65 : decode cJ31_vectorizedMismatch 65 = .ok (.lload 12, 2) := dk_22 12 (dk_at dksJ31_vectorizedMismatch_2 18 rfl rfl)
theorem dJ31_vectorizedMismatch_67 : decode cJ31_vectorizedMismatch 67 = .ok (.lload 14, 2) := dk_22 14 (dk_at dksJ31_vectorizedMismatch_2 20 rfl rfl)
theorem dJ31_vectorizedMismatch_69 : decode cJ31_vectorizedMismatch 69 = .ok (.lxor, 1) := dk_131 (dk_at dksJ31_vectorizedMismatch_2 22 rfl rfl)
theorem dJ31_vectorizedMismatch_70 : decode cJ31_vectorizedMismatch 70 = .ok (.lstore 16, 2) := dk_55 16 (dk_at dksJ31_vectorizedMismatch_3 0 rfl rfl)
theorem dJ31_vectorizedMismatch_72 : decode cJ31_vectorizedMismatch 72 = .ok (.getstatic 36, 3) := dk_178 0 36 (dk_at dksJ31_vectorizedMismatch_3 2 rfl rfl)
theorem dJ31_vectorizedMismatch_75 : decode cJ31_vectorizedMismatch 75 = .ok (.ifCond .eq 18, 3) := dk_153 0 18 (dk_at dksJ31_vectorizedMismatch_3 5 rfl rfl)
theorem dJ31_vectorizedMismatch_78 : decode cJ31_vectorizedMismatch 78 = .ok (.lload 16, 2) := dk_22 16 (dk_at dksJ31_vectorizedMismatch_3 8 rfl rfl)
theorem dJ31_vectorizedMismatch_80 : decode cJ31_vectorizedMismatch 80 = .ok (.invokestatic 40, 3) := dk_184 0 40 (dk_at dksJ31_vectorizedMismatch_3 10 rfl rfl)
theorem dJ31_vectorizedMismatch_83 : decode cJ31_vectorizedMismatch 83 = .ok (.getstatic 46, 3) := dk_178 0 46 (dk_at dksJ31_vectorizedMismatch_3 13 rfl rfl)
theorem dJ31_vectorizedMismatch_86 : decode cJ31_vectorizedMismatch 86 = .ok (.iload 7, 2) := dk_21 7 (dk_at dksJ31_vectorizedMismatch_3 16 rfl rfl)
theorem dJ31_vectorizedMismatch_88 : decode cJ31_vectorizedMismatch 88 = .ok (.iadd, 1) := dk_96 (dk_at dksJ31_vectorizedMismatch_3 18 rfl rfl)
theorem dJ31_vectorizedMismatch_89 : decode cJ31_vectorizedMismatch 89 = .ok (.ishr, 1) := dk_122 (dk_at dksJ31_vectorizedMismatch_3 19 rfl rfl)
theorem dJ31_vectorizedMismatch_90 : decode cJ31_vectorizedMismatch 90 = .ok (.goto 15, 3) := dk_167 0 15 (dk_at dksJ31_vectorizedMismatch_3 20 rfl rfl)
theorem dJ31_vectorizedMismatch_93 : decode cJ31_vectorizedMismatch 93 = .ok (.lload 16, 2) := dk_22 16 (dk_at dksJ31_vectorizedMismatch_4 0 rfl rfl)
theorem dJ31_vectorizedMismatch_95 : decode cJ31_vectorizedMismatch 95 = .ok (.invokestatic 49, 3) := dk_184 0 49 (dk_at dksJ31_vectorizedMismatch_4 2 rfl rfl)
theorem dJ31_vectorizedMismatch_98 : decode cJ31_vectorizedMismatch 98 = .ok (.getstatic 46, 3) := dk_178 0 46 (dk_at dksJ31_vectorizedMismatch_4 5 rfl rfl)
theorem dJ31_vectorizedMismatch_101 : decode cJ31_vectorizedMismatch 101 = .ok (.iload 7, 2) := dk_21 7 (dk_at dksJ31_vectorizedMismatch_4 8 rfl rfl)
theorem dJ31_vectorizedMismatch_103 : decode cJ31_vectorizedMismatch 103 = .ok (.iadd, 1) := dk_96 (dk_at dksJ31_vectorizedMismatch_4 10 rfl rfl)
theorem dJ31_vectorizedMismatch_104 : decode cJ31_vectorizedMismatch 104 = .ok (.ishr, 1) := dk_122 (dk_at dksJ31_vectorizedMismatch_4 11 rfl rfl)
theorem dJ31_vectorizedMismatch_105 : decode cJ31_vectorizedMismatch 105 = .ok (.istore 18, 2) := dk_54 18 (dk_at dksJ31_vectorizedMismatch_4 12 rfl rfl)
theorem dJ31_vectorizedMismatch_107 : decode cJ31_vectorizedMismatch 107 = .ok (.iload 9, 2) := dk_21 9 (dk_at dksJ31_vectorizedMismatch_4 14 rfl rfl)
theorem dJ31_vectorizedMismatch_109 : decode cJ31_vectorizedMismatch 109 = .ok (.iload 8, 2) := dk_21 8 (dk_at dksJ31_vectorizedMismatch_4 16 rfl rfl)
theorem dJ31_vectorizedMismatch_111 : decode cJ31_vectorizedMismatch 111 = .ok (.ishl, 1) := dk_120 (dk_at dksJ31_vectorizedMismatch_4 18 rfl rfl)
theorem dJ31_vectorizedMismatch_112 : decode cJ31_vectorizedMismatch 112 = .ok (.iload 18, 2) := dk_21 18 (dk_at dksJ31_vectorizedMismatch_4 19 rfl rfl)
theorem dJ31_vectorizedMismatch_114 : decode cJ31_vectorizedMismatch 114 = .ok (.iadd, 1) := dk_96 (dk_at dksJ31_vectorizedMismatch_4 21 rfl rfl)
theorem dJ31_vectorizedMismatch_115 : decode cJ31_vectorizedMismatch 115 = .ok (.ireturn, 1) := dk_172 (dk_at dksJ31_vectorizedMismatch_4 22 rfl rfl)
theorem dJ31_vectorizedMismatch_116 : decode cJ31_vectorizedMismatch 116 = .ok (.iinc 9 1, 3) := dk_132 9 1 (dk_at dksJ31_vectorizedMismatch_5 0 rfl rfl)
theorem dJ31_vectorizedMismatch_119 : decode cJ31_vectorizedMismatch 119 = .ok (.goto (-108), 3) := dk_167 255 148 (dk_at dksJ31_vectorizedMismatch_5 3 rfl rfl)
theorem dJ31_vectorizedMismatch_122 : decode cJ31_vectorizedMismatch 122 = .ok (.iload 6, 2) := dk_21 6 (dk_at dksJ31_vectorizedMismatch_5 6 rfl rfl)
theorem dJ31_vectorizedMismatch_124 : decode cJ31_vectorizedMismatch 124 = .ok (.iload 9, 2) := dk_21 9 (dk_at dksJ31_vectorizedMismatch_5 8 rfl rfl)
theorem dJ31_vectorizedMismatch_126 : decode cJ31_vectorizedMismatch 126 = .ok (.iload 8, 2) := dk_21 8 (dk_at dksJ31_vectorizedMismatch_5 10 rfl rfl)
theorem dJ31_vectorizedMismatch_128 : decode cJ31_vectorizedMismatch 128 = .ok (.ishl, 1) := dk_120 (dk_at dksJ31_vectorizedMismatch_5 12 rfl rfl)
theorem dJ31_vectorizedMismatch_129 : decode cJ31_vectorizedMismatch 129 = .ok (.isub, 1) := dk_100 (dk_at dksJ31_vectorizedMismatch_5 13 rfl rfl)
theorem dJ31_vectorizedMismatch_130 : decode cJ31_vectorizedMismatch 130 = .ok (.istore 10, 2) := dk_54 10 (dk_at dksJ31_vectorizedMismatch_5 14 rfl rfl)
theorem dJ31_vectorizedMismatch_132 : decode cJ31_vectorizedMismatch 132 = .ok (.iload 7, 2) := dk_21 7 (dk_at dksJ31_vectorizedMismatch_5 16 rfl rfl)
theorem dJ31_vectorizedMismatch_134 : decode cJ31_vectorizedMismatch 134 = .ok (.getstatic 51, 3) := dk_178 0 51 (dk_at dksJ31_vectorizedMismatch_5 18 rfl rfl)
theorem dJ31_vectorizedMismatch_137 : decode cJ31_vectorizedMismatch 137 = .ok (.if_icmp .ge 126, 3) := dk_162 0 126 (dk_at dksJ31_vectorizedMismatch_5 21 rfl rfl)
theorem dJ31_vectorizedMismatch_140 : decode cJ31_vectorizedMismatch 140 = .ok (.iconst 1, 1) := dk_4 (dk_at dksJ31_vectorizedMismatch_6 0 rfl rfl)
theorem dJ31_vectorizedMismatch_141 : decode cJ31_vectorizedMismatch 141 = .ok (.getstatic 51, 3) := dk_178 0 51 (dk_at dksJ31_vectorizedMismatch_6 1 rfl rfl)
theorem dJ31_vectorizedMismatch_144 : decode cJ31_vectorizedMismatch 144 = .ok (.iload 7, 2) := dk_21 7 (dk_at dksJ31_vectorizedMismatch_6 4 rfl rfl)
theorem dJ31_vectorizedMismatch_146 : decode cJ31_vectorizedMismatch 146 = .ok (.isub, 1) := dk_100 (dk_at dksJ31_vectorizedMismatch_6 6 rfl rfl)
theorem dJ31_vectorizedMismatch_147 : decode cJ31_vectorizedMismatch 147 = .ok (.ishl, 1) := dk_120 (dk_at dksJ31_vectorizedMismatch_6 7 rfl rfl)
theorem dJ31_vectorizedMismatch_148 : decode cJ31_vectorizedMismatch 148 = .ok (.istore 11, 2) := dk_54 11 (dk_at dksJ31_vectorizedMismatch_6 8 rfl rfl)
theorem dJ31_vectorizedMismatch_150 : decode cJ31_vectorizedMismatch 150 = .ok (.iload 10, 2) := dk_21 10 (dk_at dksJ31_vectorizedMismatch_6 10 rfl rfl)
theorem dJ31_vectorizedMismatch_152 : decode cJ31_vectorizedMismatch 152 = .ok (.iload 11, 2) := dk_21 11 (dk_at dksJ31_vectorizedMismatch_6 12 rfl rfl)
theorem dJ31_vectorizedMismatch_154 : decode cJ31_vectorizedMismatch 154 = .ok (.if_icmp .lt 104, 3) := dk_161 0 104 (dk_at dksJ31_vectorizedMismatch_6 14 rfl rfl)
theorem dJ31_vectorizedMismatch_157 : decode cJ31_vectorizedMismatch 157 = .ok (.iload 9, 2) := dk_21 9 (dk_at dksJ31_vectorizedMismatch_6 17 rfl rfl)
theorem dJ31_vectorizedMismatch_159 : decode cJ31_vectorizedMismatch 159 = .ok (.i2l, 1) := dk_133 (dk_at dksJ31_vectorizedMismatch_6 19 rfl rfl)
theorem dJ31_vectorizedMismatch_160 : decode cJ31_vectorizedMismatch 160 = .ok (.getstatic 20, 3) := dk_178 0 20 (dk_at dksJ31_vectorizedMismatch_6 20 rfl rfl)
theorem dJ31_vectorizedMismatch_163 : decode cJ31_vectorizedMismatch 163 = .ok (.lshl, 1) := dk_121 (dk_at dksJ31_vectorizedMismatch_6 23 rfl rfl)
theorem dJ31_vectorizedMismatch_164 : decode cJ31_vectorizedMismatch 164 = .ok (.lstore 12, 2) := dk_55 12 (dk_at dksJ31_vectorizedMismatch_7 0 rfl rfl)
theorem dJ31_vectorizedMismatch_166 : decode cJ31_vectorizedMismatch 166 = .ok (.getstatic 26, 3) := dk_178 0 26 (dk_at dksJ31_vectorizedMismatch_7 2 rfl rfl)
theorem dJ31_vectorizedMismatch_169 : decode cJ31_vectorizedMismatch 169 = .ok (.aload_n 0, 1) := dk_42 (dk_at dksJ31_vectorizedMismatch_7 5 rfl rfl)
theorem dJ31_vectorizedMismatch_170 : decode cJ31_vectorizedMismatch 170 = .ok (.lload_n 1, 1) := dk_31 (dk_at dksJ31_vectorizedMismatch_7 6 rfl rfl)
theorem dJ31_vectorizedMismatch_171 : decode cJ31_vectorizedMismatch 171 = .ok (.lload 12, 2) := dk_22 12 (dk_at dksJ31_vectorizedMismatch_7 7 rfl rfl)
theorem dJ31_vectorizedMismatch_173 : decode cJ31_vectorizedMismatch 173 = .ok (.ladd, 1) := dk_97 (dk_at dksJ31_vectorizedMismatch_7 9 rfl rfl)
theorem dJ31_vectorizedMismatch_174 : decode cJ31_vectorizedMismatch 174 = .ok (.invokevirtual 54, 3) := dk_182 0 54 (dk_at dksJ31_vectorizedMismatch_7 10 rfl rfl)
theorem dJ31_vectorizedMismatch_177 : decode cJ31_vectorizedMismatch 177 = .ok (.istore 14, 2) := dk_54 14 (dk_at dksJ31_vectorizedMismatch_7 13 rfl rfl)
theorem dJ31_vectorizedMismatch_179 : decode cJ31_vectorizedMismatch 179 = .ok (.getstatic 26, 3) := dk_178 0 26 (dk_at dksJ31_vectorizedMismatch_7 15 rfl rfl)
theorem dJ31_vectorizedMismatch_182 : decode cJ31_vectorizedMismatch 182 = .ok (.aload_n 3, 1) := dk_45 (dk_at dksJ31_vectorizedMismatch_7 18 rfl rfl)
theorem dJ31_vectorizedMismatch_183 : decode cJ31_vectorizedMismatch 183 = .ok (.lload 4, 2) := dk_22 4 (dk_at dksJ31_vectorizedMismatch_7 19 rfl rfl)
theorem dJ31_vectorizedMismatch_185 : decode cJ31_vectorizedMismatch 185 = .ok (.lload 12, 2) := dk_22 12 (dk_at dksJ31_vectorizedMismatch_7 21 rfl rfl)
theorem dJ31_vectorizedMismatch_187 : decode cJ31_vectorizedMismatch 187 = .ok (.ladd, 1) := dk_97 (dk_at dksJ31_vectorizedMismatch_7 23 rfl rfl)
theorem dJ31_vectorizedMismatch_188 : decode cJ31_vectorizedMismatch 188 = .ok (.invokevirtual 54, 3) := dk_182 0 54 (dk_at dksJ31_vectorizedMismatch_8 0 rfl rfl)
theorem dJ31_vectorizedMismatch_191 : decode cJ31_vectorizedMismatch 191 = .ok (.istore 15, 2) := dk_54 15 (dk_at dksJ31_vectorizedMismatch_8 3 rfl rfl)
theorem dJ31_vectorizedMismatch_193 : decode cJ31_vectorizedMismatch 193 = .ok (.iload 14, 2) := dk_21 14 (dk_at dksJ31_vectorizedMismatch_8 5 rfl rfl)
theorem dJ31_vectorizedMismatch_195 : decode cJ31_vectorizedMismatch 195 = .ok (.iload 15, 2) := dk_21 15 (dk_at dksJ31_vectorizedMismatch_8 7 rfl rfl)
theorem dJ31_vectorizedMismatch_197 : decode cJ31_vectorizedMismatch 197 = .ok (.if_icmp .eq 54, 3) := dk_159 0 54 (dk_at dksJ31_vectorizedMismatch_8 9 rfl rfl)
theorem dJ31_vectorizedMismatch_200 : decode cJ31_vectorizedMismatch 200 = .ok (.iload 14, 2) := dk_21 14 (dk_at dksJ31_vectorizedMismatch_8 12 rfl rfl)
theorem dJ31_vectorizedMismatch_202 : decode cJ31_vectorizedMismatch 202 = .ok (.iload 15, 2) := dk_21 15 (dk_at dksJ31_vectorizedMismatch_8 14 rfl rfl)
theorem dJ31_vectorizedMismatch_204 : decode cJ31_vectorizedMismatch 204 = .ok (.ixor, 1) := dk_130 (dk_at dksJ31_vectorizedMismatch_8 16 rfl rfl)
theorem dJ31_vectorizedMismatch_205 : decode cJ31_vectorizedMismatch 205 = .ok (.istore 16, 2) := dk_54 16 (dk_at dksJ31_vectorizedMismatch_8 17 rfl rfl)
theorem dJ31_vectorizedMismatch_207 : decode cJ31_vectorizedMismatch 207 = .ok (.getstatic 36, 3) := dk_178 0 36 (dk_at dksJ31_vectorizedMismatch_8 19 rfl rfl)
theorem dJ31_vectorizedMismatch_210 : decode cJ31_vectorizedMismatch 210 = .ok (.ifCond .eq 18, 3) := dk_153 0 18 (dk_at dksJ31_vectorizedMismatch_9 0 rfl rfl)
theorem dJ31_vectorizedMismatch_213 : decode cJ31_vectorizedMismatch 213 = .ok (.iload 16, 2) := dk_21 16 (dk_at dksJ31_vectorizedMismatch_9 3 rfl rfl)
theorem dJ31_vectorizedMismatch_215 : decode cJ31_vectorizedMismatch 215 = .ok (.invokestatic 58, 3) := dk_184 0 58 (dk_at dksJ31_vectorizedMismatch_9 5 rfl rfl)
theorem dJ31_vectorizedMismatch_218 : decode cJ31_vectorizedMismatch 218 = .ok (.getstatic 46, 3) := dk_178 0 46 (dk_at dksJ31_vectorizedMismatch_9 8 rfl rfl)
theorem dJ31_vectorizedMismatch_221 : decode cJ31_vectorizedMismatch 221 = .ok (.iload 7, 2) := dk_21 7 (dk_at dksJ31_vectorizedMismatch_9 11 rfl rfl)
theorem dJ31_vectorizedMismatch_223 : decode cJ31_vectorizedMismatch 223 = .ok (.iadd, 1) := dk_96 (dk_at dksJ31_vectorizedMismatch_9 13 rfl rfl)
theorem dJ31_vectorizedMismatch_224 : decode cJ31_vectorizedMismatch 224 = .ok (.ishr, 1) := dk_122 (dk_at dksJ31_vectorizedMismatch_9 14 rfl rfl)
theorem dJ31_vectorizedMismatch_225 : decode cJ31_vectorizedMismatch 225 = .ok (.goto 15, 3) := dk_167 0 15 (dk_at dksJ31_vectorizedMismatch_9 15 rfl rfl)
theorem dJ31_vectorizedMismatch_228 : decode cJ31_vectorizedMismatch 228 = .ok (.iload 16, 2) := dk_21 16 (dk_at dksJ31_vectorizedMismatch_9 18 rfl rfl)
theorem dJ31_vectorizedMismatch_230 : decode cJ31_vectorizedMismatch 230 = .ok (.invokestatic 11, 3) := dk_184 0 11 (dk_at dksJ31_vectorizedMismatch_9 20 rfl rfl)
theorem dJ31_vectorizedMismatch_233 : decode cJ31_vectorizedMismatch 233 = .ok (.getstatic 46, 3) := dk_178 0 46 (dk_at dksJ31_vectorizedMismatch_10 0 rfl rfl)
theorem dJ31_vectorizedMismatch_236 : decode cJ31_vectorizedMismatch 236 = .ok (.iload 7, 2) := dk_21 7 (dk_at dksJ31_vectorizedMismatch_10 3 rfl rfl)
theorem dJ31_vectorizedMismatch_238 : decode cJ31_vectorizedMismatch 238 = .ok (.iadd, 1) := dk_96 (dk_at dksJ31_vectorizedMismatch_10 5 rfl rfl)
theorem dJ31_vectorizedMismatch_239 : decode cJ31_vectorizedMismatch 239 = .ok (.ishr, 1) := dk_122 (dk_at dksJ31_vectorizedMismatch_10 6 rfl rfl)
theorem dJ31_vectorizedMismatch_240 : decode cJ31_vectorizedMismatch 240 = .ok (.istore 17, 2) := dk_54 17 (dk_at dksJ31_vectorizedMismatch_10 7 rfl rfl)
theorem dJ31_vectorizedMismatch_242 : decode cJ31_vectorizedMismatch 242 = .ok (.iload 9, 2) := dk_21 9 (dk_at dksJ31_vectorizedMismatch_10 9 rfl rfl)
theorem dJ31_vectorizedMismatch_244 : decode cJ31_vectorizedMismatch 244 = .ok (.iload 8, 2) := dk_21 8 (dk_at dksJ31_vectorizedMismatch_10 11 rfl rfl)
theorem dJ31_vectorizedMismatch_246 : decode cJ31_vectorizedMismatch 246 = .ok (.ishl, 1) := dk_120 (dk_at dksJ31_vectorizedMismatch_10 13 rfl rfl)
theorem dJ31_vectorizedMismatch_247 : decode cJ31_vectorizedMismatch 247 = .ok (.iload 17, 2) := dk_21 17 (dk_at dksJ31_vectorizedMismatch_10 14 rfl rfl)
theorem dJ31_vectorizedMismatch_249 : decode cJ31_vectorizedMismatch 249 = .ok (.iadd, 1) := dk_96 (dk_at dksJ31_vectorizedMismatch_10 16 rfl rfl)
theorem dJ31_vectorizedMismatch_250 : decode cJ31_vectorizedMismatch 250 = .ok (.ireturn, 1) := dk_172 (dk_at dksJ31_vectorizedMismatch_10 17 rfl rfl)
theorem dJ31_vectorizedMismatch_251 : decode cJ31_vectorizedMismatch 251 = .ok (.iload 10, 2) := dk_21 10 (dk_at dksJ31_vectorizedMismatch_10 18 rfl rfl)
theorem dJ31_vectorizedMismatch_253 : decode cJ31_vectorizedMismatch 253 = .ok (.iload 11, 2) := dk_21 11 (dk_at dksJ31_vectorizedMismatch_10 20 rfl rfl)
theorem dJ31_vectorizedMismatch_255 : decode cJ31_vectorizedMismatch 255 = .ok (.isub, 1) := dk_100 (dk_at dksJ31_vectorizedMismatch_10 22 rfl rfl)
theorem dJ31_vectorizedMismatch_256 : decode cJ31_vectorizedMismatch 256 = .ok (.istore 10, 2) := dk_54 10 (dk_at dksJ31_vectorizedMismatch_11 0 rfl rfl)
theorem dJ31_vectorizedMismatch_258 : decode cJ31_vectorizedMismatch 258 = .ok (.iload 10, 2) := dk_21 10 (dk_at dksJ31_vectorizedMismatch_11 2 rfl rfl)
theorem dJ31_vectorizedMismatch_260 : decode cJ31_vectorizedMismatch 260 = .ok (.iconst (-1), 1) := dk_2 (dk_at dksJ31_vectorizedMismatch_11 4 rfl rfl)
theorem dJ31_vectorizedMismatch_261 : decode cJ31_vectorizedMismatch 261 = .ok (.ixor, 1) := dk_130 (dk_at dksJ31_vectorizedMismatch_11 5 rfl rfl)
theorem dJ31_vectorizedMismatch_262 : decode cJ31_vectorizedMismatch 262 = .ok (.ireturn, 1) := dk_172 (dk_at dksJ31_vectorizedMismatch_11 6 rfl rfl)
theorem dJ31_vectorizedMismatch_263 : decode cJ31_vectorizedMismatch 263 = .ok (.iload 10, 2) := dk_21 10 (dk_at dksJ31_vectorizedMismatch_11 7 rfl rfl)
theorem dJ31_vectorizedMismatch_265 : decode cJ31_vectorizedMismatch 265 = .ok (.iconst (-1), 1) := dk_2 (dk_at dksJ31_vectorizedMismatch_11 9 rfl rfl)
theorem dJ31_vectorizedMismatch_266 : decode cJ31_vectorizedMismatch 266 = .ok (.ixor, 1) := dk_130 (dk_at dksJ31_vectorizedMismatch_11 10 rfl rfl)
theorem dJ31_vectorizedMismatch_267 : decode cJ31_vectorizedMismatch 267 = .ok (.ireturn, 1) := dk_172 (dk_at dksJ31_vectorizedMismatch_11 11 rfl rfl)
def dkwJ36_copyOf_1 : List UInt8 := [27, 184, 1, 48, 184, 0, 150, 44, 176]
abbrev dktJ36_copyOf_1 : List UInt8 := dkwJ36_copyOf_1 ++ []
def dkwJ36_copyOf_0 : List UInt8 := [27, 42, 190, 160, 0, 11, 42, 182, 1, 54, 192, 1, 55, 176, 27, 188, 8, 77, 42, 3, 44, 3, 42, 190]
abbrev dktJ36_copyOf_0 : List UInt8 := dkwJ36_copyOf_0 ++ dktJ36_copyOf_1
theorem dksJ36_copyOf_0 : cJ36_copyOf.data.toList.drop 0 = dktJ36_copyOf_0 := by decide +kernel
theorem dksJ36_copyOf_1 : cJ36_copyOf.data.toList.drop 24 = dktJ36_copyOf_1 := dk_seg dksJ36_copyOf_0 24 rfl rfl
theorem dJ36_copyOf_0 : decode cJ36_copyOf 0 = .ok (.iload_n 1, 1) := dk_27 (dk_at dksJ36_copyOf_0 0 rfl rfl)
theorem dJ36_copyOf_1 : decode cJ36_copyOf 1 = .ok (.aload_n 0, 1) := dk_42 (dk_at dksJ36_copyOf_0 1 rfl rfl)
theorem dJ36_copyOf_2 : decode cJ36_copyOf 2 = .ok (.arraylength, 1) := dk_190 (dk_at dksJ36_copyOf_0 2 rfl rfl)
theorem dJ36_copyOf_3 : decode cJ36_copyOf 3 = .ok (.if_icmp .ne 11, 3) := dk_160 0 11 (dk_at dksJ36_copyOf_0 3 rfl rfl)
theorem dJ36_copyOf_6 : decode cJ36_copyOf 6 = .ok (.aload_n 0, 1) := dk_42 (dk_at dksJ36_copyOf_0 6 rfl rfl)
theorem dJ36_copyOf_7 : decode cJ36_copyOf 7 = .ok (.invokevirtual 310, 3) := dk_182 1 54 (dk_at dksJ36_copyOf_0 7 rfl rfl)
theorem dJ36_copyOf_10 : decode cJ36_copyOf 10 = .ok (.checkcast 311, 3) := dk_192 1 55 (dk_at dksJ36_copyOf_0 10 rfl rfl)
theorem dJ36_copyOf_13 : decode cJ36_copyOf 13 = .ok (.areturn, 1) := dk_176 (dk_at dksJ36_copyOf_0 13 rfl rfl)
theorem dJ36_copyOf_14 : decode cJ36_copyOf 14 = .ok (.iload_n 1, 1) := dk_27 (dk_at dksJ36_copyOf_0 14 rfl rfl)
theorem dJ36_copyOf_15 : decode cJ36_copyOf 15 = .ok (.newarray .byte, 2) := dk_188_8 (dk_at dksJ36_copyOf_0 15 rfl rfl)
theorem dJ36_copyOf_17 : decode cJ36_copyOf 17 = .ok (.astore_n 2, 1) := dk_77 (dk_at dksJ36_copyOf_0 17 rfl rfl)
theorem dJ36_copyOf_18 : decode cJ36_copyOf 18 = .ok (.aload_n 0, 1) := dk_42 (dk_at dksJ36_copyOf_0 18 rfl rfl)
theorem dJ36_copyOf_19 : decode cJ36_copyOf 19 = .ok (.iconst 0, 1) := dk_3 (dk_at dksJ36_copyOf_0 19 rfl rfl)
theorem dJ36_copyOf_20 : decode cJ36_copyOf 20 = .ok (.aload_n 2, 1) := dk_44 (dk_at dksJ36_copyOf_0 20 rfl rfl)
theorem dJ36_copyOf_21 : decode cJ36_copyOf 21 = .ok (.iconst 0, 1) := dk_3 (dk_at dksJ36_copyOf_0 21 rfl rfl)
theorem dJ36_copyOf_22 : decode cJ36_copyOf 22 = .ok (.aload_n 0, 1) := dk_42 (dk_at dksJ36_copyOf_0 22 rfl rfl)
theorem dJ36_copyOf_23 : decode cJ36_copyOf 23 = .ok (.arraylength, 1) := dk_190 (dk_at dksJ36_copyOf_0 23 rfl rfl)
theorem dJ36_copyOf_24 : decode cJ36_copyOf 24 = .ok (.iload_n 1, 1) := dk_27 (dk_at dksJ36_copyOf_1 0 rfl rfl)
theorem dJ36_copyOf_25 : decode cJ36_copyOf 25 = .ok (.invokestatic 304, 3) := dk_184 1 48 (dk_at dksJ36_copyOf_1 1 rfl rfl)
theorem dJ36_copyOf_28 : decode cJ36_copyOf 28 = .ok (.invokestatic 150, 3) := dk_184 0 150 (dk_at dksJ36_copyOf_1 4 rfl rfl)
theorem dJ36_copyOf_31 : decode cJ36_copyOf 31 = .ok (.aload_n 2, 1) := dk_44 (dk_at dksJ36_copyOf_1 7 rfl rfl)
theorem dJ36_copyOf_32 : decode cJ36_copyOf 32 = .ok (.areturn, 1) := dk_176 (dk_at dksJ36_copyOf_1 8 rfl rfl)
def dkwJ36_copyOfRange_1 : List UInt8 := [176]
abbrev dktJ36_copyOfRange_1 : List UInt8 := dkwJ36_copyOfRange_1 ++ []
def dkwJ36_copyOfRange_0 : List UInt8 := [27, 154, 0, 9, 28, 42, 190, 159, 0, 10, 42, 27, 28, 184, 1, 83, 176, 42, 182, 1, 54, 192, 1, 55]
abbrev dktJ36_copyOfRange_0 : List UInt8 := dkwJ36_copyOfRange_0 ++ dktJ36_copyOfRange_1
theorem dksJ36_copyOfRange_0 : cJ36_copyOfRange.data.toList.drop 0 = dktJ36_copyOfRange_0 := by decide +kernel
theorem dksJ36_copyOfRange_1 : cJ36_copyOfRange.data.toList.drop 24 = dktJ36_copyOfRange_1 := dk_seg dksJ36_copyOfRange_0 24 rfl rfl
theorem dJ36_copyOfRange_0 : decode cJ36_copyOfRange 0 = .ok (.iload_n 1, 1) := dk_27 (dk_at dksJ36_copyOfRange_0 0 rfl rfl)
theorem dJ36_copyOfRange_1 : decode cJ36_copyOfRange 1 = .ok (.ifCond .ne 9, 3) := dk_154 0 9 (dk_at dksJ36_copyOfRange_0 1 rfl rfl)
theorem dJ36_copyOfRange_4 : decode cJ36_copyOfRange 4 = .ok (.iload_n 2, 1) := dk_28 (dk_at dksJ36_copyOfRange_0 4 rfl rfl)
theorem dJ36_copyOfRange_5 : decode cJ36_copyOfRange 5 = .ok (.aload_n 0, 1) := dk_42 (dk_at dksJ36_copyOfRange_0 5 rfl rfl)
theorem dJ36_copyOfRange_6 : decode cJ36_copyOfRange 6 = .ok (.arraylength, 1) := dk_190 (dk_at dksJ36_copyOfRange_0 6 rfl rfl)
theorem dJ36_copyOfRange_7 : decode cJ36_copyOfRange 7 = .ok (.if_icmp .eq 10, 3) := dk_159 0 10 (dk_at dksJ36_copyOfRange_0 7 rfl rfl)
theorem dJ36_copyOfRange_10 : decode cJ36_copyOfRange 10 = .ok (.aload_n 0, 1) := dk_42 (dk_at dksJ36_copyOfRange_0 10 rfl rfl)
theorem dJ36_copyOfRange_11 : decode cJ36_copyOfRange 11 = .ok (.iload_n 1, 1) := dk_27 (dk_at dksJ36_copyOfRange_0 11 rfl rfl)
theorem dJ36_copyOfRange_12 : decode cJ36_copyOfRange 12 = .ok (.iload_n 2, 1) := dk_28 (dk_at dksJ36_copyOfRange_0 12 rfl rfl)
theorem dJ36_copyOfRange_13 : decode cJ36_copyOfRange 13 = .ok (.invokestatic 339, 3) := dk_184 1 83 (dk_at dksJ36_copyOfRange_0 13 rfl rfl)
theorem dJ36_copyOfRange_16 : decode cJ36_copyOfRange 16 = .ok (.areturn, 1) := dk_176 (dk_at dksJ36_copyOfRange_0 16 rfl rfl)
theorem dJ36_copyOfRange_17 : decode cJ36_copyOfRange 17 = .ok (.aload_n 0, 1) := dk_42 (dk_at dksJ36_copyOfRange_0 17 rfl rfl)
theorem dJ36_copyOfRange_18 : decode cJ36_copyOfRange 18 = .ok (.invokevirtual 310, 3) := dk_182 1 54 (dk_at dksJ36_copyOfRange_0 18 rfl rfl)
theorem dJ36_copyOfRange_21 : decode cJ36_copyOfRange 21 = .ok (.checkcast 311, 3) := dk_192 1 55 (dk_at dksJ36_copyOfRange_0 21 rfl rfl)
theorem dJ36_copyOfRange_24 : decode cJ36_copyOfRange 24 = .ok (.areturn, 1) := dk_176 (dk_at dksJ36_copyOfRange_1 0 rfl rfl)
def dkwJ36_copyOfRangeByte_1 : List UInt8 := [184, 1, 48, 184, 0, 150, 25, 4, 176]
abbrev dktJ36_copyOfRangeByte_1 : List UInt8 := dkwJ36_copyOfRangeByte_1 ++ []
def dkwJ36_copyOfRangeByte_0 : List UInt8 := [27, 28, 184, 1, 87, 28, 27, 100, 62, 29, 188, 8, 58, 4, 42, 27, 25, 4, 3, 42, 190, 27, 100, 29]
abbrev dktJ36_copyOfRangeByte_0 : List UInt8 := dkwJ36_copyOfRangeByte_0 ++ dktJ36_copyOfRangeByte_1
theorem dksJ36_copyOfRangeByte_0 : cJ36_copyOfRangeByte.data.toList.drop 0 = dktJ36_copyOfRangeByte_0 := by decide +kernel
theorem dksJ36_copyOfRangeByte_1 : cJ36_copyOfRangeByte.data.toList.drop 24 = dktJ36_copyOfRangeByte_1 := dk_seg dksJ36_copyOfRangeByte_0 24 rfl rfl
theorem dJ36_copyOfRangeByte_0 : decode cJ36_copyOfRangeByte 0 = .ok (.iload_n 1, 1) := dk_27 (dk_at dksJ36_copyOfRangeByte_0 0 rfl rfl)
theorem dJ36_copyOfRangeByte_1 : decode cJ36_copyOfRangeByte 1 = .ok (.iload_n 2, 1) := dk_28 (dk_at dksJ36_copyOfRangeByte_0 1 rfl rfl)
theorem dJ36_copyOfRangeByte_2 : decode cJ36_copyOfRangeByte 2 = .ok (.invokestatic 343, 3) := dk_184 1 87 (dk_at dksJ36_copyOfRangeByte_0 2 rfl rfl)
theorem dJ36_copyOfRangeByte_5 : decode cJ36_copyOfRangeByte 5 = .ok (.iload_n 2, 1) := dk_28 (dk_at dksJ36_copyOfRangeByte_0 5 rfl rfl)
theorem dJ36_copyOfRangeByte_6 : decode cJ36_copyOfRangeByte 6 = .ok (.iload_n 1, 1) := dk_27 (dk_at dksJ36_copyOfRangeByte_0 6 rfl rfl)
theorem dJ36_copyOfRangeByte_7 : decode cJ36_copyOfRangeByte 7 = .ok (.isub, 1) := dk_100 (dk_at dksJ36_copyOfRangeByte_0 7 rfl rfl)
theorem dJ36_copyOfRangeByte_8 : decode cJ36_copyOfRangeByte 8 = .ok (.istore_n 3, 1) := dk_62 (dk_at dksJ36_copyOfRangeByte_0 8 rfl rfl)
theorem dJ36_copyOfRangeByte_9 : decode cJ36_copyOfRangeByte 9 = .ok (.iload_n 3, 1) := dk_29 (dk_at dksJ36_copyOfRangeByte_0 9 rfl rfl)
theorem dJ36_copyOfRangeByte_10 : decode cJ36_copyOfRangeByte 10 = .ok (.newarray .byte, 2) := dk_188_8 (dk_at dksJ36_copyOfRangeByte_0 10 rfl rfl)
theorem dJ36_copyOfRangeByte_12 : decode cJ36_copyOfRangeByte 12 = .ok (.astore 4, 2) := dk_58 4 (dk_at dksJ36_copyOfRangeByte_0 12 rfl rfl)
theorem dJ36_copyOfRangeByte_14 : decode cJ36_copyOfRangeByte 14 = .ok (.aload_n 0, 1) := dk_42 (dk_at dksJ36_copyOfRangeByte_0 14 rfl rfl)
theorem dJ36_copyOfRangeByte_15 : decode cJ36_copyOfRangeByte 15 = .ok (.iload_n 1, 1) := dk_27 (dk_at dksJ36_copyOfRangeByte_0 15 rfl rfl)
theorem dJ36_copyOfRangeByte_16 : decode cJ36_copyOfRangeByte 16 = .ok (.aload 4, 2) := dk_25 4 (dk_at dksJ36_copyOfRangeByte_0 16 rfl rfl)
theorem dJ36_copyOfRangeByte_18 : decode cJ36_copyOfRangeByte 18 = .ok (.iconst 0, 1) := dk_3 (dk_at dksJ36_copyOfRangeByte_0 18 rfl rfl)
theorem dJ36_copyOfRangeByte_19 : decode cJ36_copyOfRangeByte 19 = .ok (.aload_n 0, 1) := dk_42 (dk_at dksJ36_copyOfRangeByte_0 19 rfl rfl)
theorem dJ36_copyOfRangeByte_20 : decode cJ36_copyOfRangeByte 20 = .ok (.arraylength, 1) := dk_190 (dk_at dksJ36_copyOfRangeByte_0 20 rfl rfl)
theorem dJ36_copyOfRangeByte_21 : decode cJ36_copyOfRangeByte 21 = .ok (.iload_n 1, 1) := dk_27 (dk_at dksJ36_copyOfRangeByte_0 21 rfl rfl)
theorem dJ36_copyOfRangeByte_22 : decode cJ36_copyOfRangeByte 22 = .ok (.isub, 1) := dk_100 (dk_at dksJ36_copyOfRangeByte_0 22 rfl rfl)
theorem dJ36_copyOfRangeByte_23 : decode cJ36_copyOfRangeByte 23 = .ok (.iload_n 3, 1) := dk_29 (dk_at dksJ36_copyOfRangeByte_0 23 rfl rfl)
theorem dJ36_copyOfRangeByte_24 : decode cJ36_copyOfRangeByte 24 = .ok (.invokestatic 304, 3) := dk_184 1 48 (dk_at dksJ36_copyOfRangeByte_1 0 rfl rfl)
theorem dJ36_copyOfRangeByte_27 : decode cJ36_copyOfRangeByte 27 = .ok (.invokestatic 150, 3) := dk_184 0 150 (dk_at dksJ36_copyOfRangeByte_1 3 rfl rfl)
theorem dJ36_copyOfRangeByte_30 : decode cJ36_copyOfRangeByte 30 = .ok (.aload 4, 2) := dk_25 4 (dk_at dksJ36_copyOfRangeByte_1 6 rfl rfl)
theorem dJ36_copyOfRangeByte_32 : decode cJ36_copyOfRangeByte 32 = .ok (.areturn, 1) := dk_176 (dk_at dksJ36_copyOfRangeByte_1 8 rfl rfl)
def dkwJ36_checkLength_1 : List UInt8 := [182, 0, 50, 27, 182, 0, 54, 182, 0, 61, 183, 0, 65, 191, 177]
abbrev dktJ36_checkLength_1 : List UInt8 := dkwJ36_checkLength_1 ++ []
def dkwJ36_checkLength_0 : List UInt8 := [27, 26, 162, 0, 35, 187, 0, 43, 89, 187, 0, 45, 89, 183, 0, 47, 26, 182, 0, 54, 19, 1, 81]
abbrev dktJ36_checkLength_0 : List UInt8 := dkwJ36_checkLength_0 ++ dktJ36_checkLength_1
theorem dksJ36_checkLength_0 : cJ36_checkLength.data.toList.drop 0 = dktJ36_checkLength_0 := by decide +kernel
theorem dksJ36_checkLength_1 : cJ36_checkLength.data.toList.drop 23 = dktJ36_checkLength_1 := dk_seg dksJ36_checkLength_0 23 rfl rfl
theorem dJ36_checkLength_0 : decode cJ36_checkLength 0 = .ok (.iload_n 1, 1) := dk_27 (dk_at dksJ36_checkLength_0 0 rfl rfl)
theorem dJ36_checkLength_1 : decode cJ36_checkLength 1 = .ok (.iload_n 0, 1) := dk_26 (dk_at dksJ36_checkLength_0 1 rfl rfl)
theorem dJ36_checkLength_2 : decode cJ36_checkLength 2 = .ok (.if_icmp .ge 35, 3) := dk_162 0 35 (dk_at dksJ36_checkLength_0 2 rfl rfl)
theorem dJ36_checkLength_5 : decode cJ36_checkLength 5 = .ok (.new 43, 3) := dk_187 0 43 (dk_at dksJ36_checkLength_0 5 rfl rfl)
theorem dJ36_checkLength_8 : decode cJ36_checkLength 8 = .ok (.dup, 1) := dk_89 (dk_at dksJ36_checkLength_0 8 rfl rfl)
theorem dJ36_checkLength_9 : decode cJ36_checkLength 9 = .ok (.new 45, 3) := dk_187 0 45 (dk_at dksJ36_checkLength_0 9 rfl rfl)
theorem dJ36_checkLength_12 : decode cJ36_checkLength 12 = .ok (.dup, 1) := dk_89 (dk_at dksJ36_checkLength_0 12 rfl rfl)
theorem dJ36_checkLength_13 : decode cJ36_checkLength 13 = .ok (.invokespecial 47, 3) := dk_183 0 47 (dk_at dksJ36_checkLength_0 13 rfl rfl)
theorem dJ36_checkLength_16 : decode cJ36_checkLength 16 = .ok (.iload_n 0, 1) := dk_26 (dk_at dksJ36_checkLength_0 16 rfl rfl)
theorem dJ36_checkLength_17 : decode cJ36_checkLength 17 = .ok (.invokevirtual 54, 3) := dk_182 0 54 (dk_at dksJ36_checkLength_0 17 rfl rfl)
theorem dJ36_checkLength_20 : decode cJ36_checkLength 20 = .ok (.ldc_w 337, 3) := dk_19 1 81 (dk_at dksJ36_checkLength_0 20 rfl rfl)
theorem dJ36_checkLength_23 : decode cJ36_checkLength 23 = .ok (.invokevirtual 50, 3) := dk_182 0 50 (dk_at dksJ36_checkLength_1 0 rfl rfl)
theorem dJ36_checkLength_26 : decode cJ36_checkLength 26 = .ok (.iload_n 1, 1) := dk_27 (dk_at dksJ36_checkLength_1 3 rfl rfl)
theorem dJ36_checkLength_27 : decode cJ36_checkLength 27 = .ok (.invokevirtual 54, 3) := dk_182 0 54 (dk_at dksJ36_checkLength_1 4 rfl rfl)
theorem dJ36_checkLength_30 : decode cJ36_checkLength 30 = .ok (.invokevirtual 61, 3) := dk_182 0 61 (dk_at dksJ36_checkLength_1 7 rfl rfl)
theorem dJ36_checkLength_33 : decode cJ36_checkLength 33 = .ok (.invokespecial 65, 3) := dk_183 0 65 (dk_at dksJ36_checkLength_1 10 rfl rfl)
theorem dJ36_checkLength_36 : decode cJ36_checkLength 36 = .ok (.athrow, 1) := dk_191 (dk_at dksJ36_checkLength_1 13 rfl rfl)
theorem dJ36_checkLength_37 : decode cJ36_checkLength 37 = .ok (.return_, 1) := dk_177 (dk_at dksJ36_checkLength_1 14 rfl rfl)
def dkwJ36_fill_1 : List UInt8 := [167, 255, 242, 177]
abbrev dktJ36_fill_1 : List UInt8 := dkwJ36_fill_1 ++ []
def dkwJ36_fill_0 : List UInt8 := [42, 190, 27, 28, 184, 0, 13, 27, 54, 4, 21, 4, 28, 162, 0, 14, 42, 21, 4, 29, 84, 132, 4, 1]
abbrev dktJ36_fill_0 : List UInt8 := dkwJ36_fill_0 ++ dktJ36_fill_1
theorem dksJ36_fill_0 : cJ36_fill.data.toList.drop 0 = dktJ36_fill_0 := by decide +kernel
theorem dksJ36_fill_1 : cJ36_fill.data.toList.drop 24 = dktJ36_fill_1 := dk_seg dksJ36_fill_0 24 rfl rfl
theorem dJ36_fill_0 : decode cJ36_fill 0 = .ok (.aload_n 0, 1) := dk_42 (dk_at dksJ36_fill_0 0 rfl rfl)
theorem dJ36_fill_1 : decode cJ36_fill 1 = .ok (.arraylength, 1) := dk_190 (dk_at dksJ36_fill_0 1 rfl rfl)
theorem dJ36_fill_2 : decode cJ36_fill 2 = .ok (.iload_n 1, 1) := dk_27 (dk_at dksJ36_fill_0 2 rfl rfl)
theorem dJ36_fill_3 : decode cJ36_fill 3 = .ok (.iload_n 2, 1) := dk_28 (dk_at dksJ36_fill_0 3 rfl rfl)
theorem dJ36_fill_4 : decode cJ36_fill 4 = .ok (.invokestatic 13, 3) := dk_184 0 13 (dk_at dksJ36_fill_0 4 rfl rfl)
theorem dJ36_fill_7 : decode cJ36_fill 7 = .ok (.iload_n 1, 1) := dk_27 (dk_at dksJ36_fill_0 7 rfl rfl)
theorem dJ36_fill_8 : decode cJ36_fill 8 = .ok (.istore 4, 2) := dk_54 4 (dk_at dksJ36_fill_0 8 rfl rfl)
theorem dJ36_fill_10 : decode cJ36_fill 10 = .ok (.iload 4, 2) := dk_21 4 (dk_at dksJ36_fill_0 10 rfl rfl)
theorem dJ36_fill_12 : decode cJ36_fill 12 = .ok (.iload_n 2, 1) := dk_28 (dk_at dksJ36_fill_0 12 rfl rfl)
theorem dJ36_fill_13 : decode cJ36_fill 13 = .ok (.if_icmp .ge 14, 3) := dk_162 0 14 (dk_at dksJ36_fill_0 13 rfl rfl)
theorem dJ36_fill_16 : decode cJ36_fill 16 = .ok (.aload_n 0, 1) := dk_42 (dk_at dksJ36_fill_0 16 rfl rfl)
theorem dJ36_fill_17 : decode cJ36_fill 17 = .ok (.iload 4, 2) := dk_21 4 (dk_at dksJ36_fill_0 17 rfl rfl)
theorem dJ36_fill_19 : decode cJ36_fill 19 = .ok (.iload_n 3, 1) := dk_29 (dk_at dksJ36_fill_0 19 rfl rfl)
theorem dJ36_fill_20 : decode cJ36_fill 20 = .ok (.bastore, 1) := dk_84 (dk_at dksJ36_fill_0 20 rfl rfl)
theorem dJ36_fill_21 : decode cJ36_fill 21 = .ok (.iinc 4 1, 3) := dk_132 4 1 (dk_at dksJ36_fill_0 21 rfl rfl)
theorem dJ36_fill_24 : decode cJ36_fill 24 = .ok (.goto (-14), 3) := dk_167 255 242 (dk_at dksJ36_fill_1 0 rfl rfl)
theorem dJ36_fill_27 : decode cJ36_fill 27 = .ok (.return_, 1) := dk_177 (dk_at dksJ36_fill_1 3 rfl rfl)
def dkwJ36_rangeCheck_3 : List UInt8 := [183, 0, 70, 191, 177]
abbrev dktJ36_rangeCheck_3 : List UInt8 := dkwJ36_rangeCheck_3 ++ []
def dkwJ36_rangeCheck_2 : List UInt8 := [27, 156, 0, 12, 187, 0, 68, 89, 27, 183, 0, 70, 191, 28, 26, 164, 0, 12, 187, 0, 68, 89, 28]
abbrev dktJ36_rangeCheck_2 : List UInt8 := dkwJ36_rangeCheck_2 ++ dktJ36_rangeCheck_3
def dkwJ36_rangeCheck_1 : List UInt8 := [182, 0, 54, 18, 57, 182, 0, 50, 28, 182, 0, 54, 18, 59, 182, 0, 50, 182, 0, 61, 183, 0, 65, 191]
abbrev dktJ36_rangeCheck_1 : List UInt8 := dkwJ36_rangeCheck_1 ++ dktJ36_rangeCheck_2
def dkwJ36_rangeCheck_0 : List UInt8 := [27, 28, 164, 0, 44, 187, 0, 43, 89, 187, 0, 45, 89, 183, 0, 47, 18, 48, 182, 0, 50, 27]
abbrev dktJ36_rangeCheck_0 : List UInt8 := dkwJ36_rangeCheck_0 ++ dktJ36_rangeCheck_1
theorem dksJ36_rangeCheck_0 : cJ36_rangeCheck.data.toList.drop 0 = dktJ36_rangeCheck_0 := by decide +kernel
theorem dksJ36_rangeCheck_1 : cJ36_rangeCheck.data.toList.drop 22 = dktJ36_rangeCheck_1 := dk_seg dksJ36_rangeCheck_0 22 rfl rfl
theorem dksJ36_rangeCheck_2 : cJ36_rangeCheck.data.toList.drop 46 = dktJ36_rangeCheck_2 := dk_seg dksJ36_rangeCheck_1 24 rfl rfl
theorem dksJ36_rangeCheck_3 : cJ36_rangeCheck.data.toList.drop 69 = dktJ36_rangeCheck_3 := dk_seg dksJ36_rangeCheck_2 23 rfl rfl
theorem dJ36_rangeCheck_0 : decode cJ36_rangeCheck 0 = .ok (.iload_n 1, 1) := dk_27 (dk_at dksJ36_rangeCheck_0 0 rfl rfl)
theorem dJ36_rangeCheck_1 : decode cJ36_rangeCheck 1 = .ok (.iload_n 2, 1) := dk_28 (dk_at dksJ36_rangeCheck_0 1 rfl rfl)
theorem dJ36_rangeCheck_2 : decode cJ36_rangeCheck 2 = .ok (.if_icmp .le 44, 3) := dk_164 0 44 (dk_at dksJ36_rangeCheck_0 2 rfl rfl)
theorem dJ36_rangeCheck_5 : decode cJ36_rangeCheck 5 = .ok (.new 43, 3) := dk_187 0 43 (dk_at dksJ36_rangeCheck_0 5 rfl rfl)
theorem dJ36_rangeCheck_8 : decode cJ36_rangeCheck 8 = .ok (.dup, 1) := dk_89 (dk_at dksJ36_rangeCheck_0 8 rfl rfl)
theorem dJ36_rangeCheck_9 : decode cJ36_rangeCheck 9 = .ok (.new 45, 3) := dk_187 0 45 (dk_at dksJ36_rangeCheck_0 9 rfl rfl)
theorem dJ36_rangeCheck_12 : decode cJ36_rangeCheck 12 = .ok (.dup, 1) := dk_89 (dk_at dksJ36_rangeCheck_0 12 rfl rfl)
theorem dJ36_rangeCheck_13 : decode cJ36_rangeCheck 13 = .ok (.invokespecial 47, 3) := dk_183 0 47 (dk_at dksJ36_rangeCheck_0 13 rfl rfl)
theorem dJ36_rangeCheck_16 : decode cJ36_rangeCheck 16 = .ok (.ldc 48, 2) := dk_18 48 (dk_at dksJ36_rangeCheck_0 16 rfl rfl)
theorem dJ36_rangeCheck_18 : decode cJ36_rangeCheck 18 = .ok (.invokevirtual 50, 3) := dk_182 0 50 (dk_at dksJ36_rangeCheck_0 18 rfl rfl)
theorem dJ36_rangeCheck_21 : decode cJ36_rangeCheck 21 = .ok (.iload_n 1, 1) := dk_27 (dk_at dksJ36_rangeCheck_0 21 rfl rfl)
theorem dJ36_rangeCheck_22 : decode cJ36_rangeCheck 22 = .ok (.invokevirtual 54, 3) := dk_182 0 54 (dk_at dksJ36_rangeCheck_1 0 rfl rfl)
theorem dJ36_rangeCheck_25 : decode cJ36_rangeCheck 25 = .ok (.ldc 57, 2) := dk_18 57 (dk_at dksJ36_rangeCheck_1 3 rfl rfl)
theorem dJ36_rangeCheck_27 : decode cJ36_rangeCheck 27 = .ok (.invokevirtual 50, 3) := dk_182 0 50 (dk_at dksJ36_rangeCheck_1 5 rfl rfl)
theorem dJ36_rangeCheck_30 : decode cJ36_rangeCheck 30 = .ok (.iload_n 2, 1) := dk_28 (dk_at dksJ36_rangeCheck_1 8 rfl rfl)
theorem dJ36_rangeCheck_31 : decode cJ36_rangeCheck 31 = .ok (.invokevirtual 54, 3) := dk_182 0 54 (dk_at dksJ36_rangeCheck_1 9 rfl rfl)
theorem dJ36_rangeCheck_34 : decode cJ36_rangeCheck 34 = .ok (.ldc 59, 2) := dk_18 59 (dk_at dksJ36_rangeCheck_1 12 rfl rfl)
theorem dJ36_rangeCheck_36 : decode cJ36_rangeCheck 36 = .ok (.invokevirtual 50, 3) := dk_182 0 50 (dk_at dksJ36_rangeCheck_1 14 rfl rfl)
theorem dJ36_rangeCheck_39 : decode cJ36_rangeCheck 39 = .ok (.invokevirtual 61, 3) := dk_182 0 61 (dk_at dksJ36_rangeCheck_1 17 rfl rfl)
theorem dJ36_rangeCheck_42 : decode cJ36_rangeCheck 42 = .ok (.invokespecial 65, 3) := dk_183 0 65 (dk_at dksJ36_rangeCheck_1 20 rfl rfl)
theorem dJ36_rangeCheck_45 : decode cJ36_rangeCheck 45 = .ok (.athrow, 1) := dk_191 (dk_at dksJ36_rangeCheck_1 23 rfl rfl)
theorem dJ36_rangeCheck_46 : decode cJ36_rangeCheck 46 = .ok (.iload_n 1, 1) := dk_27 (dk_at dksJ36_rangeCheck_2 0 rfl rfl)
theorem dJ36_rangeCheck_47 : decode cJ36_rangeCheck 47 = .ok (.ifCond .ge 12, 3) := dk_156 0 12 (dk_at dksJ36_rangeCheck_2 1 rfl rfl)
theorem dJ36_rangeCheck_50 : decode cJ36_rangeCheck 50 = .ok (.new 68, 3) := dk_187 0 68 (dk_at dksJ36_rangeCheck_2 4 rfl rfl)
theorem dJ36_rangeCheck_53 : decode cJ36_rangeCheck 53 = .ok (.dup, 1) := dk_89 (dk_at dksJ36_rangeCheck_2 7 rfl rfl)
theorem dJ36_rangeCheck_54 : decode cJ36_rangeCheck 54 = .ok (.iload_n 1, 1) := dk_27 (dk_at dksJ36_rangeCheck_2 8 rfl rfl)
theorem dJ36_rangeCheck_55 : decode cJ36_rangeCheck 55 = .ok (.invokespecial 70, 3) := dk_183 0 70 (dk_at dksJ36_rangeCheck_2 9 rfl rfl)
theorem dJ36_rangeCheck_58 : decode cJ36_rangeCheck 58 = .ok (.athrow, 1) := dk_191 (dk_at dksJ36_rangeCheck_2 12 rfl rfl)
theorem dJ36_rangeCheck_59 : decode cJ36_rangeCheck 59 = .ok (.iload_n 2, 1) := dk_28 (dk_at dksJ36_rangeCheck_2 13 rfl rfl)
theorem dJ36_rangeCheck_60 : decode cJ36_rangeCheck 60 = .ok (.iload_n 0, 1) := dk_26 (dk_at dksJ36_rangeCheck_2 14 rfl rfl)
theorem dJ36_rangeCheck_61 : decode cJ36_rangeCheck 61 = .ok (.if_icmp .le 12, 3) := dk_164 0 12 (dk_at dksJ36_rangeCheck_2 15 rfl rfl)
theorem dJ36_rangeCheck_64 : decode cJ36_rangeCheck 64 = .ok (.new 68, 3) := dk_187 0 68 (dk_at dksJ36_rangeCheck_2 18 rfl rfl)
theorem dJ36_rangeCheck_67 : decode cJ36_rangeCheck 67 = .ok (.dup, 1) := dk_89 (dk_at dksJ36_rangeCheck_2 21 rfl rfl)
theorem dJ36_rangeCheck_68 : decode cJ36_rangeCheck 68 = .ok (.iload_n 2, 1) := dk_28 (dk_at dksJ36_rangeCheck_2 22 rfl rfl)
theorem dJ36_rangeCheck_69 : decode cJ36_rangeCheck 69 = .ok (.invokespecial 70, 3) := dk_183 0 70 (dk_at dksJ36_rangeCheck_3 0 rfl rfl)
theorem dJ36_rangeCheck_72 : decode cJ36_rangeCheck 72 = .ok (.athrow, 1) := dk_191 (dk_at dksJ36_rangeCheck_3 3 rfl rfl)
theorem dJ36_rangeCheck_73 : decode cJ36_rangeCheck 73 = .ok (.return_, 1) := dk_177 (dk_at dksJ36_rangeCheck_3 4 rfl rfl)
def dkwJ36_copyOf_2_0 : List UInt8 := [42, 27, 42, 182, 0, 86, 184, 1, 44, 176]
abbrev dktJ36_copyOf_2_0 : List UInt8 := dkwJ36_copyOf_2_0 ++ []
theorem dksJ36_copyOf_2_0 : cJ36_copyOf_2.data.toList.drop 0 = dktJ36_copyOf_2_0 := by decide +kernel
theorem dJ36_copyOf_2_0 : decode cJ36_copyOf_2 0 = .ok (.aload_n 0, 1) := dk_42 (dk_at dksJ36_copyOf_2_0 0 rfl rfl)
theorem dJ36_copyOf_2_1 : decode cJ36_copyOf_2 1 = .ok (.iload_n 1, 1) := dk_27 (dk_at dksJ36_copyOf_2_0 1 rfl rfl)
theorem dJ36_copyOf_2_2 : decode cJ36_copyOf_2 2 = .ok (.aload_n 0, 1) := dk_42 (dk_at dksJ36_copyOf_2_0 2 rfl rfl)
theorem dJ36_copyOf_2_3 : decode cJ36_copyOf_2 3 = .ok (.invokevirtual 86, 3) := dk_182 0 86 (dk_at dksJ36_copyOf_2_0 3 rfl rfl)
theorem dJ36_copyOf_2_6 : decode cJ36_copyOf_2 6 = .ok (.invokestatic 300, 3) := dk_184 1 44 (dk_at dksJ36_copyOf_2_0 6 rfl rfl)
theorem dJ36_copyOf_2_9 : decode cJ36_copyOf_2 9 = .ok (.areturn, 1) := dk_176 (dk_at dksJ36_copyOf_2_0 9 rfl rfl)
def dkwJ36_copyOf_3_1 : List UInt8 := [78, 42, 3, 45, 3, 42, 190, 27, 184, 1, 48, 184, 0, 150, 45, 176]
abbrev dktJ36_copyOf_3_1 : List UInt8 := dkwJ36_copyOf_3_1 ++ []
def dkwJ36_copyOf_3_0 : List UInt8 := [44, 18, 110, 166, 0, 10, 27, 189, 0, 2, 167, 0, 14, 44, 182, 0, 90, 27, 184, 0, 95, 192, 0, 110]
abbrev dktJ36_copyOf_3_0 : List UInt8 := dkwJ36_copyOf_3_0 ++ dktJ36_copyOf_3_1
theorem dksJ36_copyOf_3_0 : cJ36_copyOf_3.data.toList.drop 0 = dktJ36_copyOf_3_0 := by decide +kernel
theorem dksJ36_copyOf_3_1 : cJ36_copyOf_3.data.toList.drop 24 = dktJ36_copyOf_3_1 := dk_seg dksJ36_copyOf_3_0 24 rfl rfl
theorem dJ36_copyOf_3_0 : decode cJ36_copyOf_3 0 = .ok (.aload_n 2, 1) := dk_44 (dk_at dksJ36_copyOf_3_0 0 rfl rfl)
theorem dJ36_copyOf_3_1 : decode cJ36_copyOf_3 1 = .ok (.ldc 110, 2) := dk_18 110 (dk_at dksJ36_copyOf_3_0 1 rfl rfl)
theorem dJ36_copyOf_3_3 : decode cJ36_copyOf_3 3 = .ok (.if_acmp .ne 10, 3) := dk_166 0 10 (dk_at dksJ36_copyOf_3_0 3 rfl rfl)
theorem dJ36_copyOf_3_6 : decode cJ36_copyOf_3 6 = .ok (.iload_n 1, 1) := dk_27 (dk_at dksJ36_copyOf_3_0 6 rfl rfl)
theorem dJ36_copyOf_3_7 : decode cJ36_copyOf_3 7 = .ok (.anewarray 2, 3) := dk_189 0 2 (dk_at dksJ36_copyOf_3_0 7 rfl rfl)
theorem dJ36_copyOf_3_10 : decode cJ36_copyOf_3 10 = .ok (.goto 14, 3) := dk_167 0 14 (dk_at dksJ36_copyOf_3_0 10 rfl rfl)
theorem dJ36_copyOf_3_13 : decode cJ36_copyOf_3 13 = .ok (.aload_n 2, 1) := dk_44 (dk_at dksJ36_copyOf_3_0 13 rfl rfl)
theorem dJ36_copyOf_3_14 : decode cJ36_copyOf_3 14 = .ok (.invokevirtual 90, 3) := dk_182 0 90 (dk_at dksJ36_copyOf_3_0 14 rfl rfl)
theorem dJ36_copyOf_3_17 : decode cJ36_copyOf_3 17 = .ok (.iload_n 1, 1) := dk_27 (dk_at dksJ36_copyOf_3_0 17 rfl rfl)
theorem dJ36_copyOf_3_18 : decode cJ36_copyOf_3 18 = .ok (.invokestatic 95, 3) := dk_184 0 95 (dk_at dksJ36_copyOf_3_0 18 rfl rfl)
theorem dJ36_copyOf_3_21 : decode cJ36_copyOf_3 21 = .ok (.checkcast 110, 3) := dk_192 0 110 (dk_at dksJ36_copyOf_3_0 21 rfl rfl)
theorem dJ36_copyOf_3_24 : decode cJ36_copyOf_3 24 = .ok (.astore_n 3, 1) := dk_78 (dk_at dksJ36_copyOf_3_1 0 rfl rfl)
theorem dJ36_copyOf_3_25 : decode cJ36_copyOf_3 25 = .ok (.aload_n 0, 1) := dk_42 (dk_at dksJ36_copyOf_3_1 1 rfl rfl)
theorem dJ36_copyOf_3_26 : decode cJ36_copyOf_3 26 = .ok (.iconst 0, 1) := dk_3 (dk_at dksJ36_copyOf_3_1 2 rfl rfl)
theorem dJ36_copyOf_3_27 : decode cJ36_copyOf_3 27 = .ok (.aload_n 3, 1) := dk_45 (dk_at dksJ36_copyOf_3_1 3 rfl rfl)
theorem dJ36_copyOf_3_28 : decode cJ36_copyOf_3 28 = .ok (.iconst 0, 1) := dk_3 (dk_at dksJ36_copyOf_3_1 4 rfl rfl)
theorem dJ36_copyOf_3_29 : decode cJ36_copyOf_3 29 = .ok (.aload_n 0, 1) := dk_42 (dk_at dksJ36_copyOf_3_1 5 rfl rfl)
theorem dJ36_copyOf_3_30 : decode cJ36_copyOf_3 30 = .ok (.arraylength, 1) := dk_190 (dk_at dksJ36_copyOf_3_1 6 rfl rfl)
theorem dJ36_copyOf_3_31 : decode cJ36_copyOf_3 31 = .ok (.iload_n 1, 1) := dk_27 (dk_at dksJ36_copyOf_3_1 7 rfl rfl)
theorem dJ36_copyOf_3_32 : decode cJ36_copyOf_3 32 = .ok (.invokestatic 304, 3) := dk_184 1 48 (dk_at dksJ36_copyOf_3_1 8 rfl rfl)
theorem dJ36_copyOf_3_35 : decode cJ36_copyOf_3 35 = .ok (.invokestatic 150, 3) := dk_184 0 150 (dk_at dksJ36_copyOf_3_1 11 rfl rfl)
theorem dJ36_copyOf_3_38 : decode cJ36_copyOf_3 38 = .ok (.aload_n 3, 1) := dk_45 (dk_at dksJ36_copyOf_3_1 14 rfl rfl)
theorem dJ36_copyOf_3_39 : decode cJ36_copyOf_3 39 = .ok (.areturn, 1) := dk_176 (dk_at dksJ36_copyOf_3_1 15 rfl rfl)
theorem dJ40_init_0 : decode cJ40_init 0 = .ok (.return_, 1) := by decide +kernel
def dkwJ40_equals_0 : List UInt8 := [42, 43, 166, 0, 7, 4, 167, 0, 4, 3, 172]
abbrev dktJ40_equals_0 : List UInt8 := dkwJ40_equals_0 ++ []
theorem dksJ40_equals_0 : cJ40_equals.data.toList.drop 0 = dktJ40_equals_0 := by decide +kernel
theorem dJ40_equals_0 : decode cJ40_equals 0 = .ok (.aload_n 0, 1) := dk_42 (dk_at dksJ40_equals_0 0 rfl rfl)
theorem dJ40_equals_1 : decode cJ40_equals 1 = .ok (.aload_n 1, 1) := dk_43 (dk_at dksJ40_equals_0 1 rfl rfl)
theorem dJ40_equals_2 : decode cJ40_equals 2 = .ok (.if_acmp .ne 7, 3) := dk_166 0 7 (dk_at dksJ40_equals_0 2 rfl rfl)
theorem dJ40_equals_5 : decode cJ40_equals 5 = .ok (.iconst 1, 1) := dk_4 (dk_at dksJ40_equals_0 5 rfl rfl)
theorem dJ40_equals_6 : decode cJ40_equals 6 = .ok (.goto 4, 3) := dk_167 0 4 (dk_at dksJ40_equals_0 6 rfl rfl)
theorem dJ40_equals_9 : decode cJ40_equals 9 = .ok (.iconst 0, 1) := dk_3 (dk_at dksJ40_equals_0 9 rfl rfl)
theorem dJ40_equals_10 : decode cJ40_equals 10 = .ok (.ireturn, 1) := dk_172 (dk_at dksJ40_equals_0 10 rfl rfl)
def dkwJ9_init_0 : List UInt8 := [42, 183, 0, 1, 42, 3, 181, 0, 7, 177]
abbrev dktJ9_init_0 : List UInt8 := dkwJ9_init_0 ++ []
theorem dksJ9_init_0 : cJ9_init.data.toList.drop 0 = dktJ9_init_0 := by decide +kernel
theorem dJ9_init_0 : decode cJ9_init 0 = .ok (.aload_n 0, 1) := dk_42 (dk_at dksJ9_init_0 0 rfl rfl)
theorem dJ9_init_1 : decode cJ9_init 1 = .ok (.invokespecial 1, 3) := dk_183 0 1 (dk_at dksJ9_init_0 1 rfl rfl)
theorem dJ9_init_4 : decode cJ9_init 4 = .ok (.aload_n 0, 1) := dk_42 (dk_at dksJ9_init_0 4 rfl rfl)
theorem dJ9_init_5 : decode cJ9_init 5 = .ok (.iconst 0, 1) := dk_3 (dk_at dksJ9_init_0 5 rfl rfl)
theorem dJ9_init_6 : decode cJ9_init 6 = .ok (.putfield 7, 3) := dk_181 0 7 (dk_at dksJ9_init_0 6 rfl rfl)
theorem dJ9_init_9 : decode cJ9_init 9 = .ok (.return_, 1) := dk_177 (dk_at dksJ9_init_0 9 rfl rfl)
