/-! decode rows (out of claim/names) -/
set_option maxRecDepth 100000
def dkwX6_init_4 : List UInt8 := [3, 60, 27, 16, 36, 162, 0, 16, 42, 27, 4, 2, 182, 0, 29, 132, 1, 1, 167, 255, 240, 177]
abbrev dktX6_init_4 : List UInt8 := dkwX6_init_4 ++ []
def dkwX6_init_3 : List UInt8 := [182, 0, 25, 42, 27, 4, 16, 20, 182, 0, 25, 42, 27, 5, 8, 182, 0, 25, 132, 1, 1, 167, 255, 213]
abbrev dktX6_init_3 : List UInt8 := dkwX6_init_3 ++ dktX6_init_4
def dkwX6_init_2 : List UInt8 := [3, 60, 27, 16, 6, 162, 0, 43, 42, 27, 3, 27, 154, 0, 7, 2, 167, 0, 8, 27, 4, 100, 5, 108]
abbrev dktX6_init_2 : List UInt8 := dkwX6_init_2 ++ dktX6_init_3
def dkwX6_init_1 : List UInt8 := [17, 0, 252, 188, 10, 181, 0, 16, 42, 16, 60, 188, 10, 181, 0, 19, 42, 16, 6, 188, 10, 181, 0, 22]
abbrev dktX6_init_1 : List UInt8 := dkwX6_init_1 ++ dktX6_init_2
def dkwX6_init_0 : List UInt8 := [42, 183, 0, 1, 42, 17, 0, 252, 188, 10, 181, 0, 7, 42, 17, 5, 232, 188, 10, 181, 0, 13, 42]
abbrev dktX6_init_0 : List UInt8 := dkwX6_init_0 ++ dktX6_init_1
theorem dksX6_init_0 : cX6_init.data.toList.drop 0 = dktX6_init_0 := by decide +kernel
theorem dksX6_init_1 : cX6_init.data.toList.drop 23 = dktX6_init_1 := dk_seg dksX6_init_0 23 rfl rfl
theorem dksX6_init_2 : cX6_init.data.toList.drop 47 = dktX6_init_2 := dk_seg dksX6_init_1 24 rfl rfl
theorem dksX6_init_3 : cX6_init.data.toList.drop 71 = dktX6_init_3 := dk_seg dksX6_init_2 24 rfl rfl
theorem dksX6_init_4 : cX6_init.data.toList.drop 95 = dktX6_init_4 := dk_seg dksX6_init_3 24 rfl rfl
theorem dX6_init_0 : decode cX6_init 0 = .ok (.aload_n 0, 1) := dk_42 (dk_at dksX6_init_0 0 rfl rfl)
theorem dX6_init_1 : decode cX6_init 1 = .ok (.invokespecial 1, 3) := dk_183 0 1 (dk_at dksX6_init_0 1 rfl rfl)
theorem dX6_init_4 : decode cX6_init 4 = .ok (.aload_n 0, 1) := dk_42 (dk_at dksX6_init_0 4 rfl rfl)
theorem dX6_init_5 : decode cX6_init 5 = .ok (.sipush 252, 3) := dk_17 0 252 (dk_at dksX6_init_0 5 rfl rfl)
theorem dX6_init_8 : decode cX6_init 8 = .ok (.newarray .int, 2) := dk_188_10 (dk_at dksX6_init_0 8 rfl rfl)
theorem dX6_init_10 : decode cX6_init 10 = .ok (.putfield 7, 3) := dk_181 0 7 (dk_at dksX6_init_0 10 rfl rfl)
theorem dX6_init_13 : decode cX6_init 13 = .ok (.aload_n 0, 1) := dk_42 (dk_at dksX6_init_0 13 rfl rfl)
theorem dX6_init_14 : decode cX6_init 14 = .ok (.sipush 1512, 3) := dk_17 5 232 (dk_at dksX6_init_0 14 rfl rfl)
theorem dX6_init_17 : decode cX6_init 17 = .ok (.newarray .int, 2) := dk_188_10 (dk_at dksX6_init_0 17 rfl rfl)
theorem dX6_init_19 : decode cX6_init 19 = .ok (.putfield 13, 3) := dk_181 0 13 (dk_at dksX6_init_0 19 rfl rfl)
theorem dX6_init_22 : decode cX6_init 22 = .ok (.aload_n 0, 1) := dk_42 (dk_at dksX6_init_0 22 rfl rfl)
theorem dX6_init_23 : decode cX6_init 23 = .ok (.sipush 252, 3) := dk_17 0 252 (dk_at dksX6_init_1 0 rfl rfl)
theorem dX6_init_26 : decode cX6_init 26 = .ok (.newarray .int, 2) := dk_188_10 (dk_at dksX6_init_1 3 rfl rfl)
theorem dX6_init_28 : decode cX6_init 28 = .ok (.putfield 16, 3) := dk_181 0 16 (dk_at dksX6_init_1 5 rfl rfl)
theorem dX6_init_31 : decode cX6_init 31 = .ok (.aload_n 0, 1) := dk_42 (dk_at dksX6_init_1 8 rfl rfl)
theorem dX6_init_32 : decode cX6_init 32 = .ok (.bipush 60, 2) := dk_16 60 (dk_at dksX6_init_1 9 rfl rfl)
theorem dX6_init_34 : decode cX6_init 34 = .ok (.newarray .int, 2) := dk_188_10 (dk_at dksX6_init_1 11 rfl rfl)
theorem dX6_init_36 : decode cX6_init 36 = .ok (.putfield 19, 3) := dk_181 0 19 (dk_at dksX6_init_1 13 rfl rfl)
theorem dX6_init_39 : decode cX6_init 39 = .ok (.aload_n 0, 1) := dk_42 (dk_at dksX6_init_1 16 rfl rfl)
theorem dX6_init_40 : decode cX6_init 40 = .ok (.bipush 6, 2) := dk_16 6 (dk_at dksX6_init_1 17 rfl rfl)
theorem dX6_init_42 : decode cX6_init 42 = .ok (.newarray .int, 2) := dk_188_10 (dk_at dksX6_init_1 19 rfl rfl)
theorem dX6_init_44 : decode cX6_init 44 = .ok (.putfield 22, 3) := dk_181 0 22 (dk_at dksX6_init_1 21 rfl rfl)
theorem dX6_init_47 : decode cX6_init 47 = .ok (.iconst 0, 1) := dk_3 (dk_at dksX6_init_2 0 rfl rfl)
theorem dX6_init_48 : decode cX6_init 48 = .ok (.istore_n 1, 1) := dk_60 (dk_at dksX6_init_2 1 rfl rfl)
theorem dX6_init_49 : decode cX6_init 49 = .ok (.iload_n 1, 1) := dk_27 (dk_at dksX6_init_2 2 rfl rfl)
theorem dX6_init_50 : decode cX6_init 50 = .ok (.bipush 6, 2) := dk_16 6 (dk_at dksX6_init_2 3 rfl rfl)
theorem dX6_init_52 : decode cX6_init 52 = .ok (.if_icmp .ge 43, 3) := dk_162 0 43 (dk_at dksX6_init_2 5 rfl rfl)
theorem dX6_init_55 : decode cX6_init 55 = .ok (.aload_n 0, 1) := dk_42 (dk_at dksX6_init_2 8 rfl rfl)
theorem dX6_init_56 : decode cX6_init 56 = .ok (.iload_n 1, 1) := dk_27 (dk_at dksX6_init_2 9 rfl rfl)
theorem dX6_init_57 : decode cX6_init 57 = .ok (.iconst 0, 1) := dk_3 (dk_at dksX6_init_2 10 rfl rfl)
theorem dX6_init_58 : decode cX6_init 58 = .ok (.iload_n 1, 1) := dk_27 (dk_at dksX6_init_2 11 rfl rfl)
theorem dX6_init_59 : decode cX6_init 59 = .ok (.ifCond .ne 7, 3) := dk_154 0 7 (dk_at dksX6_init_2 12 rfl rfl)
theorem dX6_init_62 : decode cX6_init 62 = .ok (.iconst (-1), 1) := dk_2 (dk_at dksX6_init_2 15 rfl rfl)
theorem dX6_init_63 : decode cX6_init 63 = .ok (.goto 8, 3) := dk_167 0 8 (dk_at dksX6_init_2 16 rfl rfl)
theorem dX6_init_66 : decode cX6_init 66 = .ok (.iload_n 1, 1) := dk_27 (dk_at dksX6_init_2 19 rfl rfl)
theorem dX6_init_67 : decode cX6_init 67 = .ok (.iconst 1, 1) := dk_4 (dk_at dksX6_init_2 20 rfl rfl)
theorem dX6_init_68 : decode cX6_init 68 = .ok (.isub, 1) := dk_100 (dk_at dksX6_init_2 21 rfl rfl)
theorem dX6_init_69 : decode cX6_init 69 = .ok (.iconst 2, 1) := dk_5 (dk_at dksX6_init_2 22 rfl rfl)
theorem dX6_init_70 : decode cX6_init 70 = .ok (.idiv, 1) := dk_108 (dk_at dksX6_init_2 23 rfl rfl)
theorem dX6_init_71 : decode cX6_init 71 = .ok (.invokevirtual 25, 3) := dk_182 0 25 (dk_at dksX6_init_3 0 rfl rfl)
theorem dX6_init_74 : decode cX6_init 74 = .ok (.aload_n 0, 1) := dk_42 (dk_at dksX6_init_3 3 rfl rfl)
theorem dX6_init_75 : decode cX6_init 75 = .ok (.iload_n 1, 1) := dk_27 (dk_at dksX6_init_3 4 rfl rfl)
theorem dX6_init_76 : decode cX6_init 76 = .ok (.iconst 1, 1) := dk_4 (dk_at dksX6_init_3 5 rfl rfl)
theorem dX6_init_77 : decode cX6_init 77 = .ok (.bipush 20, 2) := dk_16 20 (dk_at dksX6_init_3 6 rfl rfl)
theorem dX6_init_79 : decode cX6_init 79 = .ok (.invokevirtual 25, 3) := dk_182 0 25 (dk_at dksX6_init_3 8 rfl rfl)
theorem dX6_init_82 : decode cX6_init 82 = .ok (.aload_n 0, 1) := dk_42 (dk_at dksX6_init_3 11 rfl rfl)
theorem dX6_init_83 : decode cX6_init 83 = .ok (.iload_n 1, 1) := dk_27 (dk_at dksX6_init_3 12 rfl rfl)
theorem dX6_init_84 : decode cX6_init 84 = .ok (.iconst 2, 1) := dk_5 (dk_at dksX6_init_3 13 rfl rfl)
theorem dX6_init_85 : decode cX6_init 85 = .ok (.iconst 5, 1) := dk_8 (dk_at dksX6_init_3 14 rfl rfl)
theorem dX6_init_86 : decode cX6_init 86 = .ok (.invokevirtual 25, 3) := dk_182 0 25 (dk_at dksX6_init_3 15 rfl rfl)
theorem dX6_init_89 : decode cX6_init 89 = .ok (.iinc 1 1, 3) := dk_132 1 1 (dk_at dksX6_init_3 18 rfl rfl)
theorem dX6_init_92 : decode cX6_init 92 = .ok (.goto (-43), 3) := dk_167 255 213 (dk_at dksX6_init_3 21 rfl rfl)
theorem dX6_init_95 : decode cX6_init 95 = .ok (.iconst 0, 1) := dk_3 (dk_at dksX6_init_4 0 rfl rfl)
theorem dX6_init_96 : decode cX6_init 96 = .ok (.istore_n 1, 1) := dk_60 (dk_at dksX6_init_4 1 rfl rfl)
theorem dX6_init_97 : decode cX6_init 97 = .ok (.iload_n 1, 1) := dk_27 (dk_at dksX6_init_4 2 rfl rfl)
theorem dX6_init_98 : decode cX6_init 98 = .ok (.bipush 36, 2) := dk_16 36 (dk_at dksX6_init_4 3 rfl rfl)
theorem dX6_init_100 : decode cX6_init 100 = .ok (.if_icmp .ge 16, 3) := dk_162 0 16 (dk_at dksX6_init_4 5 rfl rfl)
theorem dX6_init_103 : decode cX6_init 103 = .ok (.aload_n 0, 1) := dk_42 (dk_at dksX6_init_4 8 rfl rfl)
theorem dX6_init_104 : decode cX6_init 104 = .ok (.iload_n 1, 1) := dk_27 (dk_at dksX6_init_4 9 rfl rfl)
theorem dX6_init_105 : decode cX6_init 105 = .ok (.iconst 1, 1) := dk_4 (dk_at dksX6_init_4 10 rfl rfl)
theorem dX6_init_106 : decode cX6_init 106 = .ok (.iconst (-1), 1) := dk_2 (dk_at dksX6_init_4 11 rfl rfl)
theorem dX6_init_107 : decode cX6_init 107 = .ok (.invokevirtual 29, 3) := dk_182 0 29 (dk_at dksX6_init_4 12 rfl rfl)
theorem dX6_init_110 : decode cX6_init 110 = .ok (.iinc 1 1, 3) := dk_132 1 1 (dk_at dksX6_init_4 15 rfl rfl)
theorem dX6_init_113 : decode cX6_init 113 = .ok (.goto (-16), 3) := dk_167 255 240 (dk_at dksX6_init_4 18 rfl rfl)
theorem dX6_init_116 : decode cX6_init 116 = .ok (.return_, 1) := dk_177 (dk_at dksX6_init_4 21 rfl rfl)
def dkwX6_putsZone_0 : List UInt8 := [42, 180, 0, 7, 16, 6, 8, 27, 104, 96, 28, 96, 29, 79, 177]
abbrev dktX6_putsZone_0 : List UInt8 := dkwX6_putsZone_0 ++ []
theorem dksX6_putsZone_0 : cX6_putsZone.data.toList.drop 0 = dktX6_putsZone_0 := by decide +kernel
theorem dX6_putsZone_0 : decode cX6_putsZone 0 = .ok (.aload_n 0, 1) := dk_42 (dk_at dksX6_putsZone_0 0 rfl rfl)
theorem dX6_putsZone_1 : decode cX6_putsZone 1 = .ok (.getfield 7, 3) := dk_180 0 7 (dk_at dksX6_putsZone_0 1 rfl rfl)
theorem dX6_putsZone_4 : decode cX6_putsZone 4 = .ok (.bipush 6, 2) := dk_16 6 (dk_at dksX6_putsZone_0 4 rfl rfl)
theorem dX6_putsZone_6 : decode cX6_putsZone 6 = .ok (.iconst 5, 1) := dk_8 (dk_at dksX6_putsZone_0 6 rfl rfl)
theorem dX6_putsZone_7 : decode cX6_putsZone 7 = .ok (.iload_n 1, 1) := dk_27 (dk_at dksX6_putsZone_0 7 rfl rfl)
theorem dX6_putsZone_8 : decode cX6_putsZone 8 = .ok (.imul, 1) := dk_104 (dk_at dksX6_putsZone_0 8 rfl rfl)
theorem dX6_putsZone_9 : decode cX6_putsZone 9 = .ok (.iadd, 1) := dk_96 (dk_at dksX6_putsZone_0 9 rfl rfl)
theorem dX6_putsZone_10 : decode cX6_putsZone 10 = .ok (.iload_n 2, 1) := dk_28 (dk_at dksX6_putsZone_0 10 rfl rfl)
theorem dX6_putsZone_11 : decode cX6_putsZone 11 = .ok (.iadd, 1) := dk_96 (dk_at dksX6_putsZone_0 11 rfl rfl)
theorem dX6_putsZone_12 : decode cX6_putsZone 12 = .ok (.iload_n 3, 1) := dk_29 (dk_at dksX6_putsZone_0 12 rfl rfl)
theorem dX6_putsZone_13 : decode cX6_putsZone 13 = .ok (.iastore, 1) := dk_79 (dk_at dksX6_putsZone_0 13 rfl rfl)
theorem dX6_putsZone_14 : decode cX6_putsZone 14 = .ok (.return_, 1) := dk_177 (dk_at dksX6_putsZone_0 14 rfl rfl)
def dkwX6_puts_0 : List UInt8 := [42, 180, 0, 7, 16, 36, 16, 6, 27, 104, 96, 28, 96, 29, 79, 177]
abbrev dktX6_puts_0 : List UInt8 := dkwX6_puts_0 ++ []
theorem dksX6_puts_0 : cX6_puts.data.toList.drop 0 = dktX6_puts_0 := by decide +kernel
theorem dX6_puts_0 : decode cX6_puts 0 = .ok (.aload_n 0, 1) := dk_42 (dk_at dksX6_puts_0 0 rfl rfl)
theorem dX6_puts_1 : decode cX6_puts 1 = .ok (.getfield 7, 3) := dk_180 0 7 (dk_at dksX6_puts_0 1 rfl rfl)
theorem dX6_puts_4 : decode cX6_puts 4 = .ok (.bipush 36, 2) := dk_16 36 (dk_at dksX6_puts_0 4 rfl rfl)
theorem dX6_puts_6 : decode cX6_puts 6 = .ok (.bipush 6, 2) := dk_16 6 (dk_at dksX6_puts_0 6 rfl rfl)
theorem dX6_puts_8 : decode cX6_puts 8 = .ok (.iload_n 1, 1) := dk_27 (dk_at dksX6_puts_0 8 rfl rfl)
theorem dX6_puts_9 : decode cX6_puts 9 = .ok (.imul, 1) := dk_104 (dk_at dksX6_puts_0 9 rfl rfl)
theorem dX6_puts_10 : decode cX6_puts 10 = .ok (.iadd, 1) := dk_96 (dk_at dksX6_puts_0 10 rfl rfl)
theorem dX6_puts_11 : decode cX6_puts 11 = .ok (.iload_n 2, 1) := dk_28 (dk_at dksX6_puts_0 11 rfl rfl)
theorem dX6_puts_12 : decode cX6_puts 12 = .ok (.iadd, 1) := dk_96 (dk_at dksX6_puts_0 12 rfl rfl)
theorem dX6_puts_13 : decode cX6_puts 13 = .ok (.iload_n 3, 1) := dk_29 (dk_at dksX6_puts_0 13 rfl rfl)
theorem dX6_puts_14 : decode cX6_puts 14 = .ok (.iastore, 1) := dk_79 (dk_at dksX6_puts_0 14 rfl rfl)
theorem dX6_puts_15 : decode cX6_puts 15 = .ok (.return_, 1) := dk_177 (dk_at dksX6_puts_0 15 rfl rfl)
theorem dX6_thrown_0 : decode cX6_thrown 0 = .ok (.aload_n 0, 1) := by decide +kernel
theorem dX6_thrown_1 : decode cX6_thrown 1 = .ok (.getfield 32, 3) := by decide +kernel
theorem dX6_thrown_4 : decode cX6_thrown 4 = .ok (.ireturn, 1) := by decide +kernel
def dkwX6_setParent_2 : List UInt8 := [42, 27, 3, 182, 0, 50, 62, 42, 27, 3, 28, 182, 0, 25, 29, 172]
abbrev dktX6_setParent_2 : List UInt8 := dkwX6_setParent_2 ++ []
def dkwX6_setParent_1 : List UInt8 := [153, 0, 7, 3, 167, 0, 4, 5, 181, 0, 32, 42, 180, 0, 32, 158, 0, 5, 3, 172, 42, 182, 0, 47]
abbrev dktX6_setParent_1 : List UInt8 := dkwX6_setParent_1 ++ dktX6_setParent_2
def dkwX6_setParent_0 : List UInt8 := [42, 27, 4, 8, 184, 0, 43, 154, 0, 7, 4, 167, 0, 19, 28, 3, 27, 4, 100, 184, 0, 43]
abbrev dktX6_setParent_0 : List UInt8 := dkwX6_setParent_0 ++ dktX6_setParent_1
theorem dksX6_setParent_0 : cX6_setParent.data.toList.drop 0 = dktX6_setParent_0 := by decide +kernel
theorem dksX6_setParent_1 : cX6_setParent.data.toList.drop 22 = dktX6_setParent_1 := dk_seg dksX6_setParent_0 22 rfl rfl
theorem dksX6_setParent_2 : cX6_setParent.data.toList.drop 46 = dktX6_setParent_2 := dk_seg dksX6_setParent_1 24 rfl rfl
theorem dX6_setParent_0 : decode cX6_setParent 0 = .ok (.aload_n 0, 1) := dk_42 (dk_at dksX6_setParent_0 0 rfl rfl)
theorem dX6_setParent_1 : decode cX6_setParent 1 = .ok (.iload_n 1, 1) := dk_27 (dk_at dksX6_setParent_0 1 rfl rfl)
theorem dX6_setParent_2 : decode cX6_setParent 2 = .ok (.iconst 1, 1) := dk_4 (dk_at dksX6_setParent_0 2 rfl rfl)
theorem dX6_setParent_3 : decode cX6_setParent 3 = .ok (.iconst 5, 1) := dk_8 (dk_at dksX6_setParent_0 3 rfl rfl)
theorem dX6_setParent_4 : decode cX6_setParent 4 = .ok (.invokestatic 43, 3) := dk_184 0 43 (dk_at dksX6_setParent_0 4 rfl rfl)
theorem dX6_setParent_7 : decode cX6_setParent 7 = .ok (.ifCond .ne 7, 3) := dk_154 0 7 (dk_at dksX6_setParent_0 7 rfl rfl)
theorem dX6_setParent_10 : decode cX6_setParent 10 = .ok (.iconst 1, 1) := dk_4 (dk_at dksX6_setParent_0 10 rfl rfl)
theorem dX6_setParent_11 : decode cX6_setParent 11 = .ok (.goto 19, 3) := dk_167 0 19 (dk_at dksX6_setParent_0 11 rfl rfl)
theorem dX6_setParent_14 : decode cX6_setParent 14 = .ok (.iload_n 2, 1) := dk_28 (dk_at dksX6_setParent_0 14 rfl rfl)
theorem dX6_setParent_15 : decode cX6_setParent 15 = .ok (.iconst 0, 1) := dk_3 (dk_at dksX6_setParent_0 15 rfl rfl)
theorem dX6_setParent_16 : decode cX6_setParent 16 = .ok (.iload_n 1, 1) := dk_27 (dk_at dksX6_setParent_0 16 rfl rfl)
theorem dX6_setParent_17 : decode cX6_setParent 17 = .ok (.iconst 1, 1) := dk_4 (dk_at dksX6_setParent_0 17 rfl rfl)
theorem dX6_setParent_18 : decode cX6_setParent 18 = .ok (.isub, 1) := dk_100 (dk_at dksX6_setParent_0 18 rfl rfl)
theorem dX6_setParent_19 : decode cX6_setParent 19 = .ok (.invokestatic 43, 3) := dk_184 0 43 (dk_at dksX6_setParent_0 19 rfl rfl)
theorem dX6_setParent_22 : decode cX6_setParent 22 = .ok (.ifCond .eq 7, 3) := dk_153 0 7 (dk_at dksX6_setParent_1 0 rfl rfl)
theorem dX6_setParent_25 : decode cX6_setParent 25 = .ok (.iconst 0, 1) := dk_3 (dk_at dksX6_setParent_1 3 rfl rfl)
theorem dX6_setParent_26 : decode cX6_setParent 26 = .ok (.goto 4, 3) := dk_167 0 4 (dk_at dksX6_setParent_1 4 rfl rfl)
theorem dX6_setParent_29 : decode cX6_setParent 29 = .ok (.iconst 2, 1) := dk_5 (dk_at dksX6_setParent_1 7 rfl rfl)
theorem dX6_setParent_30 : decode cX6_setParent 30 = .ok (.putfield 32, 3) := dk_181 0 32 (dk_at dksX6_setParent_1 8 rfl rfl)
theorem dX6_setParent_33 : decode cX6_setParent 33 = .ok (.aload_n 0, 1) := dk_42 (dk_at dksX6_setParent_1 11 rfl rfl)
theorem dX6_setParent_34 : decode cX6_setParent 34 = .ok (.getfield 32, 3) := dk_180 0 32 (dk_at dksX6_setParent_1 12 rfl rfl)
theorem dX6_setParent_37 : decode cX6_setParent 37 = .ok (.ifCond .le 5, 3) := dk_158 0 5 (dk_at dksX6_setParent_1 15 rfl rfl)
theorem dX6_setParent_40 : decode cX6_setParent 40 = .ok (.iconst 0, 1) := dk_3 (dk_at dksX6_setParent_1 18 rfl rfl)
theorem dX6_setParent_41 : decode cX6_setParent 41 = .ok (.ireturn, 1) := dk_172 (dk_at dksX6_setParent_1 19 rfl rfl)
theorem dX6_setParent_42 : decode cX6_setParent 42 = .ok (.aload_n 0, 1) := dk_42 (dk_at dksX6_setParent_1 20 rfl rfl)
theorem dX6_setParent_43 : decode cX6_setParent 43 = .ok (.invokevirtual 47, 3) := dk_182 0 47 (dk_at dksX6_setParent_1 21 rfl rfl)
theorem dX6_setParent_46 : decode cX6_setParent 46 = .ok (.aload_n 0, 1) := dk_42 (dk_at dksX6_setParent_2 0 rfl rfl)
theorem dX6_setParent_47 : decode cX6_setParent 47 = .ok (.iload_n 1, 1) := dk_27 (dk_at dksX6_setParent_2 1 rfl rfl)
theorem dX6_setParent_48 : decode cX6_setParent 48 = .ok (.iconst 0, 1) := dk_3 (dk_at dksX6_setParent_2 2 rfl rfl)
theorem dX6_setParent_49 : decode cX6_setParent 49 = .ok (.invokevirtual 50, 3) := dk_182 0 50 (dk_at dksX6_setParent_2 3 rfl rfl)
theorem dX6_setParent_52 : decode cX6_setParent 52 = .ok (.istore_n 3, 1) := dk_62 (dk_at dksX6_setParent_2 6 rfl rfl)
theorem dX6_setParent_53 : decode cX6_setParent 53 = .ok (.aload_n 0, 1) := dk_42 (dk_at dksX6_setParent_2 7 rfl rfl)
theorem dX6_setParent_54 : decode cX6_setParent 54 = .ok (.iload_n 1, 1) := dk_27 (dk_at dksX6_setParent_2 8 rfl rfl)
theorem dX6_setParent_55 : decode cX6_setParent 55 = .ok (.iconst 0, 1) := dk_3 (dk_at dksX6_setParent_2 9 rfl rfl)
theorem dX6_setParent_56 : decode cX6_setParent 56 = .ok (.iload_n 2, 1) := dk_28 (dk_at dksX6_setParent_2 10 rfl rfl)
theorem dX6_setParent_57 : decode cX6_setParent 57 = .ok (.invokevirtual 25, 3) := dk_182 0 25 (dk_at dksX6_setParent_2 11 rfl rfl)
theorem dX6_setParent_60 : decode cX6_setParent 60 = .ok (.iload_n 3, 1) := dk_29 (dk_at dksX6_setParent_2 14 rfl rfl)
theorem dX6_setParent_61 : decode cX6_setParent 61 = .ok (.ireturn, 1) := dk_172 (dk_at dksX6_setParent_2 15 rfl rfl)
def dkwX6_within_0 : List UInt8 := [26, 27, 161, 0, 12, 26, 28, 163, 0, 7, 4, 167, 0, 4, 3, 172]
abbrev dktX6_within_0 : List UInt8 := dkwX6_within_0 ++ []
theorem dksX6_within_0 : cX6_within.data.toList.drop 0 = dktX6_within_0 := by decide +kernel
theorem dX6_within_0 : decode cX6_within 0 = .ok (.iload_n 0, 1) := dk_26 (dk_at dksX6_within_0 0 rfl rfl)
theorem dX6_within_1 : decode cX6_within 1 = .ok (.iload_n 1, 1) := dk_27 (dk_at dksX6_within_0 1 rfl rfl)
theorem dX6_within_2 : decode cX6_within 2 = .ok (.if_icmp .lt 12, 3) := dk_161 0 12 (dk_at dksX6_within_0 2 rfl rfl)
theorem dX6_within_5 : decode cX6_within 5 = .ok (.iload_n 0, 1) := dk_26 (dk_at dksX6_within_0 5 rfl rfl)
theorem dX6_within_6 : decode cX6_within 6 = .ok (.iload_n 2, 1) := dk_28 (dk_at dksX6_within_0 6 rfl rfl)
theorem dX6_within_7 : decode cX6_within 7 = .ok (.if_icmp .gt 7, 3) := dk_163 0 7 (dk_at dksX6_within_0 7 rfl rfl)
theorem dX6_within_10 : decode cX6_within 10 = .ok (.iconst 1, 1) := dk_4 (dk_at dksX6_within_0 10 rfl rfl)
theorem dX6_within_11 : decode cX6_within 11 = .ok (.goto 4, 3) := dk_167 0 4 (dk_at dksX6_within_0 11 rfl rfl)
theorem dX6_within_14 : decode cX6_within 14 = .ok (.iconst 0, 1) := dk_3 (dk_at dksX6_within_0 14 rfl rfl)
theorem dX6_within_15 : decode cX6_within 15 = .ok (.ireturn, 1) := dk_172 (dk_at dksX6_within_0 15 rfl rfl)
def dkwX6_record_3 : List UInt8 := [89, 180, 0, 36, 4, 96, 181, 0, 36, 177]
abbrev dktX6_record_3 : List UInt8 := dkwX6_record_3 ++ []
def dkwX6_record_2 : List UInt8 := [181, 0, 36, 42, 180, 0, 7, 3, 42, 180, 0, 13, 42, 180, 0, 36, 17, 0, 252, 104, 184, 0, 39, 42]
abbrev dktX6_record_2 : List UInt8 := dkwX6_record_2 ++ dktX6_record_3
def dkwX6_record_1 : List UInt8 := [180, 0, 13, 27, 17, 0, 252, 96, 46, 79, 132, 1, 1, 167, 255, 230, 42, 89, 180, 0, 36, 4, 100]
abbrev dktX6_record_1 : List UInt8 := dkwX6_record_1 ++ dktX6_record_2
def dkwX6_record_0 : List UInt8 := [42, 180, 0, 36, 16, 6, 160, 0, 44, 3, 60, 27, 17, 4, 236, 162, 0, 25, 42, 180, 0, 13, 27, 42]
abbrev dktX6_record_0 : List UInt8 := dkwX6_record_0 ++ dktX6_record_1
theorem dksX6_record_0 : cX6_record.data.toList.drop 0 = dktX6_record_0 := by decide +kernel
theorem dksX6_record_1 : cX6_record.data.toList.drop 24 = dktX6_record_1 := dk_seg dksX6_record_0 24 rfl rfl
theorem dksX6_record_2 : cX6_record.data.toList.drop 47 = dktX6_record_2 := dk_seg dksX6_record_1 23 rfl rfl
theorem dksX6_record_3 : cX6_record.data.toList.drop 71 = dktX6_record_3 := dk_seg dksX6_record_2 24 rfl rfl
theorem dX6_record_0 : decode cX6_record 0 = .ok (.aload_n 0, 1) := dk_42 (dk_at dksX6_record_0 0 rfl rfl)
theorem dX6_record_1 : decode cX6_record 1 = .ok (.getfield 36, 3) := dk_180 0 36 (dk_at dksX6_record_0 1 rfl rfl)
theorem dX6_record_4 : decode cX6_record 4 = .ok (.bipush 6, 2) := dk_16 6 (dk_at dksX6_record_0 4 rfl rfl)
theorem dX6_record_6 : decode cX6_record 6 = .ok (.if_icmp .ne 44, 3) := dk_160 0 44 (dk_at dksX6_record_0 6 rfl rfl)
theorem dX6_record_9 : decode cX6_record 9 = .ok (.iconst 0, 1) := dk_3 (dk_at dksX6_record_0 9 rfl rfl)
theorem dX6_record_10 : decode cX6_record 10 = .ok (.istore_n 1, 1) := dk_60 (dk_at dksX6_record_0 10 rfl rfl)
theorem dX6_record_11 : decode cX6_record 11 = .ok (.iload_n 1, 1) := dk_27 (dk_at dksX6_record_0 11 rfl rfl)
theorem dX6_record_12 : decode cX6_record 12 = .ok (.sipush 1260, 3) := dk_17 4 236 (dk_at dksX6_record_0 12 rfl rfl)
theorem dX6_record_15 : decode cX6_record 15 = .ok (.if_icmp .ge 25, 3) := dk_162 0 25 (dk_at dksX6_record_0 15 rfl rfl)
theorem dX6_record_18 : decode cX6_record 18 = .ok (.aload_n 0, 1) := dk_42 (dk_at dksX6_record_0 18 rfl rfl)
theorem dX6_record_19 : decode cX6_record 19 = .ok (.getfield 13, 3) := dk_180 0 13 (dk_at dksX6_record_0 19 rfl rfl)
theorem dX6_record_22 : decode cX6_record 22 = .ok (.iload_n 1, 1) := dk_27 (dk_at dksX6_record_0 22 rfl rfl)
theorem dX6_record_23 : decode cX6_record 23 = .ok (.aload_n 0, 1) := dk_42 (dk_at dksX6_record_0 23 rfl rfl)
theorem dX6_record_24 : decode cX6_record 24 = .ok (.getfield 13, 3) := dk_180 0 13 (dk_at dksX6_record_1 0 rfl rfl)
theorem dX6_record_27 : decode cX6_record 27 = .ok (.iload_n 1, 1) := dk_27 (dk_at dksX6_record_1 3 rfl rfl)
theorem dX6_record_28 : decode cX6_record 28 = .ok (.sipush 252, 3) := dk_17 0 252 (dk_at dksX6_record_1 4 rfl rfl)
theorem dX6_record_31 : decode cX6_record 31 = .ok (.iadd, 1) := dk_96 (dk_at dksX6_record_1 7 rfl rfl)
theorem dX6_record_32 : decode cX6_record 32 = .ok (.iaload, 1) := dk_46 (dk_at dksX6_record_1 8 rfl rfl)
theorem dX6_record_33 : decode cX6_record 33 = .ok (.iastore, 1) := dk_79 (dk_at dksX6_record_1 9 rfl rfl)
theorem dX6_record_34 : decode cX6_record 34 = .ok (.iinc 1 1, 3) := dk_132 1 1 (dk_at dksX6_record_1 10 rfl rfl)
theorem dX6_record_37 : decode cX6_record 37 = .ok (.goto (-26), 3) := dk_167 255 230 (dk_at dksX6_record_1 13 rfl rfl)
theorem dX6_record_40 : decode cX6_record 40 = .ok (.aload_n 0, 1) := dk_42 (dk_at dksX6_record_1 16 rfl rfl)
theorem dX6_record_41 : decode cX6_record 41 = .ok (.dup, 1) := dk_89 (dk_at dksX6_record_1 17 rfl rfl)
theorem dX6_record_42 : decode cX6_record 42 = .ok (.getfield 36, 3) := dk_180 0 36 (dk_at dksX6_record_1 18 rfl rfl)
theorem dX6_record_45 : decode cX6_record 45 = .ok (.iconst 1, 1) := dk_4 (dk_at dksX6_record_1 21 rfl rfl)
theorem dX6_record_46 : decode cX6_record 46 = .ok (.isub, 1) := dk_100 (dk_at dksX6_record_1 22 rfl rfl)
theorem dX6_record_47 : decode cX6_record 47 = .ok (.putfield 36, 3) := dk_181 0 36 (dk_at dksX6_record_2 0 rfl rfl)
theorem dX6_record_50 : decode cX6_record 50 = .ok (.aload_n 0, 1) := dk_42 (dk_at dksX6_record_2 3 rfl rfl)
theorem dX6_record_51 : decode cX6_record 51 = .ok (.getfield 7, 3) := dk_180 0 7 (dk_at dksX6_record_2 4 rfl rfl)
theorem dX6_record_54 : decode cX6_record 54 = .ok (.iconst 0, 1) := dk_3 (dk_at dksX6_record_2 7 rfl rfl)
theorem dX6_record_55 : decode cX6_record 55 = .ok (.aload_n 0, 1) := dk_42 (dk_at dksX6_record_2 8 rfl rfl)
theorem dX6_record_56 : decode cX6_record 56 = .ok (.getfield 13, 3) := dk_180 0 13 (dk_at dksX6_record_2 9 rfl rfl)
theorem dX6_record_59 : decode cX6_record 59 = .ok (.aload_n 0, 1) := dk_42 (dk_at dksX6_record_2 12 rfl rfl)
theorem dX6_record_60 : decode cX6_record 60 = .ok (.getfield 36, 3) := dk_180 0 36 (dk_at dksX6_record_2 13 rfl rfl)
theorem dX6_record_63 : decode cX6_record 63 = .ok (.sipush 252, 3) := dk_17 0 252 (dk_at dksX6_record_2 16 rfl rfl)
theorem dX6_record_66 : decode cX6_record 66 = .ok (.imul, 1) := dk_104 (dk_at dksX6_record_2 19 rfl rfl)
theorem dX6_record_67 : decode cX6_record 67 = .ok (.invokestatic 39, 3) := dk_184 0 39 (dk_at dksX6_record_2 20 rfl rfl)
theorem dX6_record_70 : decode cX6_record 70 = .ok (.aload_n 0, 1) := dk_42 (dk_at dksX6_record_2 23 rfl rfl)
theorem dX6_record_71 : decode cX6_record 71 = .ok (.dup, 1) := dk_89 (dk_at dksX6_record_3 0 rfl rfl)
theorem dX6_record_72 : decode cX6_record 72 = .ok (.getfield 36, 3) := dk_180 0 36 (dk_at dksX6_record_3 1 rfl rfl)
theorem dX6_record_75 : decode cX6_record 75 = .ok (.iconst 1, 1) := dk_4 (dk_at dksX6_record_3 4 rfl rfl)
theorem dX6_record_76 : decode cX6_record 76 = .ok (.iadd, 1) := dk_96 (dk_at dksX6_record_3 5 rfl rfl)
theorem dX6_record_77 : decode cX6_record 77 = .ok (.putfield 36, 3) := dk_181 0 36 (dk_at dksX6_record_3 6 rfl rfl)
theorem dX6_record_80 : decode cX6_record 80 = .ok (.return_, 1) := dk_177 (dk_at dksX6_record_3 9 rfl rfl)
def dkwX6_lays_1 : List UInt8 := [132, 4, 1, 167, 255, 233, 177]
abbrev dktX6_lays_1 : List UInt8 := dkwX6_lays_1 ++ []
def dkwX6_lays_0 : List UInt8 := [3, 54, 4, 21, 4, 17, 0, 252, 162, 0, 21, 44, 29, 21, 4, 96, 42, 27, 21, 4, 96, 46, 79]
abbrev dktX6_lays_0 : List UInt8 := dkwX6_lays_0 ++ dktX6_lays_1
theorem dksX6_lays_0 : cX6_lays.data.toList.drop 0 = dktX6_lays_0 := by decide +kernel
theorem dksX6_lays_1 : cX6_lays.data.toList.drop 23 = dktX6_lays_1 := dk_seg dksX6_lays_0 23 rfl rfl
theorem dX6_lays_0 : decode cX6_lays 0 = .ok (.iconst 0, 1) := dk_3 (dk_at dksX6_lays_0 0 rfl rfl)
theorem dX6_lays_1 : decode cX6_lays 1 = .ok (.istore 4, 2) := dk_54 4 (dk_at dksX6_lays_0 1 rfl rfl)
theorem dX6_lays_3 : decode cX6_lays 3 = .ok (.iload 4, 2) := dk_21 4 (dk_at dksX6_lays_0 3 rfl rfl)
theorem dX6_lays_5 : decode cX6_lays 5 = .ok (.sipush 252, 3) := dk_17 0 252 (dk_at dksX6_lays_0 5 rfl rfl)
theorem dX6_lays_8 : decode cX6_lays 8 = .ok (.if_icmp .ge 21, 3) := dk_162 0 21 (dk_at dksX6_lays_0 8 rfl rfl)
theorem dX6_lays_11 : decode cX6_lays 11 = .ok (.aload_n 2, 1) := dk_44 (dk_at dksX6_lays_0 11 rfl rfl)
theorem dX6_lays_12 : decode cX6_lays 12 = .ok (.iload_n 3, 1) := dk_29 (dk_at dksX6_lays_0 12 rfl rfl)
theorem dX6_lays_13 : decode cX6_lays 13 = .ok (.iload 4, 2) := dk_21 4 (dk_at dksX6_lays_0 13 rfl rfl)
theorem dX6_lays_15 : decode cX6_lays 15 = .ok (.iadd, 1) := dk_96 (dk_at dksX6_lays_0 15 rfl rfl)
theorem dX6_lays_16 : decode cX6_lays 16 = .ok (.aload_n 0, 1) := dk_42 (dk_at dksX6_lays_0 16 rfl rfl)
theorem dX6_lays_17 : decode cX6_lays 17 = .ok (.iload_n 1, 1) := dk_27 (dk_at dksX6_lays_0 17 rfl rfl)
theorem dX6_lays_18 : decode cX6_lays 18 = .ok (.iload 4, 2) := dk_21 4 (dk_at dksX6_lays_0 18 rfl rfl)
theorem dX6_lays_20 : decode cX6_lays 20 = .ok (.iadd, 1) := dk_96 (dk_at dksX6_lays_0 20 rfl rfl)
theorem dX6_lays_21 : decode cX6_lays 21 = .ok (.iaload, 1) := dk_46 (dk_at dksX6_lays_0 21 rfl rfl)
theorem dX6_lays_22 : decode cX6_lays 22 = .ok (.iastore, 1) := dk_79 (dk_at dksX6_lays_0 22 rfl rfl)
theorem dX6_lays_23 : decode cX6_lays 23 = .ok (.iinc 4 1, 3) := dk_132 4 1 (dk_at dksX6_lays_1 0 rfl rfl)
theorem dX6_lays_26 : decode cX6_lays 26 = .ok (.goto (-23), 3) := dk_167 255 233 (dk_at dksX6_lays_1 3 rfl rfl)
theorem dX6_lays_29 : decode cX6_lays 29 = .ok (.return_, 1) := dk_177 (dk_at dksX6_lays_1 6 rfl rfl)
def dkwX6_ofZone_0 : List UInt8 := [42, 180, 0, 7, 16, 6, 8, 27, 104, 96, 28, 96, 46, 172]
abbrev dktX6_ofZone_0 : List UInt8 := dkwX6_ofZone_0 ++ []
theorem dksX6_ofZone_0 : cX6_ofZone.data.toList.drop 0 = dktX6_ofZone_0 := by decide +kernel
theorem dX6_ofZone_0 : decode cX6_ofZone 0 = .ok (.aload_n 0, 1) := dk_42 (dk_at dksX6_ofZone_0 0 rfl rfl)
theorem dX6_ofZone_1 : decode cX6_ofZone 1 = .ok (.getfield 7, 3) := dk_180 0 7 (dk_at dksX6_ofZone_0 1 rfl rfl)
theorem dX6_ofZone_4 : decode cX6_ofZone 4 = .ok (.bipush 6, 2) := dk_16 6 (dk_at dksX6_ofZone_0 4 rfl rfl)
theorem dX6_ofZone_6 : decode cX6_ofZone 6 = .ok (.iconst 5, 1) := dk_8 (dk_at dksX6_ofZone_0 6 rfl rfl)
theorem dX6_ofZone_7 : decode cX6_ofZone 7 = .ok (.iload_n 1, 1) := dk_27 (dk_at dksX6_ofZone_0 7 rfl rfl)
theorem dX6_ofZone_8 : decode cX6_ofZone 8 = .ok (.imul, 1) := dk_104 (dk_at dksX6_ofZone_0 8 rfl rfl)
theorem dX6_ofZone_9 : decode cX6_ofZone 9 = .ok (.iadd, 1) := dk_96 (dk_at dksX6_ofZone_0 9 rfl rfl)
theorem dX6_ofZone_10 : decode cX6_ofZone 10 = .ok (.iload_n 2, 1) := dk_28 (dk_at dksX6_ofZone_0 10 rfl rfl)
theorem dX6_ofZone_11 : decode cX6_ofZone 11 = .ok (.iadd, 1) := dk_96 (dk_at dksX6_ofZone_0 11 rfl rfl)
theorem dX6_ofZone_12 : decode cX6_ofZone 12 = .ok (.iaload, 1) := dk_46 (dk_at dksX6_ofZone_0 12 rfl rfl)
theorem dX6_ofZone_13 : decode cX6_ofZone 13 = .ok (.ireturn, 1) := dk_172 (dk_at dksX6_ofZone_0 13 rfl rfl)
def dkwX6_setAges_3 : List UInt8 := [172]
abbrev dktX6_setAges_3 : List UInt8 := dkwX6_setAges_3 ++ []
def dkwX6_setAges_2 : List UInt8 := [42, 27, 4, 182, 0, 50, 54, 4, 42, 27, 4, 28, 182, 0, 25, 42, 27, 5, 29, 182, 0, 25, 21, 4]
abbrev dktX6_setAges_2 : List UInt8 := dkwX6_setAges_2 ++ dktX6_setAges_3
def dkwX6_setAges_1 : List UInt8 := [153, 0, 7, 3, 167, 0, 4, 5, 181, 0, 32, 42, 180, 0, 32, 158, 0, 5, 3, 172, 42, 182, 0, 47]
abbrev dktX6_setAges_1 : List UInt8 := dkwX6_setAges_1 ++ dktX6_setAges_2
def dkwX6_setAges_0 : List UInt8 := [42, 27, 184, 0, 54, 154, 0, 7, 4, 167, 0, 22, 28, 184, 0, 58, 153, 0, 14, 29, 184, 0, 58]
abbrev dktX6_setAges_0 : List UInt8 := dkwX6_setAges_0 ++ dktX6_setAges_1
theorem dksX6_setAges_0 : cX6_setAges.data.toList.drop 0 = dktX6_setAges_0 := by decide +kernel
theorem dksX6_setAges_1 : cX6_setAges.data.toList.drop 23 = dktX6_setAges_1 := dk_seg dksX6_setAges_0 23 rfl rfl
theorem dksX6_setAges_2 : cX6_setAges.data.toList.drop 47 = dktX6_setAges_2 := dk_seg dksX6_setAges_1 24 rfl rfl
theorem dksX6_setAges_3 : cX6_setAges.data.toList.drop 71 = dktX6_setAges_3 := dk_seg dksX6_setAges_2 24 rfl rfl
theorem dX6_setAges_0 : decode cX6_setAges 0 = .ok (.aload_n 0, 1) := dk_42 (dk_at dksX6_setAges_0 0 rfl rfl)
theorem dX6_setAges_1 : decode cX6_setAges 1 = .ok (.iload_n 1, 1) := dk_27 (dk_at dksX6_setAges_0 1 rfl rfl)
theorem dX6_setAges_2 : decode cX6_setAges 2 = .ok (.invokestatic 54, 3) := dk_184 0 54 (dk_at dksX6_setAges_0 2 rfl rfl)
theorem dX6_setAges_5 : decode cX6_setAges 5 = .ok (.ifCond .ne 7, 3) := dk_154 0 7 (dk_at dksX6_setAges_0 5 rfl rfl)
theorem dX6_setAges_8 : decode cX6_setAges 8 = .ok (.iconst 1, 1) := dk_4 (dk_at dksX6_setAges_0 8 rfl rfl)
theorem dX6_setAges_9 : decode cX6_setAges 9 = .ok (.goto 22, 3) := dk_167 0 22 (dk_at dksX6_setAges_0 9 rfl rfl)
theorem dX6_setAges_12 : decode cX6_setAges 12 = .ok (.iload_n 2, 1) := dk_28 (dk_at dksX6_setAges_0 12 rfl rfl)
theorem dX6_setAges_13 : decode cX6_setAges 13 = .ok (.invokestatic 58, 3) := dk_184 0 58 (dk_at dksX6_setAges_0 13 rfl rfl)
theorem dX6_setAges_16 : decode cX6_setAges 16 = .ok (.ifCond .eq 14, 3) := dk_153 0 14 (dk_at dksX6_setAges_0 16 rfl rfl)
theorem dX6_setAges_19 : decode cX6_setAges 19 = .ok (.iload_n 3, 1) := dk_29 (dk_at dksX6_setAges_0 19 rfl rfl)
theorem dX6_setAges_20 : decode cX6_setAges 20 = .ok (.invokestatic 58, 3) := dk_184 0 58 (dk_at dksX6_setAges_0 20 rfl rfl)
theorem dX6_setAges_23 : decode cX6_setAges 23 = .ok (.ifCond .eq 7, 3) := dk_153 0 7 (dk_at dksX6_setAges_1 0 rfl rfl)
theorem dX6_setAges_26 : decode cX6_setAges 26 = .ok (.iconst 0, 1) := dk_3 (dk_at dksX6_setAges_1 3 rfl rfl)
theorem dX6_setAges_27 : decode cX6_setAges 27 = .ok (.goto 4, 3) := dk_167 0 4 (dk_at dksX6_setAges_1 4 rfl rfl)
theorem dX6_setAges_30 : decode cX6_setAges 30 = .ok (.iconst 2, 1) := dk_5 (dk_at dksX6_setAges_1 7 rfl rfl)
theorem dX6_setAges_31 : decode cX6_setAges 31 = .ok (.putfield 32, 3) := dk_181 0 32 (dk_at dksX6_setAges_1 8 rfl rfl)
theorem dX6_setAges_34 : decode cX6_setAges 34 = .ok (.aload_n 0, 1) := dk_42 (dk_at dksX6_setAges_1 11 rfl rfl)
theorem dX6_setAges_35 : decode cX6_setAges 35 = .ok (.getfield 32, 3) := dk_180 0 32 (dk_at dksX6_setAges_1 12 rfl rfl)
theorem dX6_setAges_38 : decode cX6_setAges 38 = .ok (.ifCond .le 5, 3) := dk_158 0 5 (dk_at dksX6_setAges_1 15 rfl rfl)
theorem dX6_setAges_41 : decode cX6_setAges 41 = .ok (.iconst 0, 1) := dk_3 (dk_at dksX6_setAges_1 18 rfl rfl)
theorem dX6_setAges_42 : decode cX6_setAges 42 = .ok (.ireturn, 1) := dk_172 (dk_at dksX6_setAges_1 19 rfl rfl)
theorem dX6_setAges_43 : decode cX6_setAges 43 = .ok (.aload_n 0, 1) := dk_42 (dk_at dksX6_setAges_1 20 rfl rfl)
theorem dX6_setAges_44 : decode cX6_setAges 44 = .ok (.invokevirtual 47, 3) := dk_182 0 47 (dk_at dksX6_setAges_1 21 rfl rfl)
theorem dX6_setAges_47 : decode cX6_setAges 47 = .ok (.aload_n 0, 1) := dk_42 (dk_at dksX6_setAges_2 0 rfl rfl)
theorem dX6_setAges_48 : decode cX6_setAges 48 = .ok (.iload_n 1, 1) := dk_27 (dk_at dksX6_setAges_2 1 rfl rfl)
theorem dX6_setAges_49 : decode cX6_setAges 49 = .ok (.iconst 1, 1) := dk_4 (dk_at dksX6_setAges_2 2 rfl rfl)
theorem dX6_setAges_50 : decode cX6_setAges 50 = .ok (.invokevirtual 50, 3) := dk_182 0 50 (dk_at dksX6_setAges_2 3 rfl rfl)
theorem dX6_setAges_53 : decode cX6_setAges 53 = .ok (.istore 4, 2) := dk_54 4 (dk_at dksX6_setAges_2 6 rfl rfl)
theorem dX6_setAges_55 : decode cX6_setAges 55 = .ok (.aload_n 0, 1) := dk_42 (dk_at dksX6_setAges_2 8 rfl rfl)
theorem dX6_setAges_56 : decode cX6_setAges 56 = .ok (.iload_n 1, 1) := dk_27 (dk_at dksX6_setAges_2 9 rfl rfl)
theorem dX6_setAges_57 : decode cX6_setAges 57 = .ok (.iconst 1, 1) := dk_4 (dk_at dksX6_setAges_2 10 rfl rfl)
theorem dX6_setAges_58 : decode cX6_setAges 58 = .ok (.iload_n 2, 1) := dk_28 (dk_at dksX6_setAges_2 11 rfl rfl)
theorem dX6_setAges_59 : decode cX6_setAges 59 = .ok (.invokevirtual 25, 3) := dk_182 0 25 (dk_at dksX6_setAges_2 12 rfl rfl)
theorem dX6_setAges_62 : decode cX6_setAges 62 = .ok (.aload_n 0, 1) := dk_42 (dk_at dksX6_setAges_2 15 rfl rfl)
theorem dX6_setAges_63 : decode cX6_setAges 63 = .ok (.iload_n 1, 1) := dk_27 (dk_at dksX6_setAges_2 16 rfl rfl)
theorem dX6_setAges_64 : decode cX6_setAges 64 = .ok (.iconst 2, 1) := dk_5 (dk_at dksX6_setAges_2 17 rfl rfl)
theorem dX6_setAges_65 : decode cX6_setAges 65 = .ok (.iload_n 3, 1) := dk_29 (dk_at dksX6_setAges_2 18 rfl rfl)
theorem dX6_setAges_66 : decode cX6_setAges 66 = .ok (.invokevirtual 25, 3) := dk_182 0 25 (dk_at dksX6_setAges_2 19 rfl rfl)
theorem dX6_setAges_69 : decode cX6_setAges 69 = .ok (.iload 4, 2) := dk_21 4 (dk_at dksX6_setAges_2 22 rfl rfl)
theorem dX6_setAges_71 : decode cX6_setAges 71 = .ok (.ireturn, 1) := dk_172 (dk_at dksX6_setAges_3 0 rfl rfl)
def dkwX6_isZone_0 : List UInt8 := [26, 3, 8, 184, 0, 43, 172]
abbrev dktX6_isZone_0 : List UInt8 := dkwX6_isZone_0 ++ []
theorem dksX6_isZone_0 : cX6_isZone.data.toList.drop 0 = dktX6_isZone_0 := by decide +kernel
theorem dX6_isZone_0 : decode cX6_isZone 0 = .ok (.iload_n 0, 1) := dk_26 (dk_at dksX6_isZone_0 0 rfl rfl)
theorem dX6_isZone_1 : decode cX6_isZone 1 = .ok (.iconst 0, 1) := dk_3 (dk_at dksX6_isZone_0 1 rfl rfl)
theorem dX6_isZone_2 : decode cX6_isZone 2 = .ok (.iconst 5, 1) := dk_8 (dk_at dksX6_isZone_0 2 rfl rfl)
theorem dX6_isZone_3 : decode cX6_isZone 3 = .ok (.invokestatic 43, 3) := dk_184 0 43 (dk_at dksX6_isZone_0 3 rfl rfl)
theorem dX6_isZone_6 : decode cX6_isZone 6 = .ok (.ireturn, 1) := dk_172 (dk_at dksX6_isZone_0 6 rfl rfl)
def dkwX6_isAge_0 : List UInt8 := [26, 4, 16, 99, 184, 0, 43, 172]
abbrev dktX6_isAge_0 : List UInt8 := dkwX6_isAge_0 ++ []
theorem dksX6_isAge_0 : cX6_isAge.data.toList.drop 0 = dktX6_isAge_0 := by decide +kernel
theorem dX6_isAge_0 : decode cX6_isAge 0 = .ok (.iload_n 0, 1) := dk_26 (dk_at dksX6_isAge_0 0 rfl rfl)
theorem dX6_isAge_1 : decode cX6_isAge 1 = .ok (.iconst 1, 1) := dk_4 (dk_at dksX6_isAge_0 1 rfl rfl)
theorem dX6_isAge_2 : decode cX6_isAge 2 = .ok (.bipush 99, 2) := dk_16 99 (dk_at dksX6_isAge_0 2 rfl rfl)
theorem dX6_isAge_4 : decode cX6_isAge 4 = .ok (.invokestatic 43, 3) := dk_184 0 43 (dk_at dksX6_isAge_0 4 rfl rfl)
theorem dX6_isAge_7 : decode cX6_isAge 7 = .ok (.ireturn, 1) := dk_172 (dk_at dksX6_isAge_0 7 rfl rfl)
def dkwX6_setAnswer_2 : List UInt8 := [167, 0, 11, 42, 27, 4, 28, 29, 182, 0, 67, 172]
abbrev dktX6_setAnswer_2 : List UInt8 := dkwX6_setAnswer_2 ++ []
def dkwX6_setAnswer_1 : List UInt8 := [184, 0, 58, 153, 0, 7, 3, 167, 0, 4, 5, 181, 0, 32, 42, 180, 0, 32, 158, 0, 7, 3]
abbrev dktX6_setAnswer_1 : List UInt8 := dkwX6_setAnswer_1 ++ dktX6_setAnswer_2
def dkwX6_setAnswer_0 : List UInt8 := [42, 27, 184, 0, 64, 154, 0, 7, 4, 167, 0, 25, 28, 3, 16, 99, 184, 0, 43, 153, 0, 14, 29]
abbrev dktX6_setAnswer_0 : List UInt8 := dkwX6_setAnswer_0 ++ dktX6_setAnswer_1
theorem dksX6_setAnswer_0 : cX6_setAnswer.data.toList.drop 0 = dktX6_setAnswer_0 := by decide +kernel
theorem dksX6_setAnswer_1 : cX6_setAnswer.data.toList.drop 23 = dktX6_setAnswer_1 := dk_seg dksX6_setAnswer_0 23 rfl rfl
theorem dksX6_setAnswer_2 : cX6_setAnswer.data.toList.drop 45 = dktX6_setAnswer_2 := dk_seg dksX6_setAnswer_1 22 rfl rfl
theorem dX6_setAnswer_0 : decode cX6_setAnswer 0 = .ok (.aload_n 0, 1) := dk_42 (dk_at dksX6_setAnswer_0 0 rfl rfl)
theorem dX6_setAnswer_1 : decode cX6_setAnswer 1 = .ok (.iload_n 1, 1) := dk_27 (dk_at dksX6_setAnswer_0 1 rfl rfl)
theorem dX6_setAnswer_2 : decode cX6_setAnswer 2 = .ok (.invokestatic 64, 3) := dk_184 0 64 (dk_at dksX6_setAnswer_0 2 rfl rfl)
theorem dX6_setAnswer_5 : decode cX6_setAnswer 5 = .ok (.ifCond .ne 7, 3) := dk_154 0 7 (dk_at dksX6_setAnswer_0 5 rfl rfl)
theorem dX6_setAnswer_8 : decode cX6_setAnswer 8 = .ok (.iconst 1, 1) := dk_4 (dk_at dksX6_setAnswer_0 8 rfl rfl)
theorem dX6_setAnswer_9 : decode cX6_setAnswer 9 = .ok (.goto 25, 3) := dk_167 0 25 (dk_at dksX6_setAnswer_0 9 rfl rfl)
theorem dX6_setAnswer_12 : decode cX6_setAnswer 12 = .ok (.iload_n 2, 1) := dk_28 (dk_at dksX6_setAnswer_0 12 rfl rfl)
theorem dX6_setAnswer_13 : decode cX6_setAnswer 13 = .ok (.iconst 0, 1) := dk_3 (dk_at dksX6_setAnswer_0 13 rfl rfl)
theorem dX6_setAnswer_14 : decode cX6_setAnswer 14 = .ok (.bipush 99, 2) := dk_16 99 (dk_at dksX6_setAnswer_0 14 rfl rfl)
theorem dX6_setAnswer_16 : decode cX6_setAnswer 16 = .ok (.invokestatic 43, 3) := dk_184 0 43 (dk_at dksX6_setAnswer_0 16 rfl rfl)
theorem dX6_setAnswer_19 : decode cX6_setAnswer 19 = .ok (.ifCond .eq 14, 3) := dk_153 0 14 (dk_at dksX6_setAnswer_0 19 rfl rfl)
theorem dX6_setAnswer_22 : decode cX6_setAnswer 22 = .ok (.iload_n 3, 1) := dk_29 (dk_at dksX6_setAnswer_0 22 rfl rfl)
theorem dX6_setAnswer_23 : decode cX6_setAnswer 23 = .ok (.invokestatic 58, 3) := dk_184 0 58 (dk_at dksX6_setAnswer_1 0 rfl rfl)
theorem dX6_setAnswer_26 : decode cX6_setAnswer 26 = .ok (.ifCond .eq 7, 3) := dk_153 0 7 (dk_at dksX6_setAnswer_1 3 rfl rfl)
theorem dX6_setAnswer_29 : decode cX6_setAnswer 29 = .ok (.iconst 0, 1) := dk_3 (dk_at dksX6_setAnswer_1 6 rfl rfl)
theorem dX6_setAnswer_30 : decode cX6_setAnswer 30 = .ok (.goto 4, 3) := dk_167 0 4 (dk_at dksX6_setAnswer_1 7 rfl rfl)
theorem dX6_setAnswer_33 : decode cX6_setAnswer 33 = .ok (.iconst 2, 1) := dk_5 (dk_at dksX6_setAnswer_1 10 rfl rfl)
theorem dX6_setAnswer_34 : decode cX6_setAnswer 34 = .ok (.putfield 32, 3) := dk_181 0 32 (dk_at dksX6_setAnswer_1 11 rfl rfl)
theorem dX6_setAnswer_37 : decode cX6_setAnswer 37 = .ok (.aload_n 0, 1) := dk_42 (dk_at dksX6_setAnswer_1 14 rfl rfl)
theorem dX6_setAnswer_38 : decode cX6_setAnswer 38 = .ok (.getfield 32, 3) := dk_180 0 32 (dk_at dksX6_setAnswer_1 15 rfl rfl)
theorem dX6_setAnswer_41 : decode cX6_setAnswer 41 = .ok (.ifCond .le 7, 3) := dk_158 0 7 (dk_at dksX6_setAnswer_1 18 rfl rfl)
theorem dX6_setAnswer_44 : decode cX6_setAnswer 44 = .ok (.iconst 0, 1) := dk_3 (dk_at dksX6_setAnswer_1 21 rfl rfl)
theorem dX6_setAnswer_45 : decode cX6_setAnswer 45 = .ok (.goto 11, 3) := dk_167 0 11 (dk_at dksX6_setAnswer_2 0 rfl rfl)
theorem dX6_setAnswer_48 : decode cX6_setAnswer 48 = .ok (.aload_n 0, 1) := dk_42 (dk_at dksX6_setAnswer_2 3 rfl rfl)
theorem dX6_setAnswer_49 : decode cX6_setAnswer 49 = .ok (.iload_n 1, 1) := dk_27 (dk_at dksX6_setAnswer_2 4 rfl rfl)
theorem dX6_setAnswer_50 : decode cX6_setAnswer 50 = .ok (.iconst 1, 1) := dk_4 (dk_at dksX6_setAnswer_2 5 rfl rfl)
theorem dX6_setAnswer_51 : decode cX6_setAnswer 51 = .ok (.iload_n 2, 1) := dk_28 (dk_at dksX6_setAnswer_2 6 rfl rfl)
theorem dX6_setAnswer_52 : decode cX6_setAnswer 52 = .ok (.iload_n 3, 1) := dk_29 (dk_at dksX6_setAnswer_2 7 rfl rfl)
theorem dX6_setAnswer_53 : decode cX6_setAnswer 53 = .ok (.invokevirtual 67, 3) := dk_182 0 67 (dk_at dksX6_setAnswer_2 8 rfl rfl)
theorem dX6_setAnswer_56 : decode cX6_setAnswer 56 = .ok (.ireturn, 1) := dk_172 (dk_at dksX6_setAnswer_2 11 rfl rfl)
def dkwX6_isRiddle_0 : List UInt8 := [26, 3, 16, 35, 184, 0, 43, 172]
abbrev dktX6_isRiddle_0 : List UInt8 := dkwX6_isRiddle_0 ++ []
theorem dksX6_isRiddle_0 : cX6_isRiddle.data.toList.drop 0 = dktX6_isRiddle_0 := by decide +kernel
theorem dX6_isRiddle_0 : decode cX6_isRiddle 0 = .ok (.iload_n 0, 1) := dk_26 (dk_at dksX6_isRiddle_0 0 rfl rfl)
theorem dX6_isRiddle_1 : decode cX6_isRiddle 1 = .ok (.iconst 0, 1) := dk_3 (dk_at dksX6_isRiddle_0 1 rfl rfl)
theorem dX6_isRiddle_2 : decode cX6_isRiddle 2 = .ok (.bipush 35, 2) := dk_16 35 (dk_at dksX6_isRiddle_0 2 rfl rfl)
theorem dX6_isRiddle_4 : decode cX6_isRiddle 4 = .ok (.invokestatic 43, 3) := dk_184 0 43 (dk_at dksX6_isRiddle_0 4 rfl rfl)
theorem dX6_isRiddle_7 : decode cX6_isRiddle 7 = .ok (.ireturn, 1) := dk_172 (dk_at dksX6_isRiddle_0 7 rfl rfl)
def dkwX6_gives_1 : List UInt8 := [182, 0, 29, 42, 27, 5, 21, 4, 182, 0, 29, 21, 5, 172]
abbrev dktX6_gives_1 : List UInt8 := dkwX6_gives_1 ++ []
def dkwX6_gives_0 : List UInt8 := [42, 182, 0, 47, 42, 27, 3, 182, 0, 61, 54, 5, 42, 27, 3, 28, 182, 0, 29, 42, 27, 4, 29]
abbrev dktX6_gives_0 : List UInt8 := dkwX6_gives_0 ++ dktX6_gives_1
theorem dksX6_gives_0 : cX6_gives.data.toList.drop 0 = dktX6_gives_0 := by decide +kernel
theorem dksX6_gives_1 : cX6_gives.data.toList.drop 23 = dktX6_gives_1 := dk_seg dksX6_gives_0 23 rfl rfl
theorem dX6_gives_0 : decode cX6_gives 0 = .ok (.aload_n 0, 1) := dk_42 (dk_at dksX6_gives_0 0 rfl rfl)
theorem dX6_gives_1 : decode cX6_gives 1 = .ok (.invokevirtual 47, 3) := dk_182 0 47 (dk_at dksX6_gives_0 1 rfl rfl)
theorem dX6_gives_4 : decode cX6_gives 4 = .ok (.aload_n 0, 1) := dk_42 (dk_at dksX6_gives_0 4 rfl rfl)
theorem dX6_gives_5 : decode cX6_gives 5 = .ok (.iload_n 1, 1) := dk_27 (dk_at dksX6_gives_0 5 rfl rfl)
theorem dX6_gives_6 : decode cX6_gives 6 = .ok (.iconst 0, 1) := dk_3 (dk_at dksX6_gives_0 6 rfl rfl)
theorem dX6_gives_7 : decode cX6_gives 7 = .ok (.invokevirtual 61, 3) := dk_182 0 61 (dk_at dksX6_gives_0 7 rfl rfl)
theorem dX6_gives_10 : decode cX6_gives 10 = .ok (.istore 5, 2) := dk_54 5 (dk_at dksX6_gives_0 10 rfl rfl)
theorem dX6_gives_12 : decode cX6_gives 12 = .ok (.aload_n 0, 1) := dk_42 (dk_at dksX6_gives_0 12 rfl rfl)
theorem dX6_gives_13 : decode cX6_gives 13 = .ok (.iload_n 1, 1) := dk_27 (dk_at dksX6_gives_0 13 rfl rfl)
theorem dX6_gives_14 : decode cX6_gives 14 = .ok (.iconst 0, 1) := dk_3 (dk_at dksX6_gives_0 14 rfl rfl)
theorem dX6_gives_15 : decode cX6_gives 15 = .ok (.iload_n 2, 1) := dk_28 (dk_at dksX6_gives_0 15 rfl rfl)
theorem dX6_gives_16 : decode cX6_gives 16 = .ok (.invokevirtual 29, 3) := dk_182 0 29 (dk_at dksX6_gives_0 16 rfl rfl)
theorem dX6_gives_19 : decode cX6_gives 19 = .ok (.aload_n 0, 1) := dk_42 (dk_at dksX6_gives_0 19 rfl rfl)
theorem dX6_gives_20 : decode cX6_gives 20 = .ok (.iload_n 1, 1) := dk_27 (dk_at dksX6_gives_0 20 rfl rfl)
theorem dX6_gives_21 : decode cX6_gives 21 = .ok (.iconst 1, 1) := dk_4 (dk_at dksX6_gives_0 21 rfl rfl)
theorem dX6_gives_22 : decode cX6_gives 22 = .ok (.iload_n 3, 1) := dk_29 (dk_at dksX6_gives_0 22 rfl rfl)
theorem dX6_gives_23 : decode cX6_gives 23 = .ok (.invokevirtual 29, 3) := dk_182 0 29 (dk_at dksX6_gives_1 0 rfl rfl)
theorem dX6_gives_26 : decode cX6_gives 26 = .ok (.aload_n 0, 1) := dk_42 (dk_at dksX6_gives_1 3 rfl rfl)
theorem dX6_gives_27 : decode cX6_gives 27 = .ok (.iload_n 1, 1) := dk_27 (dk_at dksX6_gives_1 4 rfl rfl)
theorem dX6_gives_28 : decode cX6_gives 28 = .ok (.iconst 2, 1) := dk_5 (dk_at dksX6_gives_1 5 rfl rfl)
theorem dX6_gives_29 : decode cX6_gives 29 = .ok (.iload 4, 2) := dk_21 4 (dk_at dksX6_gives_1 6 rfl rfl)
theorem dX6_gives_31 : decode cX6_gives 31 = .ok (.invokevirtual 29, 3) := dk_182 0 29 (dk_at dksX6_gives_1 8 rfl rfl)
theorem dX6_gives_34 : decode cX6_gives 34 = .ok (.iload 5, 2) := dk_21 5 (dk_at dksX6_gives_1 11 rfl rfl)
theorem dX6_gives_36 : decode cX6_gives 36 = .ok (.ireturn, 1) := dk_172 (dk_at dksX6_gives_1 13 rfl rfl)
def dkwX6_of_0 : List UInt8 := [42, 180, 0, 7, 16, 36, 16, 6, 27, 104, 96, 28, 96, 46, 172]
abbrev dktX6_of_0 : List UInt8 := dkwX6_of_0 ++ []
theorem dksX6_of_0 : cX6_of.data.toList.drop 0 = dktX6_of_0 := by decide +kernel
theorem dX6_of_0 : decode cX6_of 0 = .ok (.aload_n 0, 1) := dk_42 (dk_at dksX6_of_0 0 rfl rfl)
theorem dX6_of_1 : decode cX6_of 1 = .ok (.getfield 7, 3) := dk_180 0 7 (dk_at dksX6_of_0 1 rfl rfl)
theorem dX6_of_4 : decode cX6_of 4 = .ok (.bipush 36, 2) := dk_16 36 (dk_at dksX6_of_0 4 rfl rfl)
theorem dX6_of_6 : decode cX6_of 6 = .ok (.bipush 6, 2) := dk_16 6 (dk_at dksX6_of_0 6 rfl rfl)
theorem dX6_of_8 : decode cX6_of 8 = .ok (.iload_n 1, 1) := dk_27 (dk_at dksX6_of_0 8 rfl rfl)
theorem dX6_of_9 : decode cX6_of 9 = .ok (.imul, 1) := dk_104 (dk_at dksX6_of_0 9 rfl rfl)
theorem dX6_of_10 : decode cX6_of 10 = .ok (.iadd, 1) := dk_96 (dk_at dksX6_of_0 10 rfl rfl)
theorem dX6_of_11 : decode cX6_of 11 = .ok (.iload_n 2, 1) := dk_28 (dk_at dksX6_of_0 11 rfl rfl)
theorem dX6_of_12 : decode cX6_of 12 = .ok (.iadd, 1) := dk_96 (dk_at dksX6_of_0 12 rfl rfl)
theorem dX6_of_13 : decode cX6_of 13 = .ok (.iaload, 1) := dk_46 (dk_at dksX6_of_0 13 rfl rfl)
theorem dX6_of_14 : decode cX6_of 14 = .ok (.ireturn, 1) := dk_172 (dk_at dksX6_of_0 14 rfl rfl)
def dkwX6_setReference_2 : List UInt8 := [167, 0, 11, 42, 27, 5, 28, 29, 182, 0, 67, 172]
abbrev dktX6_setReference_2 : List UInt8 := dkwX6_setReference_2 ++ []
def dkwX6_setReference_1 : List UInt8 := [29, 184, 0, 58, 153, 0, 7, 3, 167, 0, 4, 5, 181, 0, 32, 42, 180, 0, 32, 158, 0, 7, 3]
abbrev dktX6_setReference_1 : List UInt8 := dkwX6_setReference_1 ++ dktX6_setReference_2
def dkwX6_setReference_0 : List UInt8 := [42, 27, 184, 0, 64, 153, 0, 10, 28, 184, 0, 64, 154, 0, 7, 4, 167, 0, 20, 27, 28, 159, 0, 14]
abbrev dktX6_setReference_0 : List UInt8 := dkwX6_setReference_0 ++ dktX6_setReference_1
theorem dksX6_setReference_0 : cX6_setReference.data.toList.drop 0 = dktX6_setReference_0 := by decide +kernel
theorem dksX6_setReference_1 : cX6_setReference.data.toList.drop 24 = dktX6_setReference_1 := dk_seg dksX6_setReference_0 24 rfl rfl
theorem dksX6_setReference_2 : cX6_setReference.data.toList.drop 47 = dktX6_setReference_2 := dk_seg dksX6_setReference_1 23 rfl rfl
theorem dX6_setReference_0 : decode cX6_setReference 0 = .ok (.aload_n 0, 1) := dk_42 (dk_at dksX6_setReference_0 0 rfl rfl)
theorem dX6_setReference_1 : decode cX6_setReference 1 = .ok (.iload_n 1, 1) := dk_27 (dk_at dksX6_setReference_0 1 rfl rfl)
theorem dX6_setReference_2 : decode cX6_setReference 2 = .ok (.invokestatic 64, 3) := dk_184 0 64 (dk_at dksX6_setReference_0 2 rfl rfl)
theorem dX6_setReference_5 : decode cX6_setReference 5 = .ok (.ifCond .eq 10, 3) := dk_153 0 10 (dk_at dksX6_setReference_0 5 rfl rfl)
theorem dX6_setReference_8 : decode cX6_setReference 8 = .ok (.iload_n 2, 1) := dk_28 (dk_at dksX6_setReference_0 8 rfl rfl)
theorem dX6_setReference_9 : decode cX6_setReference 9 = .ok (.invokestatic 64, 3) := dk_184 0 64 (dk_at dksX6_setReference_0 9 rfl rfl)
theorem dX6_setReference_12 : decode cX6_setReference 12 = .ok (.ifCond .ne 7, 3) := dk_154 0 7 (dk_at dksX6_setReference_0 12 rfl rfl)
theorem dX6_setReference_15 : decode cX6_setReference 15 = .ok (.iconst 1, 1) := dk_4 (dk_at dksX6_setReference_0 15 rfl rfl)
theorem dX6_setReference_16 : decode cX6_setReference 16 = .ok (.goto 20, 3) := dk_167 0 20 (dk_at dksX6_setReference_0 16 rfl rfl)
theorem dX6_setReference_19 : decode cX6_setReference 19 = .ok (.iload_n 1, 1) := dk_27 (dk_at dksX6_setReference_0 19 rfl rfl)
theorem dX6_setReference_20 : decode cX6_setReference 20 = .ok (.iload_n 2, 1) := dk_28 (dk_at dksX6_setReference_0 20 rfl rfl)
theorem dX6_setReference_21 : decode cX6_setReference 21 = .ok (.if_icmp .eq 14, 3) := dk_159 0 14 (dk_at dksX6_setReference_0 21 rfl rfl)
theorem dX6_setReference_24 : decode cX6_setReference 24 = .ok (.iload_n 3, 1) := dk_29 (dk_at dksX6_setReference_1 0 rfl rfl)
theorem dX6_setReference_25 : decode cX6_setReference 25 = .ok (.invokestatic 58, 3) := dk_184 0 58 (dk_at dksX6_setReference_1 1 rfl rfl)
theorem dX6_setReference_28 : decode cX6_setReference 28 = .ok (.ifCond .eq 7, 3) := dk_153 0 7 (dk_at dksX6_setReference_1 4 rfl rfl)
theorem dX6_setReference_31 : decode cX6_setReference 31 = .ok (.iconst 0, 1) := dk_3 (dk_at dksX6_setReference_1 7 rfl rfl)
theorem dX6_setReference_32 : decode cX6_setReference 32 = .ok (.goto 4, 3) := dk_167 0 4 (dk_at dksX6_setReference_1 8 rfl rfl)
theorem dX6_setReference_35 : decode cX6_setReference 35 = .ok (.iconst 2, 1) := dk_5 (dk_at dksX6_setReference_1 11 rfl rfl)
theorem dX6_setReference_36 : decode cX6_setReference 36 = .ok (.putfield 32, 3) := dk_181 0 32 (dk_at dksX6_setReference_1 12 rfl rfl)
theorem dX6_setReference_39 : decode cX6_setReference 39 = .ok (.aload_n 0, 1) := dk_42 (dk_at dksX6_setReference_1 15 rfl rfl)
theorem dX6_setReference_40 : decode cX6_setReference 40 = .ok (.getfield 32, 3) := dk_180 0 32 (dk_at dksX6_setReference_1 16 rfl rfl)
theorem dX6_setReference_43 : decode cX6_setReference 43 = .ok (.ifCond .le 7, 3) := dk_158 0 7 (dk_at dksX6_setReference_1 19 rfl rfl)
theorem dX6_setReference_46 : decode cX6_setReference 46 = .ok (.iconst 0, 1) := dk_3 (dk_at dksX6_setReference_1 22 rfl rfl)
theorem dX6_setReference_47 : decode cX6_setReference 47 = .ok (.goto 11, 3) := dk_167 0 11 (dk_at dksX6_setReference_2 0 rfl rfl)
theorem dX6_setReference_50 : decode cX6_setReference 50 = .ok (.aload_n 0, 1) := dk_42 (dk_at dksX6_setReference_2 3 rfl rfl)
theorem dX6_setReference_51 : decode cX6_setReference 51 = .ok (.iload_n 1, 1) := dk_27 (dk_at dksX6_setReference_2 4 rfl rfl)
theorem dX6_setReference_52 : decode cX6_setReference 52 = .ok (.iconst 2, 1) := dk_5 (dk_at dksX6_setReference_2 5 rfl rfl)
theorem dX6_setReference_53 : decode cX6_setReference 53 = .ok (.iload_n 2, 1) := dk_28 (dk_at dksX6_setReference_2 6 rfl rfl)
theorem dX6_setReference_54 : decode cX6_setReference 54 = .ok (.iload_n 3, 1) := dk_29 (dk_at dksX6_setReference_2 7 rfl rfl)
theorem dX6_setReference_55 : decode cX6_setReference 55 = .ok (.invokevirtual 67, 3) := dk_182 0 67 (dk_at dksX6_setReference_2 8 rfl rfl)
theorem dX6_setReference_58 : decode cX6_setReference 58 = .ok (.ireturn, 1) := dk_172 (dk_at dksX6_setReference_2 11 rfl rfl)
def dkwX6_takeAway_2 : List UInt8 := [182, 0, 67, 172]
abbrev dktX6_takeAway_2 : List UInt8 := dkwX6_takeAway_2 ++ []
def dkwX6_takeAway_1 : List UInt8 := [167, 0, 4, 3, 181, 0, 32, 42, 180, 0, 32, 158, 0, 7, 3, 167, 0, 11, 42, 27, 3, 2, 3]
abbrev dktX6_takeAway_1 : List UInt8 := dkwX6_takeAway_1 ++ dktX6_takeAway_2
def dkwX6_takeAway_0 : List UInt8 := [42, 27, 184, 0, 64, 154, 0, 7, 4, 167, 0, 17, 42, 27, 3, 182, 0, 61, 154, 0, 7, 5]
abbrev dktX6_takeAway_0 : List UInt8 := dkwX6_takeAway_0 ++ dktX6_takeAway_1
theorem dksX6_takeAway_0 : cX6_takeAway.data.toList.drop 0 = dktX6_takeAway_0 := by decide +kernel
theorem dksX6_takeAway_1 : cX6_takeAway.data.toList.drop 22 = dktX6_takeAway_1 := dk_seg dksX6_takeAway_0 22 rfl rfl
theorem dksX6_takeAway_2 : cX6_takeAway.data.toList.drop 45 = dktX6_takeAway_2 := dk_seg dksX6_takeAway_1 23 rfl rfl
theorem dX6_takeAway_0 : decode cX6_takeAway 0 = .ok (.aload_n 0, 1) := dk_42 (dk_at dksX6_takeAway_0 0 rfl rfl)
theorem dX6_takeAway_1 : decode cX6_takeAway 1 = .ok (.iload_n 1, 1) := dk_27 (dk_at dksX6_takeAway_0 1 rfl rfl)
theorem dX6_takeAway_2 : decode cX6_takeAway 2 = .ok (.invokestatic 64, 3) := dk_184 0 64 (dk_at dksX6_takeAway_0 2 rfl rfl)
theorem dX6_takeAway_5 : decode cX6_takeAway 5 = .ok (.ifCond .ne 7, 3) := dk_154 0 7 (dk_at dksX6_takeAway_0 5 rfl rfl)
theorem dX6_takeAway_8 : decode cX6_takeAway 8 = .ok (.iconst 1, 1) := dk_4 (dk_at dksX6_takeAway_0 8 rfl rfl)
theorem dX6_takeAway_9 : decode cX6_takeAway 9 = .ok (.goto 17, 3) := dk_167 0 17 (dk_at dksX6_takeAway_0 9 rfl rfl)
theorem dX6_takeAway_12 : decode cX6_takeAway 12 = .ok (.aload_n 0, 1) := dk_42 (dk_at dksX6_takeAway_0 12 rfl rfl)
theorem dX6_takeAway_13 : decode cX6_takeAway 13 = .ok (.iload_n 1, 1) := dk_27 (dk_at dksX6_takeAway_0 13 rfl rfl)
theorem dX6_takeAway_14 : decode cX6_takeAway 14 = .ok (.iconst 0, 1) := dk_3 (dk_at dksX6_takeAway_0 14 rfl rfl)
theorem dX6_takeAway_15 : decode cX6_takeAway 15 = .ok (.invokevirtual 61, 3) := dk_182 0 61 (dk_at dksX6_takeAway_0 15 rfl rfl)
theorem dX6_takeAway_18 : decode cX6_takeAway 18 = .ok (.ifCond .ne 7, 3) := dk_154 0 7 (dk_at dksX6_takeAway_0 18 rfl rfl)
theorem dX6_takeAway_21 : decode cX6_takeAway 21 = .ok (.iconst 2, 1) := dk_5 (dk_at dksX6_takeAway_0 21 rfl rfl)
theorem dX6_takeAway_22 : decode cX6_takeAway 22 = .ok (.goto 4, 3) := dk_167 0 4 (dk_at dksX6_takeAway_1 0 rfl rfl)
theorem dX6_takeAway_25 : decode cX6_takeAway 25 = .ok (.iconst 0, 1) := dk_3 (dk_at dksX6_takeAway_1 3 rfl rfl)
theorem dX6_takeAway_26 : decode cX6_takeAway 26 = .ok (.putfield 32, 3) := dk_181 0 32 (dk_at dksX6_takeAway_1 4 rfl rfl)
theorem dX6_takeAway_29 : decode cX6_takeAway 29 = .ok (.aload_n 0, 1) := dk_42 (dk_at dksX6_takeAway_1 7 rfl rfl)
theorem dX6_takeAway_30 : decode cX6_takeAway 30 = .ok (.getfield 32, 3) := dk_180 0 32 (dk_at dksX6_takeAway_1 8 rfl rfl)
theorem dX6_takeAway_33 : decode cX6_takeAway 33 = .ok (.ifCond .le 7, 3) := dk_158 0 7 (dk_at dksX6_takeAway_1 11 rfl rfl)
theorem dX6_takeAway_36 : decode cX6_takeAway 36 = .ok (.iconst 0, 1) := dk_3 (dk_at dksX6_takeAway_1 14 rfl rfl)
theorem dX6_takeAway_37 : decode cX6_takeAway 37 = .ok (.goto 11, 3) := dk_167 0 11 (dk_at dksX6_takeAway_1 15 rfl rfl)
theorem dX6_takeAway_40 : decode cX6_takeAway 40 = .ok (.aload_n 0, 1) := dk_42 (dk_at dksX6_takeAway_1 18 rfl rfl)
theorem dX6_takeAway_41 : decode cX6_takeAway 41 = .ok (.iload_n 1, 1) := dk_27 (dk_at dksX6_takeAway_1 19 rfl rfl)
theorem dX6_takeAway_42 : decode cX6_takeAway 42 = .ok (.iconst 0, 1) := dk_3 (dk_at dksX6_takeAway_1 20 rfl rfl)
theorem dX6_takeAway_43 : decode cX6_takeAway 43 = .ok (.iconst (-1), 1) := dk_2 (dk_at dksX6_takeAway_1 21 rfl rfl)
theorem dX6_takeAway_44 : decode cX6_takeAway 44 = .ok (.iconst 0, 1) := dk_3 (dk_at dksX6_takeAway_1 22 rfl rfl)
theorem dX6_takeAway_45 : decode cX6_takeAway 45 = .ok (.invokevirtual 67, 3) := dk_182 0 67 (dk_at dksX6_takeAway_2 0 rfl rfl)
theorem dX6_takeAway_48 : decode cX6_takeAway 48 = .ok (.ireturn, 1) := dk_172 (dk_at dksX6_takeAway_2 3 rfl rfl)
def dkwX6_solve_1 : List UInt8 := [172, 42, 182, 0, 47, 42, 27, 182, 0, 85, 172]
abbrev dktX6_solve_1 : List UInt8 := dkwX6_solve_1 ++ []
def dkwX6_solve_0 : List UInt8 := [42, 27, 184, 0, 64, 153, 0, 7, 3, 167, 0, 4, 4, 181, 0, 32, 42, 180, 0, 32, 158, 0, 5, 3]
abbrev dktX6_solve_0 : List UInt8 := dkwX6_solve_0 ++ dktX6_solve_1
theorem dksX6_solve_0 : cX6_solve.data.toList.drop 0 = dktX6_solve_0 := by decide +kernel
theorem dksX6_solve_1 : cX6_solve.data.toList.drop 24 = dktX6_solve_1 := dk_seg dksX6_solve_0 24 rfl rfl
theorem dX6_solve_0 : decode cX6_solve 0 = .ok (.aload_n 0, 1) := dk_42 (dk_at dksX6_solve_0 0 rfl rfl)
theorem dX6_solve_1 : decode cX6_solve 1 = .ok (.iload_n 1, 1) := dk_27 (dk_at dksX6_solve_0 1 rfl rfl)
theorem dX6_solve_2 : decode cX6_solve 2 = .ok (.invokestatic 64, 3) := dk_184 0 64 (dk_at dksX6_solve_0 2 rfl rfl)
theorem dX6_solve_5 : decode cX6_solve 5 = .ok (.ifCond .eq 7, 3) := dk_153 0 7 (dk_at dksX6_solve_0 5 rfl rfl)
theorem dX6_solve_8 : decode cX6_solve 8 = .ok (.iconst 0, 1) := dk_3 (dk_at dksX6_solve_0 8 rfl rfl)
theorem dX6_solve_9 : decode cX6_solve 9 = .ok (.goto 4, 3) := dk_167 0 4 (dk_at dksX6_solve_0 9 rfl rfl)
theorem dX6_solve_12 : decode cX6_solve 12 = .ok (.iconst 1, 1) := dk_4 (dk_at dksX6_solve_0 12 rfl rfl)
theorem dX6_solve_13 : decode cX6_solve 13 = .ok (.putfield 32, 3) := dk_181 0 32 (dk_at dksX6_solve_0 13 rfl rfl)
theorem dX6_solve_16 : decode cX6_solve 16 = .ok (.aload_n 0, 1) := dk_42 (dk_at dksX6_solve_0 16 rfl rfl)
theorem dX6_solve_17 : decode cX6_solve 17 = .ok (.getfield 32, 3) := dk_180 0 32 (dk_at dksX6_solve_0 17 rfl rfl)
theorem dX6_solve_20 : decode cX6_solve 20 = .ok (.ifCond .le 5, 3) := dk_158 0 5 (dk_at dksX6_solve_0 20 rfl rfl)
theorem dX6_solve_23 : decode cX6_solve 23 = .ok (.iconst 0, 1) := dk_3 (dk_at dksX6_solve_0 23 rfl rfl)
theorem dX6_solve_24 : decode cX6_solve 24 = .ok (.ireturn, 1) := dk_172 (dk_at dksX6_solve_1 0 rfl rfl)
theorem dX6_solve_25 : decode cX6_solve 25 = .ok (.aload_n 0, 1) := dk_42 (dk_at dksX6_solve_1 1 rfl rfl)
theorem dX6_solve_26 : decode cX6_solve 26 = .ok (.invokevirtual 47, 3) := dk_182 0 47 (dk_at dksX6_solve_1 2 rfl rfl)
theorem dX6_solve_29 : decode cX6_solve 29 = .ok (.aload_n 0, 1) := dk_42 (dk_at dksX6_solve_1 5 rfl rfl)
theorem dX6_solve_30 : decode cX6_solve 30 = .ok (.iload_n 1, 1) := dk_27 (dk_at dksX6_solve_1 6 rfl rfl)
theorem dX6_solve_31 : decode cX6_solve 31 = .ok (.invokevirtual 85, 3) := dk_182 0 85 (dk_at dksX6_solve_1 7 rfl rfl)
theorem dX6_solve_34 : decode cX6_solve 34 = .ok (.ireturn, 1) := dk_172 (dk_at dksX6_solve_1 10 rfl rfl)
def dkwX6_solvesFirst_0 : List UInt8 := [42, 180, 0, 7, 4, 92, 46, 4, 96, 79, 42, 27, 182, 0, 81, 172]
abbrev dktX6_solvesFirst_0 : List UInt8 := dkwX6_solvesFirst_0 ++ []
theorem dksX6_solvesFirst_0 : cX6_solvesFirst.data.toList.drop 0 = dktX6_solvesFirst_0 := by decide +kernel
theorem dX6_solvesFirst_0 : decode cX6_solvesFirst 0 = .ok (.aload_n 0, 1) := dk_42 (dk_at dksX6_solvesFirst_0 0 rfl rfl)
theorem dX6_solvesFirst_1 : decode cX6_solvesFirst 1 = .ok (.getfield 7, 3) := dk_180 0 7 (dk_at dksX6_solvesFirst_0 1 rfl rfl)
theorem dX6_solvesFirst_4 : decode cX6_solvesFirst 4 = .ok (.iconst 1, 1) := dk_4 (dk_at dksX6_solvesFirst_0 4 rfl rfl)
theorem dX6_solvesFirst_5 : decode cX6_solvesFirst 5 = .ok (.dup2, 1) := dk_92 (dk_at dksX6_solvesFirst_0 5 rfl rfl)
theorem dX6_solvesFirst_6 : decode cX6_solvesFirst 6 = .ok (.iaload, 1) := dk_46 (dk_at dksX6_solvesFirst_0 6 rfl rfl)
theorem dX6_solvesFirst_7 : decode cX6_solvesFirst 7 = .ok (.iconst 1, 1) := dk_4 (dk_at dksX6_solvesFirst_0 7 rfl rfl)
theorem dX6_solvesFirst_8 : decode cX6_solvesFirst 8 = .ok (.iadd, 1) := dk_96 (dk_at dksX6_solvesFirst_0 8 rfl rfl)
theorem dX6_solvesFirst_9 : decode cX6_solvesFirst 9 = .ok (.iastore, 1) := dk_79 (dk_at dksX6_solvesFirst_0 9 rfl rfl)
theorem dX6_solvesFirst_10 : decode cX6_solvesFirst 10 = .ok (.aload_n 0, 1) := dk_42 (dk_at dksX6_solvesFirst_0 10 rfl rfl)
theorem dX6_solvesFirst_11 : decode cX6_solvesFirst 11 = .ok (.iload_n 1, 1) := dk_27 (dk_at dksX6_solvesFirst_0 11 rfl rfl)
theorem dX6_solvesFirst_12 : decode cX6_solvesFirst 12 = .ok (.invokevirtual 81, 3) := dk_182 0 81 (dk_at dksX6_solvesFirst_0 12 rfl rfl)
theorem dX6_solvesFirst_15 : decode cX6_solvesFirst 15 = .ok (.ireturn, 1) := dk_172 (dk_at dksX6_solvesFirst_0 15 rfl rfl)
def dkwX6_solves_3 : List UInt8 := [16, 254, 172, 132, 3, 1, 42, 28, 7, 182, 0, 61, 61, 167, 255, 179]
abbrev dktX6_solves_3 : List UInt8 := dkwX6_solves_3 ++ []
def dkwX6_solves_2 : List UInt8 := [182, 0, 61, 4, 160, 0, 12, 42, 28, 7, 182, 0, 61, 167, 0, 4, 2, 172, 29, 16, 6, 160, 0, 6]
abbrev dktX6_solves_2 : List UInt8 := dkwX6_solves_2 ++ dktX6_solves_3
def dkwX6_solves_1 : List UInt8 := [180, 0, 7, 6, 92, 46, 4, 96, 79, 42, 28, 6, 182, 0, 61, 5, 159, 0, 24, 42, 28, 6]
abbrev dktX6_solves_1 : List UInt8 := dkwX6_solves_1 ++ dktX6_solves_2
def dkwX6_solves_0 : List UInt8 := [27, 61, 3, 62, 42, 28, 6, 182, 0, 61, 154, 0, 11, 42, 28, 182, 0, 78, 167, 0, 13, 42]
abbrev dktX6_solves_0 : List UInt8 := dkwX6_solves_0 ++ dktX6_solves_1
theorem dksX6_solves_0 : cX6_solves.data.toList.drop 0 = dktX6_solves_0 := by decide +kernel
theorem dksX6_solves_1 : cX6_solves.data.toList.drop 22 = dktX6_solves_1 := dk_seg dksX6_solves_0 22 rfl rfl
theorem dksX6_solves_2 : cX6_solves.data.toList.drop 44 = dktX6_solves_2 := dk_seg dksX6_solves_1 22 rfl rfl
theorem dksX6_solves_3 : cX6_solves.data.toList.drop 68 = dktX6_solves_3 := dk_seg dksX6_solves_2 24 rfl rfl
theorem dX6_solves_0 : decode cX6_solves 0 = .ok (.iload_n 1, 1) := dk_27 (dk_at dksX6_solves_0 0 rfl rfl)
theorem dX6_solves_1 : decode cX6_solves 1 = .ok (.istore_n 2, 1) := dk_61 (dk_at dksX6_solves_0 1 rfl rfl)
theorem dX6_solves_2 : decode cX6_solves 2 = .ok (.iconst 0, 1) := dk_3 (dk_at dksX6_solves_0 2 rfl rfl)
theorem dX6_solves_3 : decode cX6_solves 3 = .ok (.istore_n 3, 1) := dk_62 (dk_at dksX6_solves_0 3 rfl rfl)
theorem dX6_solves_4 : decode cX6_solves 4 = .ok (.aload_n 0, 1) := dk_42 (dk_at dksX6_solves_0 4 rfl rfl)
theorem dX6_solves_5 : decode cX6_solves 5 = .ok (.iload_n 2, 1) := dk_28 (dk_at dksX6_solves_0 5 rfl rfl)
theorem dX6_solves_6 : decode cX6_solves 6 = .ok (.iconst 3, 1) := dk_6 (dk_at dksX6_solves_0 6 rfl rfl)
theorem dX6_solves_7 : decode cX6_solves 7 = .ok (.invokevirtual 61, 3) := dk_182 0 61 (dk_at dksX6_solves_0 7 rfl rfl)
theorem dX6_solves_10 : decode cX6_solves 10 = .ok (.ifCond .ne 11, 3) := dk_154 0 11 (dk_at dksX6_solves_0 10 rfl rfl)
theorem dX6_solves_13 : decode cX6_solves 13 = .ok (.aload_n 0, 1) := dk_42 (dk_at dksX6_solves_0 13 rfl rfl)
theorem dX6_solves_14 : decode cX6_solves 14 = .ok (.iload_n 2, 1) := dk_28 (dk_at dksX6_solves_0 14 rfl rfl)
theorem dX6_solves_15 : decode cX6_solves 15 = .ok (.invokevirtual 78, 3) := dk_182 0 78 (dk_at dksX6_solves_0 15 rfl rfl)
theorem dX6_solves_18 : decode cX6_solves 18 = .ok (.goto 13, 3) := dk_167 0 13 (dk_at dksX6_solves_0 18 rfl rfl)
theorem dX6_solves_21 : decode cX6_solves 21 = .ok (.aload_n 0, 1) := dk_42 (dk_at dksX6_solves_0 21 rfl rfl)
theorem dX6_solves_22 : decode cX6_solves 22 = .ok (.getfield 7, 3) := dk_180 0 7 (dk_at dksX6_solves_1 0 rfl rfl)
theorem dX6_solves_25 : decode cX6_solves 25 = .ok (.iconst 3, 1) := dk_6 (dk_at dksX6_solves_1 3 rfl rfl)
theorem dX6_solves_26 : decode cX6_solves 26 = .ok (.dup2, 1) := dk_92 (dk_at dksX6_solves_1 4 rfl rfl)
theorem dX6_solves_27 : decode cX6_solves 27 = .ok (.iaload, 1) := dk_46 (dk_at dksX6_solves_1 5 rfl rfl)
theorem dX6_solves_28 : decode cX6_solves 28 = .ok (.iconst 1, 1) := dk_4 (dk_at dksX6_solves_1 6 rfl rfl)
theorem dX6_solves_29 : decode cX6_solves 29 = .ok (.iadd, 1) := dk_96 (dk_at dksX6_solves_1 7 rfl rfl)
theorem dX6_solves_30 : decode cX6_solves 30 = .ok (.iastore, 1) := dk_79 (dk_at dksX6_solves_1 8 rfl rfl)
theorem dX6_solves_31 : decode cX6_solves 31 = .ok (.aload_n 0, 1) := dk_42 (dk_at dksX6_solves_1 9 rfl rfl)
theorem dX6_solves_32 : decode cX6_solves 32 = .ok (.iload_n 2, 1) := dk_28 (dk_at dksX6_solves_1 10 rfl rfl)
theorem dX6_solves_33 : decode cX6_solves 33 = .ok (.iconst 3, 1) := dk_6 (dk_at dksX6_solves_1 11 rfl rfl)
theorem dX6_solves_34 : decode cX6_solves 34 = .ok (.invokevirtual 61, 3) := dk_182 0 61 (dk_at dksX6_solves_1 12 rfl rfl)
theorem dX6_solves_37 : decode cX6_solves 37 = .ok (.iconst 2, 1) := dk_5 (dk_at dksX6_solves_1 15 rfl rfl)
theorem dX6_solves_38 : decode cX6_solves 38 = .ok (.if_icmp .eq 24, 3) := dk_159 0 24 (dk_at dksX6_solves_1 16 rfl rfl)
theorem dX6_solves_41 : decode cX6_solves 41 = .ok (.aload_n 0, 1) := dk_42 (dk_at dksX6_solves_1 19 rfl rfl)
theorem dX6_solves_42 : decode cX6_solves 42 = .ok (.iload_n 2, 1) := dk_28 (dk_at dksX6_solves_1 20 rfl rfl)
theorem dX6_solves_43 : decode cX6_solves 43 = .ok (.iconst 3, 1) := dk_6 (dk_at dksX6_solves_1 21 rfl rfl)
theorem dX6_solves_44 : decode cX6_solves 44 = .ok (.invokevirtual 61, 3) := dk_182 0 61 (dk_at dksX6_solves_2 0 rfl rfl)
theorem dX6_solves_47 : decode cX6_solves 47 = .ok (.iconst 1, 1) := dk_4 (dk_at dksX6_solves_2 3 rfl rfl)
theorem dX6_solves_48 : decode cX6_solves 48 = .ok (.if_icmp .ne 12, 3) := dk_160 0 12 (dk_at dksX6_solves_2 4 rfl rfl)
theorem dX6_solves_51 : decode cX6_solves 51 = .ok (.aload_n 0, 1) := dk_42 (dk_at dksX6_solves_2 7 rfl rfl)
theorem dX6_solves_52 : decode cX6_solves 52 = .ok (.iload_n 2, 1) := dk_28 (dk_at dksX6_solves_2 8 rfl rfl)
theorem dX6_solves_53 : decode cX6_solves 53 = .ok (.iconst 4, 1) := dk_7 (dk_at dksX6_solves_2 9 rfl rfl)
theorem dX6_solves_54 : decode cX6_solves 54 = .ok (.invokevirtual 61, 3) := dk_182 0 61 (dk_at dksX6_solves_2 10 rfl rfl)
theorem dX6_solves_57 : decode cX6_solves 57 = .ok (.goto 4, 3) := dk_167 0 4 (dk_at dksX6_solves_2 13 rfl rfl)
theorem dX6_solves_60 : decode cX6_solves 60 = .ok (.iconst (-1), 1) := dk_2 (dk_at dksX6_solves_2 16 rfl rfl)
theorem dX6_solves_61 : decode cX6_solves 61 = .ok (.ireturn, 1) := dk_172 (dk_at dksX6_solves_2 17 rfl rfl)
theorem dX6_solves_62 : decode cX6_solves 62 = .ok (.iload_n 3, 1) := dk_29 (dk_at dksX6_solves_2 18 rfl rfl)
theorem dX6_solves_63 : decode cX6_solves 63 = .ok (.bipush 6, 2) := dk_16 6 (dk_at dksX6_solves_2 19 rfl rfl)
theorem dX6_solves_65 : decode cX6_solves 65 = .ok (.if_icmp .ne 6, 3) := dk_160 0 6 (dk_at dksX6_solves_2 21 rfl rfl)
theorem dX6_solves_68 : decode cX6_solves 68 = .ok (.bipush (-2), 2) := dk_16 254 (dk_at dksX6_solves_3 0 rfl rfl)
theorem dX6_solves_70 : decode cX6_solves 70 = .ok (.ireturn, 1) := dk_172 (dk_at dksX6_solves_3 2 rfl rfl)
theorem dX6_solves_71 : decode cX6_solves 71 = .ok (.iinc 3 1, 3) := dk_132 3 1 (dk_at dksX6_solves_3 3 rfl rfl)
theorem dX6_solves_74 : decode cX6_solves 74 = .ok (.aload_n 0, 1) := dk_42 (dk_at dksX6_solves_3 6 rfl rfl)
theorem dX6_solves_75 : decode cX6_solves 75 = .ok (.iload_n 2, 1) := dk_28 (dk_at dksX6_solves_3 7 rfl rfl)
theorem dX6_solves_76 : decode cX6_solves 76 = .ok (.iconst 4, 1) := dk_7 (dk_at dksX6_solves_3 8 rfl rfl)
theorem dX6_solves_77 : decode cX6_solves 77 = .ok (.invokevirtual 61, 3) := dk_182 0 61 (dk_at dksX6_solves_3 9 rfl rfl)
theorem dX6_solves_80 : decode cX6_solves 80 = .ok (.istore_n 2, 1) := dk_61 (dk_at dksX6_solves_3 12 rfl rfl)
theorem dX6_solves_81 : decode cX6_solves 81 = .ok (.goto (-77), 3) := dk_167 255 179 (dk_at dksX6_solves_3 13 rfl rfl)
def dkwX6_asks_4 : List UInt8 := [180, 0, 7, 7, 92, 46, 4, 96, 79, 177]
abbrev dktX6_asks_4 : List UInt8 := dkwX6_asks_4 ++ []
def dkwX6_asks_3 : List UInt8 := [29, 153, 0, 12, 42, 27, 5, 182, 0, 61, 167, 0, 9, 42, 28, 5, 182, 0, 50, 96, 182, 0, 29, 42]
abbrev dktX6_asks_3 : List UInt8 := dkwX6_asks_3 ++ dktX6_asks_4
def dkwX6_asks_2 : List UInt8 := [182, 0, 29, 42, 27, 7, 42, 27, 4, 182, 0, 61, 182, 0, 29, 42, 27, 8, 42, 180, 0, 7, 3, 46]
abbrev dktX6_asks_2 : List UInt8 := dkwX6_asks_2 ++ dktX6_asks_3
def dkwX6_asks_1 : List UInt8 := [4, 167, 0, 4, 3, 62, 42, 27, 6, 29, 153, 0, 12, 42, 27, 3, 182, 0, 61, 167, 0, 4, 6]
abbrev dktX6_asks_1 : List UInt8 := dkwX6_asks_1 ++ dktX6_asks_2
def dkwX6_asks_0 : List UInt8 := [27, 16, 6, 108, 61, 42, 28, 182, 0, 75, 42, 28, 182, 0, 71, 42, 27, 3, 182, 0, 61, 153, 0, 7]
abbrev dktX6_asks_0 : List UInt8 := dkwX6_asks_0 ++ dktX6_asks_1
theorem dksX6_asks_0 : cX6_asks.data.toList.drop 0 = dktX6_asks_0 := by decide +kernel
theorem dksX6_asks_1 : cX6_asks.data.toList.drop 24 = dktX6_asks_1 := dk_seg dksX6_asks_0 24 rfl rfl
theorem dksX6_asks_2 : cX6_asks.data.toList.drop 47 = dktX6_asks_2 := dk_seg dksX6_asks_1 23 rfl rfl
theorem dksX6_asks_3 : cX6_asks.data.toList.drop 71 = dktX6_asks_3 := dk_seg dksX6_asks_2 24 rfl rfl
theorem dksX6_asks_4 : cX6_asks.data.toList.drop 95 = dktX6_asks_4 := dk_seg dksX6_asks_3 24 rfl rfl
theorem dX6_asks_0 : decode cX6_asks 0 = .ok (.iload_n 1, 1) := dk_27 (dk_at dksX6_asks_0 0 rfl rfl)
theorem dX6_asks_1 : decode cX6_asks 1 = .ok (.bipush 6, 2) := dk_16 6 (dk_at dksX6_asks_0 1 rfl rfl)
theorem dX6_asks_3 : decode cX6_asks 3 = .ok (.idiv, 1) := dk_108 (dk_at dksX6_asks_0 3 rfl rfl)
theorem dX6_asks_4 : decode cX6_asks 4 = .ok (.istore_n 2, 1) := dk_61 (dk_at dksX6_asks_0 4 rfl rfl)
theorem dX6_asks_5 : decode cX6_asks 5 = .ok (.aload_n 0, 1) := dk_42 (dk_at dksX6_asks_0 5 rfl rfl)
theorem dX6_asks_6 : decode cX6_asks 6 = .ok (.iload_n 2, 1) := dk_28 (dk_at dksX6_asks_0 6 rfl rfl)
theorem dX6_asks_7 : decode cX6_asks 7 = .ok (.invokevirtual 75, 3) := dk_182 0 75 (dk_at dksX6_asks_0 7 rfl rfl)
theorem dX6_asks_10 : decode cX6_asks 10 = .ok (.aload_n 0, 1) := dk_42 (dk_at dksX6_asks_0 10 rfl rfl)
theorem dX6_asks_11 : decode cX6_asks 11 = .ok (.iload_n 2, 1) := dk_28 (dk_at dksX6_asks_0 11 rfl rfl)
theorem dX6_asks_12 : decode cX6_asks 12 = .ok (.invokevirtual 71, 3) := dk_182 0 71 (dk_at dksX6_asks_0 12 rfl rfl)
theorem dX6_asks_15 : decode cX6_asks 15 = .ok (.aload_n 0, 1) := dk_42 (dk_at dksX6_asks_0 15 rfl rfl)
theorem dX6_asks_16 : decode cX6_asks 16 = .ok (.iload_n 1, 1) := dk_27 (dk_at dksX6_asks_0 16 rfl rfl)
theorem dX6_asks_17 : decode cX6_asks 17 = .ok (.iconst 0, 1) := dk_3 (dk_at dksX6_asks_0 17 rfl rfl)
theorem dX6_asks_18 : decode cX6_asks 18 = .ok (.invokevirtual 61, 3) := dk_182 0 61 (dk_at dksX6_asks_0 18 rfl rfl)
theorem dX6_asks_21 : decode cX6_asks 21 = .ok (.ifCond .eq 7, 3) := dk_153 0 7 (dk_at dksX6_asks_0 21 rfl rfl)
theorem dX6_asks_24 : decode cX6_asks 24 = .ok (.iconst 1, 1) := dk_4 (dk_at dksX6_asks_1 0 rfl rfl)
theorem dX6_asks_25 : decode cX6_asks 25 = .ok (.goto 4, 3) := dk_167 0 4 (dk_at dksX6_asks_1 1 rfl rfl)
theorem dX6_asks_28 : decode cX6_asks 28 = .ok (.iconst 0, 1) := dk_3 (dk_at dksX6_asks_1 4 rfl rfl)
theorem dX6_asks_29 : decode cX6_asks 29 = .ok (.istore_n 3, 1) := dk_62 (dk_at dksX6_asks_1 5 rfl rfl)
theorem dX6_asks_30 : decode cX6_asks 30 = .ok (.aload_n 0, 1) := dk_42 (dk_at dksX6_asks_1 6 rfl rfl)
theorem dX6_asks_31 : decode cX6_asks 31 = .ok (.iload_n 1, 1) := dk_27 (dk_at dksX6_asks_1 7 rfl rfl)
theorem dX6_asks_32 : decode cX6_asks 32 = .ok (.iconst 3, 1) := dk_6 (dk_at dksX6_asks_1 8 rfl rfl)
theorem dX6_asks_33 : decode cX6_asks 33 = .ok (.iload_n 3, 1) := dk_29 (dk_at dksX6_asks_1 9 rfl rfl)
theorem dX6_asks_34 : decode cX6_asks 34 = .ok (.ifCond .eq 12, 3) := dk_153 0 12 (dk_at dksX6_asks_1 10 rfl rfl)
theorem dX6_asks_37 : decode cX6_asks 37 = .ok (.aload_n 0, 1) := dk_42 (dk_at dksX6_asks_1 13 rfl rfl)
theorem dX6_asks_38 : decode cX6_asks 38 = .ok (.iload_n 1, 1) := dk_27 (dk_at dksX6_asks_1 14 rfl rfl)
theorem dX6_asks_39 : decode cX6_asks 39 = .ok (.iconst 0, 1) := dk_3 (dk_at dksX6_asks_1 15 rfl rfl)
theorem dX6_asks_40 : decode cX6_asks 40 = .ok (.invokevirtual 61, 3) := dk_182 0 61 (dk_at dksX6_asks_1 16 rfl rfl)
theorem dX6_asks_43 : decode cX6_asks 43 = .ok (.goto 4, 3) := dk_167 0 4 (dk_at dksX6_asks_1 19 rfl rfl)
theorem dX6_asks_46 : decode cX6_asks 46 = .ok (.iconst 3, 1) := dk_6 (dk_at dksX6_asks_1 22 rfl rfl)
theorem dX6_asks_47 : decode cX6_asks 47 = .ok (.invokevirtual 29, 3) := dk_182 0 29 (dk_at dksX6_asks_2 0 rfl rfl)
theorem dX6_asks_50 : decode cX6_asks 50 = .ok (.aload_n 0, 1) := dk_42 (dk_at dksX6_asks_2 3 rfl rfl)
theorem dX6_asks_51 : decode cX6_asks 51 = .ok (.iload_n 1, 1) := dk_27 (dk_at dksX6_asks_2 4 rfl rfl)
theorem dX6_asks_52 : decode cX6_asks 52 = .ok (.iconst 4, 1) := dk_7 (dk_at dksX6_asks_2 5 rfl rfl)
theorem dX6_asks_53 : decode cX6_asks 53 = .ok (.aload_n 0, 1) := dk_42 (dk_at dksX6_asks_2 6 rfl rfl)
theorem dX6_asks_54 : decode cX6_asks 54 = .ok (.iload_n 1, 1) := dk_27 (dk_at dksX6_asks_2 7 rfl rfl)
theorem dX6_asks_55 : decode cX6_asks 55 = .ok (.iconst 1, 1) := dk_4 (dk_at dksX6_asks_2 8 rfl rfl)
theorem dX6_asks_56 : decode cX6_asks 56 = .ok (.invokevirtual 61, 3) := dk_182 0 61 (dk_at dksX6_asks_2 9 rfl rfl)
theorem dX6_asks_59 : decode cX6_asks 59 = .ok (.invokevirtual 29, 3) := dk_182 0 29 (dk_at dksX6_asks_2 12 rfl rfl)
theorem dX6_asks_62 : decode cX6_asks 62 = .ok (.aload_n 0, 1) := dk_42 (dk_at dksX6_asks_2 15 rfl rfl)
theorem dX6_asks_63 : decode cX6_asks 63 = .ok (.iload_n 1, 1) := dk_27 (dk_at dksX6_asks_2 16 rfl rfl)
theorem dX6_asks_64 : decode cX6_asks 64 = .ok (.iconst 5, 1) := dk_8 (dk_at dksX6_asks_2 17 rfl rfl)
theorem dX6_asks_65 : decode cX6_asks 65 = .ok (.aload_n 0, 1) := dk_42 (dk_at dksX6_asks_2 18 rfl rfl)
theorem dX6_asks_66 : decode cX6_asks 66 = .ok (.getfield 7, 3) := dk_180 0 7 (dk_at dksX6_asks_2 19 rfl rfl)
theorem dX6_asks_69 : decode cX6_asks 69 = .ok (.iconst 0, 1) := dk_3 (dk_at dksX6_asks_2 22 rfl rfl)
theorem dX6_asks_70 : decode cX6_asks 70 = .ok (.iaload, 1) := dk_46 (dk_at dksX6_asks_2 23 rfl rfl)
theorem dX6_asks_71 : decode cX6_asks 71 = .ok (.iload_n 3, 1) := dk_29 (dk_at dksX6_asks_3 0 rfl rfl)
theorem dX6_asks_72 : decode cX6_asks 72 = .ok (.ifCond .eq 12, 3) := dk_153 0 12 (dk_at dksX6_asks_3 1 rfl rfl)
theorem dX6_asks_75 : decode cX6_asks 75 = .ok (.aload_n 0, 1) := dk_42 (dk_at dksX6_asks_3 4 rfl rfl)
theorem dX6_asks_76 : decode cX6_asks 76 = .ok (.iload_n 1, 1) := dk_27 (dk_at dksX6_asks_3 5 rfl rfl)
theorem dX6_asks_77 : decode cX6_asks 77 = .ok (.iconst 2, 1) := dk_5 (dk_at dksX6_asks_3 6 rfl rfl)
theorem dX6_asks_78 : decode cX6_asks 78 = .ok (.invokevirtual 61, 3) := dk_182 0 61 (dk_at dksX6_asks_3 7 rfl rfl)
theorem dX6_asks_81 : decode cX6_asks 81 = .ok (.goto 9, 3) := dk_167 0 9 (dk_at dksX6_asks_3 10 rfl rfl)
theorem dX6_asks_84 : decode cX6_asks 84 = .ok (.aload_n 0, 1) := dk_42 (dk_at dksX6_asks_3 13 rfl rfl)
theorem dX6_asks_85 : decode cX6_asks 85 = .ok (.iload_n 2, 1) := dk_28 (dk_at dksX6_asks_3 14 rfl rfl)
theorem dX6_asks_86 : decode cX6_asks 86 = .ok (.iconst 2, 1) := dk_5 (dk_at dksX6_asks_3 15 rfl rfl)
theorem dX6_asks_87 : decode cX6_asks 87 = .ok (.invokevirtual 50, 3) := dk_182 0 50 (dk_at dksX6_asks_3 16 rfl rfl)
theorem dX6_asks_90 : decode cX6_asks 90 = .ok (.iadd, 1) := dk_96 (dk_at dksX6_asks_3 19 rfl rfl)
theorem dX6_asks_91 : decode cX6_asks 91 = .ok (.invokevirtual 29, 3) := dk_182 0 29 (dk_at dksX6_asks_3 20 rfl rfl)
theorem dX6_asks_94 : decode cX6_asks 94 = .ok (.aload_n 0, 1) := dk_42 (dk_at dksX6_asks_3 23 rfl rfl)
theorem dX6_asks_95 : decode cX6_asks 95 = .ok (.getfield 7, 3) := dk_180 0 7 (dk_at dksX6_asks_4 0 rfl rfl)
theorem dX6_asks_98 : decode cX6_asks 98 = .ok (.iconst 4, 1) := dk_7 (dk_at dksX6_asks_4 3 rfl rfl)
theorem dX6_asks_99 : decode cX6_asks 99 = .ok (.dup2, 1) := dk_92 (dk_at dksX6_asks_4 4 rfl rfl)
theorem dX6_asks_100 : decode cX6_asks 100 = .ok (.iaload, 1) := dk_46 (dk_at dksX6_asks_4 5 rfl rfl)
theorem dX6_asks_101 : decode cX6_asks 101 = .ok (.iconst 1, 1) := dk_4 (dk_at dksX6_asks_4 6 rfl rfl)
theorem dX6_asks_102 : decode cX6_asks 102 = .ok (.iadd, 1) := dk_96 (dk_at dksX6_asks_4 7 rfl rfl)
theorem dX6_asks_103 : decode cX6_asks 103 = .ok (.iastore, 1) := dk_79 (dk_at dksX6_asks_4 8 rfl rfl)
theorem dX6_asks_104 : decode cX6_asks 104 = .ok (.return_, 1) := dk_177 (dk_at dksX6_asks_4 9 rfl rfl)
def dkwX6_comesTo_4 : List UInt8 := [62, 132, 4, 255, 167, 255, 200, 177]
abbrev dktX6_comesTo_4 : List UInt8 := dkwX6_comesTo_4 ++ []
def dkwX6_comesTo_3 : List UInt8 := [182, 0, 50, 96, 182, 0, 25, 42, 180, 0, 7, 7, 92, 46, 4, 96, 79, 42, 180, 0, 22, 21, 4, 46]
abbrev dktX6_comesTo_3 : List UInt8 := dkwX6_comesTo_3 ++ dktX6_comesTo_4
def dkwX6_comesTo_2 : List UInt8 := [29, 182, 0, 71, 42, 42, 180, 0, 22, 21, 4, 46, 6, 42, 180, 0, 7, 3, 46, 42, 29, 4]
abbrev dktX6_comesTo_2 : List UInt8 := dkwX6_comesTo_2 ++ dktX6_comesTo_3
def dkwX6_comesTo_1 : List UInt8 := [132, 2, 1, 42, 29, 3, 182, 0, 50, 62, 167, 255, 226, 28, 4, 100, 54, 4, 21, 4, 155, 0, 57, 42]
abbrev dktX6_comesTo_1 : List UInt8 := dkwX6_comesTo_1 ++ dktX6_comesTo_2
def dkwX6_comesTo_0 : List UInt8 := [3, 61, 27, 62, 29, 153, 0, 32, 42, 29, 6, 182, 0, 50, 154, 0, 23, 42, 180, 0, 22, 28, 29, 79]
abbrev dktX6_comesTo_0 : List UInt8 := dkwX6_comesTo_0 ++ dktX6_comesTo_1
theorem dksX6_comesTo_0 : cX6_comesTo.data.toList.drop 0 = dktX6_comesTo_0 := by decide +kernel
theorem dksX6_comesTo_1 : cX6_comesTo.data.toList.drop 24 = dktX6_comesTo_1 := dk_seg dksX6_comesTo_0 24 rfl rfl
theorem dksX6_comesTo_2 : cX6_comesTo.data.toList.drop 48 = dktX6_comesTo_2 := dk_seg dksX6_comesTo_1 24 rfl rfl
theorem dksX6_comesTo_3 : cX6_comesTo.data.toList.drop 70 = dktX6_comesTo_3 := dk_seg dksX6_comesTo_2 22 rfl rfl
theorem dksX6_comesTo_4 : cX6_comesTo.data.toList.drop 94 = dktX6_comesTo_4 := dk_seg dksX6_comesTo_3 24 rfl rfl
theorem dX6_comesTo_0 : decode cX6_comesTo 0 = .ok (.iconst 0, 1) := dk_3 (dk_at dksX6_comesTo_0 0 rfl rfl)
theorem dX6_comesTo_1 : decode cX6_comesTo 1 = .ok (.istore_n 2, 1) := dk_61 (dk_at dksX6_comesTo_0 1 rfl rfl)
theorem dX6_comesTo_2 : decode cX6_comesTo 2 = .ok (.iload_n 1, 1) := dk_27 (dk_at dksX6_comesTo_0 2 rfl rfl)
theorem dX6_comesTo_3 : decode cX6_comesTo 3 = .ok (.istore_n 3, 1) := dk_62 (dk_at dksX6_comesTo_0 3 rfl rfl)
theorem dX6_comesTo_4 : decode cX6_comesTo 4 = .ok (.iload_n 3, 1) := dk_29 (dk_at dksX6_comesTo_0 4 rfl rfl)
theorem dX6_comesTo_5 : decode cX6_comesTo 5 = .ok (.ifCond .eq 32, 3) := dk_153 0 32 (dk_at dksX6_comesTo_0 5 rfl rfl)
theorem dX6_comesTo_8 : decode cX6_comesTo 8 = .ok (.aload_n 0, 1) := dk_42 (dk_at dksX6_comesTo_0 8 rfl rfl)
theorem dX6_comesTo_9 : decode cX6_comesTo 9 = .ok (.iload_n 3, 1) := dk_29 (dk_at dksX6_comesTo_0 9 rfl rfl)
theorem dX6_comesTo_10 : decode cX6_comesTo 10 = .ok (.iconst 3, 1) := dk_6 (dk_at dksX6_comesTo_0 10 rfl rfl)
theorem dX6_comesTo_11 : decode cX6_comesTo 11 = .ok (.invokevirtual 50, 3) := dk_182 0 50 (dk_at dksX6_comesTo_0 11 rfl rfl)
theorem dX6_comesTo_14 : decode cX6_comesTo 14 = .ok (.ifCond .ne 23, 3) := dk_154 0 23 (dk_at dksX6_comesTo_0 14 rfl rfl)
theorem dX6_comesTo_17 : decode cX6_comesTo 17 = .ok (.aload_n 0, 1) := dk_42 (dk_at dksX6_comesTo_0 17 rfl rfl)
theorem dX6_comesTo_18 : decode cX6_comesTo 18 = .ok (.getfield 22, 3) := dk_180 0 22 (dk_at dksX6_comesTo_0 18 rfl rfl)
theorem dX6_comesTo_21 : decode cX6_comesTo 21 = .ok (.iload_n 2, 1) := dk_28 (dk_at dksX6_comesTo_0 21 rfl rfl)
theorem dX6_comesTo_22 : decode cX6_comesTo 22 = .ok (.iload_n 3, 1) := dk_29 (dk_at dksX6_comesTo_0 22 rfl rfl)
theorem dX6_comesTo_23 : decode cX6_comesTo 23 = .ok (.iastore, 1) := dk_79 (dk_at dksX6_comesTo_0 23 rfl rfl)
theorem dX6_comesTo_24 : decode cX6_comesTo 24 = .ok (.iinc 2 1, 3) := dk_132 2 1 (dk_at dksX6_comesTo_1 0 rfl rfl)
theorem dX6_comesTo_27 : decode cX6_comesTo 27 = .ok (.aload_n 0, 1) := dk_42 (dk_at dksX6_comesTo_1 3 rfl rfl)
theorem dX6_comesTo_28 : decode cX6_comesTo 28 = .ok (.iload_n 3, 1) := dk_29 (dk_at dksX6_comesTo_1 4 rfl rfl)
theorem dX6_comesTo_29 : decode cX6_comesTo 29 = .ok (.iconst 0, 1) := dk_3 (dk_at dksX6_comesTo_1 5 rfl rfl)
theorem dX6_comesTo_30 : decode cX6_comesTo 30 = .ok (.invokevirtual 50, 3) := dk_182 0 50 (dk_at dksX6_comesTo_1 6 rfl rfl)
theorem dX6_comesTo_33 : decode cX6_comesTo 33 = .ok (.istore_n 3, 1) := dk_62 (dk_at dksX6_comesTo_1 9 rfl rfl)
theorem dX6_comesTo_34 : decode cX6_comesTo 34 = .ok (.goto (-30), 3) := dk_167 255 226 (dk_at dksX6_comesTo_1 10 rfl rfl)
theorem dX6_comesTo_37 : decode cX6_comesTo 37 = .ok (.iload_n 2, 1) := dk_28 (dk_at dksX6_comesTo_1 13 rfl rfl)
theorem dX6_comesTo_38 : decode cX6_comesTo 38 = .ok (.iconst 1, 1) := dk_4 (dk_at dksX6_comesTo_1 14 rfl rfl)
theorem dX6_comesTo_39 : decode cX6_comesTo 39 = .ok (.isub, 1) := dk_100 (dk_at dksX6_comesTo_1 15 rfl rfl)
theorem dX6_comesTo_40 : decode cX6_comesTo 40 = .ok (.istore 4, 2) := dk_54 4 (dk_at dksX6_comesTo_1 16 rfl rfl)
theorem dX6_comesTo_42 : decode cX6_comesTo 42 = .ok (.iload 4, 2) := dk_21 4 (dk_at dksX6_comesTo_1 18 rfl rfl)
theorem dX6_comesTo_44 : decode cX6_comesTo 44 = .ok (.ifCond .lt 57, 3) := dk_155 0 57 (dk_at dksX6_comesTo_1 20 rfl rfl)
theorem dX6_comesTo_47 : decode cX6_comesTo 47 = .ok (.aload_n 0, 1) := dk_42 (dk_at dksX6_comesTo_1 23 rfl rfl)
theorem dX6_comesTo_48 : decode cX6_comesTo 48 = .ok (.iload_n 3, 1) := dk_29 (dk_at dksX6_comesTo_2 0 rfl rfl)
theorem dX6_comesTo_49 : decode cX6_comesTo 49 = .ok (.invokevirtual 71, 3) := dk_182 0 71 (dk_at dksX6_comesTo_2 1 rfl rfl)
theorem dX6_comesTo_52 : decode cX6_comesTo 52 = .ok (.aload_n 0, 1) := dk_42 (dk_at dksX6_comesTo_2 4 rfl rfl)
theorem dX6_comesTo_53 : decode cX6_comesTo 53 = .ok (.aload_n 0, 1) := dk_42 (dk_at dksX6_comesTo_2 5 rfl rfl)
theorem dX6_comesTo_54 : decode cX6_comesTo 54 = .ok (.getfield 22, 3) := dk_180 0 22 (dk_at dksX6_comesTo_2 6 rfl rfl)
theorem dX6_comesTo_57 : decode cX6_comesTo 57 = .ok (.iload 4, 2) := dk_21 4 (dk_at dksX6_comesTo_2 9 rfl rfl)
theorem dX6_comesTo_59 : decode cX6_comesTo 59 = .ok (.iaload, 1) := dk_46 (dk_at dksX6_comesTo_2 11 rfl rfl)
theorem dX6_comesTo_60 : decode cX6_comesTo 60 = .ok (.iconst 3, 1) := dk_6 (dk_at dksX6_comesTo_2 12 rfl rfl)
theorem dX6_comesTo_61 : decode cX6_comesTo 61 = .ok (.aload_n 0, 1) := dk_42 (dk_at dksX6_comesTo_2 13 rfl rfl)
theorem dX6_comesTo_62 : decode cX6_comesTo 62 = .ok (.getfield 7, 3) := dk_180 0 7 (dk_at dksX6_comesTo_2 14 rfl rfl)
theorem dX6_comesTo_65 : decode cX6_comesTo 65 = .ok (.iconst 0, 1) := dk_3 (dk_at dksX6_comesTo_2 17 rfl rfl)
theorem dX6_comesTo_66 : decode cX6_comesTo 66 = .ok (.iaload, 1) := dk_46 (dk_at dksX6_comesTo_2 18 rfl rfl)
theorem dX6_comesTo_67 : decode cX6_comesTo 67 = .ok (.aload_n 0, 1) := dk_42 (dk_at dksX6_comesTo_2 19 rfl rfl)
theorem dX6_comesTo_68 : decode cX6_comesTo 68 = .ok (.iload_n 3, 1) := dk_29 (dk_at dksX6_comesTo_2 20 rfl rfl)
theorem dX6_comesTo_69 : decode cX6_comesTo 69 = .ok (.iconst 1, 1) := dk_4 (dk_at dksX6_comesTo_2 21 rfl rfl)
theorem dX6_comesTo_70 : decode cX6_comesTo 70 = .ok (.invokevirtual 50, 3) := dk_182 0 50 (dk_at dksX6_comesTo_3 0 rfl rfl)
theorem dX6_comesTo_73 : decode cX6_comesTo 73 = .ok (.iadd, 1) := dk_96 (dk_at dksX6_comesTo_3 3 rfl rfl)
theorem dX6_comesTo_74 : decode cX6_comesTo 74 = .ok (.invokevirtual 25, 3) := dk_182 0 25 (dk_at dksX6_comesTo_3 4 rfl rfl)
theorem dX6_comesTo_77 : decode cX6_comesTo 77 = .ok (.aload_n 0, 1) := dk_42 (dk_at dksX6_comesTo_3 7 rfl rfl)
theorem dX6_comesTo_78 : decode cX6_comesTo 78 = .ok (.getfield 7, 3) := dk_180 0 7 (dk_at dksX6_comesTo_3 8 rfl rfl)
theorem dX6_comesTo_81 : decode cX6_comesTo 81 = .ok (.iconst 4, 1) := dk_7 (dk_at dksX6_comesTo_3 11 rfl rfl)
theorem dX6_comesTo_82 : decode cX6_comesTo 82 = .ok (.dup2, 1) := dk_92 (dk_at dksX6_comesTo_3 12 rfl rfl)
theorem dX6_comesTo_83 : decode cX6_comesTo 83 = .ok (.iaload, 1) := dk_46 (dk_at dksX6_comesTo_3 13 rfl rfl)
theorem dX6_comesTo_84 : decode cX6_comesTo 84 = .ok (.iconst 1, 1) := dk_4 (dk_at dksX6_comesTo_3 14 rfl rfl)
theorem dX6_comesTo_85 : decode cX6_comesTo 85 = .ok (.iadd, 1) := dk_96 (dk_at dksX6_comesTo_3 15 rfl rfl)
theorem dX6_comesTo_86 : decode cX6_comesTo 86 = .ok (.iastore, 1) := dk_79 (dk_at dksX6_comesTo_3 16 rfl rfl)
theorem dX6_comesTo_87 : decode cX6_comesTo 87 = .ok (.aload_n 0, 1) := dk_42 (dk_at dksX6_comesTo_3 17 rfl rfl)
theorem dX6_comesTo_88 : decode cX6_comesTo 88 = .ok (.getfield 22, 3) := dk_180 0 22 (dk_at dksX6_comesTo_3 18 rfl rfl)
theorem dX6_comesTo_91 : decode cX6_comesTo 91 = .ok (.iload 4, 2) := dk_21 4 (dk_at dksX6_comesTo_3 21 rfl rfl)
theorem dX6_comesTo_93 : decode cX6_comesTo 93 = .ok (.iaload, 1) := dk_46 (dk_at dksX6_comesTo_3 23 rfl rfl)
theorem dX6_comesTo_94 : decode cX6_comesTo 94 = .ok (.istore_n 3, 1) := dk_62 (dk_at dksX6_comesTo_4 0 rfl rfl)
theorem dX6_comesTo_95 : decode cX6_comesTo 95 = .ok (.iinc 4 (-1), 3) := dk_132 4 255 (dk_at dksX6_comesTo_4 1 rfl rfl)
theorem dX6_comesTo_98 : decode cX6_comesTo 98 = .ok (.goto (-56), 3) := dk_167 255 200 (dk_at dksX6_comesTo_4 4 rfl rfl)
theorem dX6_comesTo_101 : decode cX6_comesTo 101 = .ok (.return_, 1) := dk_177 (dk_at dksX6_comesTo_4 7 rfl rfl)
def dkwX6_costs_1 : List UInt8 := [177]
abbrev dktX6_costs_1 : List UInt8 := dkwX6_costs_1 ++ []
def dkwX6_costs_0 : List UInt8 := [42, 180, 0, 7, 5, 92, 46, 4, 96, 79, 42, 27, 7, 42, 27, 7, 182, 0, 50, 4, 96, 182, 0, 25]
abbrev dktX6_costs_0 : List UInt8 := dkwX6_costs_0 ++ dktX6_costs_1
theorem dksX6_costs_0 : cX6_costs.data.toList.drop 0 = dktX6_costs_0 := by decide +kernel
theorem dksX6_costs_1 : cX6_costs.data.toList.drop 24 = dktX6_costs_1 := dk_seg dksX6_costs_0 24 rfl rfl
theorem dX6_costs_0 : decode cX6_costs 0 = .ok (.aload_n 0, 1) := dk_42 (dk_at dksX6_costs_0 0 rfl rfl)
theorem dX6_costs_1 : decode cX6_costs 1 = .ok (.getfield 7, 3) := dk_180 0 7 (dk_at dksX6_costs_0 1 rfl rfl)
theorem dX6_costs_4 : decode cX6_costs 4 = .ok (.iconst 2, 1) := dk_5 (dk_at dksX6_costs_0 4 rfl rfl)
theorem dX6_costs_5 : decode cX6_costs 5 = .ok (.dup2, 1) := dk_92 (dk_at dksX6_costs_0 5 rfl rfl)
theorem dX6_costs_6 : decode cX6_costs 6 = .ok (.iaload, 1) := dk_46 (dk_at dksX6_costs_0 6 rfl rfl)
theorem dX6_costs_7 : decode cX6_costs 7 = .ok (.iconst 1, 1) := dk_4 (dk_at dksX6_costs_0 7 rfl rfl)
theorem dX6_costs_8 : decode cX6_costs 8 = .ok (.iadd, 1) := dk_96 (dk_at dksX6_costs_0 8 rfl rfl)
theorem dX6_costs_9 : decode cX6_costs 9 = .ok (.iastore, 1) := dk_79 (dk_at dksX6_costs_0 9 rfl rfl)
theorem dX6_costs_10 : decode cX6_costs 10 = .ok (.aload_n 0, 1) := dk_42 (dk_at dksX6_costs_0 10 rfl rfl)
theorem dX6_costs_11 : decode cX6_costs 11 = .ok (.iload_n 1, 1) := dk_27 (dk_at dksX6_costs_0 11 rfl rfl)
theorem dX6_costs_12 : decode cX6_costs 12 = .ok (.iconst 4, 1) := dk_7 (dk_at dksX6_costs_0 12 rfl rfl)
theorem dX6_costs_13 : decode cX6_costs 13 = .ok (.aload_n 0, 1) := dk_42 (dk_at dksX6_costs_0 13 rfl rfl)
theorem dX6_costs_14 : decode cX6_costs 14 = .ok (.iload_n 1, 1) := dk_27 (dk_at dksX6_costs_0 14 rfl rfl)
theorem dX6_costs_15 : decode cX6_costs 15 = .ok (.iconst 4, 1) := dk_7 (dk_at dksX6_costs_0 15 rfl rfl)
theorem dX6_costs_16 : decode cX6_costs 16 = .ok (.invokevirtual 50, 3) := dk_182 0 50 (dk_at dksX6_costs_0 16 rfl rfl)
theorem dX6_costs_19 : decode cX6_costs 19 = .ok (.iconst 1, 1) := dk_4 (dk_at dksX6_costs_0 19 rfl rfl)
theorem dX6_costs_20 : decode cX6_costs 20 = .ok (.iadd, 1) := dk_96 (dk_at dksX6_costs_0 20 rfl rfl)
theorem dX6_costs_21 : decode cX6_costs 21 = .ok (.invokevirtual 25, 3) := dk_182 0 25 (dk_at dksX6_costs_0 21 rfl rfl)
theorem dX6_costs_24 : decode cX6_costs 24 = .ok (.return_, 1) := dk_177 (dk_at dksX6_costs_1 0 rfl rfl)
def dkwX6_forget_2 : List UInt8 := [182, 0, 61, 61, 42, 27, 182, 0, 88, 28, 172]
abbrev dktX6_forget_2 : List UInt8 := dkwX6_forget_2 ++ []
def dkwX6_forget_1 : List UInt8 := [167, 0, 4, 3, 181, 0, 32, 42, 180, 0, 32, 158, 0, 5, 3, 172, 42, 182, 0, 47, 42, 27, 6]
abbrev dktX6_forget_1 : List UInt8 := dkwX6_forget_1 ++ dktX6_forget_2
def dkwX6_forget_0 : List UInt8 := [42, 27, 184, 0, 64, 154, 0, 7, 4, 167, 0, 17, 42, 27, 6, 182, 0, 61, 154, 0, 7, 5]
abbrev dktX6_forget_0 : List UInt8 := dkwX6_forget_0 ++ dktX6_forget_1
theorem dksX6_forget_0 : cX6_forget.data.toList.drop 0 = dktX6_forget_0 := by decide +kernel
theorem dksX6_forget_1 : cX6_forget.data.toList.drop 22 = dktX6_forget_1 := dk_seg dksX6_forget_0 22 rfl rfl
theorem dksX6_forget_2 : cX6_forget.data.toList.drop 45 = dktX6_forget_2 := dk_seg dksX6_forget_1 23 rfl rfl
theorem dX6_forget_0 : decode cX6_forget 0 = .ok (.aload_n 0, 1) := dk_42 (dk_at dksX6_forget_0 0 rfl rfl)
theorem dX6_forget_1 : decode cX6_forget 1 = .ok (.iload_n 1, 1) := dk_27 (dk_at dksX6_forget_0 1 rfl rfl)
theorem dX6_forget_2 : decode cX6_forget 2 = .ok (.invokestatic 64, 3) := dk_184 0 64 (dk_at dksX6_forget_0 2 rfl rfl)
theorem dX6_forget_5 : decode cX6_forget 5 = .ok (.ifCond .ne 7, 3) := dk_154 0 7 (dk_at dksX6_forget_0 5 rfl rfl)
theorem dX6_forget_8 : decode cX6_forget 8 = .ok (.iconst 1, 1) := dk_4 (dk_at dksX6_forget_0 8 rfl rfl)
theorem dX6_forget_9 : decode cX6_forget 9 = .ok (.goto 17, 3) := dk_167 0 17 (dk_at dksX6_forget_0 9 rfl rfl)
theorem dX6_forget_12 : decode cX6_forget 12 = .ok (.aload_n 0, 1) := dk_42 (dk_at dksX6_forget_0 12 rfl rfl)
theorem dX6_forget_13 : decode cX6_forget 13 = .ok (.iload_n 1, 1) := dk_27 (dk_at dksX6_forget_0 13 rfl rfl)
theorem dX6_forget_14 : decode cX6_forget 14 = .ok (.iconst 3, 1) := dk_6 (dk_at dksX6_forget_0 14 rfl rfl)
theorem dX6_forget_15 : decode cX6_forget 15 = .ok (.invokevirtual 61, 3) := dk_182 0 61 (dk_at dksX6_forget_0 15 rfl rfl)
theorem dX6_forget_18 : decode cX6_forget 18 = .ok (.ifCond .ne 7, 3) := dk_154 0 7 (dk_at dksX6_forget_0 18 rfl rfl)
theorem dX6_forget_21 : decode cX6_forget 21 = .ok (.iconst 2, 1) := dk_5 (dk_at dksX6_forget_0 21 rfl rfl)
theorem dX6_forget_22 : decode cX6_forget 22 = .ok (.goto 4, 3) := dk_167 0 4 (dk_at dksX6_forget_1 0 rfl rfl)
theorem dX6_forget_25 : decode cX6_forget 25 = .ok (.iconst 0, 1) := dk_3 (dk_at dksX6_forget_1 3 rfl rfl)
theorem dX6_forget_26 : decode cX6_forget 26 = .ok (.putfield 32, 3) := dk_181 0 32 (dk_at dksX6_forget_1 4 rfl rfl)
theorem dX6_forget_29 : decode cX6_forget 29 = .ok (.aload_n 0, 1) := dk_42 (dk_at dksX6_forget_1 7 rfl rfl)
theorem dX6_forget_30 : decode cX6_forget 30 = .ok (.getfield 32, 3) := dk_180 0 32 (dk_at dksX6_forget_1 8 rfl rfl)
theorem dX6_forget_33 : decode cX6_forget 33 = .ok (.ifCond .le 5, 3) := dk_158 0 5 (dk_at dksX6_forget_1 11 rfl rfl)
theorem dX6_forget_36 : decode cX6_forget 36 = .ok (.iconst 0, 1) := dk_3 (dk_at dksX6_forget_1 14 rfl rfl)
theorem dX6_forget_37 : decode cX6_forget 37 = .ok (.ireturn, 1) := dk_172 (dk_at dksX6_forget_1 15 rfl rfl)
theorem dX6_forget_38 : decode cX6_forget 38 = .ok (.aload_n 0, 1) := dk_42 (dk_at dksX6_forget_1 16 rfl rfl)
theorem dX6_forget_39 : decode cX6_forget 39 = .ok (.invokevirtual 47, 3) := dk_182 0 47 (dk_at dksX6_forget_1 17 rfl rfl)
theorem dX6_forget_42 : decode cX6_forget 42 = .ok (.aload_n 0, 1) := dk_42 (dk_at dksX6_forget_1 20 rfl rfl)
theorem dX6_forget_43 : decode cX6_forget 43 = .ok (.iload_n 1, 1) := dk_27 (dk_at dksX6_forget_1 21 rfl rfl)
theorem dX6_forget_44 : decode cX6_forget 44 = .ok (.iconst 3, 1) := dk_6 (dk_at dksX6_forget_1 22 rfl rfl)
theorem dX6_forget_45 : decode cX6_forget 45 = .ok (.invokevirtual 61, 3) := dk_182 0 61 (dk_at dksX6_forget_2 0 rfl rfl)
theorem dX6_forget_48 : decode cX6_forget 48 = .ok (.istore_n 2, 1) := dk_61 (dk_at dksX6_forget_2 3 rfl rfl)
theorem dX6_forget_49 : decode cX6_forget 49 = .ok (.aload_n 0, 1) := dk_42 (dk_at dksX6_forget_2 4 rfl rfl)
theorem dX6_forget_50 : decode cX6_forget 50 = .ok (.iload_n 1, 1) := dk_27 (dk_at dksX6_forget_2 5 rfl rfl)
theorem dX6_forget_51 : decode cX6_forget 51 = .ok (.invokevirtual 88, 3) := dk_182 0 88 (dk_at dksX6_forget_2 6 rfl rfl)
theorem dX6_forget_54 : decode cX6_forget 54 = .ok (.iload_n 2, 1) := dk_28 (dk_at dksX6_forget_2 9 rfl rfl)
theorem dX6_forget_55 : decode cX6_forget 55 = .ok (.ireturn, 1) := dk_172 (dk_at dksX6_forget_2 10 rfl rfl)
def dkwX6_forgets_1 : List UInt8 := [180, 0, 7, 8, 92, 46, 4, 96, 79, 177]
abbrev dktX6_forgets_1 : List UInt8 := dkwX6_forgets_1 ++ []
def dkwX6_forgets_0 : List UInt8 := [42, 27, 6, 3, 182, 0, 29, 42, 27, 7, 3, 182, 0, 29, 42, 27, 8, 3, 182, 0, 29, 42]
abbrev dktX6_forgets_0 : List UInt8 := dkwX6_forgets_0 ++ dktX6_forgets_1
theorem dksX6_forgets_0 : cX6_forgets.data.toList.drop 0 = dktX6_forgets_0 := by decide +kernel
theorem dksX6_forgets_1 : cX6_forgets.data.toList.drop 22 = dktX6_forgets_1 := dk_seg dksX6_forgets_0 22 rfl rfl
theorem dX6_forgets_0 : decode cX6_forgets 0 = .ok (.aload_n 0, 1) := dk_42 (dk_at dksX6_forgets_0 0 rfl rfl)
theorem dX6_forgets_1 : decode cX6_forgets 1 = .ok (.iload_n 1, 1) := dk_27 (dk_at dksX6_forgets_0 1 rfl rfl)
theorem dX6_forgets_2 : decode cX6_forgets 2 = .ok (.iconst 3, 1) := dk_6 (dk_at dksX6_forgets_0 2 rfl rfl)
theorem dX6_forgets_3 : decode cX6_forgets 3 = .ok (.iconst 0, 1) := dk_3 (dk_at dksX6_forgets_0 3 rfl rfl)
theorem dX6_forgets_4 : decode cX6_forgets 4 = .ok (.invokevirtual 29, 3) := dk_182 0 29 (dk_at dksX6_forgets_0 4 rfl rfl)
theorem dX6_forgets_7 : decode cX6_forgets 7 = .ok (.aload_n 0, 1) := dk_42 (dk_at dksX6_forgets_0 7 rfl rfl)
theorem dX6_forgets_8 : decode cX6_forgets 8 = .ok (.iload_n 1, 1) := dk_27 (dk_at dksX6_forgets_0 8 rfl rfl)
theorem dX6_forgets_9 : decode cX6_forgets 9 = .ok (.iconst 4, 1) := dk_7 (dk_at dksX6_forgets_0 9 rfl rfl)
theorem dX6_forgets_10 : decode cX6_forgets 10 = .ok (.iconst 0, 1) := dk_3 (dk_at dksX6_forgets_0 10 rfl rfl)
theorem dX6_forgets_11 : decode cX6_forgets 11 = .ok (.invokevirtual 29, 3) := dk_182 0 29 (dk_at dksX6_forgets_0 11 rfl rfl)
theorem dX6_forgets_14 : decode cX6_forgets 14 = .ok (.aload_n 0, 1) := dk_42 (dk_at dksX6_forgets_0 14 rfl rfl)
theorem dX6_forgets_15 : decode cX6_forgets 15 = .ok (.iload_n 1, 1) := dk_27 (dk_at dksX6_forgets_0 15 rfl rfl)
theorem dX6_forgets_16 : decode cX6_forgets 16 = .ok (.iconst 5, 1) := dk_8 (dk_at dksX6_forgets_0 16 rfl rfl)
theorem dX6_forgets_17 : decode cX6_forgets 17 = .ok (.iconst 0, 1) := dk_3 (dk_at dksX6_forgets_0 17 rfl rfl)
theorem dX6_forgets_18 : decode cX6_forgets 18 = .ok (.invokevirtual 29, 3) := dk_182 0 29 (dk_at dksX6_forgets_0 18 rfl rfl)
theorem dX6_forgets_21 : decode cX6_forgets 21 = .ok (.aload_n 0, 1) := dk_42 (dk_at dksX6_forgets_0 21 rfl rfl)
theorem dX6_forgets_22 : decode cX6_forgets 22 = .ok (.getfield 7, 3) := dk_180 0 7 (dk_at dksX6_forgets_1 0 rfl rfl)
theorem dX6_forgets_25 : decode cX6_forgets 25 = .ok (.iconst 5, 1) := dk_8 (dk_at dksX6_forgets_1 3 rfl rfl)
theorem dX6_forgets_26 : decode cX6_forgets 26 = .ok (.dup2, 1) := dk_92 (dk_at dksX6_forgets_1 4 rfl rfl)
theorem dX6_forgets_27 : decode cX6_forgets 27 = .ok (.iaload, 1) := dk_46 (dk_at dksX6_forgets_1 5 rfl rfl)
theorem dX6_forgets_28 : decode cX6_forgets 28 = .ok (.iconst 1, 1) := dk_4 (dk_at dksX6_forgets_1 6 rfl rfl)
theorem dX6_forgets_29 : decode cX6_forgets 29 = .ok (.iadd, 1) := dk_96 (dk_at dksX6_forgets_1 7 rfl rfl)
theorem dX6_forgets_30 : decode cX6_forgets 30 = .ok (.iastore, 1) := dk_79 (dk_at dksX6_forgets_1 8 rfl rfl)
theorem dX6_forgets_31 : decode cX6_forgets 31 = .ok (.return_, 1) := dk_177 (dk_at dksX6_forgets_1 9 rfl rfl)
def dkwX6_pass_2 : List UInt8 := [182, 0, 47, 42, 27, 182, 0, 91, 172]
abbrev dktX6_pass_2 : List UInt8 := dkwX6_pass_2 ++ []
def dkwX6_pass_1 : List UInt8 := [17, 39, 15, 164, 0, 7, 5, 167, 0, 4, 3, 181, 0, 32, 42, 180, 0, 32, 158, 0, 5, 3, 172, 42]
abbrev dktX6_pass_1 : List UInt8 := dkwX6_pass_1 ++ dktX6_pass_2
def dkwX6_pass_0 : List UInt8 := [42, 27, 4, 16, 99, 184, 0, 43, 154, 0, 7, 4, 167, 0, 22, 42, 180, 0, 7, 3, 46, 27, 96]
abbrev dktX6_pass_0 : List UInt8 := dkwX6_pass_0 ++ dktX6_pass_1
theorem dksX6_pass_0 : cX6_pass.data.toList.drop 0 = dktX6_pass_0 := by decide +kernel
theorem dksX6_pass_1 : cX6_pass.data.toList.drop 23 = dktX6_pass_1 := dk_seg dksX6_pass_0 23 rfl rfl
theorem dksX6_pass_2 : cX6_pass.data.toList.drop 47 = dktX6_pass_2 := dk_seg dksX6_pass_1 24 rfl rfl
theorem dX6_pass_0 : decode cX6_pass 0 = .ok (.aload_n 0, 1) := dk_42 (dk_at dksX6_pass_0 0 rfl rfl)
theorem dX6_pass_1 : decode cX6_pass 1 = .ok (.iload_n 1, 1) := dk_27 (dk_at dksX6_pass_0 1 rfl rfl)
theorem dX6_pass_2 : decode cX6_pass 2 = .ok (.iconst 1, 1) := dk_4 (dk_at dksX6_pass_0 2 rfl rfl)
theorem dX6_pass_3 : decode cX6_pass 3 = .ok (.bipush 99, 2) := dk_16 99 (dk_at dksX6_pass_0 3 rfl rfl)
theorem dX6_pass_5 : decode cX6_pass 5 = .ok (.invokestatic 43, 3) := dk_184 0 43 (dk_at dksX6_pass_0 5 rfl rfl)
theorem dX6_pass_8 : decode cX6_pass 8 = .ok (.ifCond .ne 7, 3) := dk_154 0 7 (dk_at dksX6_pass_0 8 rfl rfl)
theorem dX6_pass_11 : decode cX6_pass 11 = .ok (.iconst 1, 1) := dk_4 (dk_at dksX6_pass_0 11 rfl rfl)
theorem dX6_pass_12 : decode cX6_pass 12 = .ok (.goto 22, 3) := dk_167 0 22 (dk_at dksX6_pass_0 12 rfl rfl)
theorem dX6_pass_15 : decode cX6_pass 15 = .ok (.aload_n 0, 1) := dk_42 (dk_at dksX6_pass_0 15 rfl rfl)
theorem dX6_pass_16 : decode cX6_pass 16 = .ok (.getfield 7, 3) := dk_180 0 7 (dk_at dksX6_pass_0 16 rfl rfl)
theorem dX6_pass_19 : decode cX6_pass 19 = .ok (.iconst 0, 1) := dk_3 (dk_at dksX6_pass_0 19 rfl rfl)
theorem dX6_pass_20 : decode cX6_pass 20 = .ok (.iaload, 1) := dk_46 (dk_at dksX6_pass_0 20 rfl rfl)
theorem dX6_pass_21 : decode cX6_pass 21 = .ok (.iload_n 1, 1) := dk_27 (dk_at dksX6_pass_0 21 rfl rfl)
theorem dX6_pass_22 : decode cX6_pass 22 = .ok (.iadd, 1) := dk_96 (dk_at dksX6_pass_0 22 rfl rfl)
theorem dX6_pass_23 : decode cX6_pass 23 = .ok (.sipush 9999, 3) := dk_17 39 15 (dk_at dksX6_pass_1 0 rfl rfl)
theorem dX6_pass_26 : decode cX6_pass 26 = .ok (.if_icmp .le 7, 3) := dk_164 0 7 (dk_at dksX6_pass_1 3 rfl rfl)
theorem dX6_pass_29 : decode cX6_pass 29 = .ok (.iconst 2, 1) := dk_5 (dk_at dksX6_pass_1 6 rfl rfl)
theorem dX6_pass_30 : decode cX6_pass 30 = .ok (.goto 4, 3) := dk_167 0 4 (dk_at dksX6_pass_1 7 rfl rfl)
theorem dX6_pass_33 : decode cX6_pass 33 = .ok (.iconst 0, 1) := dk_3 (dk_at dksX6_pass_1 10 rfl rfl)
theorem dX6_pass_34 : decode cX6_pass 34 = .ok (.putfield 32, 3) := dk_181 0 32 (dk_at dksX6_pass_1 11 rfl rfl)
theorem dX6_pass_37 : decode cX6_pass 37 = .ok (.aload_n 0, 1) := dk_42 (dk_at dksX6_pass_1 14 rfl rfl)
theorem dX6_pass_38 : decode cX6_pass 38 = .ok (.getfield 32, 3) := dk_180 0 32 (dk_at dksX6_pass_1 15 rfl rfl)
theorem dX6_pass_41 : decode cX6_pass 41 = .ok (.ifCond .le 5, 3) := dk_158 0 5 (dk_at dksX6_pass_1 18 rfl rfl)
theorem dX6_pass_44 : decode cX6_pass 44 = .ok (.iconst 0, 1) := dk_3 (dk_at dksX6_pass_1 21 rfl rfl)
theorem dX6_pass_45 : decode cX6_pass 45 = .ok (.ireturn, 1) := dk_172 (dk_at dksX6_pass_1 22 rfl rfl)
theorem dX6_pass_46 : decode cX6_pass 46 = .ok (.aload_n 0, 1) := dk_42 (dk_at dksX6_pass_1 23 rfl rfl)
theorem dX6_pass_47 : decode cX6_pass 47 = .ok (.invokevirtual 47, 3) := dk_182 0 47 (dk_at dksX6_pass_2 0 rfl rfl)
theorem dX6_pass_50 : decode cX6_pass 50 = .ok (.aload_n 0, 1) := dk_42 (dk_at dksX6_pass_2 3 rfl rfl)
theorem dX6_pass_51 : decode cX6_pass 51 = .ok (.iload_n 1, 1) := dk_27 (dk_at dksX6_pass_2 4 rfl rfl)
theorem dX6_pass_52 : decode cX6_pass 52 = .ok (.invokevirtual 91, 3) := dk_182 0 91 (dk_at dksX6_pass_2 5 rfl rfl)
theorem dX6_pass_55 : decode cX6_pass 55 = .ok (.ireturn, 1) := dk_172 (dk_at dksX6_pass_2 8 rfl rfl)
def dkwX6_passes_5 : List UInt8 := [180, 0, 7, 8, 46, 28, 100, 172]
abbrev dktX6_passes_5 : List UInt8 := dkwX6_passes_5 ++ []
def dkwX6_passes_4 : List UInt8 := [182, 0, 61, 42, 180, 0, 7, 3, 46, 163, 0, 8, 42, 29, 182, 0, 88, 132, 3, 1, 167, 255, 218, 42]
abbrev dktX6_passes_4 : List UInt8 := dkwX6_passes_4 ++ dktX6_passes_5
def dkwX6_passes_3 : List UInt8 := [167, 255, 206, 3, 62, 29, 16, 36, 162, 0, 38, 42, 29, 6, 182, 0, 61, 153, 0, 23, 42, 29, 8]
abbrev dktX6_passes_3 : List UInt8 := dkwX6_passes_3 ++ dktX6_passes_4
def dkwX6_passes_2 : List UInt8 := [163, 0, 20, 42, 29, 6, 3, 182, 0, 25, 42, 180, 0, 7, 8, 92, 46, 4, 96, 79, 132, 3, 1]
abbrev dktX6_passes_2 : List UInt8 := dkwX6_passes_2 ++ dktX6_passes_3
def dkwX6_passes_1 : List UInt8 := [162, 0, 50, 42, 29, 6, 182, 0, 50, 158, 0, 35, 42, 29, 6, 182, 0, 50, 42, 180, 0, 7, 3, 46]
abbrev dktX6_passes_1 : List UInt8 := dkwX6_passes_1 ++ dktX6_passes_2
def dkwX6_passes_0 : List UInt8 := [42, 180, 0, 7, 8, 46, 61, 42, 180, 0, 7, 3, 92, 46, 27, 96, 79, 4, 62, 29, 16, 6]
abbrev dktX6_passes_0 : List UInt8 := dkwX6_passes_0 ++ dktX6_passes_1
theorem dksX6_passes_0 : cX6_passes.data.toList.drop 0 = dktX6_passes_0 := by decide +kernel
theorem dksX6_passes_1 : cX6_passes.data.toList.drop 22 = dktX6_passes_1 := dk_seg dksX6_passes_0 22 rfl rfl
theorem dksX6_passes_2 : cX6_passes.data.toList.drop 46 = dktX6_passes_2 := dk_seg dksX6_passes_1 24 rfl rfl
theorem dksX6_passes_3 : cX6_passes.data.toList.drop 69 = dktX6_passes_3 := dk_seg dksX6_passes_2 23 rfl rfl
theorem dksX6_passes_4 : cX6_passes.data.toList.drop 92 = dktX6_passes_4 := dk_seg dksX6_passes_3 23 rfl rfl
theorem dksX6_passes_5 : cX6_passes.data.toList.drop 116 = dktX6_passes_5 := dk_seg dksX6_passes_4 24 rfl rfl
theorem dX6_passes_0 : decode cX6_passes 0 = .ok (.aload_n 0, 1) := dk_42 (dk_at dksX6_passes_0 0 rfl rfl)
theorem dX6_passes_1 : decode cX6_passes 1 = .ok (.getfield 7, 3) := dk_180 0 7 (dk_at dksX6_passes_0 1 rfl rfl)
theorem dX6_passes_4 : decode cX6_passes 4 = .ok (.iconst 5, 1) := dk_8 (dk_at dksX6_passes_0 4 rfl rfl)
theorem dX6_passes_5 : decode cX6_passes 5 = .ok (.iaload, 1) := dk_46 (dk_at dksX6_passes_0 5 rfl rfl)
theorem dX6_passes_6 : decode cX6_passes 6 = .ok (.istore_n 2, 1) := dk_61 (dk_at dksX6_passes_0 6 rfl rfl)
theorem dX6_passes_7 : decode cX6_passes 7 = .ok (.aload_n 0, 1) := dk_42 (dk_at dksX6_passes_0 7 rfl rfl)
theorem dX6_passes_8 : decode cX6_passes 8 = .ok (.getfield 7, 3) := dk_180 0 7 (dk_at dksX6_passes_0 8 rfl rfl)
theorem dX6_passes_11 : decode cX6_passes 11 = .ok (.iconst 0, 1) := dk_3 (dk_at dksX6_passes_0 11 rfl rfl)
theorem dX6_passes_12 : decode cX6_passes 12 = .ok (.dup2, 1) := dk_92 (dk_at dksX6_passes_0 12 rfl rfl)
theorem dX6_passes_13 : decode cX6_passes 13 = .ok (.iaload, 1) := dk_46 (dk_at dksX6_passes_0 13 rfl rfl)
theorem dX6_passes_14 : decode cX6_passes 14 = .ok (.iload_n 1, 1) := dk_27 (dk_at dksX6_passes_0 14 rfl rfl)
theorem dX6_passes_15 : decode cX6_passes 15 = .ok (.iadd, 1) := dk_96 (dk_at dksX6_passes_0 15 rfl rfl)
theorem dX6_passes_16 : decode cX6_passes 16 = .ok (.iastore, 1) := dk_79 (dk_at dksX6_passes_0 16 rfl rfl)
theorem dX6_passes_17 : decode cX6_passes 17 = .ok (.iconst 1, 1) := dk_4 (dk_at dksX6_passes_0 17 rfl rfl)
theorem dX6_passes_18 : decode cX6_passes 18 = .ok (.istore_n 3, 1) := dk_62 (dk_at dksX6_passes_0 18 rfl rfl)
theorem dX6_passes_19 : decode cX6_passes 19 = .ok (.iload_n 3, 1) := dk_29 (dk_at dksX6_passes_0 19 rfl rfl)
theorem dX6_passes_20 : decode cX6_passes 20 = .ok (.bipush 6, 2) := dk_16 6 (dk_at dksX6_passes_0 20 rfl rfl)
theorem dX6_passes_22 : decode cX6_passes 22 = .ok (.if_icmp .ge 50, 3) := dk_162 0 50 (dk_at dksX6_passes_1 0 rfl rfl)
theorem dX6_passes_25 : decode cX6_passes 25 = .ok (.aload_n 0, 1) := dk_42 (dk_at dksX6_passes_1 3 rfl rfl)
theorem dX6_passes_26 : decode cX6_passes 26 = .ok (.iload_n 3, 1) := dk_29 (dk_at dksX6_passes_1 4 rfl rfl)
theorem dX6_passes_27 : decode cX6_passes 27 = .ok (.iconst 3, 1) := dk_6 (dk_at dksX6_passes_1 5 rfl rfl)
theorem dX6_passes_28 : decode cX6_passes 28 = .ok (.invokevirtual 50, 3) := dk_182 0 50 (dk_at dksX6_passes_1 6 rfl rfl)
theorem dX6_passes_31 : decode cX6_passes 31 = .ok (.ifCond .le 35, 3) := dk_158 0 35 (dk_at dksX6_passes_1 9 rfl rfl)
theorem dX6_passes_34 : decode cX6_passes 34 = .ok (.aload_n 0, 1) := dk_42 (dk_at dksX6_passes_1 12 rfl rfl)
theorem dX6_passes_35 : decode cX6_passes 35 = .ok (.iload_n 3, 1) := dk_29 (dk_at dksX6_passes_1 13 rfl rfl)
theorem dX6_passes_36 : decode cX6_passes 36 = .ok (.iconst 3, 1) := dk_6 (dk_at dksX6_passes_1 14 rfl rfl)
theorem dX6_passes_37 : decode cX6_passes 37 = .ok (.invokevirtual 50, 3) := dk_182 0 50 (dk_at dksX6_passes_1 15 rfl rfl)
theorem dX6_passes_40 : decode cX6_passes 40 = .ok (.aload_n 0, 1) := dk_42 (dk_at dksX6_passes_1 18 rfl rfl)
theorem dX6_passes_41 : decode cX6_passes 41 = .ok (.getfield 7, 3) := dk_180 0 7 (dk_at dksX6_passes_1 19 rfl rfl)
theorem dX6_passes_44 : decode cX6_passes 44 = .ok (.iconst 0, 1) := dk_3 (dk_at dksX6_passes_1 22 rfl rfl)
theorem dX6_passes_45 : decode cX6_passes 45 = .ok (.iaload, 1) := dk_46 (dk_at dksX6_passes_1 23 rfl rfl)
theorem dX6_passes_46 : decode cX6_passes 46 = .ok (.if_icmp .gt 20, 3) := dk_163 0 20 (dk_at dksX6_passes_2 0 rfl rfl)
theorem dX6_passes_49 : decode cX6_passes 49 = .ok (.aload_n 0, 1) := dk_42 (dk_at dksX6_passes_2 3 rfl rfl)
theorem dX6_passes_50 : decode cX6_passes 50 = .ok (.iload_n 3, 1) := dk_29 (dk_at dksX6_passes_2 4 rfl rfl)
theorem dX6_passes_51 : decode cX6_passes 51 = .ok (.iconst 3, 1) := dk_6 (dk_at dksX6_passes_2 5 rfl rfl)
theorem dX6_passes_52 : decode cX6_passes 52 = .ok (.iconst 0, 1) := dk_3 (dk_at dksX6_passes_2 6 rfl rfl)
theorem dX6_passes_53 : decode cX6_passes 53 = .ok (.invokevirtual 25, 3) := dk_182 0 25 (dk_at dksX6_passes_2 7 rfl rfl)
theorem dX6_passes_56 : decode cX6_passes 56 = .ok (.aload_n 0, 1) := dk_42 (dk_at dksX6_passes_2 10 rfl rfl)
theorem dX6_passes_57 : decode cX6_passes 57 = .ok (.getfield 7, 3) := dk_180 0 7 (dk_at dksX6_passes_2 11 rfl rfl)
theorem dX6_passes_60 : decode cX6_passes 60 = .ok (.iconst 5, 1) := dk_8 (dk_at dksX6_passes_2 14 rfl rfl)
theorem dX6_passes_61 : decode cX6_passes 61 = .ok (.dup2, 1) := dk_92 (dk_at dksX6_passes_2 15 rfl rfl)
theorem dX6_passes_62 : decode cX6_passes 62 = .ok (.iaload, 1) := dk_46 (dk_at dksX6_passes_2 16 rfl rfl)
theorem dX6_passes_63 : decode cX6_passes 63 = .ok (.iconst 1, 1) := dk_4 (dk_at dksX6_passes_2 17 rfl rfl)
theorem dX6_passes_64 : decode cX6_passes 64 = .ok (.iadd, 1) := dk_96 (dk_at dksX6_passes_2 18 rfl rfl)
theorem dX6_passes_65 : decode cX6_passes 65 = .ok (.iastore, 1) := dk_79 (dk_at dksX6_passes_2 19 rfl rfl)
theorem dX6_passes_66 : decode cX6_passes 66 = .ok (.iinc 3 1, 3) := dk_132 3 1 (dk_at dksX6_passes_2 20 rfl rfl)
theorem dX6_passes_69 : decode cX6_passes 69 = .ok (.goto (-50), 3) := dk_167 255 206 (dk_at dksX6_passes_3 0 rfl rfl)
theorem dX6_passes_72 : decode cX6_passes 72 = .ok (.iconst 0, 1) := dk_3 (dk_at dksX6_passes_3 3 rfl rfl)
theorem dX6_passes_73 : decode cX6_passes 73 = .ok (.istore_n 3, 1) := dk_62 (dk_at dksX6_passes_3 4 rfl rfl)
theorem dX6_passes_74 : decode cX6_passes 74 = .ok (.iload_n 3, 1) := dk_29 (dk_at dksX6_passes_3 5 rfl rfl)
theorem dX6_passes_75 : decode cX6_passes 75 = .ok (.bipush 36, 2) := dk_16 36 (dk_at dksX6_passes_3 6 rfl rfl)
theorem dX6_passes_77 : decode cX6_passes 77 = .ok (.if_icmp .ge 38, 3) := dk_162 0 38 (dk_at dksX6_passes_3 8 rfl rfl)
theorem dX6_passes_80 : decode cX6_passes 80 = .ok (.aload_n 0, 1) := dk_42 (dk_at dksX6_passes_3 11 rfl rfl)
theorem dX6_passes_81 : decode cX6_passes 81 = .ok (.iload_n 3, 1) := dk_29 (dk_at dksX6_passes_3 12 rfl rfl)
theorem dX6_passes_82 : decode cX6_passes 82 = .ok (.iconst 3, 1) := dk_6 (dk_at dksX6_passes_3 13 rfl rfl)
theorem dX6_passes_83 : decode cX6_passes 83 = .ok (.invokevirtual 61, 3) := dk_182 0 61 (dk_at dksX6_passes_3 14 rfl rfl)
theorem dX6_passes_86 : decode cX6_passes 86 = .ok (.ifCond .eq 23, 3) := dk_153 0 23 (dk_at dksX6_passes_3 17 rfl rfl)
theorem dX6_passes_89 : decode cX6_passes 89 = .ok (.aload_n 0, 1) := dk_42 (dk_at dksX6_passes_3 20 rfl rfl)
theorem dX6_passes_90 : decode cX6_passes 90 = .ok (.iload_n 3, 1) := dk_29 (dk_at dksX6_passes_3 21 rfl rfl)
theorem dX6_passes_91 : decode cX6_passes 91 = .ok (.iconst 5, 1) := dk_8 (dk_at dksX6_passes_3 22 rfl rfl)
theorem dX6_passes_92 : decode cX6_passes 92 = .ok (.invokevirtual 61, 3) := dk_182 0 61 (dk_at dksX6_passes_4 0 rfl rfl)
theorem dX6_passes_95 : decode cX6_passes 95 = .ok (.aload_n 0, 1) := dk_42 (dk_at dksX6_passes_4 3 rfl rfl)
theorem dX6_passes_96 : decode cX6_passes 96 = .ok (.getfield 7, 3) := dk_180 0 7 (dk_at dksX6_passes_4 4 rfl rfl)
theorem dX6_passes_99 : decode cX6_passes 99 = .ok (.iconst 0, 1) := dk_3 (dk_at dksX6_passes_4 7 rfl rfl)
theorem dX6_passes_100 : decode cX6_passes 100 = .ok (.iaload, 1) := dk_46 (dk_at dksX6_passes_4 8 rfl rfl)
theorem dX6_passes_101 : decode cX6_passes 101 = .ok (.if_icmp .gt 8, 3) := dk_163 0 8 (dk_at dksX6_passes_4 9 rfl rfl)
theorem dX6_passes_104 : decode cX6_passes 104 = .ok (.aload_n 0, 1) := dk_42 (dk_at dksX6_passes_4 12 rfl rfl)
theorem dX6_passes_105 : decode cX6_passes 105 = .ok (.iload_n 3, 1) := dk_29 (dk_at dksX6_passes_4 13 rfl rfl)
theorem dX6_passes_106 : decode cX6_passes 106 = .ok (.invokevirtual 88, 3) := dk_182 0 88 (dk_at dksX6_passes_4 14 rfl rfl)
theorem dX6_passes_109 : decode cX6_passes 109 = .ok (.iinc 3 1, 3) := dk_132 3 1 (dk_at dksX6_passes_4 17 rfl rfl)
theorem dX6_passes_112 : decode cX6_passes 112 = .ok (.goto (-38), 3) := dk_167 255 218 (dk_at dksX6_passes_4 20 rfl rfl)
theorem dX6_passes_115 : decode cX6_passes 115 = .ok (.aload_n 0, 1) := dk_42 (dk_at dksX6_passes_4 23 rfl rfl)
theorem dX6_passes_116 : decode cX6_passes 116 = .ok (.getfield 7, 3) := dk_180 0 7 (dk_at dksX6_passes_5 0 rfl rfl)
theorem dX6_passes_119 : decode cX6_passes 119 = .ok (.iconst 5, 1) := dk_8 (dk_at dksX6_passes_5 3 rfl rfl)
theorem dX6_passes_120 : decode cX6_passes 120 = .ok (.iaload, 1) := dk_46 (dk_at dksX6_passes_5 4 rfl rfl)
theorem dX6_passes_121 : decode cX6_passes 121 = .ok (.iload_n 2, 1) := dk_28 (dk_at dksX6_passes_5 5 rfl rfl)
theorem dX6_passes_122 : decode cX6_passes 122 = .ok (.isub, 1) := dk_100 (dk_at dksX6_passes_5 6 rfl rfl)
theorem dX6_passes_123 : decode cX6_passes 123 = .ok (.ireturn, 1) := dk_172 (dk_at dksX6_passes_5 7 rfl rfl)
def dkwX6_time_0 : List UInt8 := [42, 42, 180, 0, 7, 3, 46, 182, 0, 94, 172]
abbrev dktX6_time_0 : List UInt8 := dkwX6_time_0 ++ []
theorem dksX6_time_0 : cX6_time.data.toList.drop 0 = dktX6_time_0 := by decide +kernel
theorem dX6_time_0 : decode cX6_time 0 = .ok (.aload_n 0, 1) := dk_42 (dk_at dksX6_time_0 0 rfl rfl)
theorem dX6_time_1 : decode cX6_time 1 = .ok (.aload_n 0, 1) := dk_42 (dk_at dksX6_time_0 1 rfl rfl)
theorem dX6_time_2 : decode cX6_time 2 = .ok (.getfield 7, 3) := dk_180 0 7 (dk_at dksX6_time_0 2 rfl rfl)
theorem dX6_time_5 : decode cX6_time 5 = .ok (.iconst 0, 1) := dk_3 (dk_at dksX6_time_0 5 rfl rfl)
theorem dX6_time_6 : decode cX6_time 6 = .ok (.iaload, 1) := dk_46 (dk_at dksX6_time_0 6 rfl rfl)
theorem dX6_time_7 : decode cX6_time 7 = .ok (.invokevirtual 94, 3) := dk_182 0 94 (dk_at dksX6_time_0 7 rfl rfl)
theorem dX6_time_10 : decode cX6_time 10 = .ok (.ireturn, 1) := dk_172 (dk_at dksX6_time_0 10 rfl rfl)
def dkwX6_tells_0 : List UInt8 := [42, 3, 181, 0, 32, 27, 172]
abbrev dktX6_tells_0 : List UInt8 := dkwX6_tells_0 ++ []
theorem dksX6_tells_0 : cX6_tells.data.toList.drop 0 = dktX6_tells_0 := by decide +kernel
theorem dX6_tells_0 : decode cX6_tells 0 = .ok (.aload_n 0, 1) := dk_42 (dk_at dksX6_tells_0 0 rfl rfl)
theorem dX6_tells_1 : decode cX6_tells 1 = .ok (.iconst 0, 1) := dk_3 (dk_at dksX6_tells_0 1 rfl rfl)
theorem dX6_tells_2 : decode cX6_tells 2 = .ok (.putfield 32, 3) := dk_181 0 32 (dk_at dksX6_tells_0 2 rfl rfl)
theorem dX6_tells_5 : decode cX6_tells 5 = .ok (.iload_n 1, 1) := dk_27 (dk_at dksX6_tells_0 5 rfl rfl)
theorem dX6_tells_6 : decode cX6_tells 6 = .ok (.ireturn, 1) := dk_172 (dk_at dksX6_tells_0 6 rfl rfl)
def dkwX6_parentOf_0 : List UInt8 := [42, 27, 3, 182, 0, 97, 172]
abbrev dktX6_parentOf_0 : List UInt8 := dkwX6_parentOf_0 ++ []
theorem dksX6_parentOf_0 : cX6_parentOf.data.toList.drop 0 = dktX6_parentOf_0 := by decide +kernel
theorem dX6_parentOf_0 : decode cX6_parentOf 0 = .ok (.aload_n 0, 1) := dk_42 (dk_at dksX6_parentOf_0 0 rfl rfl)
theorem dX6_parentOf_1 : decode cX6_parentOf 1 = .ok (.iload_n 1, 1) := dk_27 (dk_at dksX6_parentOf_0 1 rfl rfl)
theorem dX6_parentOf_2 : decode cX6_parentOf 2 = .ok (.iconst 0, 1) := dk_3 (dk_at dksX6_parentOf_0 2 rfl rfl)
theorem dX6_parentOf_3 : decode cX6_parentOf 3 = .ok (.invokevirtual 97, 3) := dk_182 0 97 (dk_at dksX6_parentOf_0 3 rfl rfl)
theorem dX6_parentOf_6 : decode cX6_parentOf 6 = .ok (.ireturn, 1) := dk_172 (dk_at dksX6_parentOf_0 6 rfl rfl)
def dkwX6_tellsZone_1 : List UInt8 := [167, 0, 9, 42, 27, 28, 182, 0, 50, 172]
abbrev dktX6_tellsZone_1 : List UInt8 := dkwX6_tellsZone_1 ++ []
def dkwX6_tellsZone_0 : List UInt8 := [42, 27, 184, 0, 54, 153, 0, 7, 3, 167, 0, 4, 4, 181, 0, 32, 42, 180, 0, 32, 158, 0, 7, 3]
abbrev dktX6_tellsZone_0 : List UInt8 := dkwX6_tellsZone_0 ++ dktX6_tellsZone_1
theorem dksX6_tellsZone_0 : cX6_tellsZone.data.toList.drop 0 = dktX6_tellsZone_0 := by decide +kernel
theorem dksX6_tellsZone_1 : cX6_tellsZone.data.toList.drop 24 = dktX6_tellsZone_1 := dk_seg dksX6_tellsZone_0 24 rfl rfl
theorem dX6_tellsZone_0 : decode cX6_tellsZone 0 = .ok (.aload_n 0, 1) := dk_42 (dk_at dksX6_tellsZone_0 0 rfl rfl)
theorem dX6_tellsZone_1 : decode cX6_tellsZone 1 = .ok (.iload_n 1, 1) := dk_27 (dk_at dksX6_tellsZone_0 1 rfl rfl)
theorem dX6_tellsZone_2 : decode cX6_tellsZone 2 = .ok (.invokestatic 54, 3) := dk_184 0 54 (dk_at dksX6_tellsZone_0 2 rfl rfl)
theorem dX6_tellsZone_5 : decode cX6_tellsZone 5 = .ok (.ifCond .eq 7, 3) := dk_153 0 7 (dk_at dksX6_tellsZone_0 5 rfl rfl)
theorem dX6_tellsZone_8 : decode cX6_tellsZone 8 = .ok (.iconst 0, 1) := dk_3 (dk_at dksX6_tellsZone_0 8 rfl rfl)
theorem dX6_tellsZone_9 : decode cX6_tellsZone 9 = .ok (.goto 4, 3) := dk_167 0 4 (dk_at dksX6_tellsZone_0 9 rfl rfl)
theorem dX6_tellsZone_12 : decode cX6_tellsZone 12 = .ok (.iconst 1, 1) := dk_4 (dk_at dksX6_tellsZone_0 12 rfl rfl)
theorem dX6_tellsZone_13 : decode cX6_tellsZone 13 = .ok (.putfield 32, 3) := dk_181 0 32 (dk_at dksX6_tellsZone_0 13 rfl rfl)
theorem dX6_tellsZone_16 : decode cX6_tellsZone 16 = .ok (.aload_n 0, 1) := dk_42 (dk_at dksX6_tellsZone_0 16 rfl rfl)
theorem dX6_tellsZone_17 : decode cX6_tellsZone 17 = .ok (.getfield 32, 3) := dk_180 0 32 (dk_at dksX6_tellsZone_0 17 rfl rfl)
theorem dX6_tellsZone_20 : decode cX6_tellsZone 20 = .ok (.ifCond .le 7, 3) := dk_158 0 7 (dk_at dksX6_tellsZone_0 20 rfl rfl)
theorem dX6_tellsZone_23 : decode cX6_tellsZone 23 = .ok (.iconst 0, 1) := dk_3 (dk_at dksX6_tellsZone_0 23 rfl rfl)
theorem dX6_tellsZone_24 : decode cX6_tellsZone 24 = .ok (.goto 9, 3) := dk_167 0 9 (dk_at dksX6_tellsZone_1 0 rfl rfl)
theorem dX6_tellsZone_27 : decode cX6_tellsZone 27 = .ok (.aload_n 0, 1) := dk_42 (dk_at dksX6_tellsZone_1 3 rfl rfl)
theorem dX6_tellsZone_28 : decode cX6_tellsZone 28 = .ok (.iload_n 1, 1) := dk_27 (dk_at dksX6_tellsZone_1 4 rfl rfl)
theorem dX6_tellsZone_29 : decode cX6_tellsZone 29 = .ok (.iload_n 2, 1) := dk_28 (dk_at dksX6_tellsZone_1 5 rfl rfl)
theorem dX6_tellsZone_30 : decode cX6_tellsZone 30 = .ok (.invokevirtual 50, 3) := dk_182 0 50 (dk_at dksX6_tellsZone_1 6 rfl rfl)
theorem dX6_tellsZone_33 : decode cX6_tellsZone 33 = .ok (.ireturn, 1) := dk_172 (dk_at dksX6_tellsZone_1 9 rfl rfl)
def dkwX6_depthOf_1 : List UInt8 := [167, 0, 8, 42, 27, 182, 0, 100, 172]
abbrev dktX6_depthOf_1 : List UInt8 := dkwX6_depthOf_1 ++ []
def dkwX6_depthOf_0 : List UInt8 := [42, 27, 184, 0, 54, 153, 0, 7, 3, 167, 0, 4, 4, 181, 0, 32, 42, 180, 0, 32, 158, 0, 7, 3]
abbrev dktX6_depthOf_0 : List UInt8 := dkwX6_depthOf_0 ++ dktX6_depthOf_1
theorem dksX6_depthOf_0 : cX6_depthOf.data.toList.drop 0 = dktX6_depthOf_0 := by decide +kernel
theorem dksX6_depthOf_1 : cX6_depthOf.data.toList.drop 24 = dktX6_depthOf_1 := dk_seg dksX6_depthOf_0 24 rfl rfl
theorem dX6_depthOf_0 : decode cX6_depthOf 0 = .ok (.aload_n 0, 1) := dk_42 (dk_at dksX6_depthOf_0 0 rfl rfl)
theorem dX6_depthOf_1 : decode cX6_depthOf 1 = .ok (.iload_n 1, 1) := dk_27 (dk_at dksX6_depthOf_0 1 rfl rfl)
theorem dX6_depthOf_2 : decode cX6_depthOf 2 = .ok (.invokestatic 54, 3) := dk_184 0 54 (dk_at dksX6_depthOf_0 2 rfl rfl)
theorem dX6_depthOf_5 : decode cX6_depthOf 5 = .ok (.ifCond .eq 7, 3) := dk_153 0 7 (dk_at dksX6_depthOf_0 5 rfl rfl)
theorem dX6_depthOf_8 : decode cX6_depthOf 8 = .ok (.iconst 0, 1) := dk_3 (dk_at dksX6_depthOf_0 8 rfl rfl)
theorem dX6_depthOf_9 : decode cX6_depthOf 9 = .ok (.goto 4, 3) := dk_167 0 4 (dk_at dksX6_depthOf_0 9 rfl rfl)
theorem dX6_depthOf_12 : decode cX6_depthOf 12 = .ok (.iconst 1, 1) := dk_4 (dk_at dksX6_depthOf_0 12 rfl rfl)
theorem dX6_depthOf_13 : decode cX6_depthOf 13 = .ok (.putfield 32, 3) := dk_181 0 32 (dk_at dksX6_depthOf_0 13 rfl rfl)
theorem dX6_depthOf_16 : decode cX6_depthOf 16 = .ok (.aload_n 0, 1) := dk_42 (dk_at dksX6_depthOf_0 16 rfl rfl)
theorem dX6_depthOf_17 : decode cX6_depthOf 17 = .ok (.getfield 32, 3) := dk_180 0 32 (dk_at dksX6_depthOf_0 17 rfl rfl)
theorem dX6_depthOf_20 : decode cX6_depthOf 20 = .ok (.ifCond .le 7, 3) := dk_158 0 7 (dk_at dksX6_depthOf_0 20 rfl rfl)
theorem dX6_depthOf_23 : decode cX6_depthOf 23 = .ok (.iconst 0, 1) := dk_3 (dk_at dksX6_depthOf_0 23 rfl rfl)
theorem dX6_depthOf_24 : decode cX6_depthOf 24 = .ok (.goto 8, 3) := dk_167 0 8 (dk_at dksX6_depthOf_1 0 rfl rfl)
theorem dX6_depthOf_27 : decode cX6_depthOf 27 = .ok (.aload_n 0, 1) := dk_42 (dk_at dksX6_depthOf_1 3 rfl rfl)
theorem dX6_depthOf_28 : decode cX6_depthOf 28 = .ok (.iload_n 1, 1) := dk_27 (dk_at dksX6_depthOf_1 4 rfl rfl)
theorem dX6_depthOf_29 : decode cX6_depthOf 29 = .ok (.invokevirtual 100, 3) := dk_182 0 100 (dk_at dksX6_depthOf_1 5 rfl rfl)
theorem dX6_depthOf_32 : decode cX6_depthOf 32 = .ok (.ireturn, 1) := dk_172 (dk_at dksX6_depthOf_1 8 rfl rfl)
def dkwX6_depth_0 : List UInt8 := [3, 61, 27, 62, 29, 153, 0, 16, 132, 2, 1, 42, 29, 3, 182, 0, 50, 62, 167, 255, 242, 28, 172]
abbrev dktX6_depth_0 : List UInt8 := dkwX6_depth_0 ++ []
theorem dksX6_depth_0 : cX6_depth.data.toList.drop 0 = dktX6_depth_0 := by decide +kernel
theorem dX6_depth_0 : decode cX6_depth 0 = .ok (.iconst 0, 1) := dk_3 (dk_at dksX6_depth_0 0 rfl rfl)
theorem dX6_depth_1 : decode cX6_depth 1 = .ok (.istore_n 2, 1) := dk_61 (dk_at dksX6_depth_0 1 rfl rfl)
theorem dX6_depth_2 : decode cX6_depth 2 = .ok (.iload_n 1, 1) := dk_27 (dk_at dksX6_depth_0 2 rfl rfl)
theorem dX6_depth_3 : decode cX6_depth 3 = .ok (.istore_n 3, 1) := dk_62 (dk_at dksX6_depth_0 3 rfl rfl)
theorem dX6_depth_4 : decode cX6_depth 4 = .ok (.iload_n 3, 1) := dk_29 (dk_at dksX6_depth_0 4 rfl rfl)
theorem dX6_depth_5 : decode cX6_depth 5 = .ok (.ifCond .eq 16, 3) := dk_153 0 16 (dk_at dksX6_depth_0 5 rfl rfl)
theorem dX6_depth_8 : decode cX6_depth 8 = .ok (.iinc 2 1, 3) := dk_132 2 1 (dk_at dksX6_depth_0 8 rfl rfl)
theorem dX6_depth_11 : decode cX6_depth 11 = .ok (.aload_n 0, 1) := dk_42 (dk_at dksX6_depth_0 11 rfl rfl)
theorem dX6_depth_12 : decode cX6_depth 12 = .ok (.iload_n 3, 1) := dk_29 (dk_at dksX6_depth_0 12 rfl rfl)
theorem dX6_depth_13 : decode cX6_depth 13 = .ok (.iconst 0, 1) := dk_3 (dk_at dksX6_depth_0 13 rfl rfl)
theorem dX6_depth_14 : decode cX6_depth 14 = .ok (.invokevirtual 50, 3) := dk_182 0 50 (dk_at dksX6_depth_0 14 rfl rfl)
theorem dX6_depth_17 : decode cX6_depth 17 = .ok (.istore_n 3, 1) := dk_62 (dk_at dksX6_depth_0 17 rfl rfl)
theorem dX6_depth_18 : decode cX6_depth 18 = .ok (.goto (-14), 3) := dk_167 255 242 (dk_at dksX6_depth_0 18 rfl rfl)
theorem dX6_depth_21 : decode cX6_depth 21 = .ok (.iload_n 2, 1) := dk_28 (dk_at dksX6_depth_0 21 rfl rfl)
theorem dX6_depth_22 : decode cX6_depth 22 = .ok (.ireturn, 1) := dk_172 (dk_at dksX6_depth_0 22 rfl rfl)
def dkwX6_kindOf_0 : List UInt8 := [42, 27, 3, 182, 0, 103, 172]
abbrev dktX6_kindOf_0 : List UInt8 := dkwX6_kindOf_0 ++ []
theorem dksX6_kindOf_0 : cX6_kindOf.data.toList.drop 0 = dktX6_kindOf_0 := by decide +kernel
theorem dX6_kindOf_0 : decode cX6_kindOf 0 = .ok (.aload_n 0, 1) := dk_42 (dk_at dksX6_kindOf_0 0 rfl rfl)
theorem dX6_kindOf_1 : decode cX6_kindOf 1 = .ok (.iload_n 1, 1) := dk_27 (dk_at dksX6_kindOf_0 1 rfl rfl)
theorem dX6_kindOf_2 : decode cX6_kindOf 2 = .ok (.iconst 0, 1) := dk_3 (dk_at dksX6_kindOf_0 2 rfl rfl)
theorem dX6_kindOf_3 : decode cX6_kindOf 3 = .ok (.invokevirtual 103, 3) := dk_182 0 103 (dk_at dksX6_kindOf_0 3 rfl rfl)
theorem dX6_kindOf_6 : decode cX6_kindOf 6 = .ok (.ireturn, 1) := dk_172 (dk_at dksX6_kindOf_0 6 rfl rfl)
def dkwX6_tellsRiddle_1 : List UInt8 := [167, 0, 9, 42, 27, 28, 182, 0, 61, 172]
abbrev dktX6_tellsRiddle_1 : List UInt8 := dkwX6_tellsRiddle_1 ++ []
def dkwX6_tellsRiddle_0 : List UInt8 := [42, 27, 184, 0, 64, 153, 0, 7, 3, 167, 0, 4, 4, 181, 0, 32, 42, 180, 0, 32, 158, 0, 7, 3]
abbrev dktX6_tellsRiddle_0 : List UInt8 := dkwX6_tellsRiddle_0 ++ dktX6_tellsRiddle_1
theorem dksX6_tellsRiddle_0 : cX6_tellsRiddle.data.toList.drop 0 = dktX6_tellsRiddle_0 := by decide +kernel
theorem dksX6_tellsRiddle_1 : cX6_tellsRiddle.data.toList.drop 24 = dktX6_tellsRiddle_1 := dk_seg dksX6_tellsRiddle_0 24 rfl rfl
theorem dX6_tellsRiddle_0 : decode cX6_tellsRiddle 0 = .ok (.aload_n 0, 1) := dk_42 (dk_at dksX6_tellsRiddle_0 0 rfl rfl)
theorem dX6_tellsRiddle_1 : decode cX6_tellsRiddle 1 = .ok (.iload_n 1, 1) := dk_27 (dk_at dksX6_tellsRiddle_0 1 rfl rfl)
theorem dX6_tellsRiddle_2 : decode cX6_tellsRiddle 2 = .ok (.invokestatic 64, 3) := dk_184 0 64 (dk_at dksX6_tellsRiddle_0 2 rfl rfl)
theorem dX6_tellsRiddle_5 : decode cX6_tellsRiddle 5 = .ok (.ifCond .eq 7, 3) := dk_153 0 7 (dk_at dksX6_tellsRiddle_0 5 rfl rfl)
theorem dX6_tellsRiddle_8 : decode cX6_tellsRiddle 8 = .ok (.iconst 0, 1) := dk_3 (dk_at dksX6_tellsRiddle_0 8 rfl rfl)
theorem dX6_tellsRiddle_9 : decode cX6_tellsRiddle 9 = .ok (.goto 4, 3) := dk_167 0 4 (dk_at dksX6_tellsRiddle_0 9 rfl rfl)
theorem dX6_tellsRiddle_12 : decode cX6_tellsRiddle 12 = .ok (.iconst 1, 1) := dk_4 (dk_at dksX6_tellsRiddle_0 12 rfl rfl)
theorem dX6_tellsRiddle_13 : decode cX6_tellsRiddle 13 = .ok (.putfield 32, 3) := dk_181 0 32 (dk_at dksX6_tellsRiddle_0 13 rfl rfl)
theorem dX6_tellsRiddle_16 : decode cX6_tellsRiddle 16 = .ok (.aload_n 0, 1) := dk_42 (dk_at dksX6_tellsRiddle_0 16 rfl rfl)
theorem dX6_tellsRiddle_17 : decode cX6_tellsRiddle 17 = .ok (.getfield 32, 3) := dk_180 0 32 (dk_at dksX6_tellsRiddle_0 17 rfl rfl)
theorem dX6_tellsRiddle_20 : decode cX6_tellsRiddle 20 = .ok (.ifCond .le 7, 3) := dk_158 0 7 (dk_at dksX6_tellsRiddle_0 20 rfl rfl)
theorem dX6_tellsRiddle_23 : decode cX6_tellsRiddle 23 = .ok (.iconst 0, 1) := dk_3 (dk_at dksX6_tellsRiddle_0 23 rfl rfl)
theorem dX6_tellsRiddle_24 : decode cX6_tellsRiddle 24 = .ok (.goto 9, 3) := dk_167 0 9 (dk_at dksX6_tellsRiddle_1 0 rfl rfl)
theorem dX6_tellsRiddle_27 : decode cX6_tellsRiddle 27 = .ok (.aload_n 0, 1) := dk_42 (dk_at dksX6_tellsRiddle_1 3 rfl rfl)
theorem dX6_tellsRiddle_28 : decode cX6_tellsRiddle 28 = .ok (.iload_n 1, 1) := dk_27 (dk_at dksX6_tellsRiddle_1 4 rfl rfl)
theorem dX6_tellsRiddle_29 : decode cX6_tellsRiddle 29 = .ok (.iload_n 2, 1) := dk_28 (dk_at dksX6_tellsRiddle_1 5 rfl rfl)
theorem dX6_tellsRiddle_30 : decode cX6_tellsRiddle 30 = .ok (.invokevirtual 61, 3) := dk_182 0 61 (dk_at dksX6_tellsRiddle_1 6 rfl rfl)
theorem dX6_tellsRiddle_33 : decode cX6_tellsRiddle 33 = .ok (.ireturn, 1) := dk_172 (dk_at dksX6_tellsRiddle_1 9 rfl rfl)
def dkwX6_valueOf_0 : List UInt8 := [42, 27, 4, 182, 0, 103, 172]
abbrev dktX6_valueOf_0 : List UInt8 := dkwX6_valueOf_0 ++ []
theorem dksX6_valueOf_0 : cX6_valueOf.data.toList.drop 0 = dktX6_valueOf_0 := by decide +kernel
theorem dX6_valueOf_0 : decode cX6_valueOf 0 = .ok (.aload_n 0, 1) := dk_42 (dk_at dksX6_valueOf_0 0 rfl rfl)
theorem dX6_valueOf_1 : decode cX6_valueOf 1 = .ok (.iload_n 1, 1) := dk_27 (dk_at dksX6_valueOf_0 1 rfl rfl)
theorem dX6_valueOf_2 : decode cX6_valueOf 2 = .ok (.iconst 1, 1) := dk_4 (dk_at dksX6_valueOf_0 2 rfl rfl)
theorem dX6_valueOf_3 : decode cX6_valueOf 3 = .ok (.invokevirtual 103, 3) := dk_182 0 103 (dk_at dksX6_valueOf_0 3 rfl rfl)
theorem dX6_valueOf_6 : decode cX6_valueOf 6 = .ok (.ireturn, 1) := dk_172 (dk_at dksX6_valueOf_0 6 rfl rfl)
def dkwX6_truthOf_1 : List UInt8 := [167, 0, 8, 42, 27, 182, 0, 106, 172]
abbrev dktX6_truthOf_1 : List UInt8 := dkwX6_truthOf_1 ++ []
def dkwX6_truthOf_0 : List UInt8 := [42, 27, 184, 0, 64, 153, 0, 7, 3, 167, 0, 4, 4, 181, 0, 32, 42, 180, 0, 32, 158, 0, 7, 3]
abbrev dktX6_truthOf_0 : List UInt8 := dkwX6_truthOf_0 ++ dktX6_truthOf_1
theorem dksX6_truthOf_0 : cX6_truthOf.data.toList.drop 0 = dktX6_truthOf_0 := by decide +kernel
theorem dksX6_truthOf_1 : cX6_truthOf.data.toList.drop 24 = dktX6_truthOf_1 := dk_seg dksX6_truthOf_0 24 rfl rfl
theorem dX6_truthOf_0 : decode cX6_truthOf 0 = .ok (.aload_n 0, 1) := dk_42 (dk_at dksX6_truthOf_0 0 rfl rfl)
theorem dX6_truthOf_1 : decode cX6_truthOf 1 = .ok (.iload_n 1, 1) := dk_27 (dk_at dksX6_truthOf_0 1 rfl rfl)
theorem dX6_truthOf_2 : decode cX6_truthOf 2 = .ok (.invokestatic 64, 3) := dk_184 0 64 (dk_at dksX6_truthOf_0 2 rfl rfl)
theorem dX6_truthOf_5 : decode cX6_truthOf 5 = .ok (.ifCond .eq 7, 3) := dk_153 0 7 (dk_at dksX6_truthOf_0 5 rfl rfl)
theorem dX6_truthOf_8 : decode cX6_truthOf 8 = .ok (.iconst 0, 1) := dk_3 (dk_at dksX6_truthOf_0 8 rfl rfl)
theorem dX6_truthOf_9 : decode cX6_truthOf 9 = .ok (.goto 4, 3) := dk_167 0 4 (dk_at dksX6_truthOf_0 9 rfl rfl)
theorem dX6_truthOf_12 : decode cX6_truthOf 12 = .ok (.iconst 1, 1) := dk_4 (dk_at dksX6_truthOf_0 12 rfl rfl)
theorem dX6_truthOf_13 : decode cX6_truthOf 13 = .ok (.putfield 32, 3) := dk_181 0 32 (dk_at dksX6_truthOf_0 13 rfl rfl)
theorem dX6_truthOf_16 : decode cX6_truthOf 16 = .ok (.aload_n 0, 1) := dk_42 (dk_at dksX6_truthOf_0 16 rfl rfl)
theorem dX6_truthOf_17 : decode cX6_truthOf 17 = .ok (.getfield 32, 3) := dk_180 0 32 (dk_at dksX6_truthOf_0 17 rfl rfl)
theorem dX6_truthOf_20 : decode cX6_truthOf 20 = .ok (.ifCond .le 7, 3) := dk_158 0 7 (dk_at dksX6_truthOf_0 20 rfl rfl)
theorem dX6_truthOf_23 : decode cX6_truthOf 23 = .ok (.iconst 0, 1) := dk_3 (dk_at dksX6_truthOf_0 23 rfl rfl)
theorem dX6_truthOf_24 : decode cX6_truthOf 24 = .ok (.goto 8, 3) := dk_167 0 8 (dk_at dksX6_truthOf_1 0 rfl rfl)
theorem dX6_truthOf_27 : decode cX6_truthOf 27 = .ok (.aload_n 0, 1) := dk_42 (dk_at dksX6_truthOf_1 3 rfl rfl)
theorem dX6_truthOf_28 : decode cX6_truthOf 28 = .ok (.iload_n 1, 1) := dk_27 (dk_at dksX6_truthOf_1 4 rfl rfl)
theorem dX6_truthOf_29 : decode cX6_truthOf 29 = .ok (.invokevirtual 106, 3) := dk_182 0 106 (dk_at dksX6_truthOf_1 5 rfl rfl)
theorem dX6_truthOf_32 : decode cX6_truthOf 32 = .ok (.ireturn, 1) := dk_172 (dk_at dksX6_truthOf_1 8 rfl rfl)
def dkwX6_truth_1 : List UInt8 := [28, 4, 182, 0, 61, 61, 132, 3, 1, 167, 255, 227, 42, 28, 4, 182, 0, 61, 172]
abbrev dktX6_truth_1 : List UInt8 := dkwX6_truth_1 ++ []
def dkwX6_truth_0 : List UInt8 := [27, 61, 3, 62, 42, 28, 3, 182, 0, 61, 5, 160, 0, 25, 29, 16, 6, 160, 0, 6, 16, 254, 172, 42]
abbrev dktX6_truth_0 : List UInt8 := dkwX6_truth_0 ++ dktX6_truth_1
theorem dksX6_truth_0 : cX6_truth.data.toList.drop 0 = dktX6_truth_0 := by decide +kernel
theorem dksX6_truth_1 : cX6_truth.data.toList.drop 24 = dktX6_truth_1 := dk_seg dksX6_truth_0 24 rfl rfl
theorem dX6_truth_0 : decode cX6_truth 0 = .ok (.iload_n 1, 1) := dk_27 (dk_at dksX6_truth_0 0 rfl rfl)
theorem dX6_truth_1 : decode cX6_truth 1 = .ok (.istore_n 2, 1) := dk_61 (dk_at dksX6_truth_0 1 rfl rfl)
theorem dX6_truth_2 : decode cX6_truth 2 = .ok (.iconst 0, 1) := dk_3 (dk_at dksX6_truth_0 2 rfl rfl)
theorem dX6_truth_3 : decode cX6_truth 3 = .ok (.istore_n 3, 1) := dk_62 (dk_at dksX6_truth_0 3 rfl rfl)
theorem dX6_truth_4 : decode cX6_truth 4 = .ok (.aload_n 0, 1) := dk_42 (dk_at dksX6_truth_0 4 rfl rfl)
theorem dX6_truth_5 : decode cX6_truth 5 = .ok (.iload_n 2, 1) := dk_28 (dk_at dksX6_truth_0 5 rfl rfl)
theorem dX6_truth_6 : decode cX6_truth 6 = .ok (.iconst 0, 1) := dk_3 (dk_at dksX6_truth_0 6 rfl rfl)
theorem dX6_truth_7 : decode cX6_truth 7 = .ok (.invokevirtual 61, 3) := dk_182 0 61 (dk_at dksX6_truth_0 7 rfl rfl)
theorem dX6_truth_10 : decode cX6_truth 10 = .ok (.iconst 2, 1) := dk_5 (dk_at dksX6_truth_0 10 rfl rfl)
theorem dX6_truth_11 : decode cX6_truth 11 = .ok (.if_icmp .ne 25, 3) := dk_160 0 25 (dk_at dksX6_truth_0 11 rfl rfl)
theorem dX6_truth_14 : decode cX6_truth 14 = .ok (.iload_n 3, 1) := dk_29 (dk_at dksX6_truth_0 14 rfl rfl)
theorem dX6_truth_15 : decode cX6_truth 15 = .ok (.bipush 6, 2) := dk_16 6 (dk_at dksX6_truth_0 15 rfl rfl)
theorem dX6_truth_17 : decode cX6_truth 17 = .ok (.if_icmp .ne 6, 3) := dk_160 0 6 (dk_at dksX6_truth_0 17 rfl rfl)
theorem dX6_truth_20 : decode cX6_truth 20 = .ok (.bipush (-2), 2) := dk_16 254 (dk_at dksX6_truth_0 20 rfl rfl)
theorem dX6_truth_22 : decode cX6_truth 22 = .ok (.ireturn, 1) := dk_172 (dk_at dksX6_truth_0 22 rfl rfl)
theorem dX6_truth_23 : decode cX6_truth 23 = .ok (.aload_n 0, 1) := dk_42 (dk_at dksX6_truth_0 23 rfl rfl)
theorem dX6_truth_24 : decode cX6_truth 24 = .ok (.iload_n 2, 1) := dk_28 (dk_at dksX6_truth_1 0 rfl rfl)
theorem dX6_truth_25 : decode cX6_truth 25 = .ok (.iconst 1, 1) := dk_4 (dk_at dksX6_truth_1 1 rfl rfl)
theorem dX6_truth_26 : decode cX6_truth 26 = .ok (.invokevirtual 61, 3) := dk_182 0 61 (dk_at dksX6_truth_1 2 rfl rfl)
theorem dX6_truth_29 : decode cX6_truth 29 = .ok (.istore_n 2, 1) := dk_61 (dk_at dksX6_truth_1 5 rfl rfl)
theorem dX6_truth_30 : decode cX6_truth 30 = .ok (.iinc 3 1, 3) := dk_132 3 1 (dk_at dksX6_truth_1 6 rfl rfl)
theorem dX6_truth_33 : decode cX6_truth 33 = .ok (.goto (-29), 3) := dk_167 255 227 (dk_at dksX6_truth_1 9 rfl rfl)
theorem dX6_truth_36 : decode cX6_truth 36 = .ok (.aload_n 0, 1) := dk_42 (dk_at dksX6_truth_1 12 rfl rfl)
theorem dX6_truth_37 : decode cX6_truth 37 = .ok (.iload_n 2, 1) := dk_28 (dk_at dksX6_truth_1 13 rfl rfl)
theorem dX6_truth_38 : decode cX6_truth 38 = .ok (.iconst 1, 1) := dk_4 (dk_at dksX6_truth_1 14 rfl rfl)
theorem dX6_truth_39 : decode cX6_truth 39 = .ok (.invokevirtual 61, 3) := dk_182 0 61 (dk_at dksX6_truth_1 15 rfl rfl)
theorem dX6_truth_42 : decode cX6_truth 42 = .ok (.ireturn, 1) := dk_172 (dk_at dksX6_truth_1 18 rfl rfl)
def dkwX6_rememberedOf_0 : List UInt8 := [42, 27, 6, 182, 0, 103, 172]
abbrev dktX6_rememberedOf_0 : List UInt8 := dkwX6_rememberedOf_0 ++ []
theorem dksX6_rememberedOf_0 : cX6_rememberedOf.data.toList.drop 0 = dktX6_rememberedOf_0 := by decide +kernel
theorem dX6_rememberedOf_0 : decode cX6_rememberedOf 0 = .ok (.aload_n 0, 1) := dk_42 (dk_at dksX6_rememberedOf_0 0 rfl rfl)
theorem dX6_rememberedOf_1 : decode cX6_rememberedOf 1 = .ok (.iload_n 1, 1) := dk_27 (dk_at dksX6_rememberedOf_0 1 rfl rfl)
theorem dX6_rememberedOf_2 : decode cX6_rememberedOf 2 = .ok (.iconst 3, 1) := dk_6 (dk_at dksX6_rememberedOf_0 2 rfl rfl)
theorem dX6_rememberedOf_3 : decode cX6_rememberedOf 3 = .ok (.invokevirtual 103, 3) := dk_182 0 103 (dk_at dksX6_rememberedOf_0 3 rfl rfl)
theorem dX6_rememberedOf_6 : decode cX6_rememberedOf 6 = .ok (.ireturn, 1) := dk_172 (dk_at dksX6_rememberedOf_0 6 rfl rfl)
def dkwX6_ticksLeftOf_1 : List UInt8 := [167, 0, 13, 42, 42, 27, 8, 182, 0, 61, 182, 0, 109, 172]
abbrev dktX6_ticksLeftOf_1 : List UInt8 := dkwX6_ticksLeftOf_1 ++ []
def dkwX6_ticksLeftOf_0 : List UInt8 := [42, 27, 184, 0, 64, 153, 0, 7, 3, 167, 0, 4, 4, 181, 0, 32, 42, 180, 0, 32, 158, 0, 7, 3]
abbrev dktX6_ticksLeftOf_0 : List UInt8 := dkwX6_ticksLeftOf_0 ++ dktX6_ticksLeftOf_1
theorem dksX6_ticksLeftOf_0 : cX6_ticksLeftOf.data.toList.drop 0 = dktX6_ticksLeftOf_0 := by decide +kernel
theorem dksX6_ticksLeftOf_1 : cX6_ticksLeftOf.data.toList.drop 24 = dktX6_ticksLeftOf_1 := dk_seg dksX6_ticksLeftOf_0 24 rfl rfl
theorem dX6_ticksLeftOf_0 : decode cX6_ticksLeftOf 0 = .ok (.aload_n 0, 1) := dk_42 (dk_at dksX6_ticksLeftOf_0 0 rfl rfl)
theorem dX6_ticksLeftOf_1 : decode cX6_ticksLeftOf 1 = .ok (.iload_n 1, 1) := dk_27 (dk_at dksX6_ticksLeftOf_0 1 rfl rfl)
theorem dX6_ticksLeftOf_2 : decode cX6_ticksLeftOf 2 = .ok (.invokestatic 64, 3) := dk_184 0 64 (dk_at dksX6_ticksLeftOf_0 2 rfl rfl)
theorem dX6_ticksLeftOf_5 : decode cX6_ticksLeftOf 5 = .ok (.ifCond .eq 7, 3) := dk_153 0 7 (dk_at dksX6_ticksLeftOf_0 5 rfl rfl)
theorem dX6_ticksLeftOf_8 : decode cX6_ticksLeftOf 8 = .ok (.iconst 0, 1) := dk_3 (dk_at dksX6_ticksLeftOf_0 8 rfl rfl)
theorem dX6_ticksLeftOf_9 : decode cX6_ticksLeftOf 9 = .ok (.goto 4, 3) := dk_167 0 4 (dk_at dksX6_ticksLeftOf_0 9 rfl rfl)
theorem dX6_ticksLeftOf_12 : decode cX6_ticksLeftOf 12 = .ok (.iconst 1, 1) := dk_4 (dk_at dksX6_ticksLeftOf_0 12 rfl rfl)
theorem dX6_ticksLeftOf_13 : decode cX6_ticksLeftOf 13 = .ok (.putfield 32, 3) := dk_181 0 32 (dk_at dksX6_ticksLeftOf_0 13 rfl rfl)
theorem dX6_ticksLeftOf_16 : decode cX6_ticksLeftOf 16 = .ok (.aload_n 0, 1) := dk_42 (dk_at dksX6_ticksLeftOf_0 16 rfl rfl)
theorem dX6_ticksLeftOf_17 : decode cX6_ticksLeftOf 17 = .ok (.getfield 32, 3) := dk_180 0 32 (dk_at dksX6_ticksLeftOf_0 17 rfl rfl)
theorem dX6_ticksLeftOf_20 : decode cX6_ticksLeftOf 20 = .ok (.ifCond .le 7, 3) := dk_158 0 7 (dk_at dksX6_ticksLeftOf_0 20 rfl rfl)
theorem dX6_ticksLeftOf_23 : decode cX6_ticksLeftOf 23 = .ok (.iconst 0, 1) := dk_3 (dk_at dksX6_ticksLeftOf_0 23 rfl rfl)
theorem dX6_ticksLeftOf_24 : decode cX6_ticksLeftOf 24 = .ok (.goto 13, 3) := dk_167 0 13 (dk_at dksX6_ticksLeftOf_1 0 rfl rfl)
theorem dX6_ticksLeftOf_27 : decode cX6_ticksLeftOf 27 = .ok (.aload_n 0, 1) := dk_42 (dk_at dksX6_ticksLeftOf_1 3 rfl rfl)
theorem dX6_ticksLeftOf_28 : decode cX6_ticksLeftOf 28 = .ok (.aload_n 0, 1) := dk_42 (dk_at dksX6_ticksLeftOf_1 4 rfl rfl)
theorem dX6_ticksLeftOf_29 : decode cX6_ticksLeftOf 29 = .ok (.iload_n 1, 1) := dk_27 (dk_at dksX6_ticksLeftOf_1 5 rfl rfl)
theorem dX6_ticksLeftOf_30 : decode cX6_ticksLeftOf 30 = .ok (.iconst 5, 1) := dk_8 (dk_at dksX6_ticksLeftOf_1 6 rfl rfl)
theorem dX6_ticksLeftOf_31 : decode cX6_ticksLeftOf 31 = .ok (.invokevirtual 61, 3) := dk_182 0 61 (dk_at dksX6_ticksLeftOf_1 7 rfl rfl)
theorem dX6_ticksLeftOf_34 : decode cX6_ticksLeftOf 34 = .ok (.invokevirtual 109, 3) := dk_182 0 109 (dk_at dksX6_ticksLeftOf_1 10 rfl rfl)
theorem dX6_ticksLeftOf_37 : decode cX6_ticksLeftOf 37 = .ok (.ireturn, 1) := dk_172 (dk_at dksX6_ticksLeftOf_1 13 rfl rfl)
def dkwX6_leftUntil_0 : List UInt8 := [27, 154, 0, 7, 2, 167, 0, 11, 27, 42, 180, 0, 7, 3, 46, 100, 172]
abbrev dktX6_leftUntil_0 : List UInt8 := dkwX6_leftUntil_0 ++ []
theorem dksX6_leftUntil_0 : cX6_leftUntil.data.toList.drop 0 = dktX6_leftUntil_0 := by decide +kernel
theorem dX6_leftUntil_0 : decode cX6_leftUntil 0 = .ok (.iload_n 1, 1) := dk_27 (dk_at dksX6_leftUntil_0 0 rfl rfl)
theorem dX6_leftUntil_1 : decode cX6_leftUntil 1 = .ok (.ifCond .ne 7, 3) := dk_154 0 7 (dk_at dksX6_leftUntil_0 1 rfl rfl)
theorem dX6_leftUntil_4 : decode cX6_leftUntil 4 = .ok (.iconst (-1), 1) := dk_2 (dk_at dksX6_leftUntil_0 4 rfl rfl)
theorem dX6_leftUntil_5 : decode cX6_leftUntil 5 = .ok (.goto 11, 3) := dk_167 0 11 (dk_at dksX6_leftUntil_0 5 rfl rfl)
theorem dX6_leftUntil_8 : decode cX6_leftUntil 8 = .ok (.iload_n 1, 1) := dk_27 (dk_at dksX6_leftUntil_0 8 rfl rfl)
theorem dX6_leftUntil_9 : decode cX6_leftUntil 9 = .ok (.aload_n 0, 1) := dk_42 (dk_at dksX6_leftUntil_0 9 rfl rfl)
theorem dX6_leftUntil_10 : decode cX6_leftUntil 10 = .ok (.getfield 7, 3) := dk_180 0 7 (dk_at dksX6_leftUntil_0 10 rfl rfl)
theorem dX6_leftUntil_13 : decode cX6_leftUntil 13 = .ok (.iconst 0, 1) := dk_3 (dk_at dksX6_leftUntil_0 13 rfl rfl)
theorem dX6_leftUntil_14 : decode cX6_leftUntil 14 = .ok (.iaload, 1) := dk_46 (dk_at dksX6_leftUntil_0 14 rfl rfl)
theorem dX6_leftUntil_15 : decode cX6_leftUntil 15 = .ok (.isub, 1) := dk_100 (dk_at dksX6_leftUntil_0 15 rfl rfl)
theorem dX6_leftUntil_16 : decode cX6_leftUntil 16 = .ok (.ireturn, 1) := dk_172 (dk_at dksX6_leftUntil_0 16 rfl rfl)
def dkwX6_referralLeft_1 : List UInt8 := [167, 0, 13, 42, 42, 27, 6, 182, 0, 50, 182, 0, 109, 172]
abbrev dktX6_referralLeft_1 : List UInt8 := dkwX6_referralLeft_1 ++ []
def dkwX6_referralLeft_0 : List UInt8 := [42, 27, 184, 0, 54, 153, 0, 7, 3, 167, 0, 4, 4, 181, 0, 32, 42, 180, 0, 32, 158, 0, 7, 3]
abbrev dktX6_referralLeft_0 : List UInt8 := dkwX6_referralLeft_0 ++ dktX6_referralLeft_1
theorem dksX6_referralLeft_0 : cX6_referralLeft.data.toList.drop 0 = dktX6_referralLeft_0 := by decide +kernel
theorem dksX6_referralLeft_1 : cX6_referralLeft.data.toList.drop 24 = dktX6_referralLeft_1 := dk_seg dksX6_referralLeft_0 24 rfl rfl
theorem dX6_referralLeft_0 : decode cX6_referralLeft 0 = .ok (.aload_n 0, 1) := dk_42 (dk_at dksX6_referralLeft_0 0 rfl rfl)
theorem dX6_referralLeft_1 : decode cX6_referralLeft 1 = .ok (.iload_n 1, 1) := dk_27 (dk_at dksX6_referralLeft_0 1 rfl rfl)
theorem dX6_referralLeft_2 : decode cX6_referralLeft 2 = .ok (.invokestatic 54, 3) := dk_184 0 54 (dk_at dksX6_referralLeft_0 2 rfl rfl)
theorem dX6_referralLeft_5 : decode cX6_referralLeft 5 = .ok (.ifCond .eq 7, 3) := dk_153 0 7 (dk_at dksX6_referralLeft_0 5 rfl rfl)
theorem dX6_referralLeft_8 : decode cX6_referralLeft 8 = .ok (.iconst 0, 1) := dk_3 (dk_at dksX6_referralLeft_0 8 rfl rfl)
theorem dX6_referralLeft_9 : decode cX6_referralLeft 9 = .ok (.goto 4, 3) := dk_167 0 4 (dk_at dksX6_referralLeft_0 9 rfl rfl)
theorem dX6_referralLeft_12 : decode cX6_referralLeft 12 = .ok (.iconst 1, 1) := dk_4 (dk_at dksX6_referralLeft_0 12 rfl rfl)
theorem dX6_referralLeft_13 : decode cX6_referralLeft 13 = .ok (.putfield 32, 3) := dk_181 0 32 (dk_at dksX6_referralLeft_0 13 rfl rfl)
theorem dX6_referralLeft_16 : decode cX6_referralLeft 16 = .ok (.aload_n 0, 1) := dk_42 (dk_at dksX6_referralLeft_0 16 rfl rfl)
theorem dX6_referralLeft_17 : decode cX6_referralLeft 17 = .ok (.getfield 32, 3) := dk_180 0 32 (dk_at dksX6_referralLeft_0 17 rfl rfl)
theorem dX6_referralLeft_20 : decode cX6_referralLeft 20 = .ok (.ifCond .le 7, 3) := dk_158 0 7 (dk_at dksX6_referralLeft_0 20 rfl rfl)
theorem dX6_referralLeft_23 : decode cX6_referralLeft 23 = .ok (.iconst 0, 1) := dk_3 (dk_at dksX6_referralLeft_0 23 rfl rfl)
theorem dX6_referralLeft_24 : decode cX6_referralLeft 24 = .ok (.goto 13, 3) := dk_167 0 13 (dk_at dksX6_referralLeft_1 0 rfl rfl)
theorem dX6_referralLeft_27 : decode cX6_referralLeft 27 = .ok (.aload_n 0, 1) := dk_42 (dk_at dksX6_referralLeft_1 3 rfl rfl)
theorem dX6_referralLeft_28 : decode cX6_referralLeft 28 = .ok (.aload_n 0, 1) := dk_42 (dk_at dksX6_referralLeft_1 4 rfl rfl)
theorem dX6_referralLeft_29 : decode cX6_referralLeft 29 = .ok (.iload_n 1, 1) := dk_27 (dk_at dksX6_referralLeft_1 5 rfl rfl)
theorem dX6_referralLeft_30 : decode cX6_referralLeft 30 = .ok (.iconst 3, 1) := dk_6 (dk_at dksX6_referralLeft_1 6 rfl rfl)
theorem dX6_referralLeft_31 : decode cX6_referralLeft 31 = .ok (.invokevirtual 50, 3) := dk_182 0 50 (dk_at dksX6_referralLeft_1 7 rfl rfl)
theorem dX6_referralLeft_34 : decode cX6_referralLeft 34 = .ok (.invokevirtual 109, 3) := dk_182 0 109 (dk_at dksX6_referralLeft_1 10 rfl rfl)
theorem dX6_referralLeft_37 : decode cX6_referralLeft 37 = .ok (.ireturn, 1) := dk_172 (dk_at dksX6_referralLeft_1 13 rfl rfl)
def dkwX6_remembered_0 : List UInt8 := [42, 42, 182, 0, 112, 182, 0, 94, 172]
abbrev dktX6_remembered_0 : List UInt8 := dkwX6_remembered_0 ++ []
theorem dksX6_remembered_0 : cX6_remembered.data.toList.drop 0 = dktX6_remembered_0 := by decide +kernel
theorem dX6_remembered_0 : decode cX6_remembered 0 = .ok (.aload_n 0, 1) := dk_42 (dk_at dksX6_remembered_0 0 rfl rfl)
theorem dX6_remembered_1 : decode cX6_remembered 1 = .ok (.aload_n 0, 1) := dk_42 (dk_at dksX6_remembered_0 1 rfl rfl)
theorem dX6_remembered_2 : decode cX6_remembered 2 = .ok (.invokevirtual 112, 3) := dk_182 0 112 (dk_at dksX6_remembered_0 2 rfl rfl)
theorem dX6_remembered_5 : decode cX6_remembered 5 = .ok (.invokevirtual 94, 3) := dk_182 0 94 (dk_at dksX6_remembered_0 5 rfl rfl)
theorem dX6_remembered_8 : decode cX6_remembered 8 = .ok (.ireturn, 1) := dk_172 (dk_at dksX6_remembered_0 8 rfl rfl)
def dkwX6_memories_2 : List UInt8 := [158, 0, 7, 4, 167, 0, 4, 3, 96, 60, 132, 2, 1, 167, 255, 230, 27, 172]
abbrev dktX6_memories_2 : List UInt8 := dkwX6_memories_2 ++ []
def dkwX6_memories_1 : List UInt8 := [3, 96, 60, 132, 2, 1, 167, 255, 230, 3, 61, 28, 16, 36, 162, 0, 26, 27, 42, 28, 8, 182, 0, 61]
abbrev dktX6_memories_1 : List UInt8 := dkwX6_memories_1 ++ dktX6_memories_2
def dkwX6_memories_0 : List UInt8 := [3, 60, 3, 61, 28, 16, 6, 162, 0, 26, 27, 42, 28, 6, 182, 0, 50, 158, 0, 7, 4, 167, 0, 4]
abbrev dktX6_memories_0 : List UInt8 := dkwX6_memories_0 ++ dktX6_memories_1
theorem dksX6_memories_0 : cX6_memories.data.toList.drop 0 = dktX6_memories_0 := by decide +kernel
theorem dksX6_memories_1 : cX6_memories.data.toList.drop 24 = dktX6_memories_1 := dk_seg dksX6_memories_0 24 rfl rfl
theorem dksX6_memories_2 : cX6_memories.data.toList.drop 48 = dktX6_memories_2 := dk_seg dksX6_memories_1 24 rfl rfl
theorem dX6_memories_0 : decode cX6_memories 0 = .ok (.iconst 0, 1) := dk_3 (dk_at dksX6_memories_0 0 rfl rfl)
theorem dX6_memories_1 : decode cX6_memories 1 = .ok (.istore_n 1, 1) := dk_60 (dk_at dksX6_memories_0 1 rfl rfl)
theorem dX6_memories_2 : decode cX6_memories 2 = .ok (.iconst 0, 1) := dk_3 (dk_at dksX6_memories_0 2 rfl rfl)
theorem dX6_memories_3 : decode cX6_memories 3 = .ok (.istore_n 2, 1) := dk_61 (dk_at dksX6_memories_0 3 rfl rfl)
theorem dX6_memories_4 : decode cX6_memories 4 = .ok (.iload_n 2, 1) := dk_28 (dk_at dksX6_memories_0 4 rfl rfl)
theorem dX6_memories_5 : decode cX6_memories 5 = .ok (.bipush 6, 2) := dk_16 6 (dk_at dksX6_memories_0 5 rfl rfl)
theorem dX6_memories_7 : decode cX6_memories 7 = .ok (.if_icmp .ge 26, 3) := dk_162 0 26 (dk_at dksX6_memories_0 7 rfl rfl)
theorem dX6_memories_10 : decode cX6_memories 10 = .ok (.iload_n 1, 1) := dk_27 (dk_at dksX6_memories_0 10 rfl rfl)
theorem dX6_memories_11 : decode cX6_memories 11 = .ok (.aload_n 0, 1) := dk_42 (dk_at dksX6_memories_0 11 rfl rfl)
theorem dX6_memories_12 : decode cX6_memories 12 = .ok (.iload_n 2, 1) := dk_28 (dk_at dksX6_memories_0 12 rfl rfl)
theorem dX6_memories_13 : decode cX6_memories 13 = .ok (.iconst 3, 1) := dk_6 (dk_at dksX6_memories_0 13 rfl rfl)
theorem dX6_memories_14 : decode cX6_memories 14 = .ok (.invokevirtual 50, 3) := dk_182 0 50 (dk_at dksX6_memories_0 14 rfl rfl)
theorem dX6_memories_17 : decode cX6_memories 17 = .ok (.ifCond .le 7, 3) := dk_158 0 7 (dk_at dksX6_memories_0 17 rfl rfl)
theorem dX6_memories_20 : decode cX6_memories 20 = .ok (.iconst 1, 1) := dk_4 (dk_at dksX6_memories_0 20 rfl rfl)
theorem dX6_memories_21 : decode cX6_memories 21 = .ok (.goto 4, 3) := dk_167 0 4 (dk_at dksX6_memories_0 21 rfl rfl)
theorem dX6_memories_24 : decode cX6_memories 24 = .ok (.iconst 0, 1) := dk_3 (dk_at dksX6_memories_1 0 rfl rfl)
theorem dX6_memories_25 : decode cX6_memories 25 = .ok (.iadd, 1) := dk_96 (dk_at dksX6_memories_1 1 rfl rfl)
theorem dX6_memories_26 : decode cX6_memories 26 = .ok (.istore_n 1, 1) := dk_60 (dk_at dksX6_memories_1 2 rfl rfl)
theorem dX6_memories_27 : decode cX6_memories 27 = .ok (.iinc 2 1, 3) := dk_132 2 1 (dk_at dksX6_memories_1 3 rfl rfl)
theorem dX6_memories_30 : decode cX6_memories 30 = .ok (.goto (-26), 3) := dk_167 255 230 (dk_at dksX6_memories_1 6 rfl rfl)
theorem dX6_memories_33 : decode cX6_memories 33 = .ok (.iconst 0, 1) := dk_3 (dk_at dksX6_memories_1 9 rfl rfl)
theorem dX6_memories_34 : decode cX6_memories 34 = .ok (.istore_n 2, 1) := dk_61 (dk_at dksX6_memories_1 10 rfl rfl)
theorem dX6_memories_35 : decode cX6_memories 35 = .ok (.iload_n 2, 1) := dk_28 (dk_at dksX6_memories_1 11 rfl rfl)
theorem dX6_memories_36 : decode cX6_memories 36 = .ok (.bipush 36, 2) := dk_16 36 (dk_at dksX6_memories_1 12 rfl rfl)
theorem dX6_memories_38 : decode cX6_memories 38 = .ok (.if_icmp .ge 26, 3) := dk_162 0 26 (dk_at dksX6_memories_1 14 rfl rfl)
theorem dX6_memories_41 : decode cX6_memories 41 = .ok (.iload_n 1, 1) := dk_27 (dk_at dksX6_memories_1 17 rfl rfl)
theorem dX6_memories_42 : decode cX6_memories 42 = .ok (.aload_n 0, 1) := dk_42 (dk_at dksX6_memories_1 18 rfl rfl)
theorem dX6_memories_43 : decode cX6_memories 43 = .ok (.iload_n 2, 1) := dk_28 (dk_at dksX6_memories_1 19 rfl rfl)
theorem dX6_memories_44 : decode cX6_memories 44 = .ok (.iconst 5, 1) := dk_8 (dk_at dksX6_memories_1 20 rfl rfl)
theorem dX6_memories_45 : decode cX6_memories 45 = .ok (.invokevirtual 61, 3) := dk_182 0 61 (dk_at dksX6_memories_1 21 rfl rfl)
theorem dX6_memories_48 : decode cX6_memories 48 = .ok (.ifCond .le 7, 3) := dk_158 0 7 (dk_at dksX6_memories_2 0 rfl rfl)
theorem dX6_memories_51 : decode cX6_memories 51 = .ok (.iconst 1, 1) := dk_4 (dk_at dksX6_memories_2 3 rfl rfl)
theorem dX6_memories_52 : decode cX6_memories 52 = .ok (.goto 4, 3) := dk_167 0 4 (dk_at dksX6_memories_2 4 rfl rfl)
theorem dX6_memories_55 : decode cX6_memories 55 = .ok (.iconst 0, 1) := dk_3 (dk_at dksX6_memories_2 7 rfl rfl)
theorem dX6_memories_56 : decode cX6_memories 56 = .ok (.iadd, 1) := dk_96 (dk_at dksX6_memories_2 8 rfl rfl)
theorem dX6_memories_57 : decode cX6_memories 57 = .ok (.istore_n 1, 1) := dk_60 (dk_at dksX6_memories_2 9 rfl rfl)
theorem dX6_memories_58 : decode cX6_memories 58 = .ok (.iinc 2 1, 3) := dk_132 2 1 (dk_at dksX6_memories_2 10 rfl rfl)
theorem dX6_memories_61 : decode cX6_memories 61 = .ok (.goto (-26), 3) := dk_167 255 230 (dk_at dksX6_memories_2 13 rfl rfl)
theorem dX6_memories_64 : decode cX6_memories 64 = .ok (.iload_n 1, 1) := dk_27 (dk_at dksX6_memories_2 16 rfl rfl)
theorem dX6_memories_65 : decode cX6_memories 65 = .ok (.ireturn, 1) := dk_172 (dk_at dksX6_memories_2 17 rfl rfl)
def dkwX6_rememberedByAccount_0 : List UInt8 := [42, 42, 180, 0, 7, 7, 46, 42, 180, 0, 7, 8, 46, 100, 182, 0, 94, 172]
abbrev dktX6_rememberedByAccount_0 : List UInt8 := dkwX6_rememberedByAccount_0 ++ []
theorem dksX6_rememberedByAccount_0 : cX6_rememberedByAccount.data.toList.drop 0 = dktX6_rememberedByAccount_0 := by decide +kernel
theorem dX6_rememberedByAccount_0 : decode cX6_rememberedByAccount 0 = .ok (.aload_n 0, 1) := dk_42 (dk_at dksX6_rememberedByAccount_0 0 rfl rfl)
theorem dX6_rememberedByAccount_1 : decode cX6_rememberedByAccount 1 = .ok (.aload_n 0, 1) := dk_42 (dk_at dksX6_rememberedByAccount_0 1 rfl rfl)
theorem dX6_rememberedByAccount_2 : decode cX6_rememberedByAccount 2 = .ok (.getfield 7, 3) := dk_180 0 7 (dk_at dksX6_rememberedByAccount_0 2 rfl rfl)
theorem dX6_rememberedByAccount_5 : decode cX6_rememberedByAccount 5 = .ok (.iconst 4, 1) := dk_7 (dk_at dksX6_rememberedByAccount_0 5 rfl rfl)
theorem dX6_rememberedByAccount_6 : decode cX6_rememberedByAccount 6 = .ok (.iaload, 1) := dk_46 (dk_at dksX6_rememberedByAccount_0 6 rfl rfl)
theorem dX6_rememberedByAccount_7 : decode cX6_rememberedByAccount 7 = .ok (.aload_n 0, 1) := dk_42 (dk_at dksX6_rememberedByAccount_0 7 rfl rfl)
theorem dX6_rememberedByAccount_8 : decode cX6_rememberedByAccount 8 = .ok (.getfield 7, 3) := dk_180 0 7 (dk_at dksX6_rememberedByAccount_0 8 rfl rfl)
theorem dX6_rememberedByAccount_11 : decode cX6_rememberedByAccount 11 = .ok (.iconst 5, 1) := dk_8 (dk_at dksX6_rememberedByAccount_0 11 rfl rfl)
theorem dX6_rememberedByAccount_12 : decode cX6_rememberedByAccount 12 = .ok (.iaload, 1) := dk_46 (dk_at dksX6_rememberedByAccount_0 12 rfl rfl)
theorem dX6_rememberedByAccount_13 : decode cX6_rememberedByAccount 13 = .ok (.isub, 1) := dk_100 (dk_at dksX6_rememberedByAccount_0 13 rfl rfl)
theorem dX6_rememberedByAccount_14 : decode cX6_rememberedByAccount 14 = .ok (.invokevirtual 94, 3) := dk_182 0 94 (dk_at dksX6_rememberedByAccount_0 14 rfl rfl)
theorem dX6_rememberedByAccount_17 : decode cX6_rememberedByAccount 17 = .ok (.ireturn, 1) := dk_172 (dk_at dksX6_rememberedByAccount_0 17 rfl rfl)
def dkwX6_ticksUntilForgetting_0 : List UInt8 := [42, 42, 182, 0, 119, 182, 0, 94, 172]
abbrev dktX6_ticksUntilForgetting_0 : List UInt8 := dkwX6_ticksUntilForgetting_0 ++ []
theorem dksX6_ticksUntilForgetting_0 : cX6_ticksUntilForgetting.data.toList.drop 0 = dktX6_ticksUntilForgetting_0 := by decide +kernel
theorem dX6_ticksUntilForgetting_0 : decode cX6_ticksUntilForgetting 0 = .ok (.aload_n 0, 1) := dk_42 (dk_at dksX6_ticksUntilForgetting_0 0 rfl rfl)
theorem dX6_ticksUntilForgetting_1 : decode cX6_ticksUntilForgetting 1 = .ok (.aload_n 0, 1) := dk_42 (dk_at dksX6_ticksUntilForgetting_0 1 rfl rfl)
theorem dX6_ticksUntilForgetting_2 : decode cX6_ticksUntilForgetting 2 = .ok (.invokevirtual 119, 3) := dk_182 0 119 (dk_at dksX6_ticksUntilForgetting_0 2 rfl rfl)
theorem dX6_ticksUntilForgetting_5 : decode cX6_ticksUntilForgetting 5 = .ok (.invokevirtual 94, 3) := dk_182 0 94 (dk_at dksX6_ticksUntilForgetting_0 5 rfl rfl)
theorem dX6_ticksUntilForgetting_8 : decode cX6_ticksUntilForgetting 8 = .ok (.ireturn, 1) := dk_172 (dk_at dksX6_ticksUntilForgetting_0 8 rfl rfl)
def dkwX6_untilForgetting_2 : List UInt8 := [182, 0, 109, 184, 0, 116, 60, 132, 2, 1, 167, 255, 232, 27, 172]
abbrev dktX6_untilForgetting_2 : List UInt8 := dkwX6_untilForgetting_2 ++ []
def dkwX6_untilForgetting_1 : List UInt8 := [60, 132, 2, 1, 167, 255, 232, 3, 61, 28, 16, 36, 162, 0, 24, 27, 42, 42, 28, 8, 182, 0, 61]
abbrev dktX6_untilForgetting_1 : List UInt8 := dkwX6_untilForgetting_1 ++ dktX6_untilForgetting_2
def dkwX6_untilForgetting_0 : List UInt8 := [2, 60, 3, 61, 28, 16, 6, 162, 0, 24, 27, 42, 42, 28, 6, 182, 0, 50, 182, 0, 109, 184, 0, 116]
abbrev dktX6_untilForgetting_0 : List UInt8 := dkwX6_untilForgetting_0 ++ dktX6_untilForgetting_1
theorem dksX6_untilForgetting_0 : cX6_untilForgetting.data.toList.drop 0 = dktX6_untilForgetting_0 := by decide +kernel
theorem dksX6_untilForgetting_1 : cX6_untilForgetting.data.toList.drop 24 = dktX6_untilForgetting_1 := dk_seg dksX6_untilForgetting_0 24 rfl rfl
theorem dksX6_untilForgetting_2 : cX6_untilForgetting.data.toList.drop 47 = dktX6_untilForgetting_2 := dk_seg dksX6_untilForgetting_1 23 rfl rfl
theorem dX6_untilForgetting_0 : decode cX6_untilForgetting 0 = .ok (.iconst (-1), 1) := dk_2 (dk_at dksX6_untilForgetting_0 0 rfl rfl)
theorem dX6_untilForgetting_1 : decode cX6_untilForgetting 1 = .ok (.istore_n 1, 1) := dk_60 (dk_at dksX6_untilForgetting_0 1 rfl rfl)
theorem dX6_untilForgetting_2 : decode cX6_untilForgetting 2 = .ok (.iconst 0, 1) := dk_3 (dk_at dksX6_untilForgetting_0 2 rfl rfl)
theorem dX6_untilForgetting_3 : decode cX6_untilForgetting 3 = .ok (.istore_n 2, 1) := dk_61 (dk_at dksX6_untilForgetting_0 3 rfl rfl)
theorem dX6_untilForgetting_4 : decode cX6_untilForgetting 4 = .ok (.iload_n 2, 1) := dk_28 (dk_at dksX6_untilForgetting_0 4 rfl rfl)
theorem dX6_untilForgetting_5 : decode cX6_untilForgetting 5 = .ok (.bipush 6, 2) := dk_16 6 (dk_at dksX6_untilForgetting_0 5 rfl rfl)
theorem dX6_untilForgetting_7 : decode cX6_untilForgetting 7 = .ok (.if_icmp .ge 24, 3) := dk_162 0 24 (dk_at dksX6_untilForgetting_0 7 rfl rfl)
theorem dX6_untilForgetting_10 : decode cX6_untilForgetting 10 = .ok (.iload_n 1, 1) := dk_27 (dk_at dksX6_untilForgetting_0 10 rfl rfl)
theorem dX6_untilForgetting_11 : decode cX6_untilForgetting 11 = .ok (.aload_n 0, 1) := dk_42 (dk_at dksX6_untilForgetting_0 11 rfl rfl)
theorem dX6_untilForgetting_12 : decode cX6_untilForgetting 12 = .ok (.aload_n 0, 1) := dk_42 (dk_at dksX6_untilForgetting_0 12 rfl rfl)
theorem dX6_untilForgetting_13 : decode cX6_untilForgetting 13 = .ok (.iload_n 2, 1) := dk_28 (dk_at dksX6_untilForgetting_0 13 rfl rfl)
theorem dX6_untilForgetting_14 : decode cX6_untilForgetting 14 = .ok (.iconst 3, 1) := dk_6 (dk_at dksX6_untilForgetting_0 14 rfl rfl)
theorem dX6_untilForgetting_15 : decode cX6_untilForgetting 15 = .ok (.invokevirtual 50, 3) := dk_182 0 50 (dk_at dksX6_untilForgetting_0 15 rfl rfl)
theorem dX6_untilForgetting_18 : decode cX6_untilForgetting 18 = .ok (.invokevirtual 109, 3) := dk_182 0 109 (dk_at dksX6_untilForgetting_0 18 rfl rfl)
theorem dX6_untilForgetting_21 : decode cX6_untilForgetting 21 = .ok (.invokestatic 116, 3) := dk_184 0 116 (dk_at dksX6_untilForgetting_0 21 rfl rfl)
theorem dX6_untilForgetting_24 : decode cX6_untilForgetting 24 = .ok (.istore_n 1, 1) := dk_60 (dk_at dksX6_untilForgetting_1 0 rfl rfl)
theorem dX6_untilForgetting_25 : decode cX6_untilForgetting 25 = .ok (.iinc 2 1, 3) := dk_132 2 1 (dk_at dksX6_untilForgetting_1 1 rfl rfl)
theorem dX6_untilForgetting_28 : decode cX6_untilForgetting 28 = .ok (.goto (-24), 3) := dk_167 255 232 (dk_at dksX6_untilForgetting_1 4 rfl rfl)
theorem dX6_untilForgetting_31 : decode cX6_untilForgetting 31 = .ok (.iconst 0, 1) := dk_3 (dk_at dksX6_untilForgetting_1 7 rfl rfl)
theorem dX6_untilForgetting_32 : decode cX6_untilForgetting 32 = .ok (.istore_n 2, 1) := dk_61 (dk_at dksX6_untilForgetting_1 8 rfl rfl)
theorem dX6_untilForgetting_33 : decode cX6_untilForgetting 33 = .ok (.iload_n 2, 1) := dk_28 (dk_at dksX6_untilForgetting_1 9 rfl rfl)
theorem dX6_untilForgetting_34 : decode cX6_untilForgetting 34 = .ok (.bipush 36, 2) := dk_16 36 (dk_at dksX6_untilForgetting_1 10 rfl rfl)
theorem dX6_untilForgetting_36 : decode cX6_untilForgetting 36 = .ok (.if_icmp .ge 24, 3) := dk_162 0 24 (dk_at dksX6_untilForgetting_1 12 rfl rfl)
theorem dX6_untilForgetting_39 : decode cX6_untilForgetting 39 = .ok (.iload_n 1, 1) := dk_27 (dk_at dksX6_untilForgetting_1 15 rfl rfl)
theorem dX6_untilForgetting_40 : decode cX6_untilForgetting 40 = .ok (.aload_n 0, 1) := dk_42 (dk_at dksX6_untilForgetting_1 16 rfl rfl)
theorem dX6_untilForgetting_41 : decode cX6_untilForgetting 41 = .ok (.aload_n 0, 1) := dk_42 (dk_at dksX6_untilForgetting_1 17 rfl rfl)
theorem dX6_untilForgetting_42 : decode cX6_untilForgetting 42 = .ok (.iload_n 2, 1) := dk_28 (dk_at dksX6_untilForgetting_1 18 rfl rfl)
theorem dX6_untilForgetting_43 : decode cX6_untilForgetting 43 = .ok (.iconst 5, 1) := dk_8 (dk_at dksX6_untilForgetting_1 19 rfl rfl)
theorem dX6_untilForgetting_44 : decode cX6_untilForgetting 44 = .ok (.invokevirtual 61, 3) := dk_182 0 61 (dk_at dksX6_untilForgetting_1 20 rfl rfl)
theorem dX6_untilForgetting_47 : decode cX6_untilForgetting 47 = .ok (.invokevirtual 109, 3) := dk_182 0 109 (dk_at dksX6_untilForgetting_2 0 rfl rfl)
theorem dX6_untilForgetting_50 : decode cX6_untilForgetting 50 = .ok (.invokestatic 116, 3) := dk_184 0 116 (dk_at dksX6_untilForgetting_2 3 rfl rfl)
theorem dX6_untilForgetting_53 : decode cX6_untilForgetting 53 = .ok (.istore_n 1, 1) := dk_60 (dk_at dksX6_untilForgetting_2 6 rfl rfl)
theorem dX6_untilForgetting_54 : decode cX6_untilForgetting 54 = .ok (.iinc 2 1, 3) := dk_132 2 1 (dk_at dksX6_untilForgetting_2 7 rfl rfl)
theorem dX6_untilForgetting_57 : decode cX6_untilForgetting 57 = .ok (.goto (-24), 3) := dk_167 255 232 (dk_at dksX6_untilForgetting_2 10 rfl rfl)
theorem dX6_untilForgetting_60 : decode cX6_untilForgetting 60 = .ok (.iload_n 1, 1) := dk_27 (dk_at dksX6_untilForgetting_2 13 rfl rfl)
theorem dX6_untilForgetting_61 : decode cX6_untilForgetting 61 = .ok (.ireturn, 1) := dk_172 (dk_at dksX6_untilForgetting_2 14 rfl rfl)
def dkwX6_sooner_0 : List UInt8 := [26, 2, 159, 0, 13, 27, 2, 159, 0, 12, 27, 26, 162, 0, 7, 27, 167, 0, 4, 26, 172]
abbrev dktX6_sooner_0 : List UInt8 := dkwX6_sooner_0 ++ []
theorem dksX6_sooner_0 : cX6_sooner.data.toList.drop 0 = dktX6_sooner_0 := by decide +kernel
theorem dX6_sooner_0 : decode cX6_sooner 0 = .ok (.iload_n 0, 1) := dk_26 (dk_at dksX6_sooner_0 0 rfl rfl)
theorem dX6_sooner_1 : decode cX6_sooner 1 = .ok (.iconst (-1), 1) := dk_2 (dk_at dksX6_sooner_0 1 rfl rfl)
theorem dX6_sooner_2 : decode cX6_sooner 2 = .ok (.if_icmp .eq 13, 3) := dk_159 0 13 (dk_at dksX6_sooner_0 2 rfl rfl)
theorem dX6_sooner_5 : decode cX6_sooner 5 = .ok (.iload_n 1, 1) := dk_27 (dk_at dksX6_sooner_0 5 rfl rfl)
theorem dX6_sooner_6 : decode cX6_sooner 6 = .ok (.iconst (-1), 1) := dk_2 (dk_at dksX6_sooner_0 6 rfl rfl)
theorem dX6_sooner_7 : decode cX6_sooner 7 = .ok (.if_icmp .eq 12, 3) := dk_159 0 12 (dk_at dksX6_sooner_0 7 rfl rfl)
theorem dX6_sooner_10 : decode cX6_sooner 10 = .ok (.iload_n 1, 1) := dk_27 (dk_at dksX6_sooner_0 10 rfl rfl)
theorem dX6_sooner_11 : decode cX6_sooner 11 = .ok (.iload_n 0, 1) := dk_26 (dk_at dksX6_sooner_0 11 rfl rfl)
theorem dX6_sooner_12 : decode cX6_sooner 12 = .ok (.if_icmp .ge 7, 3) := dk_162 0 7 (dk_at dksX6_sooner_0 12 rfl rfl)
theorem dX6_sooner_15 : decode cX6_sooner 15 = .ok (.iload_n 1, 1) := dk_27 (dk_at dksX6_sooner_0 15 rfl rfl)
theorem dX6_sooner_16 : decode cX6_sooner 16 = .ok (.goto 4, 3) := dk_167 0 4 (dk_at dksX6_sooner_0 16 rfl rfl)
theorem dX6_sooner_19 : decode cX6_sooner 19 = .ok (.iload_n 0, 1) := dk_26 (dk_at dksX6_sooner_0 19 rfl rfl)
theorem dX6_sooner_20 : decode cX6_sooner 20 = .ok (.ireturn, 1) := dk_172 (dk_at dksX6_sooner_0 20 rfl rfl)
def dkwX6_isOutOfDate_1 : List UInt8 := [27, 182, 0, 122, 153, 0, 7, 4, 167, 0, 4, 3, 172]
abbrev dktX6_isOutOfDate_1 : List UInt8 := dkwX6_isOutOfDate_1 ++ []
def dkwX6_isOutOfDate_0 : List UInt8 := [42, 27, 184, 0, 64, 153, 0, 7, 3, 167, 0, 4, 4, 181, 0, 32, 42, 180, 0, 32, 154, 0, 15, 42]
abbrev dktX6_isOutOfDate_0 : List UInt8 := dkwX6_isOutOfDate_0 ++ dktX6_isOutOfDate_1
theorem dksX6_isOutOfDate_0 : cX6_isOutOfDate.data.toList.drop 0 = dktX6_isOutOfDate_0 := by decide +kernel
theorem dksX6_isOutOfDate_1 : cX6_isOutOfDate.data.toList.drop 24 = dktX6_isOutOfDate_1 := dk_seg dksX6_isOutOfDate_0 24 rfl rfl
theorem dX6_isOutOfDate_0 : decode cX6_isOutOfDate 0 = .ok (.aload_n 0, 1) := dk_42 (dk_at dksX6_isOutOfDate_0 0 rfl rfl)
theorem dX6_isOutOfDate_1 : decode cX6_isOutOfDate 1 = .ok (.iload_n 1, 1) := dk_27 (dk_at dksX6_isOutOfDate_0 1 rfl rfl)
theorem dX6_isOutOfDate_2 : decode cX6_isOutOfDate 2 = .ok (.invokestatic 64, 3) := dk_184 0 64 (dk_at dksX6_isOutOfDate_0 2 rfl rfl)
theorem dX6_isOutOfDate_5 : decode cX6_isOutOfDate 5 = .ok (.ifCond .eq 7, 3) := dk_153 0 7 (dk_at dksX6_isOutOfDate_0 5 rfl rfl)
theorem dX6_isOutOfDate_8 : decode cX6_isOutOfDate 8 = .ok (.iconst 0, 1) := dk_3 (dk_at dksX6_isOutOfDate_0 8 rfl rfl)
theorem dX6_isOutOfDate_9 : decode cX6_isOutOfDate 9 = .ok (.goto 4, 3) := dk_167 0 4 (dk_at dksX6_isOutOfDate_0 9 rfl rfl)
theorem dX6_isOutOfDate_12 : decode cX6_isOutOfDate 12 = .ok (.iconst 1, 1) := dk_4 (dk_at dksX6_isOutOfDate_0 12 rfl rfl)
theorem dX6_isOutOfDate_13 : decode cX6_isOutOfDate 13 = .ok (.putfield 32, 3) := dk_181 0 32 (dk_at dksX6_isOutOfDate_0 13 rfl rfl)
theorem dX6_isOutOfDate_16 : decode cX6_isOutOfDate 16 = .ok (.aload_n 0, 1) := dk_42 (dk_at dksX6_isOutOfDate_0 16 rfl rfl)
theorem dX6_isOutOfDate_17 : decode cX6_isOutOfDate 17 = .ok (.getfield 32, 3) := dk_180 0 32 (dk_at dksX6_isOutOfDate_0 17 rfl rfl)
theorem dX6_isOutOfDate_20 : decode cX6_isOutOfDate 20 = .ok (.ifCond .ne 15, 3) := dk_154 0 15 (dk_at dksX6_isOutOfDate_0 20 rfl rfl)
theorem dX6_isOutOfDate_23 : decode cX6_isOutOfDate 23 = .ok (.aload_n 0, 1) := dk_42 (dk_at dksX6_isOutOfDate_0 23 rfl rfl)
theorem dX6_isOutOfDate_24 : decode cX6_isOutOfDate 24 = .ok (.iload_n 1, 1) := dk_27 (dk_at dksX6_isOutOfDate_1 0 rfl rfl)
theorem dX6_isOutOfDate_25 : decode cX6_isOutOfDate 25 = .ok (.invokevirtual 122, 3) := dk_182 0 122 (dk_at dksX6_isOutOfDate_1 1 rfl rfl)
theorem dX6_isOutOfDate_28 : decode cX6_isOutOfDate 28 = .ok (.ifCond .eq 7, 3) := dk_153 0 7 (dk_at dksX6_isOutOfDate_1 4 rfl rfl)
theorem dX6_isOutOfDate_31 : decode cX6_isOutOfDate 31 = .ok (.iconst 1, 1) := dk_4 (dk_at dksX6_isOutOfDate_1 7 rfl rfl)
theorem dX6_isOutOfDate_32 : decode cX6_isOutOfDate 32 = .ok (.goto 4, 3) := dk_167 0 4 (dk_at dksX6_isOutOfDate_1 8 rfl rfl)
theorem dX6_isOutOfDate_35 : decode cX6_isOutOfDate 35 = .ok (.iconst 0, 1) := dk_3 (dk_at dksX6_isOutOfDate_1 11 rfl rfl)
theorem dX6_isOutOfDate_36 : decode cX6_isOutOfDate 36 = .ok (.ireturn, 1) := dk_172 (dk_at dksX6_isOutOfDate_1 12 rfl rfl)
def dkwX6_isOld_3 : List UInt8 := [167, 0, 4, 3, 172]
abbrev dktX6_isOld_3 : List UInt8 := dkwX6_isOld_3 ++ []
def dkwX6_isOld_2 : List UInt8 := [27, 4, 182, 0, 61, 160, 0, 7, 4, 167, 0, 4, 3, 62, 28, 153, 0, 11, 29, 154, 0, 7, 4]
abbrev dktX6_isOld_2 : List UInt8 := dkwX6_isOld_2 ++ dktX6_isOld_3
def dkwX6_isOld_1 : List UInt8 := [167, 0, 37, 3, 167, 0, 33, 28, 42, 27, 3, 182, 0, 61, 160, 0, 22, 42, 27, 7, 182, 0, 61, 42]
abbrev dktX6_isOld_1 : List UInt8 := dkwX6_isOld_1 ++ dktX6_isOld_2
def dkwX6_isOld_0 : List UInt8 := [42, 27, 6, 182, 0, 61, 61, 28, 6, 160, 0, 20, 42, 27, 3, 182, 0, 61, 154, 0, 7, 4]
abbrev dktX6_isOld_0 : List UInt8 := dkwX6_isOld_0 ++ dktX6_isOld_1
theorem dksX6_isOld_0 : cX6_isOld.data.toList.drop 0 = dktX6_isOld_0 := by decide +kernel
theorem dksX6_isOld_1 : cX6_isOld.data.toList.drop 22 = dktX6_isOld_1 := dk_seg dksX6_isOld_0 22 rfl rfl
theorem dksX6_isOld_2 : cX6_isOld.data.toList.drop 46 = dktX6_isOld_2 := dk_seg dksX6_isOld_1 24 rfl rfl
theorem dksX6_isOld_3 : cX6_isOld.data.toList.drop 69 = dktX6_isOld_3 := dk_seg dksX6_isOld_2 23 rfl rfl
theorem dX6_isOld_0 : decode cX6_isOld 0 = .ok (.aload_n 0, 1) := dk_42 (dk_at dksX6_isOld_0 0 rfl rfl)
theorem dX6_isOld_1 : decode cX6_isOld 1 = .ok (.iload_n 1, 1) := dk_27 (dk_at dksX6_isOld_0 1 rfl rfl)
theorem dX6_isOld_2 : decode cX6_isOld 2 = .ok (.iconst 3, 1) := dk_6 (dk_at dksX6_isOld_0 2 rfl rfl)
theorem dX6_isOld_3 : decode cX6_isOld 3 = .ok (.invokevirtual 61, 3) := dk_182 0 61 (dk_at dksX6_isOld_0 3 rfl rfl)
theorem dX6_isOld_6 : decode cX6_isOld 6 = .ok (.istore_n 2, 1) := dk_61 (dk_at dksX6_isOld_0 6 rfl rfl)
theorem dX6_isOld_7 : decode cX6_isOld 7 = .ok (.iload_n 2, 1) := dk_28 (dk_at dksX6_isOld_0 7 rfl rfl)
theorem dX6_isOld_8 : decode cX6_isOld 8 = .ok (.iconst 3, 1) := dk_6 (dk_at dksX6_isOld_0 8 rfl rfl)
theorem dX6_isOld_9 : decode cX6_isOld 9 = .ok (.if_icmp .ne 20, 3) := dk_160 0 20 (dk_at dksX6_isOld_0 9 rfl rfl)
theorem dX6_isOld_12 : decode cX6_isOld 12 = .ok (.aload_n 0, 1) := dk_42 (dk_at dksX6_isOld_0 12 rfl rfl)
theorem dX6_isOld_13 : decode cX6_isOld 13 = .ok (.iload_n 1, 1) := dk_27 (dk_at dksX6_isOld_0 13 rfl rfl)
theorem dX6_isOld_14 : decode cX6_isOld 14 = .ok (.iconst 0, 1) := dk_3 (dk_at dksX6_isOld_0 14 rfl rfl)
theorem dX6_isOld_15 : decode cX6_isOld 15 = .ok (.invokevirtual 61, 3) := dk_182 0 61 (dk_at dksX6_isOld_0 15 rfl rfl)
theorem dX6_isOld_18 : decode cX6_isOld 18 = .ok (.ifCond .ne 7, 3) := dk_154 0 7 (dk_at dksX6_isOld_0 18 rfl rfl)
theorem dX6_isOld_21 : decode cX6_isOld 21 = .ok (.iconst 1, 1) := dk_4 (dk_at dksX6_isOld_0 21 rfl rfl)
theorem dX6_isOld_22 : decode cX6_isOld 22 = .ok (.goto 37, 3) := dk_167 0 37 (dk_at dksX6_isOld_1 0 rfl rfl)
theorem dX6_isOld_25 : decode cX6_isOld 25 = .ok (.iconst 0, 1) := dk_3 (dk_at dksX6_isOld_1 3 rfl rfl)
theorem dX6_isOld_26 : decode cX6_isOld 26 = .ok (.goto 33, 3) := dk_167 0 33 (dk_at dksX6_isOld_1 4 rfl rfl)
theorem dX6_isOld_29 : decode cX6_isOld 29 = .ok (.iload_n 2, 1) := dk_28 (dk_at dksX6_isOld_1 7 rfl rfl)
theorem dX6_isOld_30 : decode cX6_isOld 30 = .ok (.aload_n 0, 1) := dk_42 (dk_at dksX6_isOld_1 8 rfl rfl)
theorem dX6_isOld_31 : decode cX6_isOld 31 = .ok (.iload_n 1, 1) := dk_27 (dk_at dksX6_isOld_1 9 rfl rfl)
theorem dX6_isOld_32 : decode cX6_isOld 32 = .ok (.iconst 0, 1) := dk_3 (dk_at dksX6_isOld_1 10 rfl rfl)
theorem dX6_isOld_33 : decode cX6_isOld 33 = .ok (.invokevirtual 61, 3) := dk_182 0 61 (dk_at dksX6_isOld_1 11 rfl rfl)
theorem dX6_isOld_36 : decode cX6_isOld 36 = .ok (.if_icmp .ne 22, 3) := dk_160 0 22 (dk_at dksX6_isOld_1 14 rfl rfl)
theorem dX6_isOld_39 : decode cX6_isOld 39 = .ok (.aload_n 0, 1) := dk_42 (dk_at dksX6_isOld_1 17 rfl rfl)
theorem dX6_isOld_40 : decode cX6_isOld 40 = .ok (.iload_n 1, 1) := dk_27 (dk_at dksX6_isOld_1 18 rfl rfl)
theorem dX6_isOld_41 : decode cX6_isOld 41 = .ok (.iconst 4, 1) := dk_7 (dk_at dksX6_isOld_1 19 rfl rfl)
theorem dX6_isOld_42 : decode cX6_isOld 42 = .ok (.invokevirtual 61, 3) := dk_182 0 61 (dk_at dksX6_isOld_1 20 rfl rfl)
theorem dX6_isOld_45 : decode cX6_isOld 45 = .ok (.aload_n 0, 1) := dk_42 (dk_at dksX6_isOld_1 23 rfl rfl)
theorem dX6_isOld_46 : decode cX6_isOld 46 = .ok (.iload_n 1, 1) := dk_27 (dk_at dksX6_isOld_2 0 rfl rfl)
theorem dX6_isOld_47 : decode cX6_isOld 47 = .ok (.iconst 1, 1) := dk_4 (dk_at dksX6_isOld_2 1 rfl rfl)
theorem dX6_isOld_48 : decode cX6_isOld 48 = .ok (.invokevirtual 61, 3) := dk_182 0 61 (dk_at dksX6_isOld_2 2 rfl rfl)
theorem dX6_isOld_51 : decode cX6_isOld 51 = .ok (.if_icmp .ne 7, 3) := dk_160 0 7 (dk_at dksX6_isOld_2 5 rfl rfl)
theorem dX6_isOld_54 : decode cX6_isOld 54 = .ok (.iconst 1, 1) := dk_4 (dk_at dksX6_isOld_2 8 rfl rfl)
theorem dX6_isOld_55 : decode cX6_isOld 55 = .ok (.goto 4, 3) := dk_167 0 4 (dk_at dksX6_isOld_2 9 rfl rfl)
theorem dX6_isOld_58 : decode cX6_isOld 58 = .ok (.iconst 0, 1) := dk_3 (dk_at dksX6_isOld_2 12 rfl rfl)
theorem dX6_isOld_59 : decode cX6_isOld 59 = .ok (.istore_n 3, 1) := dk_62 (dk_at dksX6_isOld_2 13 rfl rfl)
theorem dX6_isOld_60 : decode cX6_isOld 60 = .ok (.iload_n 2, 1) := dk_28 (dk_at dksX6_isOld_2 14 rfl rfl)
theorem dX6_isOld_61 : decode cX6_isOld 61 = .ok (.ifCond .eq 11, 3) := dk_153 0 11 (dk_at dksX6_isOld_2 15 rfl rfl)
theorem dX6_isOld_64 : decode cX6_isOld 64 = .ok (.iload_n 3, 1) := dk_29 (dk_at dksX6_isOld_2 18 rfl rfl)
theorem dX6_isOld_65 : decode cX6_isOld 65 = .ok (.ifCond .ne 7, 3) := dk_154 0 7 (dk_at dksX6_isOld_2 19 rfl rfl)
theorem dX6_isOld_68 : decode cX6_isOld 68 = .ok (.iconst 1, 1) := dk_4 (dk_at dksX6_isOld_2 22 rfl rfl)
theorem dX6_isOld_69 : decode cX6_isOld 69 = .ok (.goto 4, 3) := dk_167 0 4 (dk_at dksX6_isOld_3 0 rfl rfl)
theorem dX6_isOld_72 : decode cX6_isOld 72 = .ok (.iconst 0, 1) := dk_3 (dk_at dksX6_isOld_3 3 rfl rfl)
theorem dX6_isOld_73 : decode cX6_isOld 73 = .ok (.ireturn, 1) := dk_172 (dk_at dksX6_isOld_3 4 rfl rfl)
def dkwX6_solved_0 : List UInt8 := [42, 42, 180, 0, 7, 4, 46, 182, 0, 94, 172]
abbrev dktX6_solved_0 : List UInt8 := dkwX6_solved_0 ++ []
theorem dksX6_solved_0 : cX6_solved.data.toList.drop 0 = dktX6_solved_0 := by decide +kernel
theorem dX6_solved_0 : decode cX6_solved 0 = .ok (.aload_n 0, 1) := dk_42 (dk_at dksX6_solved_0 0 rfl rfl)
theorem dX6_solved_1 : decode cX6_solved 1 = .ok (.aload_n 0, 1) := dk_42 (dk_at dksX6_solved_0 1 rfl rfl)
theorem dX6_solved_2 : decode cX6_solved 2 = .ok (.getfield 7, 3) := dk_180 0 7 (dk_at dksX6_solved_0 2 rfl rfl)
theorem dX6_solved_5 : decode cX6_solved 5 = .ok (.iconst 1, 1) := dk_4 (dk_at dksX6_solved_0 5 rfl rfl)
theorem dX6_solved_6 : decode cX6_solved 6 = .ok (.iaload, 1) := dk_46 (dk_at dksX6_solved_0 6 rfl rfl)
theorem dX6_solved_7 : decode cX6_solved 7 = .ok (.invokevirtual 94, 3) := dk_182 0 94 (dk_at dksX6_solved_0 7 rfl rfl)
theorem dX6_solved_10 : decode cX6_solved 10 = .ok (.ireturn, 1) := dk_172 (dk_at dksX6_solved_0 10 rfl rfl)
def dkwX6_questions_0 : List UInt8 := [42, 42, 180, 0, 7, 5, 46, 182, 0, 94, 172]
abbrev dktX6_questions_0 : List UInt8 := dkwX6_questions_0 ++ []
theorem dksX6_questions_0 : cX6_questions.data.toList.drop 0 = dktX6_questions_0 := by decide +kernel
theorem dX6_questions_0 : decode cX6_questions 0 = .ok (.aload_n 0, 1) := dk_42 (dk_at dksX6_questions_0 0 rfl rfl)
theorem dX6_questions_1 : decode cX6_questions 1 = .ok (.aload_n 0, 1) := dk_42 (dk_at dksX6_questions_0 1 rfl rfl)
theorem dX6_questions_2 : decode cX6_questions 2 = .ok (.getfield 7, 3) := dk_180 0 7 (dk_at dksX6_questions_0 2 rfl rfl)
theorem dX6_questions_5 : decode cX6_questions 5 = .ok (.iconst 2, 1) := dk_5 (dk_at dksX6_questions_0 5 rfl rfl)
theorem dX6_questions_6 : decode cX6_questions 6 = .ok (.iaload, 1) := dk_46 (dk_at dksX6_questions_0 6 rfl rfl)
theorem dX6_questions_7 : decode cX6_questions 7 = .ok (.invokevirtual 94, 3) := dk_182 0 94 (dk_at dksX6_questions_0 7 rfl rfl)
theorem dX6_questions_10 : decode cX6_questions 10 = .ok (.ireturn, 1) := dk_172 (dk_at dksX6_questions_0 10 rfl rfl)
def dkwX6_hits_0 : List UInt8 := [42, 42, 180, 0, 7, 6, 46, 182, 0, 94, 172]
abbrev dktX6_hits_0 : List UInt8 := dkwX6_hits_0 ++ []
theorem dksX6_hits_0 : cX6_hits.data.toList.drop 0 = dktX6_hits_0 := by decide +kernel
theorem dX6_hits_0 : decode cX6_hits 0 = .ok (.aload_n 0, 1) := dk_42 (dk_at dksX6_hits_0 0 rfl rfl)
theorem dX6_hits_1 : decode cX6_hits 1 = .ok (.aload_n 0, 1) := dk_42 (dk_at dksX6_hits_0 1 rfl rfl)
theorem dX6_hits_2 : decode cX6_hits 2 = .ok (.getfield 7, 3) := dk_180 0 7 (dk_at dksX6_hits_0 2 rfl rfl)
theorem dX6_hits_5 : decode cX6_hits 5 = .ok (.iconst 3, 1) := dk_6 (dk_at dksX6_hits_0 5 rfl rfl)
theorem dX6_hits_6 : decode cX6_hits 6 = .ok (.iaload, 1) := dk_46 (dk_at dksX6_hits_0 6 rfl rfl)
theorem dX6_hits_7 : decode cX6_hits 7 = .ok (.invokevirtual 94, 3) := dk_182 0 94 (dk_at dksX6_hits_0 7 rfl rfl)
theorem dX6_hits_10 : decode cX6_hits 10 = .ok (.ireturn, 1) := dk_172 (dk_at dksX6_hits_0 10 rfl rfl)
def dkwX6_questionsTo_0 : List UInt8 := [42, 27, 7, 182, 0, 97, 172]
abbrev dktX6_questionsTo_0 : List UInt8 := dkwX6_questionsTo_0 ++ []
theorem dksX6_questionsTo_0 : cX6_questionsTo.data.toList.drop 0 = dktX6_questionsTo_0 := by decide +kernel
theorem dX6_questionsTo_0 : decode cX6_questionsTo 0 = .ok (.aload_n 0, 1) := dk_42 (dk_at dksX6_questionsTo_0 0 rfl rfl)
theorem dX6_questionsTo_1 : decode cX6_questionsTo 1 = .ok (.iload_n 1, 1) := dk_27 (dk_at dksX6_questionsTo_0 1 rfl rfl)
theorem dX6_questionsTo_2 : decode cX6_questionsTo 2 = .ok (.iconst 4, 1) := dk_7 (dk_at dksX6_questionsTo_0 2 rfl rfl)
theorem dX6_questionsTo_3 : decode cX6_questionsTo 3 = .ok (.invokevirtual 97, 3) := dk_182 0 97 (dk_at dksX6_questionsTo_0 3 rfl rfl)
theorem dX6_questionsTo_6 : decode cX6_questionsTo 6 = .ok (.ireturn, 1) := dk_172 (dk_at dksX6_questionsTo_0 6 rfl rfl)
def dkwX6_meanQuestions_1 : List UInt8 := [135, 42, 180, 0, 7, 4, 46, 135, 111, 175]
abbrev dktX6_meanQuestions_1 : List UInt8 := dkwX6_meanQuestions_1 ++ []
def dkwX6_meanQuestions_0 : List UInt8 := [42, 3, 181, 0, 32, 42, 180, 0, 7, 4, 46, 154, 0, 7, 14, 167, 0, 18, 42, 180, 0, 7, 5, 46]
abbrev dktX6_meanQuestions_0 : List UInt8 := dkwX6_meanQuestions_0 ++ dktX6_meanQuestions_1
theorem dksX6_meanQuestions_0 : cX6_meanQuestions.data.toList.drop 0 = dktX6_meanQuestions_0 := by decide +kernel
theorem dksX6_meanQuestions_1 : cX6_meanQuestions.data.toList.drop 24 = dktX6_meanQuestions_1 := dk_seg dksX6_meanQuestions_0 24 rfl rfl
theorem dX6_meanQuestions_0 : decode cX6_meanQuestions 0 = .ok (.aload_n 0, 1) := dk_42 (dk_at dksX6_meanQuestions_0 0 rfl rfl)
theorem dX6_meanQuestions_1 : decode cX6_meanQuestions 1 = .ok (.iconst 0, 1) := dk_3 (dk_at dksX6_meanQuestions_0 1 rfl rfl)
theorem dX6_meanQuestions_2 : decode cX6_meanQuestions 2 = .ok (.putfield 32, 3) := dk_181 0 32 (dk_at dksX6_meanQuestions_0 2 rfl rfl)
theorem dX6_meanQuestions_5 : decode cX6_meanQuestions 5 = .ok (.aload_n 0, 1) := dk_42 (dk_at dksX6_meanQuestions_0 5 rfl rfl)
theorem dX6_meanQuestions_6 : decode cX6_meanQuestions 6 = .ok (.getfield 7, 3) := dk_180 0 7 (dk_at dksX6_meanQuestions_0 6 rfl rfl)
theorem dX6_meanQuestions_9 : decode cX6_meanQuestions 9 = .ok (.iconst 1, 1) := dk_4 (dk_at dksX6_meanQuestions_0 9 rfl rfl)
theorem dX6_meanQuestions_10 : decode cX6_meanQuestions 10 = .ok (.iaload, 1) := dk_46 (dk_at dksX6_meanQuestions_0 10 rfl rfl)
theorem dX6_meanQuestions_11 : decode cX6_meanQuestions 11 = .ok (.ifCond .ne 7, 3) := dk_154 0 7 (dk_at dksX6_meanQuestions_0 11 rfl rfl)
theorem dX6_meanQuestions_14 : decode cX6_meanQuestions 14 = .ok (.dconst 0, 1) := dk_14 (dk_at dksX6_meanQuestions_0 14 rfl rfl)
theorem dX6_meanQuestions_15 : decode cX6_meanQuestions 15 = .ok (.goto 18, 3) := dk_167 0 18 (dk_at dksX6_meanQuestions_0 15 rfl rfl)
theorem dX6_meanQuestions_18 : decode cX6_meanQuestions 18 = .ok (.aload_n 0, 1) := dk_42 (dk_at dksX6_meanQuestions_0 18 rfl rfl)
theorem dX6_meanQuestions_19 : decode cX6_meanQuestions 19 = .ok (.getfield 7, 3) := dk_180 0 7 (dk_at dksX6_meanQuestions_0 19 rfl rfl)
theorem dX6_meanQuestions_22 : decode cX6_meanQuestions 22 = .ok (.iconst 2, 1) := dk_5 (dk_at dksX6_meanQuestions_0 22 rfl rfl)
theorem dX6_meanQuestions_23 : decode cX6_meanQuestions 23 = .ok (.iaload, 1) := dk_46 (dk_at dksX6_meanQuestions_0 23 rfl rfl)
theorem dX6_meanQuestions_24 : decode cX6_meanQuestions 24 = .ok (.i2d, 1) := dk_135 (dk_at dksX6_meanQuestions_1 0 rfl rfl)
theorem dX6_meanQuestions_25 : decode cX6_meanQuestions 25 = .ok (.aload_n 0, 1) := dk_42 (dk_at dksX6_meanQuestions_1 1 rfl rfl)
theorem dX6_meanQuestions_26 : decode cX6_meanQuestions 26 = .ok (.getfield 7, 3) := dk_180 0 7 (dk_at dksX6_meanQuestions_1 2 rfl rfl)
theorem dX6_meanQuestions_29 : decode cX6_meanQuestions 29 = .ok (.iconst 1, 1) := dk_4 (dk_at dksX6_meanQuestions_1 5 rfl rfl)
theorem dX6_meanQuestions_30 : decode cX6_meanQuestions 30 = .ok (.iaload, 1) := dk_46 (dk_at dksX6_meanQuestions_1 6 rfl rfl)
theorem dX6_meanQuestions_31 : decode cX6_meanQuestions 31 = .ok (.i2d, 1) := dk_135 (dk_at dksX6_meanQuestions_1 7 rfl rfl)
theorem dX6_meanQuestions_32 : decode cX6_meanQuestions 32 = .ok (.ddiv, 1) := dk_111 (dk_at dksX6_meanQuestions_1 8 rfl rfl)
theorem dX6_meanQuestions_33 : decode cX6_meanQuestions 33 = .ok (.dreturn, 1) := dk_175 (dk_at dksX6_meanQuestions_1 9 rfl rfl)
def dkwX6_wouldSolve_1 : List UInt8 := [167, 0, 8, 42, 27, 182, 0, 125, 172]
abbrev dktX6_wouldSolve_1 : List UInt8 := dkwX6_wouldSolve_1 ++ []
def dkwX6_wouldSolve_0 : List UInt8 := [42, 27, 184, 0, 64, 153, 0, 7, 3, 167, 0, 4, 4, 181, 0, 32, 42, 180, 0, 32, 158, 0, 7, 3]
abbrev dktX6_wouldSolve_0 : List UInt8 := dkwX6_wouldSolve_0 ++ dktX6_wouldSolve_1
theorem dksX6_wouldSolve_0 : cX6_wouldSolve.data.toList.drop 0 = dktX6_wouldSolve_0 := by decide +kernel
theorem dksX6_wouldSolve_1 : cX6_wouldSolve.data.toList.drop 24 = dktX6_wouldSolve_1 := dk_seg dksX6_wouldSolve_0 24 rfl rfl
theorem dX6_wouldSolve_0 : decode cX6_wouldSolve 0 = .ok (.aload_n 0, 1) := dk_42 (dk_at dksX6_wouldSolve_0 0 rfl rfl)
theorem dX6_wouldSolve_1 : decode cX6_wouldSolve 1 = .ok (.iload_n 1, 1) := dk_27 (dk_at dksX6_wouldSolve_0 1 rfl rfl)
theorem dX6_wouldSolve_2 : decode cX6_wouldSolve 2 = .ok (.invokestatic 64, 3) := dk_184 0 64 (dk_at dksX6_wouldSolve_0 2 rfl rfl)
theorem dX6_wouldSolve_5 : decode cX6_wouldSolve 5 = .ok (.ifCond .eq 7, 3) := dk_153 0 7 (dk_at dksX6_wouldSolve_0 5 rfl rfl)
theorem dX6_wouldSolve_8 : decode cX6_wouldSolve 8 = .ok (.iconst 0, 1) := dk_3 (dk_at dksX6_wouldSolve_0 8 rfl rfl)
theorem dX6_wouldSolve_9 : decode cX6_wouldSolve 9 = .ok (.goto 4, 3) := dk_167 0 4 (dk_at dksX6_wouldSolve_0 9 rfl rfl)
theorem dX6_wouldSolve_12 : decode cX6_wouldSolve 12 = .ok (.iconst 1, 1) := dk_4 (dk_at dksX6_wouldSolve_0 12 rfl rfl)
theorem dX6_wouldSolve_13 : decode cX6_wouldSolve 13 = .ok (.putfield 32, 3) := dk_181 0 32 (dk_at dksX6_wouldSolve_0 13 rfl rfl)
theorem dX6_wouldSolve_16 : decode cX6_wouldSolve 16 = .ok (.aload_n 0, 1) := dk_42 (dk_at dksX6_wouldSolve_0 16 rfl rfl)
theorem dX6_wouldSolve_17 : decode cX6_wouldSolve 17 = .ok (.getfield 32, 3) := dk_180 0 32 (dk_at dksX6_wouldSolve_0 17 rfl rfl)
theorem dX6_wouldSolve_20 : decode cX6_wouldSolve 20 = .ok (.ifCond .le 7, 3) := dk_158 0 7 (dk_at dksX6_wouldSolve_0 20 rfl rfl)
theorem dX6_wouldSolve_23 : decode cX6_wouldSolve 23 = .ok (.iconst 0, 1) := dk_3 (dk_at dksX6_wouldSolve_0 23 rfl rfl)
theorem dX6_wouldSolve_24 : decode cX6_wouldSolve 24 = .ok (.goto 8, 3) := dk_167 0 8 (dk_at dksX6_wouldSolve_1 0 rfl rfl)
theorem dX6_wouldSolve_27 : decode cX6_wouldSolve 27 = .ok (.aload_n 0, 1) := dk_42 (dk_at dksX6_wouldSolve_1 3 rfl rfl)
theorem dX6_wouldSolve_28 : decode cX6_wouldSolve 28 = .ok (.iload_n 1, 1) := dk_27 (dk_at dksX6_wouldSolve_1 4 rfl rfl)
theorem dX6_wouldSolve_29 : decode cX6_wouldSolve 29 = .ok (.invokevirtual 125, 3) := dk_182 0 125 (dk_at dksX6_wouldSolve_1 5 rfl rfl)
theorem dX6_wouldSolve_32 : decode cX6_wouldSolve 32 = .ok (.ireturn, 1) := dk_172 (dk_at dksX6_wouldSolve_1 8 rfl rfl)
def dkwX6_would_1 : List UInt8 := [42, 180, 0, 7, 3, 184, 0, 39, 28, 172]
abbrev dktX6_would_1 : List UInt8 := dkwX6_would_1 ++ []
def dkwX6_would_0 : List UInt8 := [42, 180, 0, 7, 3, 42, 180, 0, 16, 3, 184, 0, 39, 42, 27, 182, 0, 81, 61, 42, 180, 0, 16, 3]
abbrev dktX6_would_0 : List UInt8 := dkwX6_would_0 ++ dktX6_would_1
theorem dksX6_would_0 : cX6_would.data.toList.drop 0 = dktX6_would_0 := by decide +kernel
theorem dksX6_would_1 : cX6_would.data.toList.drop 24 = dktX6_would_1 := dk_seg dksX6_would_0 24 rfl rfl
theorem dX6_would_0 : decode cX6_would 0 = .ok (.aload_n 0, 1) := dk_42 (dk_at dksX6_would_0 0 rfl rfl)
theorem dX6_would_1 : decode cX6_would 1 = .ok (.getfield 7, 3) := dk_180 0 7 (dk_at dksX6_would_0 1 rfl rfl)
theorem dX6_would_4 : decode cX6_would 4 = .ok (.iconst 0, 1) := dk_3 (dk_at dksX6_would_0 4 rfl rfl)
theorem dX6_would_5 : decode cX6_would 5 = .ok (.aload_n 0, 1) := dk_42 (dk_at dksX6_would_0 5 rfl rfl)
theorem dX6_would_6 : decode cX6_would 6 = .ok (.getfield 16, 3) := dk_180 0 16 (dk_at dksX6_would_0 6 rfl rfl)
theorem dX6_would_9 : decode cX6_would 9 = .ok (.iconst 0, 1) := dk_3 (dk_at dksX6_would_0 9 rfl rfl)
theorem dX6_would_10 : decode cX6_would 10 = .ok (.invokestatic 39, 3) := dk_184 0 39 (dk_at dksX6_would_0 10 rfl rfl)
theorem dX6_would_13 : decode cX6_would 13 = .ok (.aload_n 0, 1) := dk_42 (dk_at dksX6_would_0 13 rfl rfl)
theorem dX6_would_14 : decode cX6_would 14 = .ok (.iload_n 1, 1) := dk_27 (dk_at dksX6_would_0 14 rfl rfl)
theorem dX6_would_15 : decode cX6_would 15 = .ok (.invokevirtual 81, 3) := dk_182 0 81 (dk_at dksX6_would_0 15 rfl rfl)
theorem dX6_would_18 : decode cX6_would 18 = .ok (.istore_n 2, 1) := dk_61 (dk_at dksX6_would_0 18 rfl rfl)
theorem dX6_would_19 : decode cX6_would 19 = .ok (.aload_n 0, 1) := dk_42 (dk_at dksX6_would_0 19 rfl rfl)
theorem dX6_would_20 : decode cX6_would 20 = .ok (.getfield 16, 3) := dk_180 0 16 (dk_at dksX6_would_0 20 rfl rfl)
theorem dX6_would_23 : decode cX6_would 23 = .ok (.iconst 0, 1) := dk_3 (dk_at dksX6_would_0 23 rfl rfl)
theorem dX6_would_24 : decode cX6_would 24 = .ok (.aload_n 0, 1) := dk_42 (dk_at dksX6_would_1 0 rfl rfl)
theorem dX6_would_25 : decode cX6_would 25 = .ok (.getfield 7, 3) := dk_180 0 7 (dk_at dksX6_would_1 1 rfl rfl)
theorem dX6_would_28 : decode cX6_would 28 = .ok (.iconst 0, 1) := dk_3 (dk_at dksX6_would_1 4 rfl rfl)
theorem dX6_would_29 : decode cX6_would 29 = .ok (.invokestatic 39, 3) := dk_184 0 39 (dk_at dksX6_would_1 5 rfl rfl)
theorem dX6_would_32 : decode cX6_would 32 = .ok (.iload_n 2, 1) := dk_28 (dk_at dksX6_would_1 8 rfl rfl)
theorem dX6_would_33 : decode cX6_would 33 = .ok (.ireturn, 1) := dk_172 (dk_at dksX6_would_1 9 rfl rfl)
def dkwX6_costOf_1 : List UInt8 := [167, 0, 8, 42, 27, 182, 0, 128, 172]
abbrev dktX6_costOf_1 : List UInt8 := dkwX6_costOf_1 ++ []
def dkwX6_costOf_0 : List UInt8 := [42, 27, 184, 0, 64, 153, 0, 7, 3, 167, 0, 4, 4, 181, 0, 32, 42, 180, 0, 32, 158, 0, 7, 3]
abbrev dktX6_costOf_0 : List UInt8 := dkwX6_costOf_0 ++ dktX6_costOf_1
theorem dksX6_costOf_0 : cX6_costOf.data.toList.drop 0 = dktX6_costOf_0 := by decide +kernel
theorem dksX6_costOf_1 : cX6_costOf.data.toList.drop 24 = dktX6_costOf_1 := dk_seg dksX6_costOf_0 24 rfl rfl
theorem dX6_costOf_0 : decode cX6_costOf 0 = .ok (.aload_n 0, 1) := dk_42 (dk_at dksX6_costOf_0 0 rfl rfl)
theorem dX6_costOf_1 : decode cX6_costOf 1 = .ok (.iload_n 1, 1) := dk_27 (dk_at dksX6_costOf_0 1 rfl rfl)
theorem dX6_costOf_2 : decode cX6_costOf 2 = .ok (.invokestatic 64, 3) := dk_184 0 64 (dk_at dksX6_costOf_0 2 rfl rfl)
theorem dX6_costOf_5 : decode cX6_costOf 5 = .ok (.ifCond .eq 7, 3) := dk_153 0 7 (dk_at dksX6_costOf_0 5 rfl rfl)
theorem dX6_costOf_8 : decode cX6_costOf 8 = .ok (.iconst 0, 1) := dk_3 (dk_at dksX6_costOf_0 8 rfl rfl)
theorem dX6_costOf_9 : decode cX6_costOf 9 = .ok (.goto 4, 3) := dk_167 0 4 (dk_at dksX6_costOf_0 9 rfl rfl)
theorem dX6_costOf_12 : decode cX6_costOf 12 = .ok (.iconst 1, 1) := dk_4 (dk_at dksX6_costOf_0 12 rfl rfl)
theorem dX6_costOf_13 : decode cX6_costOf 13 = .ok (.putfield 32, 3) := dk_181 0 32 (dk_at dksX6_costOf_0 13 rfl rfl)
theorem dX6_costOf_16 : decode cX6_costOf 16 = .ok (.aload_n 0, 1) := dk_42 (dk_at dksX6_costOf_0 16 rfl rfl)
theorem dX6_costOf_17 : decode cX6_costOf 17 = .ok (.getfield 32, 3) := dk_180 0 32 (dk_at dksX6_costOf_0 17 rfl rfl)
theorem dX6_costOf_20 : decode cX6_costOf 20 = .ok (.ifCond .le 7, 3) := dk_158 0 7 (dk_at dksX6_costOf_0 20 rfl rfl)
theorem dX6_costOf_23 : decode cX6_costOf 23 = .ok (.iconst 0, 1) := dk_3 (dk_at dksX6_costOf_0 23 rfl rfl)
theorem dX6_costOf_24 : decode cX6_costOf 24 = .ok (.goto 8, 3) := dk_167 0 8 (dk_at dksX6_costOf_1 0 rfl rfl)
theorem dX6_costOf_27 : decode cX6_costOf 27 = .ok (.aload_n 0, 1) := dk_42 (dk_at dksX6_costOf_1 3 rfl rfl)
theorem dX6_costOf_28 : decode cX6_costOf 28 = .ok (.iload_n 1, 1) := dk_27 (dk_at dksX6_costOf_1 4 rfl rfl)
theorem dX6_costOf_29 : decode cX6_costOf 29 = .ok (.invokevirtual 128, 3) := dk_182 0 128 (dk_at dksX6_costOf_1 5 rfl rfl)
theorem dX6_costOf_32 : decode cX6_costOf 32 = .ok (.ireturn, 1) := dk_172 (dk_at dksX6_costOf_1 8 rfl rfl)
def dkwX6_cost_1 : List UInt8 := [46, 61, 42, 180, 0, 16, 3, 42, 180, 0, 7, 3, 184, 0, 39, 28, 42, 180, 0, 7, 5, 46, 100, 172]
abbrev dktX6_cost_1 : List UInt8 := dkwX6_cost_1 ++ []
def dkwX6_cost_0 : List UInt8 := [42, 180, 0, 7, 3, 42, 180, 0, 16, 3, 184, 0, 39, 42, 27, 182, 0, 81, 87, 42, 180, 0, 7, 5]
abbrev dktX6_cost_0 : List UInt8 := dkwX6_cost_0 ++ dktX6_cost_1
theorem dksX6_cost_0 : cX6_cost.data.toList.drop 0 = dktX6_cost_0 := by decide +kernel
theorem dksX6_cost_1 : cX6_cost.data.toList.drop 24 = dktX6_cost_1 := dk_seg dksX6_cost_0 24 rfl rfl
theorem dX6_cost_0 : decode cX6_cost 0 = .ok (.aload_n 0, 1) := dk_42 (dk_at dksX6_cost_0 0 rfl rfl)
theorem dX6_cost_1 : decode cX6_cost 1 = .ok (.getfield 7, 3) := dk_180 0 7 (dk_at dksX6_cost_0 1 rfl rfl)
theorem dX6_cost_4 : decode cX6_cost 4 = .ok (.iconst 0, 1) := dk_3 (dk_at dksX6_cost_0 4 rfl rfl)
theorem dX6_cost_5 : decode cX6_cost 5 = .ok (.aload_n 0, 1) := dk_42 (dk_at dksX6_cost_0 5 rfl rfl)
theorem dX6_cost_6 : decode cX6_cost 6 = .ok (.getfield 16, 3) := dk_180 0 16 (dk_at dksX6_cost_0 6 rfl rfl)
theorem dX6_cost_9 : decode cX6_cost 9 = .ok (.iconst 0, 1) := dk_3 (dk_at dksX6_cost_0 9 rfl rfl)
theorem dX6_cost_10 : decode cX6_cost 10 = .ok (.invokestatic 39, 3) := dk_184 0 39 (dk_at dksX6_cost_0 10 rfl rfl)
theorem dX6_cost_13 : decode cX6_cost 13 = .ok (.aload_n 0, 1) := dk_42 (dk_at dksX6_cost_0 13 rfl rfl)
theorem dX6_cost_14 : decode cX6_cost 14 = .ok (.iload_n 1, 1) := dk_27 (dk_at dksX6_cost_0 14 rfl rfl)
theorem dX6_cost_15 : decode cX6_cost 15 = .ok (.invokevirtual 81, 3) := dk_182 0 81 (dk_at dksX6_cost_0 15 rfl rfl)
theorem dX6_cost_18 : decode cX6_cost 18 = .ok (.pop, 1) := dk_87 (dk_at dksX6_cost_0 18 rfl rfl)
theorem dX6_cost_19 : decode cX6_cost 19 = .ok (.aload_n 0, 1) := dk_42 (dk_at dksX6_cost_0 19 rfl rfl)
theorem dX6_cost_20 : decode cX6_cost 20 = .ok (.getfield 7, 3) := dk_180 0 7 (dk_at dksX6_cost_0 20 rfl rfl)
theorem dX6_cost_23 : decode cX6_cost 23 = .ok (.iconst 2, 1) := dk_5 (dk_at dksX6_cost_0 23 rfl rfl)
theorem dX6_cost_24 : decode cX6_cost 24 = .ok (.iaload, 1) := dk_46 (dk_at dksX6_cost_1 0 rfl rfl)
theorem dX6_cost_25 : decode cX6_cost 25 = .ok (.istore_n 2, 1) := dk_61 (dk_at dksX6_cost_1 1 rfl rfl)
theorem dX6_cost_26 : decode cX6_cost 26 = .ok (.aload_n 0, 1) := dk_42 (dk_at dksX6_cost_1 2 rfl rfl)
theorem dX6_cost_27 : decode cX6_cost 27 = .ok (.getfield 16, 3) := dk_180 0 16 (dk_at dksX6_cost_1 3 rfl rfl)
theorem dX6_cost_30 : decode cX6_cost 30 = .ok (.iconst 0, 1) := dk_3 (dk_at dksX6_cost_1 6 rfl rfl)
theorem dX6_cost_31 : decode cX6_cost 31 = .ok (.aload_n 0, 1) := dk_42 (dk_at dksX6_cost_1 7 rfl rfl)
theorem dX6_cost_32 : decode cX6_cost 32 = .ok (.getfield 7, 3) := dk_180 0 7 (dk_at dksX6_cost_1 8 rfl rfl)
theorem dX6_cost_35 : decode cX6_cost 35 = .ok (.iconst 0, 1) := dk_3 (dk_at dksX6_cost_1 11 rfl rfl)
theorem dX6_cost_36 : decode cX6_cost 36 = .ok (.invokestatic 39, 3) := dk_184 0 39 (dk_at dksX6_cost_1 12 rfl rfl)
theorem dX6_cost_39 : decode cX6_cost 39 = .ok (.iload_n 2, 1) := dk_28 (dk_at dksX6_cost_1 15 rfl rfl)
theorem dX6_cost_40 : decode cX6_cost 40 = .ok (.aload_n 0, 1) := dk_42 (dk_at dksX6_cost_1 16 rfl rfl)
theorem dX6_cost_41 : decode cX6_cost 41 = .ok (.getfield 7, 3) := dk_180 0 7 (dk_at dksX6_cost_1 17 rfl rfl)
theorem dX6_cost_44 : decode cX6_cost 44 = .ok (.iconst 2, 1) := dk_5 (dk_at dksX6_cost_1 20 rfl rfl)
theorem dX6_cost_45 : decode cX6_cost 45 = .ok (.iaload, 1) := dk_46 (dk_at dksX6_cost_1 21 rfl rfl)
theorem dX6_cost_46 : decode cX6_cost 46 = .ok (.isub, 1) := dk_100 (dk_at dksX6_cost_1 22 rfl rfl)
theorem dX6_cost_47 : decode cX6_cost 47 = .ok (.ireturn, 1) := dk_172 (dk_at dksX6_cost_1 23 rfl rfl)
def dkwX6_ticksUntilTruth_2 : List UInt8 := [167, 255, 243, 29, 172]
abbrev dktX6_ticksUntilTruth_2 : List UInt8 := dkwX6_ticksUntilTruth_2 ++ []
def dkwX6_ticksUntilTruth_1 : List UInt8 := [172, 42, 27, 182, 0, 106, 61, 3, 62, 42, 27, 29, 182, 0, 131, 28, 159, 0, 9, 132, 3, 1]
abbrev dktX6_ticksUntilTruth_1 : List UInt8 := dkwX6_ticksUntilTruth_1 ++ dktX6_ticksUntilTruth_2
def dkwX6_ticksUntilTruth_0 : List UInt8 := [42, 27, 184, 0, 64, 153, 0, 7, 3, 167, 0, 4, 4, 181, 0, 32, 42, 180, 0, 32, 158, 0, 5, 3]
abbrev dktX6_ticksUntilTruth_0 : List UInt8 := dkwX6_ticksUntilTruth_0 ++ dktX6_ticksUntilTruth_1
theorem dksX6_ticksUntilTruth_0 : cX6_ticksUntilTruth.data.toList.drop 0 = dktX6_ticksUntilTruth_0 := by decide +kernel
theorem dksX6_ticksUntilTruth_1 : cX6_ticksUntilTruth.data.toList.drop 24 = dktX6_ticksUntilTruth_1 := dk_seg dksX6_ticksUntilTruth_0 24 rfl rfl
theorem dksX6_ticksUntilTruth_2 : cX6_ticksUntilTruth.data.toList.drop 46 = dktX6_ticksUntilTruth_2 := dk_seg dksX6_ticksUntilTruth_1 22 rfl rfl
theorem dX6_ticksUntilTruth_0 : decode cX6_ticksUntilTruth 0 = .ok (.aload_n 0, 1) := dk_42 (dk_at dksX6_ticksUntilTruth_0 0 rfl rfl)
theorem dX6_ticksUntilTruth_1 : decode cX6_ticksUntilTruth 1 = .ok (.iload_n 1, 1) := dk_27 (dk_at dksX6_ticksUntilTruth_0 1 rfl rfl)
theorem dX6_ticksUntilTruth_2 : decode cX6_ticksUntilTruth 2 = .ok (.invokestatic 64, 3) := dk_184 0 64 (dk_at dksX6_ticksUntilTruth_0 2 rfl rfl)
theorem dX6_ticksUntilTruth_5 : decode cX6_ticksUntilTruth 5 = .ok (.ifCond .eq 7, 3) := dk_153 0 7 (dk_at dksX6_ticksUntilTruth_0 5 rfl rfl)
theorem dX6_ticksUntilTruth_8 : decode cX6_ticksUntilTruth 8 = .ok (.iconst 0, 1) := dk_3 (dk_at dksX6_ticksUntilTruth_0 8 rfl rfl)
theorem dX6_ticksUntilTruth_9 : decode cX6_ticksUntilTruth 9 = .ok (.goto 4, 3) := dk_167 0 4 (dk_at dksX6_ticksUntilTruth_0 9 rfl rfl)
theorem dX6_ticksUntilTruth_12 : decode cX6_ticksUntilTruth 12 = .ok (.iconst 1, 1) := dk_4 (dk_at dksX6_ticksUntilTruth_0 12 rfl rfl)
theorem dX6_ticksUntilTruth_13 : decode cX6_ticksUntilTruth 13 = .ok (.putfield 32, 3) := dk_181 0 32 (dk_at dksX6_ticksUntilTruth_0 13 rfl rfl)
theorem dX6_ticksUntilTruth_16 : decode cX6_ticksUntilTruth 16 = .ok (.aload_n 0, 1) := dk_42 (dk_at dksX6_ticksUntilTruth_0 16 rfl rfl)
theorem dX6_ticksUntilTruth_17 : decode cX6_ticksUntilTruth 17 = .ok (.getfield 32, 3) := dk_180 0 32 (dk_at dksX6_ticksUntilTruth_0 17 rfl rfl)
theorem dX6_ticksUntilTruth_20 : decode cX6_ticksUntilTruth 20 = .ok (.ifCond .le 5, 3) := dk_158 0 5 (dk_at dksX6_ticksUntilTruth_0 20 rfl rfl)
theorem dX6_ticksUntilTruth_23 : decode cX6_ticksUntilTruth 23 = .ok (.iconst 0, 1) := dk_3 (dk_at dksX6_ticksUntilTruth_0 23 rfl rfl)
theorem dX6_ticksUntilTruth_24 : decode cX6_ticksUntilTruth 24 = .ok (.ireturn, 1) := dk_172 (dk_at dksX6_ticksUntilTruth_1 0 rfl rfl)
theorem dX6_ticksUntilTruth_25 : decode cX6_ticksUntilTruth 25 = .ok (.aload_n 0, 1) := dk_42 (dk_at dksX6_ticksUntilTruth_1 1 rfl rfl)
theorem dX6_ticksUntilTruth_26 : decode cX6_ticksUntilTruth 26 = .ok (.iload_n 1, 1) := dk_27 (dk_at dksX6_ticksUntilTruth_1 2 rfl rfl)
theorem dX6_ticksUntilTruth_27 : decode cX6_ticksUntilTruth 27 = .ok (.invokevirtual 106, 3) := dk_182 0 106 (dk_at dksX6_ticksUntilTruth_1 3 rfl rfl)
theorem dX6_ticksUntilTruth_30 : decode cX6_ticksUntilTruth 30 = .ok (.istore_n 2, 1) := dk_61 (dk_at dksX6_ticksUntilTruth_1 6 rfl rfl)
theorem dX6_ticksUntilTruth_31 : decode cX6_ticksUntilTruth 31 = .ok (.iconst 0, 1) := dk_3 (dk_at dksX6_ticksUntilTruth_1 7 rfl rfl)
theorem dX6_ticksUntilTruth_32 : decode cX6_ticksUntilTruth 32 = .ok (.istore_n 3, 1) := dk_62 (dk_at dksX6_ticksUntilTruth_1 8 rfl rfl)
theorem dX6_ticksUntilTruth_33 : decode cX6_ticksUntilTruth 33 = .ok (.aload_n 0, 1) := dk_42 (dk_at dksX6_ticksUntilTruth_1 9 rfl rfl)
theorem dX6_ticksUntilTruth_34 : decode cX6_ticksUntilTruth 34 = .ok (.iload_n 1, 1) := dk_27 (dk_at dksX6_ticksUntilTruth_1 10 rfl rfl)
theorem dX6_ticksUntilTruth_35 : decode cX6_ticksUntilTruth 35 = .ok (.iload_n 3, 1) := dk_29 (dk_at dksX6_ticksUntilTruth_1 11 rfl rfl)
theorem dX6_ticksUntilTruth_36 : decode cX6_ticksUntilTruth 36 = .ok (.invokevirtual 131, 3) := dk_182 0 131 (dk_at dksX6_ticksUntilTruth_1 12 rfl rfl)
theorem dX6_ticksUntilTruth_39 : decode cX6_ticksUntilTruth 39 = .ok (.iload_n 2, 1) := dk_28 (dk_at dksX6_ticksUntilTruth_1 15 rfl rfl)
theorem dX6_ticksUntilTruth_40 : decode cX6_ticksUntilTruth 40 = .ok (.if_icmp .eq 9, 3) := dk_159 0 9 (dk_at dksX6_ticksUntilTruth_1 16 rfl rfl)
theorem dX6_ticksUntilTruth_43 : decode cX6_ticksUntilTruth 43 = .ok (.iinc 3 1, 3) := dk_132 3 1 (dk_at dksX6_ticksUntilTruth_1 19 rfl rfl)
theorem dX6_ticksUntilTruth_46 : decode cX6_ticksUntilTruth 46 = .ok (.goto (-13), 3) := dk_167 255 243 (dk_at dksX6_ticksUntilTruth_2 0 rfl rfl)
theorem dX6_ticksUntilTruth_49 : decode cX6_ticksUntilTruth 49 = .ok (.iload_n 3, 1) := dk_29 (dk_at dksX6_ticksUntilTruth_2 3 rfl rfl)
theorem dX6_ticksUntilTruth_50 : decode cX6_ticksUntilTruth 50 = .ok (.ireturn, 1) := dk_172 (dk_at dksX6_ticksUntilTruth_2 4 rfl rfl)
def dkwX6_wouldIn_1 : List UInt8 := [62, 42, 180, 0, 16, 3, 42, 180, 0, 7, 3, 184, 0, 39, 29, 172]
abbrev dktX6_wouldIn_1 : List UInt8 := dkwX6_wouldIn_1 ++ []
def dkwX6_wouldIn_0 : List UInt8 := [42, 180, 0, 7, 3, 42, 180, 0, 16, 3, 184, 0, 39, 42, 28, 182, 0, 91, 87, 42, 27, 182, 0, 81]
abbrev dktX6_wouldIn_0 : List UInt8 := dkwX6_wouldIn_0 ++ dktX6_wouldIn_1
theorem dksX6_wouldIn_0 : cX6_wouldIn.data.toList.drop 0 = dktX6_wouldIn_0 := by decide +kernel
theorem dksX6_wouldIn_1 : cX6_wouldIn.data.toList.drop 24 = dktX6_wouldIn_1 := dk_seg dksX6_wouldIn_0 24 rfl rfl
theorem dX6_wouldIn_0 : decode cX6_wouldIn 0 = .ok (.aload_n 0, 1) := dk_42 (dk_at dksX6_wouldIn_0 0 rfl rfl)
theorem dX6_wouldIn_1 : decode cX6_wouldIn 1 = .ok (.getfield 7, 3) := dk_180 0 7 (dk_at dksX6_wouldIn_0 1 rfl rfl)
theorem dX6_wouldIn_4 : decode cX6_wouldIn 4 = .ok (.iconst 0, 1) := dk_3 (dk_at dksX6_wouldIn_0 4 rfl rfl)
theorem dX6_wouldIn_5 : decode cX6_wouldIn 5 = .ok (.aload_n 0, 1) := dk_42 (dk_at dksX6_wouldIn_0 5 rfl rfl)
theorem dX6_wouldIn_6 : decode cX6_wouldIn 6 = .ok (.getfield 16, 3) := dk_180 0 16 (dk_at dksX6_wouldIn_0 6 rfl rfl)
theorem dX6_wouldIn_9 : decode cX6_wouldIn 9 = .ok (.iconst 0, 1) := dk_3 (dk_at dksX6_wouldIn_0 9 rfl rfl)
theorem dX6_wouldIn_10 : decode cX6_wouldIn 10 = .ok (.invokestatic 39, 3) := dk_184 0 39 (dk_at dksX6_wouldIn_0 10 rfl rfl)
theorem dX6_wouldIn_13 : decode cX6_wouldIn 13 = .ok (.aload_n 0, 1) := dk_42 (dk_at dksX6_wouldIn_0 13 rfl rfl)
theorem dX6_wouldIn_14 : decode cX6_wouldIn 14 = .ok (.iload_n 2, 1) := dk_28 (dk_at dksX6_wouldIn_0 14 rfl rfl)
theorem dX6_wouldIn_15 : decode cX6_wouldIn 15 = .ok (.invokevirtual 91, 3) := dk_182 0 91 (dk_at dksX6_wouldIn_0 15 rfl rfl)
theorem dX6_wouldIn_18 : decode cX6_wouldIn 18 = .ok (.pop, 1) := dk_87 (dk_at dksX6_wouldIn_0 18 rfl rfl)
theorem dX6_wouldIn_19 : decode cX6_wouldIn 19 = .ok (.aload_n 0, 1) := dk_42 (dk_at dksX6_wouldIn_0 19 rfl rfl)
theorem dX6_wouldIn_20 : decode cX6_wouldIn 20 = .ok (.iload_n 1, 1) := dk_27 (dk_at dksX6_wouldIn_0 20 rfl rfl)
theorem dX6_wouldIn_21 : decode cX6_wouldIn 21 = .ok (.invokevirtual 81, 3) := dk_182 0 81 (dk_at dksX6_wouldIn_0 21 rfl rfl)
theorem dX6_wouldIn_24 : decode cX6_wouldIn 24 = .ok (.istore_n 3, 1) := dk_62 (dk_at dksX6_wouldIn_1 0 rfl rfl)
theorem dX6_wouldIn_25 : decode cX6_wouldIn 25 = .ok (.aload_n 0, 1) := dk_42 (dk_at dksX6_wouldIn_1 1 rfl rfl)
theorem dX6_wouldIn_26 : decode cX6_wouldIn 26 = .ok (.getfield 16, 3) := dk_180 0 16 (dk_at dksX6_wouldIn_1 2 rfl rfl)
theorem dX6_wouldIn_29 : decode cX6_wouldIn 29 = .ok (.iconst 0, 1) := dk_3 (dk_at dksX6_wouldIn_1 5 rfl rfl)
theorem dX6_wouldIn_30 : decode cX6_wouldIn 30 = .ok (.aload_n 0, 1) := dk_42 (dk_at dksX6_wouldIn_1 6 rfl rfl)
theorem dX6_wouldIn_31 : decode cX6_wouldIn 31 = .ok (.getfield 7, 3) := dk_180 0 7 (dk_at dksX6_wouldIn_1 7 rfl rfl)
theorem dX6_wouldIn_34 : decode cX6_wouldIn 34 = .ok (.iconst 0, 1) := dk_3 (dk_at dksX6_wouldIn_1 10 rfl rfl)
theorem dX6_wouldIn_35 : decode cX6_wouldIn 35 = .ok (.invokestatic 39, 3) := dk_184 0 39 (dk_at dksX6_wouldIn_1 11 rfl rfl)
theorem dX6_wouldIn_38 : decode cX6_wouldIn 38 = .ok (.iload_n 3, 1) := dk_29 (dk_at dksX6_wouldIn_1 14 rfl rfl)
theorem dX6_wouldIn_39 : decode cX6_wouldIn 39 = .ok (.ireturn, 1) := dk_172 (dk_at dksX6_wouldIn_1 15 rfl rfl)
def dkwX6_append_2 : List UInt8 := [42, 180, 0, 134, 27, 79, 42, 89, 180, 0, 134, 4, 96, 181, 0, 134, 42, 180, 0, 134, 172]
abbrev dktX6_append_2 : List UInt8 := dkwX6_append_2 ++ []
def dkwX6_append_1 : List UInt8 := [160, 0, 7, 5, 167, 0, 4, 3, 181, 0, 32, 42, 180, 0, 32, 158, 0, 5, 3, 172, 42, 180, 0, 19]
abbrev dktX6_append_1 : List UInt8 := dkwX6_append_1 ++ dktX6_append_2
def dkwX6_append_0 : List UInt8 := [42, 27, 16, 33, 16, 126, 184, 0, 43, 154, 0, 7, 4, 167, 0, 17, 42, 180, 0, 134, 16, 60]
abbrev dktX6_append_0 : List UInt8 := dkwX6_append_0 ++ dktX6_append_1
theorem dksX6_append_0 : cX6_append.data.toList.drop 0 = dktX6_append_0 := by decide +kernel
theorem dksX6_append_1 : cX6_append.data.toList.drop 22 = dktX6_append_1 := dk_seg dksX6_append_0 22 rfl rfl
theorem dksX6_append_2 : cX6_append.data.toList.drop 46 = dktX6_append_2 := dk_seg dksX6_append_1 24 rfl rfl
theorem dX6_append_0 : decode cX6_append 0 = .ok (.aload_n 0, 1) := dk_42 (dk_at dksX6_append_0 0 rfl rfl)
theorem dX6_append_1 : decode cX6_append 1 = .ok (.iload_n 1, 1) := dk_27 (dk_at dksX6_append_0 1 rfl rfl)
theorem dX6_append_2 : decode cX6_append 2 = .ok (.bipush 33, 2) := dk_16 33 (dk_at dksX6_append_0 2 rfl rfl)
theorem dX6_append_4 : decode cX6_append 4 = .ok (.bipush 126, 2) := dk_16 126 (dk_at dksX6_append_0 4 rfl rfl)
theorem dX6_append_6 : decode cX6_append 6 = .ok (.invokestatic 43, 3) := dk_184 0 43 (dk_at dksX6_append_0 6 rfl rfl)
theorem dX6_append_9 : decode cX6_append 9 = .ok (.ifCond .ne 7, 3) := dk_154 0 7 (dk_at dksX6_append_0 9 rfl rfl)
theorem dX6_append_12 : decode cX6_append 12 = .ok (.iconst 1, 1) := dk_4 (dk_at dksX6_append_0 12 rfl rfl)
theorem dX6_append_13 : decode cX6_append 13 = .ok (.goto 17, 3) := dk_167 0 17 (dk_at dksX6_append_0 13 rfl rfl)
theorem dX6_append_16 : decode cX6_append 16 = .ok (.aload_n 0, 1) := dk_42 (dk_at dksX6_append_0 16 rfl rfl)
theorem dX6_append_17 : decode cX6_append 17 = .ok (.getfield 134, 3) := dk_180 0 134 (dk_at dksX6_append_0 17 rfl rfl)
theorem dX6_append_20 : decode cX6_append 20 = .ok (.bipush 60, 2) := dk_16 60 (dk_at dksX6_append_0 20 rfl rfl)
theorem dX6_append_22 : decode cX6_append 22 = .ok (.if_icmp .ne 7, 3) := dk_160 0 7 (dk_at dksX6_append_1 0 rfl rfl)
theorem dX6_append_25 : decode cX6_append 25 = .ok (.iconst 2, 1) := dk_5 (dk_at dksX6_append_1 3 rfl rfl)
theorem dX6_append_26 : decode cX6_append 26 = .ok (.goto 4, 3) := dk_167 0 4 (dk_at dksX6_append_1 4 rfl rfl)
theorem dX6_append_29 : decode cX6_append 29 = .ok (.iconst 0, 1) := dk_3 (dk_at dksX6_append_1 7 rfl rfl)
theorem dX6_append_30 : decode cX6_append 30 = .ok (.putfield 32, 3) := dk_181 0 32 (dk_at dksX6_append_1 8 rfl rfl)
theorem dX6_append_33 : decode cX6_append 33 = .ok (.aload_n 0, 1) := dk_42 (dk_at dksX6_append_1 11 rfl rfl)
theorem dX6_append_34 : decode cX6_append 34 = .ok (.getfield 32, 3) := dk_180 0 32 (dk_at dksX6_append_1 12 rfl rfl)
theorem dX6_append_37 : decode cX6_append 37 = .ok (.ifCond .le 5, 3) := dk_158 0 5 (dk_at dksX6_append_1 15 rfl rfl)
theorem dX6_append_40 : decode cX6_append 40 = .ok (.iconst 0, 1) := dk_3 (dk_at dksX6_append_1 18 rfl rfl)
theorem dX6_append_41 : decode cX6_append 41 = .ok (.ireturn, 1) := dk_172 (dk_at dksX6_append_1 19 rfl rfl)
theorem dX6_append_42 : decode cX6_append 42 = .ok (.aload_n 0, 1) := dk_42 (dk_at dksX6_append_1 20 rfl rfl)
theorem dX6_append_43 : decode cX6_append 43 = .ok (.getfield 19, 3) := dk_180 0 19 (dk_at dksX6_append_1 21 rfl rfl)
theorem dX6_append_46 : decode cX6_append 46 = .ok (.aload_n 0, 1) := dk_42 (dk_at dksX6_append_2 0 rfl rfl)
theorem dX6_append_47 : decode cX6_append 47 = .ok (.getfield 134, 3) := dk_180 0 134 (dk_at dksX6_append_2 1 rfl rfl)
theorem dX6_append_50 : decode cX6_append 50 = .ok (.iload_n 1, 1) := dk_27 (dk_at dksX6_append_2 4 rfl rfl)
theorem dX6_append_51 : decode cX6_append 51 = .ok (.iastore, 1) := dk_79 (dk_at dksX6_append_2 5 rfl rfl)
theorem dX6_append_52 : decode cX6_append 52 = .ok (.aload_n 0, 1) := dk_42 (dk_at dksX6_append_2 6 rfl rfl)
theorem dX6_append_53 : decode cX6_append 53 = .ok (.dup, 1) := dk_89 (dk_at dksX6_append_2 7 rfl rfl)
theorem dX6_append_54 : decode cX6_append 54 = .ok (.getfield 134, 3) := dk_180 0 134 (dk_at dksX6_append_2 8 rfl rfl)
theorem dX6_append_57 : decode cX6_append 57 = .ok (.iconst 1, 1) := dk_4 (dk_at dksX6_append_2 11 rfl rfl)
theorem dX6_append_58 : decode cX6_append 58 = .ok (.iadd, 1) := dk_96 (dk_at dksX6_append_2 12 rfl rfl)
theorem dX6_append_59 : decode cX6_append 59 = .ok (.putfield 134, 3) := dk_181 0 134 (dk_at dksX6_append_2 13 rfl rfl)
theorem dX6_append_62 : decode cX6_append 62 = .ok (.aload_n 0, 1) := dk_42 (dk_at dksX6_append_2 16 rfl rfl)
theorem dX6_append_63 : decode cX6_append 63 = .ok (.getfield 134, 3) := dk_180 0 134 (dk_at dksX6_append_2 17 rfl rfl)
theorem dX6_append_66 : decode cX6_append 66 = .ok (.ireturn, 1) := dk_172 (dk_at dksX6_append_2 20 rfl rfl)
def dkwX6_clearText_0 : List UInt8 := [42, 3, 181, 0, 32, 42, 180, 0, 134, 60, 42, 3, 181, 0, 134, 27, 172]
abbrev dktX6_clearText_0 : List UInt8 := dkwX6_clearText_0 ++ []
theorem dksX6_clearText_0 : cX6_clearText.data.toList.drop 0 = dktX6_clearText_0 := by decide +kernel
theorem dX6_clearText_0 : decode cX6_clearText 0 = .ok (.aload_n 0, 1) := dk_42 (dk_at dksX6_clearText_0 0 rfl rfl)
theorem dX6_clearText_1 : decode cX6_clearText 1 = .ok (.iconst 0, 1) := dk_3 (dk_at dksX6_clearText_0 1 rfl rfl)
theorem dX6_clearText_2 : decode cX6_clearText 2 = .ok (.putfield 32, 3) := dk_181 0 32 (dk_at dksX6_clearText_0 2 rfl rfl)
theorem dX6_clearText_5 : decode cX6_clearText 5 = .ok (.aload_n 0, 1) := dk_42 (dk_at dksX6_clearText_0 5 rfl rfl)
theorem dX6_clearText_6 : decode cX6_clearText 6 = .ok (.getfield 134, 3) := dk_180 0 134 (dk_at dksX6_clearText_0 6 rfl rfl)
theorem dX6_clearText_9 : decode cX6_clearText 9 = .ok (.istore_n 1, 1) := dk_60 (dk_at dksX6_clearText_0 9 rfl rfl)
theorem dX6_clearText_10 : decode cX6_clearText 10 = .ok (.aload_n 0, 1) := dk_42 (dk_at dksX6_clearText_0 10 rfl rfl)
theorem dX6_clearText_11 : decode cX6_clearText 11 = .ok (.iconst 0, 1) := dk_3 (dk_at dksX6_clearText_0 11 rfl rfl)
theorem dX6_clearText_12 : decode cX6_clearText 12 = .ok (.putfield 134, 3) := dk_181 0 134 (dk_at dksX6_clearText_0 12 rfl rfl)
theorem dX6_clearText_15 : decode cX6_clearText 15 = .ok (.iload_n 1, 1) := dk_27 (dk_at dksX6_clearText_0 15 rfl rfl)
theorem dX6_clearText_16 : decode cX6_clearText 16 = .ok (.ireturn, 1) := dk_172 (dk_at dksX6_clearText_0 16 rfl rfl)
def dkwX6_firstError_0 : List UInt8 := [42, 3, 181, 0, 32, 42, 182, 0, 157, 172]
abbrev dktX6_firstError_0 : List UInt8 := dkwX6_firstError_0 ++ []
theorem dksX6_firstError_0 : cX6_firstError.data.toList.drop 0 = dktX6_firstError_0 := by decide +kernel
theorem dX6_firstError_0 : decode cX6_firstError 0 = .ok (.aload_n 0, 1) := dk_42 (dk_at dksX6_firstError_0 0 rfl rfl)
theorem dX6_firstError_1 : decode cX6_firstError 1 = .ok (.iconst 0, 1) := dk_3 (dk_at dksX6_firstError_0 1 rfl rfl)
theorem dX6_firstError_2 : decode cX6_firstError 2 = .ok (.putfield 32, 3) := dk_181 0 32 (dk_at dksX6_firstError_0 2 rfl rfl)
theorem dX6_firstError_5 : decode cX6_firstError 5 = .ok (.aload_n 0, 1) := dk_42 (dk_at dksX6_firstError_0 5 rfl rfl)
theorem dX6_firstError_6 : decode cX6_firstError 6 = .ok (.invokevirtual 157, 3) := dk_182 0 157 (dk_at dksX6_firstError_0 6 rfl rfl)
theorem dX6_firstError_9 : decode cX6_firstError 9 = .ok (.ireturn, 1) := dk_172 (dk_at dksX6_firstError_0 9 rfl rfl)
def dkwX6_findError_2 : List UInt8 := [180, 0, 137, 172, 42, 89, 180, 0, 137, 4, 96, 181, 0, 137, 167, 255, 202]
abbrev dktX6_findError_2 : List UInt8 := dkwX6_findError_2 ++ []
def dkwX6_findError_1 : List UInt8 := [180, 0, 134, 160, 0, 5, 2, 172, 42, 180, 0, 19, 42, 180, 0, 137, 46, 16, 44, 159, 0, 8, 42]
abbrev dktX6_findError_1 : List UInt8 := dkwX6_findError_1 ++ dktX6_findError_2
def dkwX6_findError_0 : List UInt8 := [42, 3, 181, 0, 137, 42, 182, 0, 153, 154, 0, 8, 42, 180, 0, 137, 172, 42, 180, 0, 137, 42]
abbrev dktX6_findError_0 : List UInt8 := dkwX6_findError_0 ++ dktX6_findError_1
theorem dksX6_findError_0 : cX6_findError.data.toList.drop 0 = dktX6_findError_0 := by decide +kernel
theorem dksX6_findError_1 : cX6_findError.data.toList.drop 22 = dktX6_findError_1 := dk_seg dksX6_findError_0 22 rfl rfl
theorem dksX6_findError_2 : cX6_findError.data.toList.drop 45 = dktX6_findError_2 := dk_seg dksX6_findError_1 23 rfl rfl
theorem dX6_findError_0 : decode cX6_findError 0 = .ok (.aload_n 0, 1) := dk_42 (dk_at dksX6_findError_0 0 rfl rfl)
theorem dX6_findError_1 : decode cX6_findError 1 = .ok (.iconst 0, 1) := dk_3 (dk_at dksX6_findError_0 1 rfl rfl)
theorem dX6_findError_2 : decode cX6_findError 2 = .ok (.putfield 137, 3) := dk_181 0 137 (dk_at dksX6_findError_0 2 rfl rfl)
theorem dX6_findError_5 : decode cX6_findError 5 = .ok (.aload_n 0, 1) := dk_42 (dk_at dksX6_findError_0 5 rfl rfl)
theorem dX6_findError_6 : decode cX6_findError 6 = .ok (.invokevirtual 153, 3) := dk_182 0 153 (dk_at dksX6_findError_0 6 rfl rfl)
theorem dX6_findError_9 : decode cX6_findError 9 = .ok (.ifCond .ne 8, 3) := dk_154 0 8 (dk_at dksX6_findError_0 9 rfl rfl)
theorem dX6_findError_12 : decode cX6_findError 12 = .ok (.aload_n 0, 1) := dk_42 (dk_at dksX6_findError_0 12 rfl rfl)
theorem dX6_findError_13 : decode cX6_findError 13 = .ok (.getfield 137, 3) := dk_180 0 137 (dk_at dksX6_findError_0 13 rfl rfl)
theorem dX6_findError_16 : decode cX6_findError 16 = .ok (.ireturn, 1) := dk_172 (dk_at dksX6_findError_0 16 rfl rfl)
theorem dX6_findError_17 : decode cX6_findError 17 = .ok (.aload_n 0, 1) := dk_42 (dk_at dksX6_findError_0 17 rfl rfl)
theorem dX6_findError_18 : decode cX6_findError 18 = .ok (.getfield 137, 3) := dk_180 0 137 (dk_at dksX6_findError_0 18 rfl rfl)
theorem dX6_findError_21 : decode cX6_findError 21 = .ok (.aload_n 0, 1) := dk_42 (dk_at dksX6_findError_0 21 rfl rfl)
theorem dX6_findError_22 : decode cX6_findError 22 = .ok (.getfield 134, 3) := dk_180 0 134 (dk_at dksX6_findError_1 0 rfl rfl)
theorem dX6_findError_25 : decode cX6_findError 25 = .ok (.if_icmp .ne 5, 3) := dk_160 0 5 (dk_at dksX6_findError_1 3 rfl rfl)
theorem dX6_findError_28 : decode cX6_findError 28 = .ok (.iconst (-1), 1) := dk_2 (dk_at dksX6_findError_1 6 rfl rfl)
theorem dX6_findError_29 : decode cX6_findError 29 = .ok (.ireturn, 1) := dk_172 (dk_at dksX6_findError_1 7 rfl rfl)
theorem dX6_findError_30 : decode cX6_findError 30 = .ok (.aload_n 0, 1) := dk_42 (dk_at dksX6_findError_1 8 rfl rfl)
theorem dX6_findError_31 : decode cX6_findError 31 = .ok (.getfield 19, 3) := dk_180 0 19 (dk_at dksX6_findError_1 9 rfl rfl)
theorem dX6_findError_34 : decode cX6_findError 34 = .ok (.aload_n 0, 1) := dk_42 (dk_at dksX6_findError_1 12 rfl rfl)
theorem dX6_findError_35 : decode cX6_findError 35 = .ok (.getfield 137, 3) := dk_180 0 137 (dk_at dksX6_findError_1 13 rfl rfl)
theorem dX6_findError_38 : decode cX6_findError 38 = .ok (.iaload, 1) := dk_46 (dk_at dksX6_findError_1 16 rfl rfl)
theorem dX6_findError_39 : decode cX6_findError 39 = .ok (.bipush 44, 2) := dk_16 44 (dk_at dksX6_findError_1 17 rfl rfl)
theorem dX6_findError_41 : decode cX6_findError 41 = .ok (.if_icmp .eq 8, 3) := dk_159 0 8 (dk_at dksX6_findError_1 19 rfl rfl)
theorem dX6_findError_44 : decode cX6_findError 44 = .ok (.aload_n 0, 1) := dk_42 (dk_at dksX6_findError_1 22 rfl rfl)
theorem dX6_findError_45 : decode cX6_findError 45 = .ok (.getfield 137, 3) := dk_180 0 137 (dk_at dksX6_findError_2 0 rfl rfl)
theorem dX6_findError_48 : decode cX6_findError 48 = .ok (.ireturn, 1) := dk_172 (dk_at dksX6_findError_2 3 rfl rfl)
theorem dX6_findError_49 : decode cX6_findError 49 = .ok (.aload_n 0, 1) := dk_42 (dk_at dksX6_findError_2 4 rfl rfl)
theorem dX6_findError_50 : decode cX6_findError 50 = .ok (.dup, 1) := dk_89 (dk_at dksX6_findError_2 5 rfl rfl)
theorem dX6_findError_51 : decode cX6_findError 51 = .ok (.getfield 137, 3) := dk_180 0 137 (dk_at dksX6_findError_2 6 rfl rfl)
theorem dX6_findError_54 : decode cX6_findError 54 = .ok (.iconst 1, 1) := dk_4 (dk_at dksX6_findError_2 9 rfl rfl)
theorem dX6_findError_55 : decode cX6_findError 55 = .ok (.iadd, 1) := dk_96 (dk_at dksX6_findError_2 10 rfl rfl)
theorem dX6_findError_56 : decode cX6_findError 56 = .ok (.putfield 137, 3) := dk_181 0 137 (dk_at dksX6_findError_2 11 rfl rfl)
theorem dX6_findError_59 : decode cX6_findError 59 = .ok (.goto (-54), 3) := dk_167 255 202 (dk_at dksX6_findError_2 14 rfl rfl)
def dkwX6_readsAct_3 : List UInt8 := [3, 172]
abbrev dktX6_readsAct_3 : List UInt8 := dkwX6_readsAct_3 ++ []
def dkwX6_readsAct_2 : List UInt8 := [16, 63, 16, 63, 182, 0, 140, 153, 0, 17, 42, 3, 16, 35, 182, 0, 150, 153, 0, 7, 4, 167, 0, 4]
abbrev dktX6_readsAct_2 : List UInt8 := dkwX6_readsAct_2 ++ dktX6_readsAct_3
def dkwX6_readsAct_1 : List UInt8 := [2, 181, 0, 147, 42, 16, 43, 16, 43, 182, 0, 140, 153, 0, 11, 42, 4, 16, 99, 182, 0, 150, 172, 42]
abbrev dktX6_readsAct_1 : List UInt8 := dkwX6_readsAct_1 ++ dktX6_readsAct_2
def dkwX6_readsAct_0 : List UInt8 := [42, 42, 180, 0, 137, 42, 180, 0, 134, 162, 0, 15, 42, 180, 0, 19, 42, 180, 0, 137, 46, 167, 0, 4]
abbrev dktX6_readsAct_0 : List UInt8 := dkwX6_readsAct_0 ++ dktX6_readsAct_1
theorem dksX6_readsAct_0 : cX6_readsAct.data.toList.drop 0 = dktX6_readsAct_0 := by decide +kernel
theorem dksX6_readsAct_1 : cX6_readsAct.data.toList.drop 24 = dktX6_readsAct_1 := dk_seg dksX6_readsAct_0 24 rfl rfl
theorem dksX6_readsAct_2 : cX6_readsAct.data.toList.drop 48 = dktX6_readsAct_2 := dk_seg dksX6_readsAct_1 24 rfl rfl
theorem dksX6_readsAct_3 : cX6_readsAct.data.toList.drop 72 = dktX6_readsAct_3 := dk_seg dksX6_readsAct_2 24 rfl rfl
theorem dX6_readsAct_0 : decode cX6_readsAct 0 = .ok (.aload_n 0, 1) := dk_42 (dk_at dksX6_readsAct_0 0 rfl rfl)
theorem dX6_readsAct_1 : decode cX6_readsAct 1 = .ok (.aload_n 0, 1) := dk_42 (dk_at dksX6_readsAct_0 1 rfl rfl)
theorem dX6_readsAct_2 : decode cX6_readsAct 2 = .ok (.getfield 137, 3) := dk_180 0 137 (dk_at dksX6_readsAct_0 2 rfl rfl)
theorem dX6_readsAct_5 : decode cX6_readsAct 5 = .ok (.aload_n 0, 1) := dk_42 (dk_at dksX6_readsAct_0 5 rfl rfl)
theorem dX6_readsAct_6 : decode cX6_readsAct 6 = .ok (.getfield 134, 3) := dk_180 0 134 (dk_at dksX6_readsAct_0 6 rfl rfl)
theorem dX6_readsAct_9 : decode cX6_readsAct 9 = .ok (.if_icmp .ge 15, 3) := dk_162 0 15 (dk_at dksX6_readsAct_0 9 rfl rfl)
theorem dX6_readsAct_12 : decode cX6_readsAct 12 = .ok (.aload_n 0, 1) := dk_42 (dk_at dksX6_readsAct_0 12 rfl rfl)
theorem dX6_readsAct_13 : decode cX6_readsAct 13 = .ok (.getfield 19, 3) := dk_180 0 19 (dk_at dksX6_readsAct_0 13 rfl rfl)
theorem dX6_readsAct_16 : decode cX6_readsAct 16 = .ok (.aload_n 0, 1) := dk_42 (dk_at dksX6_readsAct_0 16 rfl rfl)
theorem dX6_readsAct_17 : decode cX6_readsAct 17 = .ok (.getfield 137, 3) := dk_180 0 137 (dk_at dksX6_readsAct_0 17 rfl rfl)
theorem dX6_readsAct_20 : decode cX6_readsAct 20 = .ok (.iaload, 1) := dk_46 (dk_at dksX6_readsAct_0 20 rfl rfl)
theorem dX6_readsAct_21 : decode cX6_readsAct 21 = .ok (.goto 4, 3) := dk_167 0 4 (dk_at dksX6_readsAct_0 21 rfl rfl)
theorem dX6_readsAct_24 : decode cX6_readsAct 24 = .ok (.iconst (-1), 1) := dk_2 (dk_at dksX6_readsAct_1 0 rfl rfl)
theorem dX6_readsAct_25 : decode cX6_readsAct 25 = .ok (.putfield 147, 3) := dk_181 0 147 (dk_at dksX6_readsAct_1 1 rfl rfl)
theorem dX6_readsAct_28 : decode cX6_readsAct 28 = .ok (.aload_n 0, 1) := dk_42 (dk_at dksX6_readsAct_1 4 rfl rfl)
theorem dX6_readsAct_29 : decode cX6_readsAct 29 = .ok (.bipush 43, 2) := dk_16 43 (dk_at dksX6_readsAct_1 5 rfl rfl)
theorem dX6_readsAct_31 : decode cX6_readsAct 31 = .ok (.bipush 43, 2) := dk_16 43 (dk_at dksX6_readsAct_1 7 rfl rfl)
theorem dX6_readsAct_33 : decode cX6_readsAct 33 = .ok (.invokevirtual 140, 3) := dk_182 0 140 (dk_at dksX6_readsAct_1 9 rfl rfl)
theorem dX6_readsAct_36 : decode cX6_readsAct 36 = .ok (.ifCond .eq 11, 3) := dk_153 0 11 (dk_at dksX6_readsAct_1 12 rfl rfl)
theorem dX6_readsAct_39 : decode cX6_readsAct 39 = .ok (.aload_n 0, 1) := dk_42 (dk_at dksX6_readsAct_1 15 rfl rfl)
theorem dX6_readsAct_40 : decode cX6_readsAct 40 = .ok (.iconst 1, 1) := dk_4 (dk_at dksX6_readsAct_1 16 rfl rfl)
theorem dX6_readsAct_41 : decode cX6_readsAct 41 = .ok (.bipush 99, 2) := dk_16 99 (dk_at dksX6_readsAct_1 17 rfl rfl)
theorem dX6_readsAct_43 : decode cX6_readsAct 43 = .ok (.invokevirtual 150, 3) := dk_182 0 150 (dk_at dksX6_readsAct_1 19 rfl rfl)
theorem dX6_readsAct_46 : decode cX6_readsAct 46 = .ok (.ireturn, 1) := dk_172 (dk_at dksX6_readsAct_1 22 rfl rfl)
theorem dX6_readsAct_47 : decode cX6_readsAct 47 = .ok (.aload_n 0, 1) := dk_42 (dk_at dksX6_readsAct_1 23 rfl rfl)
theorem dX6_readsAct_48 : decode cX6_readsAct 48 = .ok (.bipush 63, 2) := dk_16 63 (dk_at dksX6_readsAct_2 0 rfl rfl)
theorem dX6_readsAct_50 : decode cX6_readsAct 50 = .ok (.bipush 63, 2) := dk_16 63 (dk_at dksX6_readsAct_2 2 rfl rfl)
theorem dX6_readsAct_52 : decode cX6_readsAct 52 = .ok (.invokevirtual 140, 3) := dk_182 0 140 (dk_at dksX6_readsAct_2 4 rfl rfl)
theorem dX6_readsAct_55 : decode cX6_readsAct 55 = .ok (.ifCond .eq 17, 3) := dk_153 0 17 (dk_at dksX6_readsAct_2 7 rfl rfl)
theorem dX6_readsAct_58 : decode cX6_readsAct 58 = .ok (.aload_n 0, 1) := dk_42 (dk_at dksX6_readsAct_2 10 rfl rfl)
theorem dX6_readsAct_59 : decode cX6_readsAct 59 = .ok (.iconst 0, 1) := dk_3 (dk_at dksX6_readsAct_2 11 rfl rfl)
theorem dX6_readsAct_60 : decode cX6_readsAct 60 = .ok (.bipush 35, 2) := dk_16 35 (dk_at dksX6_readsAct_2 12 rfl rfl)
theorem dX6_readsAct_62 : decode cX6_readsAct 62 = .ok (.invokevirtual 150, 3) := dk_182 0 150 (dk_at dksX6_readsAct_2 14 rfl rfl)
theorem dX6_readsAct_65 : decode cX6_readsAct 65 = .ok (.ifCond .eq 7, 3) := dk_153 0 7 (dk_at dksX6_readsAct_2 17 rfl rfl)
theorem dX6_readsAct_68 : decode cX6_readsAct 68 = .ok (.iconst 1, 1) := dk_4 (dk_at dksX6_readsAct_2 20 rfl rfl)
theorem dX6_readsAct_69 : decode cX6_readsAct 69 = .ok (.goto 4, 3) := dk_167 0 4 (dk_at dksX6_readsAct_2 21 rfl rfl)
theorem dX6_readsAct_72 : decode cX6_readsAct 72 = .ok (.iconst 0, 1) := dk_3 (dk_at dksX6_readsAct_3 0 rfl rfl)
theorem dX6_readsAct_73 : decode cX6_readsAct 73 = .ok (.ireturn, 1) := dk_172 (dk_at dksX6_readsAct_3 1 rfl rfl)
def dkwX6_accepts_2 : List UInt8 := [167, 0, 4, 3, 96, 181, 0, 137, 29, 172]
abbrev dktX6_accepts_2 : List UInt8 := dkwX6_accepts_2 ++ []
def dkwX6_accepts_1 : List UInt8 := [184, 0, 43, 153, 0, 7, 4, 167, 0, 4, 3, 62, 42, 89, 180, 0, 137, 29, 153, 0, 7, 4]
abbrev dktX6_accepts_1 : List UInt8 := dkwX6_accepts_1 ++ dktX6_accepts_2
def dkwX6_accepts_0 : List UInt8 := [42, 180, 0, 137, 42, 180, 0, 134, 162, 0, 24, 42, 180, 0, 19, 42, 180, 0, 137, 46, 27, 28]
abbrev dktX6_accepts_0 : List UInt8 := dkwX6_accepts_0 ++ dktX6_accepts_1
theorem dksX6_accepts_0 : cX6_accepts.data.toList.drop 0 = dktX6_accepts_0 := by decide +kernel
theorem dksX6_accepts_1 : cX6_accepts.data.toList.drop 22 = dktX6_accepts_1 := dk_seg dksX6_accepts_0 22 rfl rfl
theorem dksX6_accepts_2 : cX6_accepts.data.toList.drop 44 = dktX6_accepts_2 := dk_seg dksX6_accepts_1 22 rfl rfl
theorem dX6_accepts_0 : decode cX6_accepts 0 = .ok (.aload_n 0, 1) := dk_42 (dk_at dksX6_accepts_0 0 rfl rfl)
theorem dX6_accepts_1 : decode cX6_accepts 1 = .ok (.getfield 137, 3) := dk_180 0 137 (dk_at dksX6_accepts_0 1 rfl rfl)
theorem dX6_accepts_4 : decode cX6_accepts 4 = .ok (.aload_n 0, 1) := dk_42 (dk_at dksX6_accepts_0 4 rfl rfl)
theorem dX6_accepts_5 : decode cX6_accepts 5 = .ok (.getfield 134, 3) := dk_180 0 134 (dk_at dksX6_accepts_0 5 rfl rfl)
theorem dX6_accepts_8 : decode cX6_accepts 8 = .ok (.if_icmp .ge 24, 3) := dk_162 0 24 (dk_at dksX6_accepts_0 8 rfl rfl)
theorem dX6_accepts_11 : decode cX6_accepts 11 = .ok (.aload_n 0, 1) := dk_42 (dk_at dksX6_accepts_0 11 rfl rfl)
theorem dX6_accepts_12 : decode cX6_accepts 12 = .ok (.getfield 19, 3) := dk_180 0 19 (dk_at dksX6_accepts_0 12 rfl rfl)
theorem dX6_accepts_15 : decode cX6_accepts 15 = .ok (.aload_n 0, 1) := dk_42 (dk_at dksX6_accepts_0 15 rfl rfl)
theorem dX6_accepts_16 : decode cX6_accepts 16 = .ok (.getfield 137, 3) := dk_180 0 137 (dk_at dksX6_accepts_0 16 rfl rfl)
theorem dX6_accepts_19 : decode cX6_accepts 19 = .ok (.iaload, 1) := dk_46 (dk_at dksX6_accepts_0 19 rfl rfl)
theorem dX6_accepts_20 : decode cX6_accepts 20 = .ok (.iload_n 1, 1) := dk_27 (dk_at dksX6_accepts_0 20 rfl rfl)
theorem dX6_accepts_21 : decode cX6_accepts 21 = .ok (.iload_n 2, 1) := dk_28 (dk_at dksX6_accepts_0 21 rfl rfl)
theorem dX6_accepts_22 : decode cX6_accepts 22 = .ok (.invokestatic 43, 3) := dk_184 0 43 (dk_at dksX6_accepts_1 0 rfl rfl)
theorem dX6_accepts_25 : decode cX6_accepts 25 = .ok (.ifCond .eq 7, 3) := dk_153 0 7 (dk_at dksX6_accepts_1 3 rfl rfl)
theorem dX6_accepts_28 : decode cX6_accepts 28 = .ok (.iconst 1, 1) := dk_4 (dk_at dksX6_accepts_1 6 rfl rfl)
theorem dX6_accepts_29 : decode cX6_accepts 29 = .ok (.goto 4, 3) := dk_167 0 4 (dk_at dksX6_accepts_1 7 rfl rfl)
theorem dX6_accepts_32 : decode cX6_accepts 32 = .ok (.iconst 0, 1) := dk_3 (dk_at dksX6_accepts_1 10 rfl rfl)
theorem dX6_accepts_33 : decode cX6_accepts 33 = .ok (.istore_n 3, 1) := dk_62 (dk_at dksX6_accepts_1 11 rfl rfl)
theorem dX6_accepts_34 : decode cX6_accepts 34 = .ok (.aload_n 0, 1) := dk_42 (dk_at dksX6_accepts_1 12 rfl rfl)
theorem dX6_accepts_35 : decode cX6_accepts 35 = .ok (.dup, 1) := dk_89 (dk_at dksX6_accepts_1 13 rfl rfl)
theorem dX6_accepts_36 : decode cX6_accepts 36 = .ok (.getfield 137, 3) := dk_180 0 137 (dk_at dksX6_accepts_1 14 rfl rfl)
theorem dX6_accepts_39 : decode cX6_accepts 39 = .ok (.iload_n 3, 1) := dk_29 (dk_at dksX6_accepts_1 17 rfl rfl)
theorem dX6_accepts_40 : decode cX6_accepts 40 = .ok (.ifCond .eq 7, 3) := dk_153 0 7 (dk_at dksX6_accepts_1 18 rfl rfl)
theorem dX6_accepts_43 : decode cX6_accepts 43 = .ok (.iconst 1, 1) := dk_4 (dk_at dksX6_accepts_1 21 rfl rfl)
theorem dX6_accepts_44 : decode cX6_accepts 44 = .ok (.goto 4, 3) := dk_167 0 4 (dk_at dksX6_accepts_2 0 rfl rfl)
theorem dX6_accepts_47 : decode cX6_accepts 47 = .ok (.iconst 0, 1) := dk_3 (dk_at dksX6_accepts_2 3 rfl rfl)
theorem dX6_accepts_48 : decode cX6_accepts 48 = .ok (.iadd, 1) := dk_96 (dk_at dksX6_accepts_2 4 rfl rfl)
theorem dX6_accepts_49 : decode cX6_accepts 49 = .ok (.putfield 137, 3) := dk_181 0 137 (dk_at dksX6_accepts_2 5 rfl rfl)
theorem dX6_accepts_52 : decode cX6_accepts 52 = .ok (.iload_n 3, 1) := dk_29 (dk_at dksX6_accepts_2 8 rfl rfl)
theorem dX6_accepts_53 : decode cX6_accepts 53 = .ok (.ireturn, 1) := dk_172 (dk_at dksX6_accepts_2 9 rfl rfl)
def dkwX6_readsNumber_5 : List UInt8 := [96, 16, 48, 100, 181, 0, 144, 42, 89, 180, 0, 137, 4, 96, 181, 0, 137, 167, 255, 161, 4, 172]
abbrev dktX6_readsNumber_5 : List UInt8 := dkwX6_readsNumber_5 ++ []
def dkwX6_readsNumber_4 : List UInt8 := [16, 48, 100, 28, 163, 0, 40, 42, 16, 10, 42, 180, 0, 144, 104, 42, 180, 0, 19, 42, 180, 0, 137, 46]
abbrev dktX6_readsNumber_4 : List UInt8 := dkwX6_readsNumber_4 ++ dktX6_readsNumber_5
def dkwX6_readsNumber_3 : List UInt8 := [184, 0, 43, 153, 0, 64, 16, 10, 42, 180, 0, 144, 104, 42, 180, 0, 19, 42, 180, 0, 137, 46, 96]
abbrev dktX6_readsNumber_3 : List UInt8 := dkwX6_readsNumber_3 ++ dktX6_readsNumber_4
def dkwX6_readsNumber_2 : List UInt8 := [180, 0, 137, 42, 180, 0, 134, 162, 0, 83, 42, 180, 0, 19, 42, 180, 0, 137, 46, 16, 48, 16, 57]
abbrev dktX6_readsNumber_2 : List UInt8 := dkwX6_readsNumber_2 ++ dktX6_readsNumber_3
def dkwX6_readsNumber_1 : List UInt8 := [180, 0, 19, 42, 180, 0, 137, 4, 100, 46, 16, 48, 100, 181, 0, 144, 42, 180, 0, 144, 158, 0, 94, 42]
abbrev dktX6_readsNumber_1 : List UInt8 := dkwX6_readsNumber_1 ++ dktX6_readsNumber_2
def dkwX6_readsNumber_0 : List UInt8 := [42, 27, 154, 0, 8, 16, 48, 167, 0, 5, 16, 49, 16, 57, 182, 0, 140, 154, 0, 5, 3, 172, 42, 42]
abbrev dktX6_readsNumber_0 : List UInt8 := dkwX6_readsNumber_0 ++ dktX6_readsNumber_1
theorem dksX6_readsNumber_0 : cX6_readsNumber.data.toList.drop 0 = dktX6_readsNumber_0 := by decide +kernel
theorem dksX6_readsNumber_1 : cX6_readsNumber.data.toList.drop 24 = dktX6_readsNumber_1 := dk_seg dksX6_readsNumber_0 24 rfl rfl
theorem dksX6_readsNumber_2 : cX6_readsNumber.data.toList.drop 48 = dktX6_readsNumber_2 := dk_seg dksX6_readsNumber_1 24 rfl rfl
theorem dksX6_readsNumber_3 : cX6_readsNumber.data.toList.drop 71 = dktX6_readsNumber_3 := dk_seg dksX6_readsNumber_2 23 rfl rfl
theorem dksX6_readsNumber_4 : cX6_readsNumber.data.toList.drop 94 = dktX6_readsNumber_4 := dk_seg dksX6_readsNumber_3 23 rfl rfl
theorem dksX6_readsNumber_5 : cX6_readsNumber.data.toList.drop 118 = dktX6_readsNumber_5 := dk_seg dksX6_readsNumber_4 24 rfl rfl
theorem dX6_readsNumber_0 : decode cX6_readsNumber 0 = .ok (.aload_n 0, 1) := dk_42 (dk_at dksX6_readsNumber_0 0 rfl rfl)
theorem dX6_readsNumber_1 : decode cX6_readsNumber 1 = .ok (.iload_n 1, 1) := dk_27 (dk_at dksX6_readsNumber_0 1 rfl rfl)
theorem dX6_readsNumber_2 : decode cX6_readsNumber 2 = .ok (.ifCond .ne 8, 3) := dk_154 0 8 (dk_at dksX6_readsNumber_0 2 rfl rfl)
theorem dX6_readsNumber_5 : decode cX6_readsNumber 5 = .ok (.bipush 48, 2) := dk_16 48 (dk_at dksX6_readsNumber_0 5 rfl rfl)
theorem dX6_readsNumber_7 : decode cX6_readsNumber 7 = .ok (.goto 5, 3) := dk_167 0 5 (dk_at dksX6_readsNumber_0 7 rfl rfl)
theorem dX6_readsNumber_10 : decode cX6_readsNumber 10 = .ok (.bipush 49, 2) := dk_16 49 (dk_at dksX6_readsNumber_0 10 rfl rfl)
theorem dX6_readsNumber_12 : decode cX6_readsNumber 12 = .ok (.bipush 57, 2) := dk_16 57 (dk_at dksX6_readsNumber_0 12 rfl rfl)
theorem dX6_readsNumber_14 : decode cX6_readsNumber 14 = .ok (.invokevirtual 140, 3) := dk_182 0 140 (dk_at dksX6_readsNumber_0 14 rfl rfl)
theorem dX6_readsNumber_17 : decode cX6_readsNumber 17 = .ok (.ifCond .ne 5, 3) := dk_154 0 5 (dk_at dksX6_readsNumber_0 17 rfl rfl)
theorem dX6_readsNumber_20 : decode cX6_readsNumber 20 = .ok (.iconst 0, 1) := dk_3 (dk_at dksX6_readsNumber_0 20 rfl rfl)
theorem dX6_readsNumber_21 : decode cX6_readsNumber 21 = .ok (.ireturn, 1) := dk_172 (dk_at dksX6_readsNumber_0 21 rfl rfl)
theorem dX6_readsNumber_22 : decode cX6_readsNumber 22 = .ok (.aload_n 0, 1) := dk_42 (dk_at dksX6_readsNumber_0 22 rfl rfl)
theorem dX6_readsNumber_23 : decode cX6_readsNumber 23 = .ok (.aload_n 0, 1) := dk_42 (dk_at dksX6_readsNumber_0 23 rfl rfl)
theorem dX6_readsNumber_24 : decode cX6_readsNumber 24 = .ok (.getfield 19, 3) := dk_180 0 19 (dk_at dksX6_readsNumber_1 0 rfl rfl)
theorem dX6_readsNumber_27 : decode cX6_readsNumber 27 = .ok (.aload_n 0, 1) := dk_42 (dk_at dksX6_readsNumber_1 3 rfl rfl)
theorem dX6_readsNumber_28 : decode cX6_readsNumber 28 = .ok (.getfield 137, 3) := dk_180 0 137 (dk_at dksX6_readsNumber_1 4 rfl rfl)
theorem dX6_readsNumber_31 : decode cX6_readsNumber 31 = .ok (.iconst 1, 1) := dk_4 (dk_at dksX6_readsNumber_1 7 rfl rfl)
theorem dX6_readsNumber_32 : decode cX6_readsNumber 32 = .ok (.isub, 1) := dk_100 (dk_at dksX6_readsNumber_1 8 rfl rfl)
theorem dX6_readsNumber_33 : decode cX6_readsNumber 33 = .ok (.iaload, 1) := dk_46 (dk_at dksX6_readsNumber_1 9 rfl rfl)
theorem dX6_readsNumber_34 : decode cX6_readsNumber 34 = .ok (.bipush 48, 2) := dk_16 48 (dk_at dksX6_readsNumber_1 10 rfl rfl)
theorem dX6_readsNumber_36 : decode cX6_readsNumber 36 = .ok (.isub, 1) := dk_100 (dk_at dksX6_readsNumber_1 12 rfl rfl)
theorem dX6_readsNumber_37 : decode cX6_readsNumber 37 = .ok (.putfield 144, 3) := dk_181 0 144 (dk_at dksX6_readsNumber_1 13 rfl rfl)
theorem dX6_readsNumber_40 : decode cX6_readsNumber 40 = .ok (.aload_n 0, 1) := dk_42 (dk_at dksX6_readsNumber_1 16 rfl rfl)
theorem dX6_readsNumber_41 : decode cX6_readsNumber 41 = .ok (.getfield 144, 3) := dk_180 0 144 (dk_at dksX6_readsNumber_1 17 rfl rfl)
theorem dX6_readsNumber_44 : decode cX6_readsNumber 44 = .ok (.ifCond .le 94, 3) := dk_158 0 94 (dk_at dksX6_readsNumber_1 20 rfl rfl)
theorem dX6_readsNumber_47 : decode cX6_readsNumber 47 = .ok (.aload_n 0, 1) := dk_42 (dk_at dksX6_readsNumber_1 23 rfl rfl)
theorem dX6_readsNumber_48 : decode cX6_readsNumber 48 = .ok (.getfield 137, 3) := dk_180 0 137 (dk_at dksX6_readsNumber_2 0 rfl rfl)
theorem dX6_readsNumber_51 : decode cX6_readsNumber 51 = .ok (.aload_n 0, 1) := dk_42 (dk_at dksX6_readsNumber_2 3 rfl rfl)
theorem dX6_readsNumber_52 : decode cX6_readsNumber 52 = .ok (.getfield 134, 3) := dk_180 0 134 (dk_at dksX6_readsNumber_2 4 rfl rfl)
theorem dX6_readsNumber_55 : decode cX6_readsNumber 55 = .ok (.if_icmp .ge 83, 3) := dk_162 0 83 (dk_at dksX6_readsNumber_2 7 rfl rfl)
theorem dX6_readsNumber_58 : decode cX6_readsNumber 58 = .ok (.aload_n 0, 1) := dk_42 (dk_at dksX6_readsNumber_2 10 rfl rfl)
theorem dX6_readsNumber_59 : decode cX6_readsNumber 59 = .ok (.getfield 19, 3) := dk_180 0 19 (dk_at dksX6_readsNumber_2 11 rfl rfl)
theorem dX6_readsNumber_62 : decode cX6_readsNumber 62 = .ok (.aload_n 0, 1) := dk_42 (dk_at dksX6_readsNumber_2 14 rfl rfl)
theorem dX6_readsNumber_63 : decode cX6_readsNumber 63 = .ok (.getfield 137, 3) := dk_180 0 137 (dk_at dksX6_readsNumber_2 15 rfl rfl)
theorem dX6_readsNumber_66 : decode cX6_readsNumber 66 = .ok (.iaload, 1) := dk_46 (dk_at dksX6_readsNumber_2 18 rfl rfl)
theorem dX6_readsNumber_67 : decode cX6_readsNumber 67 = .ok (.bipush 48, 2) := dk_16 48 (dk_at dksX6_readsNumber_2 19 rfl rfl)
theorem dX6_readsNumber_69 : decode cX6_readsNumber 69 = .ok (.bipush 57, 2) := dk_16 57 (dk_at dksX6_readsNumber_2 21 rfl rfl)
theorem dX6_readsNumber_71 : decode cX6_readsNumber 71 = .ok (.invokestatic 43, 3) := dk_184 0 43 (dk_at dksX6_readsNumber_3 0 rfl rfl)
theorem dX6_readsNumber_74 : decode cX6_readsNumber 74 = .ok (.ifCond .eq 64, 3) := dk_153 0 64 (dk_at dksX6_readsNumber_3 3 rfl rfl)
theorem dX6_readsNumber_77 : decode cX6_readsNumber 77 = .ok (.bipush 10, 2) := dk_16 10 (dk_at dksX6_readsNumber_3 6 rfl rfl)
theorem dX6_readsNumber_79 : decode cX6_readsNumber 79 = .ok (.aload_n 0, 1) := dk_42 (dk_at dksX6_readsNumber_3 8 rfl rfl)
theorem dX6_readsNumber_80 : decode cX6_readsNumber 80 = .ok (.getfield 144, 3) := dk_180 0 144 (dk_at dksX6_readsNumber_3 9 rfl rfl)
theorem dX6_readsNumber_83 : decode cX6_readsNumber 83 = .ok (.imul, 1) := dk_104 (dk_at dksX6_readsNumber_3 12 rfl rfl)
theorem dX6_readsNumber_84 : decode cX6_readsNumber 84 = .ok (.aload_n 0, 1) := dk_42 (dk_at dksX6_readsNumber_3 13 rfl rfl)
theorem dX6_readsNumber_85 : decode cX6_readsNumber 85 = .ok (.getfield 19, 3) := dk_180 0 19 (dk_at dksX6_readsNumber_3 14 rfl rfl)
theorem dX6_readsNumber_88 : decode cX6_readsNumber 88 = .ok (.aload_n 0, 1) := dk_42 (dk_at dksX6_readsNumber_3 17 rfl rfl)
theorem dX6_readsNumber_89 : decode cX6_readsNumber 89 = .ok (.getfield 137, 3) := dk_180 0 137 (dk_at dksX6_readsNumber_3 18 rfl rfl)
theorem dX6_readsNumber_92 : decode cX6_readsNumber 92 = .ok (.iaload, 1) := dk_46 (dk_at dksX6_readsNumber_3 21 rfl rfl)
theorem dX6_readsNumber_93 : decode cX6_readsNumber 93 = .ok (.iadd, 1) := dk_96 (dk_at dksX6_readsNumber_3 22 rfl rfl)
theorem dX6_readsNumber_94 : decode cX6_readsNumber 94 = .ok (.bipush 48, 2) := dk_16 48 (dk_at dksX6_readsNumber_4 0 rfl rfl)
theorem dX6_readsNumber_96 : decode cX6_readsNumber 96 = .ok (.isub, 1) := dk_100 (dk_at dksX6_readsNumber_4 2 rfl rfl)
theorem dX6_readsNumber_97 : decode cX6_readsNumber 97 = .ok (.iload_n 2, 1) := dk_28 (dk_at dksX6_readsNumber_4 3 rfl rfl)
theorem dX6_readsNumber_98 : decode cX6_readsNumber 98 = .ok (.if_icmp .gt 40, 3) := dk_163 0 40 (dk_at dksX6_readsNumber_4 4 rfl rfl)
theorem dX6_readsNumber_101 : decode cX6_readsNumber 101 = .ok (.aload_n 0, 1) := dk_42 (dk_at dksX6_readsNumber_4 7 rfl rfl)
theorem dX6_readsNumber_102 : decode cX6_readsNumber 102 = .ok (.bipush 10, 2) := dk_16 10 (dk_at dksX6_readsNumber_4 8 rfl rfl)
theorem dX6_readsNumber_104 : decode cX6_readsNumber 104 = .ok (.aload_n 0, 1) := dk_42 (dk_at dksX6_readsNumber_4 10 rfl rfl)
theorem dX6_readsNumber_105 : decode cX6_readsNumber 105 = .ok (.getfield 144, 3) := dk_180 0 144 (dk_at dksX6_readsNumber_4 11 rfl rfl)
theorem dX6_readsNumber_108 : decode cX6_readsNumber 108 = .ok (.imul, 1) := dk_104 (dk_at dksX6_readsNumber_4 14 rfl rfl)
theorem dX6_readsNumber_109 : decode cX6_readsNumber 109 = .ok (.aload_n 0, 1) := dk_42 (dk_at dksX6_readsNumber_4 15 rfl rfl)
theorem dX6_readsNumber_110 : decode cX6_readsNumber 110 = .ok (.getfield 19, 3) := dk_180 0 19 (dk_at dksX6_readsNumber_4 16 rfl rfl)
theorem dX6_readsNumber_113 : decode cX6_readsNumber 113 = .ok (.aload_n 0, 1) := dk_42 (dk_at dksX6_readsNumber_4 19 rfl rfl)
theorem dX6_readsNumber_114 : decode cX6_readsNumber 114 = .ok (.getfield 137, 3) := dk_180 0 137 (dk_at dksX6_readsNumber_4 20 rfl rfl)
theorem dX6_readsNumber_117 : decode cX6_readsNumber 117 = .ok (.iaload, 1) := dk_46 (dk_at dksX6_readsNumber_4 23 rfl rfl)
theorem dX6_readsNumber_118 : decode cX6_readsNumber 118 = .ok (.iadd, 1) := dk_96 (dk_at dksX6_readsNumber_5 0 rfl rfl)
theorem dX6_readsNumber_119 : decode cX6_readsNumber 119 = .ok (.bipush 48, 2) := dk_16 48 (dk_at dksX6_readsNumber_5 1 rfl rfl)
theorem dX6_readsNumber_121 : decode cX6_readsNumber 121 = .ok (.isub, 1) := dk_100 (dk_at dksX6_readsNumber_5 3 rfl rfl)
theorem dX6_readsNumber_122 : decode cX6_readsNumber 122 = .ok (.putfield 144, 3) := dk_181 0 144 (dk_at dksX6_readsNumber_5 4 rfl rfl)
theorem dX6_readsNumber_125 : decode cX6_readsNumber 125 = .ok (.aload_n 0, 1) := dk_42 (dk_at dksX6_readsNumber_5 7 rfl rfl)
theorem dX6_readsNumber_126 : decode cX6_readsNumber 126 = .ok (.dup, 1) := dk_89 (dk_at dksX6_readsNumber_5 8 rfl rfl)
theorem dX6_readsNumber_127 : decode cX6_readsNumber 127 = .ok (.getfield 137, 3) := dk_180 0 137 (dk_at dksX6_readsNumber_5 9 rfl rfl)
theorem dX6_readsNumber_130 : decode cX6_readsNumber 130 = .ok (.iconst 1, 1) := dk_4 (dk_at dksX6_readsNumber_5 12 rfl rfl)
theorem dX6_readsNumber_131 : decode cX6_readsNumber 131 = .ok (.iadd, 1) := dk_96 (dk_at dksX6_readsNumber_5 13 rfl rfl)
theorem dX6_readsNumber_132 : decode cX6_readsNumber 132 = .ok (.putfield 137, 3) := dk_181 0 137 (dk_at dksX6_readsNumber_5 14 rfl rfl)
theorem dX6_readsNumber_135 : decode cX6_readsNumber 135 = .ok (.goto (-95), 3) := dk_167 255 161 (dk_at dksX6_readsNumber_5 17 rfl rfl)
theorem dX6_readsNumber_138 : decode cX6_readsNumber 138 = .ok (.iconst 1, 1) := dk_4 (dk_at dksX6_readsNumber_5 20 rfl rfl)
theorem dX6_readsNumber_139 : decode cX6_readsNumber 139 = .ok (.ireturn, 1) := dk_172 (dk_at dksX6_readsNumber_5 21 rfl rfl)
def dkwX6_runActs_4 : List UInt8 := [27, 172]
abbrev dktX6_runActs_4 : List UInt8 := dkwX6_runActs_4 ++ []
def dkwX6_runActs_3 : List UInt8 := [182, 0, 160, 61, 27, 28, 153, 0, 7, 4, 167, 0, 4, 3, 96, 60, 167, 255, 209, 42, 3, 181, 0, 134]
abbrev dktX6_runActs_3 : List UInt8 := dkwX6_runActs_3 ++ dktX6_runActs_4
def dkwX6_runActs_2 : List UInt8 := [180, 0, 134, 162, 0, 38, 42, 182, 0, 153, 87, 42, 89, 180, 0, 137, 4, 96, 181, 0, 137, 42]
abbrev dktX6_runActs_2 : List UInt8 := dkwX6_runActs_2 ++ dktX6_runActs_3
def dkwX6_runActs_1 : List UInt8 := [3, 172, 42, 182, 0, 47, 3, 60, 42, 3, 181, 0, 137, 4, 61, 28, 153, 0, 49, 42, 180, 0, 137, 42]
abbrev dktX6_runActs_1 : List UInt8 := dkwX6_runActs_1 ++ dktX6_runActs_2
def dkwX6_runActs_0 : List UInt8 := [42, 42, 182, 0, 157, 2, 160, 0, 7, 3, 167, 0, 4, 4, 181, 0, 32, 42, 180, 0, 32, 158, 0, 5]
abbrev dktX6_runActs_0 : List UInt8 := dkwX6_runActs_0 ++ dktX6_runActs_1
theorem dksX6_runActs_0 : cX6_runActs.data.toList.drop 0 = dktX6_runActs_0 := by decide +kernel
theorem dksX6_runActs_1 : cX6_runActs.data.toList.drop 24 = dktX6_runActs_1 := dk_seg dksX6_runActs_0 24 rfl rfl
theorem dksX6_runActs_2 : cX6_runActs.data.toList.drop 48 = dktX6_runActs_2 := dk_seg dksX6_runActs_1 24 rfl rfl
theorem dksX6_runActs_3 : cX6_runActs.data.toList.drop 70 = dktX6_runActs_3 := dk_seg dksX6_runActs_2 22 rfl rfl
theorem dksX6_runActs_4 : cX6_runActs.data.toList.drop 94 = dktX6_runActs_4 := dk_seg dksX6_runActs_3 24 rfl rfl
theorem dX6_runActs_0 : decode cX6_runActs 0 = .ok (.aload_n 0, 1) := dk_42 (dk_at dksX6_runActs_0 0 rfl rfl)
theorem dX6_runActs_1 : decode cX6_runActs 1 = .ok (.aload_n 0, 1) := dk_42 (dk_at dksX6_runActs_0 1 rfl rfl)
theorem dX6_runActs_2 : decode cX6_runActs 2 = .ok (.invokevirtual 157, 3) := dk_182 0 157 (dk_at dksX6_runActs_0 2 rfl rfl)
theorem dX6_runActs_5 : decode cX6_runActs 5 = .ok (.iconst (-1), 1) := dk_2 (dk_at dksX6_runActs_0 5 rfl rfl)
theorem dX6_runActs_6 : decode cX6_runActs 6 = .ok (.if_icmp .ne 7, 3) := dk_160 0 7 (dk_at dksX6_runActs_0 6 rfl rfl)
theorem dX6_runActs_9 : decode cX6_runActs 9 = .ok (.iconst 0, 1) := dk_3 (dk_at dksX6_runActs_0 9 rfl rfl)
theorem dX6_runActs_10 : decode cX6_runActs 10 = .ok (.goto 4, 3) := dk_167 0 4 (dk_at dksX6_runActs_0 10 rfl rfl)
theorem dX6_runActs_13 : decode cX6_runActs 13 = .ok (.iconst 1, 1) := dk_4 (dk_at dksX6_runActs_0 13 rfl rfl)
theorem dX6_runActs_14 : decode cX6_runActs 14 = .ok (.putfield 32, 3) := dk_181 0 32 (dk_at dksX6_runActs_0 14 rfl rfl)
theorem dX6_runActs_17 : decode cX6_runActs 17 = .ok (.aload_n 0, 1) := dk_42 (dk_at dksX6_runActs_0 17 rfl rfl)
theorem dX6_runActs_18 : decode cX6_runActs 18 = .ok (.getfield 32, 3) := dk_180 0 32 (dk_at dksX6_runActs_0 18 rfl rfl)
theorem dX6_runActs_21 : decode cX6_runActs 21 = .ok (.ifCond .le 5, 3) := dk_158 0 5 (dk_at dksX6_runActs_0 21 rfl rfl)
theorem dX6_runActs_24 : decode cX6_runActs 24 = .ok (.iconst 0, 1) := dk_3 (dk_at dksX6_runActs_1 0 rfl rfl)
theorem dX6_runActs_25 : decode cX6_runActs 25 = .ok (.ireturn, 1) := dk_172 (dk_at dksX6_runActs_1 1 rfl rfl)
theorem dX6_runActs_26 : decode cX6_runActs 26 = .ok (.aload_n 0, 1) := dk_42 (dk_at dksX6_runActs_1 2 rfl rfl)
theorem dX6_runActs_27 : decode cX6_runActs 27 = .ok (.invokevirtual 47, 3) := dk_182 0 47 (dk_at dksX6_runActs_1 3 rfl rfl)
theorem dX6_runActs_30 : decode cX6_runActs 30 = .ok (.iconst 0, 1) := dk_3 (dk_at dksX6_runActs_1 6 rfl rfl)
theorem dX6_runActs_31 : decode cX6_runActs 31 = .ok (.istore_n 1, 1) := dk_60 (dk_at dksX6_runActs_1 7 rfl rfl)
theorem dX6_runActs_32 : decode cX6_runActs 32 = .ok (.aload_n 0, 1) := dk_42 (dk_at dksX6_runActs_1 8 rfl rfl)
theorem dX6_runActs_33 : decode cX6_runActs 33 = .ok (.iconst 0, 1) := dk_3 (dk_at dksX6_runActs_1 9 rfl rfl)
theorem dX6_runActs_34 : decode cX6_runActs 34 = .ok (.putfield 137, 3) := dk_181 0 137 (dk_at dksX6_runActs_1 10 rfl rfl)
theorem dX6_runActs_37 : decode cX6_runActs 37 = .ok (.iconst 1, 1) := dk_4 (dk_at dksX6_runActs_1 13 rfl rfl)
theorem dX6_runActs_38 : decode cX6_runActs 38 = .ok (.istore_n 2, 1) := dk_61 (dk_at dksX6_runActs_1 14 rfl rfl)
theorem dX6_runActs_39 : decode cX6_runActs 39 = .ok (.iload_n 2, 1) := dk_28 (dk_at dksX6_runActs_1 15 rfl rfl)
theorem dX6_runActs_40 : decode cX6_runActs 40 = .ok (.ifCond .eq 49, 3) := dk_153 0 49 (dk_at dksX6_runActs_1 16 rfl rfl)
theorem dX6_runActs_43 : decode cX6_runActs 43 = .ok (.aload_n 0, 1) := dk_42 (dk_at dksX6_runActs_1 19 rfl rfl)
theorem dX6_runActs_44 : decode cX6_runActs 44 = .ok (.getfield 137, 3) := dk_180 0 137 (dk_at dksX6_runActs_1 20 rfl rfl)
theorem dX6_runActs_47 : decode cX6_runActs 47 = .ok (.aload_n 0, 1) := dk_42 (dk_at dksX6_runActs_1 23 rfl rfl)
theorem dX6_runActs_48 : decode cX6_runActs 48 = .ok (.getfield 134, 3) := dk_180 0 134 (dk_at dksX6_runActs_2 0 rfl rfl)
theorem dX6_runActs_51 : decode cX6_runActs 51 = .ok (.if_icmp .ge 38, 3) := dk_162 0 38 (dk_at dksX6_runActs_2 3 rfl rfl)
theorem dX6_runActs_54 : decode cX6_runActs 54 = .ok (.aload_n 0, 1) := dk_42 (dk_at dksX6_runActs_2 6 rfl rfl)
theorem dX6_runActs_55 : decode cX6_runActs 55 = .ok (.invokevirtual 153, 3) := dk_182 0 153 (dk_at dksX6_runActs_2 7 rfl rfl)
theorem dX6_runActs_58 : decode cX6_runActs 58 = .ok (.pop, 1) := dk_87 (dk_at dksX6_runActs_2 10 rfl rfl)
theorem dX6_runActs_59 : decode cX6_runActs 59 = .ok (.aload_n 0, 1) := dk_42 (dk_at dksX6_runActs_2 11 rfl rfl)
theorem dX6_runActs_60 : decode cX6_runActs 60 = .ok (.dup, 1) := dk_89 (dk_at dksX6_runActs_2 12 rfl rfl)
theorem dX6_runActs_61 : decode cX6_runActs 61 = .ok (.getfield 137, 3) := dk_180 0 137 (dk_at dksX6_runActs_2 13 rfl rfl)
theorem dX6_runActs_64 : decode cX6_runActs 64 = .ok (.iconst 1, 1) := dk_4 (dk_at dksX6_runActs_2 16 rfl rfl)
theorem dX6_runActs_65 : decode cX6_runActs 65 = .ok (.iadd, 1) := dk_96 (dk_at dksX6_runActs_2 17 rfl rfl)
theorem dX6_runActs_66 : decode cX6_runActs 66 = .ok (.putfield 137, 3) := dk_181 0 137 (dk_at dksX6_runActs_2 18 rfl rfl)
theorem dX6_runActs_69 : decode cX6_runActs 69 = .ok (.aload_n 0, 1) := dk_42 (dk_at dksX6_runActs_2 21 rfl rfl)
theorem dX6_runActs_70 : decode cX6_runActs 70 = .ok (.invokevirtual 160, 3) := dk_182 0 160 (dk_at dksX6_runActs_3 0 rfl rfl)
theorem dX6_runActs_73 : decode cX6_runActs 73 = .ok (.istore_n 2, 1) := dk_61 (dk_at dksX6_runActs_3 3 rfl rfl)
theorem dX6_runActs_74 : decode cX6_runActs 74 = .ok (.iload_n 1, 1) := dk_27 (dk_at dksX6_runActs_3 4 rfl rfl)
theorem dX6_runActs_75 : decode cX6_runActs 75 = .ok (.iload_n 2, 1) := dk_28 (dk_at dksX6_runActs_3 5 rfl rfl)
theorem dX6_runActs_76 : decode cX6_runActs 76 = .ok (.ifCond .eq 7, 3) := dk_153 0 7 (dk_at dksX6_runActs_3 6 rfl rfl)
theorem dX6_runActs_79 : decode cX6_runActs 79 = .ok (.iconst 1, 1) := dk_4 (dk_at dksX6_runActs_3 9 rfl rfl)
theorem dX6_runActs_80 : decode cX6_runActs 80 = .ok (.goto 4, 3) := dk_167 0 4 (dk_at dksX6_runActs_3 10 rfl rfl)
theorem dX6_runActs_83 : decode cX6_runActs 83 = .ok (.iconst 0, 1) := dk_3 (dk_at dksX6_runActs_3 13 rfl rfl)
theorem dX6_runActs_84 : decode cX6_runActs 84 = .ok (.iadd, 1) := dk_96 (dk_at dksX6_runActs_3 14 rfl rfl)
theorem dX6_runActs_85 : decode cX6_runActs 85 = .ok (.istore_n 1, 1) := dk_60 (dk_at dksX6_runActs_3 15 rfl rfl)
theorem dX6_runActs_86 : decode cX6_runActs 86 = .ok (.goto (-47), 3) := dk_167 255 209 (dk_at dksX6_runActs_3 16 rfl rfl)
theorem dX6_runActs_89 : decode cX6_runActs 89 = .ok (.aload_n 0, 1) := dk_42 (dk_at dksX6_runActs_3 19 rfl rfl)
theorem dX6_runActs_90 : decode cX6_runActs 90 = .ok (.iconst 0, 1) := dk_3 (dk_at dksX6_runActs_3 20 rfl rfl)
theorem dX6_runActs_91 : decode cX6_runActs 91 = .ok (.putfield 134, 3) := dk_181 0 134 (dk_at dksX6_runActs_3 21 rfl rfl)
theorem dX6_runActs_94 : decode cX6_runActs 94 = .ok (.iload_n 1, 1) := dk_27 (dk_at dksX6_runActs_4 0 rfl rfl)
theorem dX6_runActs_95 : decode cX6_runActs 95 = .ok (.ireturn, 1) := dk_172 (dk_at dksX6_runActs_4 1 rfl rfl)
def dkwX6_happens_2 : List UInt8 := [42, 180, 0, 144, 182, 0, 91, 87, 27, 172]
abbrev dktX6_happens_2 : List UInt8 := dkwX6_happens_2 ++ []
def dkwX6_happens_1 : List UInt8 := [3, 46, 42, 180, 0, 144, 96, 17, 39, 15, 163, 0, 7, 4, 167, 0, 4, 3, 60, 27, 153, 0, 12, 42]
abbrev dktX6_happens_1 : List UInt8 := dkwX6_happens_1 ++ dktX6_happens_2
def dkwX6_happens_0 : List UInt8 := [42, 180, 0, 147, 16, 63, 160, 0, 14, 42, 42, 180, 0, 144, 182, 0, 85, 87, 4, 172, 42, 180, 0, 7]
abbrev dktX6_happens_0 : List UInt8 := dkwX6_happens_0 ++ dktX6_happens_1
theorem dksX6_happens_0 : cX6_happens.data.toList.drop 0 = dktX6_happens_0 := by decide +kernel
theorem dksX6_happens_1 : cX6_happens.data.toList.drop 24 = dktX6_happens_1 := dk_seg dksX6_happens_0 24 rfl rfl
theorem dksX6_happens_2 : cX6_happens.data.toList.drop 48 = dktX6_happens_2 := dk_seg dksX6_happens_1 24 rfl rfl
theorem dX6_happens_0 : decode cX6_happens 0 = .ok (.aload_n 0, 1) := dk_42 (dk_at dksX6_happens_0 0 rfl rfl)
theorem dX6_happens_1 : decode cX6_happens 1 = .ok (.getfield 147, 3) := dk_180 0 147 (dk_at dksX6_happens_0 1 rfl rfl)
theorem dX6_happens_4 : decode cX6_happens 4 = .ok (.bipush 63, 2) := dk_16 63 (dk_at dksX6_happens_0 4 rfl rfl)
theorem dX6_happens_6 : decode cX6_happens 6 = .ok (.if_icmp .ne 14, 3) := dk_160 0 14 (dk_at dksX6_happens_0 6 rfl rfl)
theorem dX6_happens_9 : decode cX6_happens 9 = .ok (.aload_n 0, 1) := dk_42 (dk_at dksX6_happens_0 9 rfl rfl)
theorem dX6_happens_10 : decode cX6_happens 10 = .ok (.aload_n 0, 1) := dk_42 (dk_at dksX6_happens_0 10 rfl rfl)
theorem dX6_happens_11 : decode cX6_happens 11 = .ok (.getfield 144, 3) := dk_180 0 144 (dk_at dksX6_happens_0 11 rfl rfl)
theorem dX6_happens_14 : decode cX6_happens 14 = .ok (.invokevirtual 85, 3) := dk_182 0 85 (dk_at dksX6_happens_0 14 rfl rfl)
theorem dX6_happens_17 : decode cX6_happens 17 = .ok (.pop, 1) := dk_87 (dk_at dksX6_happens_0 17 rfl rfl)
theorem dX6_happens_18 : decode cX6_happens 18 = .ok (.iconst 1, 1) := dk_4 (dk_at dksX6_happens_0 18 rfl rfl)
theorem dX6_happens_19 : decode cX6_happens 19 = .ok (.ireturn, 1) := dk_172 (dk_at dksX6_happens_0 19 rfl rfl)
theorem dX6_happens_20 : decode cX6_happens 20 = .ok (.aload_n 0, 1) := dk_42 (dk_at dksX6_happens_0 20 rfl rfl)
theorem dX6_happens_21 : decode cX6_happens 21 = .ok (.getfield 7, 3) := dk_180 0 7 (dk_at dksX6_happens_0 21 rfl rfl)
theorem dX6_happens_24 : decode cX6_happens 24 = .ok (.iconst 0, 1) := dk_3 (dk_at dksX6_happens_1 0 rfl rfl)
theorem dX6_happens_25 : decode cX6_happens 25 = .ok (.iaload, 1) := dk_46 (dk_at dksX6_happens_1 1 rfl rfl)
theorem dX6_happens_26 : decode cX6_happens 26 = .ok (.aload_n 0, 1) := dk_42 (dk_at dksX6_happens_1 2 rfl rfl)
theorem dX6_happens_27 : decode cX6_happens 27 = .ok (.getfield 144, 3) := dk_180 0 144 (dk_at dksX6_happens_1 3 rfl rfl)
theorem dX6_happens_30 : decode cX6_happens 30 = .ok (.iadd, 1) := dk_96 (dk_at dksX6_happens_1 6 rfl rfl)
theorem dX6_happens_31 : decode cX6_happens 31 = .ok (.sipush 9999, 3) := dk_17 39 15 (dk_at dksX6_happens_1 7 rfl rfl)
theorem dX6_happens_34 : decode cX6_happens 34 = .ok (.if_icmp .gt 7, 3) := dk_163 0 7 (dk_at dksX6_happens_1 10 rfl rfl)
theorem dX6_happens_37 : decode cX6_happens 37 = .ok (.iconst 1, 1) := dk_4 (dk_at dksX6_happens_1 13 rfl rfl)
theorem dX6_happens_38 : decode cX6_happens 38 = .ok (.goto 4, 3) := dk_167 0 4 (dk_at dksX6_happens_1 14 rfl rfl)
theorem dX6_happens_41 : decode cX6_happens 41 = .ok (.iconst 0, 1) := dk_3 (dk_at dksX6_happens_1 17 rfl rfl)
theorem dX6_happens_42 : decode cX6_happens 42 = .ok (.istore_n 1, 1) := dk_60 (dk_at dksX6_happens_1 18 rfl rfl)
theorem dX6_happens_43 : decode cX6_happens 43 = .ok (.iload_n 1, 1) := dk_27 (dk_at dksX6_happens_1 19 rfl rfl)
theorem dX6_happens_44 : decode cX6_happens 44 = .ok (.ifCond .eq 12, 3) := dk_153 0 12 (dk_at dksX6_happens_1 20 rfl rfl)
theorem dX6_happens_47 : decode cX6_happens 47 = .ok (.aload_n 0, 1) := dk_42 (dk_at dksX6_happens_1 23 rfl rfl)
theorem dX6_happens_48 : decode cX6_happens 48 = .ok (.aload_n 0, 1) := dk_42 (dk_at dksX6_happens_2 0 rfl rfl)
theorem dX6_happens_49 : decode cX6_happens 49 = .ok (.getfield 144, 3) := dk_180 0 144 (dk_at dksX6_happens_2 1 rfl rfl)
theorem dX6_happens_52 : decode cX6_happens 52 = .ok (.invokevirtual 91, 3) := dk_182 0 91 (dk_at dksX6_happens_2 4 rfl rfl)
theorem dX6_happens_55 : decode cX6_happens 55 = .ok (.pop, 1) := dk_87 (dk_at dksX6_happens_2 7 rfl rfl)
theorem dX6_happens_56 : decode cX6_happens 56 = .ok (.iload_n 1, 1) := dk_27 (dk_at dksX6_happens_2 8 rfl rfl)
theorem dX6_happens_57 : decode cX6_happens 57 = .ok (.ireturn, 1) := dk_172 (dk_at dksX6_happens_2 9 rfl rfl)
def dkwX6_undo_2 : List UInt8 := [180, 0, 7, 3, 184, 0, 39, 42, 180, 0, 36, 172]
abbrev dktX6_undo_2 : List UInt8 := dkwX6_undo_2 ++ []
def dkwX6_undo_1 : List UInt8 := [172, 42, 89, 180, 0, 36, 4, 100, 181, 0, 36, 42, 180, 0, 13, 42, 180, 0, 36, 17, 0, 252, 104, 42]
abbrev dktX6_undo_1 : List UInt8 := dkwX6_undo_1 ++ dktX6_undo_2
def dkwX6_undo_0 : List UInt8 := [42, 42, 180, 0, 36, 154, 0, 7, 4, 167, 0, 4, 3, 181, 0, 32, 42, 180, 0, 32, 158, 0, 5, 3]
abbrev dktX6_undo_0 : List UInt8 := dkwX6_undo_0 ++ dktX6_undo_1
theorem dksX6_undo_0 : cX6_undo.data.toList.drop 0 = dktX6_undo_0 := by decide +kernel
theorem dksX6_undo_1 : cX6_undo.data.toList.drop 24 = dktX6_undo_1 := dk_seg dksX6_undo_0 24 rfl rfl
theorem dksX6_undo_2 : cX6_undo.data.toList.drop 48 = dktX6_undo_2 := dk_seg dksX6_undo_1 24 rfl rfl
theorem dX6_undo_0 : decode cX6_undo 0 = .ok (.aload_n 0, 1) := dk_42 (dk_at dksX6_undo_0 0 rfl rfl)
theorem dX6_undo_1 : decode cX6_undo 1 = .ok (.aload_n 0, 1) := dk_42 (dk_at dksX6_undo_0 1 rfl rfl)
theorem dX6_undo_2 : decode cX6_undo 2 = .ok (.getfield 36, 3) := dk_180 0 36 (dk_at dksX6_undo_0 2 rfl rfl)
theorem dX6_undo_5 : decode cX6_undo 5 = .ok (.ifCond .ne 7, 3) := dk_154 0 7 (dk_at dksX6_undo_0 5 rfl rfl)
theorem dX6_undo_8 : decode cX6_undo 8 = .ok (.iconst 1, 1) := dk_4 (dk_at dksX6_undo_0 8 rfl rfl)
theorem dX6_undo_9 : decode cX6_undo 9 = .ok (.goto 4, 3) := dk_167 0 4 (dk_at dksX6_undo_0 9 rfl rfl)
theorem dX6_undo_12 : decode cX6_undo 12 = .ok (.iconst 0, 1) := dk_3 (dk_at dksX6_undo_0 12 rfl rfl)
theorem dX6_undo_13 : decode cX6_undo 13 = .ok (.putfield 32, 3) := dk_181 0 32 (dk_at dksX6_undo_0 13 rfl rfl)
theorem dX6_undo_16 : decode cX6_undo 16 = .ok (.aload_n 0, 1) := dk_42 (dk_at dksX6_undo_0 16 rfl rfl)
theorem dX6_undo_17 : decode cX6_undo 17 = .ok (.getfield 32, 3) := dk_180 0 32 (dk_at dksX6_undo_0 17 rfl rfl)
theorem dX6_undo_20 : decode cX6_undo 20 = .ok (.ifCond .le 5, 3) := dk_158 0 5 (dk_at dksX6_undo_0 20 rfl rfl)
theorem dX6_undo_23 : decode cX6_undo 23 = .ok (.iconst 0, 1) := dk_3 (dk_at dksX6_undo_0 23 rfl rfl)
theorem dX6_undo_24 : decode cX6_undo 24 = .ok (.ireturn, 1) := dk_172 (dk_at dksX6_undo_1 0 rfl rfl)
theorem dX6_undo_25 : decode cX6_undo 25 = .ok (.aload_n 0, 1) := dk_42 (dk_at dksX6_undo_1 1 rfl rfl)
theorem dX6_undo_26 : decode cX6_undo 26 = .ok (.dup, 1) := dk_89 (dk_at dksX6_undo_1 2 rfl rfl)
theorem dX6_undo_27 : decode cX6_undo 27 = .ok (.getfield 36, 3) := dk_180 0 36 (dk_at dksX6_undo_1 3 rfl rfl)
theorem dX6_undo_30 : decode cX6_undo 30 = .ok (.iconst 1, 1) := dk_4 (dk_at dksX6_undo_1 6 rfl rfl)
theorem dX6_undo_31 : decode cX6_undo 31 = .ok (.isub, 1) := dk_100 (dk_at dksX6_undo_1 7 rfl rfl)
theorem dX6_undo_32 : decode cX6_undo 32 = .ok (.putfield 36, 3) := dk_181 0 36 (dk_at dksX6_undo_1 8 rfl rfl)
theorem dX6_undo_35 : decode cX6_undo 35 = .ok (.aload_n 0, 1) := dk_42 (dk_at dksX6_undo_1 11 rfl rfl)
theorem dX6_undo_36 : decode cX6_undo 36 = .ok (.getfield 13, 3) := dk_180 0 13 (dk_at dksX6_undo_1 12 rfl rfl)
theorem dX6_undo_39 : decode cX6_undo 39 = .ok (.aload_n 0, 1) := dk_42 (dk_at dksX6_undo_1 15 rfl rfl)
theorem dX6_undo_40 : decode cX6_undo 40 = .ok (.getfield 36, 3) := dk_180 0 36 (dk_at dksX6_undo_1 16 rfl rfl)
theorem dX6_undo_43 : decode cX6_undo 43 = .ok (.sipush 252, 3) := dk_17 0 252 (dk_at dksX6_undo_1 19 rfl rfl)
theorem dX6_undo_46 : decode cX6_undo 46 = .ok (.imul, 1) := dk_104 (dk_at dksX6_undo_1 22 rfl rfl)
theorem dX6_undo_47 : decode cX6_undo 47 = .ok (.aload_n 0, 1) := dk_42 (dk_at dksX6_undo_1 23 rfl rfl)
theorem dX6_undo_48 : decode cX6_undo 48 = .ok (.getfield 7, 3) := dk_180 0 7 (dk_at dksX6_undo_2 0 rfl rfl)
theorem dX6_undo_51 : decode cX6_undo 51 = .ok (.iconst 0, 1) := dk_3 (dk_at dksX6_undo_2 3 rfl rfl)
theorem dX6_undo_52 : decode cX6_undo 52 = .ok (.invokestatic 39, 3) := dk_184 0 39 (dk_at dksX6_undo_2 4 rfl rfl)
theorem dX6_undo_55 : decode cX6_undo 55 = .ok (.aload_n 0, 1) := dk_42 (dk_at dksX6_undo_2 7 rfl rfl)
theorem dX6_undo_56 : decode cX6_undo 56 = .ok (.getfield 36, 3) := dk_180 0 36 (dk_at dksX6_undo_2 8 rfl rfl)
theorem dX6_undo_59 : decode cX6_undo 59 = .ok (.ireturn, 1) := dk_172 (dk_at dksX6_undo_2 11 rfl rfl)
def dkwX6_digest_12 : List UInt8 := [105, 42, 29, 182, 0, 128, 133, 97, 64, 132, 3, 1, 167, 255, 127, 31, 173]
abbrev dktX6_digest_12 : List UInt8 := dkwX6_digest_12 ++ []
def dkwX6_digest_11 : List UInt8 := [167, 0, 4, 3, 133, 97, 64, 20, 0, 165, 31, 105, 42, 29, 182, 0, 125, 133, 97, 64, 20, 0, 165, 31]
abbrev dktX6_digest_11 : List UInt8 := dkwX6_digest_11 ++ dktX6_digest_12
def dkwX6_digest_10 : List UInt8 := [182, 0, 61, 182, 0, 109, 133, 97, 64, 20, 0, 165, 31, 105, 42, 29, 182, 0, 122, 153, 0, 7, 4]
abbrev dktX6_digest_10 : List UInt8 := dkwX6_digest_10 ++ dktX6_digest_11
def dkwX6_digest_9 : List UInt8 := [20, 0, 165, 31, 105, 42, 29, 6, 182, 0, 61, 133, 97, 64, 20, 0, 165, 31, 105, 42, 42, 29, 8]
abbrev dktX6_digest_9 : List UInt8 := dkwX6_digest_9 ++ dktX6_digest_10
def dkwX6_digest_8 : List UInt8 := [42, 29, 4, 182, 0, 61, 133, 97, 64, 20, 0, 165, 31, 105, 42, 29, 182, 0, 106, 133, 97, 64]
abbrev dktX6_digest_8 : List UInt8 := dkwX6_digest_8 ++ dktX6_digest_9
def dkwX6_digest_7 : List UInt8 := [16, 36, 162, 0, 129, 20, 0, 165, 31, 105, 42, 29, 3, 182, 0, 61, 133, 97, 64, 20, 0, 165, 31, 105]
abbrev dktX6_digest_7 : List UInt8 := dkwX6_digest_7 ++ dktX6_digest_8
def dkwX6_digest_6 : List UInt8 := [20, 0, 165, 31, 105, 42, 29, 7, 182, 0, 50, 133, 97, 64, 132, 3, 1, 167, 255, 188, 3, 62, 29]
abbrev dktX6_digest_6 : List UInt8 := dkwX6_digest_6 ++ dktX6_digest_7
def dkwX6_digest_5 : List UInt8 := [182, 0, 100, 133, 97, 64, 20, 0, 165, 31, 105, 42, 42, 29, 6, 182, 0, 50, 182, 0, 109, 133, 97, 64]
abbrev dktX6_digest_5 : List UInt8 := dkwX6_digest_5 ++ dktX6_digest_6
def dkwX6_digest_4 : List UInt8 := [162, 0, 68, 20, 0, 165, 31, 105, 42, 29, 3, 182, 0, 50, 133, 97, 64, 20, 0, 165, 31, 105, 42, 29]
abbrev dktX6_digest_4 : List UInt8 := dkwX6_digest_4 ++ dktX6_digest_5
def dkwX6_digest_3 : List UInt8 := [46, 133, 97, 64, 20, 0, 165, 31, 105, 42, 180, 0, 7, 6, 46, 133, 97, 64, 3, 62, 29, 16, 6]
abbrev dktX6_digest_3 : List UInt8 := dkwX6_digest_3 ++ dktX6_digest_4
def dkwX6_digest_2 : List UInt8 := [20, 0, 165, 31, 105, 42, 180, 0, 7, 4, 46, 133, 97, 64, 20, 0, 165, 31, 105, 42, 180, 0, 7, 5]
abbrev dktX6_digest_2 : List UInt8 := dkwX6_digest_2 ++ dktX6_digest_3
def dkwX6_digest_1 : List UInt8 := [20, 0, 165, 31, 105, 42, 182, 0, 112, 133, 97, 64, 20, 0, 165, 31, 105, 42, 182, 0, 119, 133, 97, 64]
abbrev dktX6_digest_1 : List UInt8 := dkwX6_digest_1 ++ dktX6_digest_2
def dkwX6_digest_0 : List UInt8 := [42, 3, 181, 0, 32, 20, 0, 163, 64, 20, 0, 165, 31, 105, 42, 180, 0, 7, 3, 46, 133, 97, 64]
abbrev dktX6_digest_0 : List UInt8 := dkwX6_digest_0 ++ dktX6_digest_1
theorem dksX6_digest_0 : cX6_digest.data.toList.drop 0 = dktX6_digest_0 := by decide +kernel
theorem dksX6_digest_1 : cX6_digest.data.toList.drop 23 = dktX6_digest_1 := dk_seg dksX6_digest_0 23 rfl rfl
theorem dksX6_digest_2 : cX6_digest.data.toList.drop 47 = dktX6_digest_2 := dk_seg dksX6_digest_1 24 rfl rfl
theorem dksX6_digest_3 : cX6_digest.data.toList.drop 71 = dktX6_digest_3 := dk_seg dksX6_digest_2 24 rfl rfl
theorem dksX6_digest_4 : cX6_digest.data.toList.drop 94 = dktX6_digest_4 := dk_seg dksX6_digest_3 23 rfl rfl
theorem dksX6_digest_5 : cX6_digest.data.toList.drop 118 = dktX6_digest_5 := dk_seg dksX6_digest_4 24 rfl rfl
theorem dksX6_digest_6 : cX6_digest.data.toList.drop 142 = dktX6_digest_6 := dk_seg dksX6_digest_5 24 rfl rfl
theorem dksX6_digest_7 : cX6_digest.data.toList.drop 165 = dktX6_digest_7 := dk_seg dksX6_digest_6 23 rfl rfl
theorem dksX6_digest_8 : cX6_digest.data.toList.drop 189 = dktX6_digest_8 := dk_seg dksX6_digest_7 24 rfl rfl
theorem dksX6_digest_9 : cX6_digest.data.toList.drop 211 = dktX6_digest_9 := dk_seg dksX6_digest_8 22 rfl rfl
theorem dksX6_digest_10 : cX6_digest.data.toList.drop 234 = dktX6_digest_10 := dk_seg dksX6_digest_9 23 rfl rfl
theorem dksX6_digest_11 : cX6_digest.data.toList.drop 257 = dktX6_digest_11 := dk_seg dksX6_digest_10 23 rfl rfl
theorem dksX6_digest_12 : cX6_digest.data.toList.drop 281 = dktX6_digest_12 := dk_seg dksX6_digest_11 24 rfl rfl
theorem dX6_digest_0 : decode cX6_digest 0 = .ok (.aload_n 0, 1) := dk_42 (dk_at dksX6_digest_0 0 rfl rfl)
theorem dX6_digest_1 : decode cX6_digest 1 = .ok (.iconst 0, 1) := dk_3 (dk_at dksX6_digest_0 1 rfl rfl)
theorem dX6_digest_2 : decode cX6_digest 2 = .ok (.putfield 32, 3) := dk_181 0 32 (dk_at dksX6_digest_0 2 rfl rfl)
theorem dX6_digest_5 : decode cX6_digest 5 = .ok (.ldc2_w 163, 3) := dk_20 0 163 (dk_at dksX6_digest_0 5 rfl rfl)
theorem dX6_digest_8 : decode cX6_digest 8 = .ok (.lstore_n 1, 1) := dk_64 (dk_at dksX6_digest_0 8 rfl rfl)
theorem dX6_digest_9 : decode cX6_digest 9 = .ok (.ldc2_w 165, 3) := dk_20 0 165 (dk_at dksX6_digest_0 9 rfl rfl)
theorem dX6_digest_12 : decode cX6_digest 12 = .ok (.lload_n 1, 1) := dk_31 (dk_at dksX6_digest_0 12 rfl rfl)
theorem dX6_digest_13 : decode cX6_digest 13 = .ok (.lmul, 1) := dk_105 (dk_at dksX6_digest_0 13 rfl rfl)
theorem dX6_digest_14 : decode cX6_digest 14 = .ok (.aload_n 0, 1) := dk_42 (dk_at dksX6_digest_0 14 rfl rfl)
theorem dX6_digest_15 : decode cX6_digest 15 = .ok (.getfield 7, 3) := dk_180 0 7 (dk_at dksX6_digest_0 15 rfl rfl)
theorem dX6_digest_18 : decode cX6_digest 18 = .ok (.iconst 0, 1) := dk_3 (dk_at dksX6_digest_0 18 rfl rfl)
theorem dX6_digest_19 : decode cX6_digest 19 = .ok (.iaload, 1) := dk_46 (dk_at dksX6_digest_0 19 rfl rfl)
theorem dX6_digest_20 : decode cX6_digest 20 = .ok (.i2l, 1) := dk_133 (dk_at dksX6_digest_0 20 rfl rfl)
theorem dX6_digest_21 : decode cX6_digest 21 = .ok (.ladd, 1) := dk_97 (dk_at dksX6_digest_0 21 rfl rfl)
theorem dX6_digest_22 : decode cX6_digest 22 = .ok (.lstore_n 1, 1) := dk_64 (dk_at dksX6_digest_0 22 rfl rfl)
theorem dX6_digest_23 : decode cX6_digest 23 = .ok (.ldc2_w 165, 3) := dk_20 0 165 (dk_at dksX6_digest_1 0 rfl rfl)
theorem dX6_digest_26 : decode cX6_digest 26 = .ok (.lload_n 1, 1) := dk_31 (dk_at dksX6_digest_1 3 rfl rfl)
theorem dX6_digest_27 : decode cX6_digest 27 = .ok (.lmul, 1) := dk_105 (dk_at dksX6_digest_1 4 rfl rfl)
theorem dX6_digest_28 : decode cX6_digest 28 = .ok (.aload_n 0, 1) := dk_42 (dk_at dksX6_digest_1 5 rfl rfl)
theorem dX6_digest_29 : decode cX6_digest 29 = .ok (.invokevirtual 112, 3) := dk_182 0 112 (dk_at dksX6_digest_1 6 rfl rfl)
theorem dX6_digest_32 : decode cX6_digest 32 = .ok (.i2l, 1) := dk_133 (dk_at dksX6_digest_1 9 rfl rfl)
theorem dX6_digest_33 : decode cX6_digest 33 = .ok (.ladd, 1) := dk_97 (dk_at dksX6_digest_1 10 rfl rfl)
theorem dX6_digest_34 : decode cX6_digest 34 = .ok (.lstore_n 1, 1) := dk_64 (dk_at dksX6_digest_1 11 rfl rfl)
theorem dX6_digest_35 : decode cX6_digest 35 = .ok (.ldc2_w 165, 3) := dk_20 0 165 (dk_at dksX6_digest_1 12 rfl rfl)
theorem dX6_digest_38 : decode cX6_digest 38 = .ok (.lload_n 1, 1) := dk_31 (dk_at dksX6_digest_1 15 rfl rfl)
theorem dX6_digest_39 : decode cX6_digest 39 = .ok (.lmul, 1) := dk_105 (dk_at dksX6_digest_1 16 rfl rfl)
theorem dX6_digest_40 : decode cX6_digest 40 = .ok (.aload_n 0, 1) := dk_42 (dk_at dksX6_digest_1 17 rfl rfl)
theorem dX6_digest_41 : decode cX6_digest 41 = .ok (.invokevirtual 119, 3) := dk_182 0 119 (dk_at dksX6_digest_1 18 rfl rfl)
theorem dX6_digest_44 : decode cX6_digest 44 = .ok (.i2l, 1) := dk_133 (dk_at dksX6_digest_1 21 rfl rfl)
theorem dX6_digest_45 : decode cX6_digest 45 = .ok (.ladd, 1) := dk_97 (dk_at dksX6_digest_1 22 rfl rfl)
theorem dX6_digest_46 : decode cX6_digest 46 = .ok (.lstore_n 1, 1) := dk_64 (dk_at dksX6_digest_1 23 rfl rfl)
theorem dX6_digest_47 : decode cX6_digest 47 = .ok (.ldc2_w 165, 3) := dk_20 0 165 (dk_at dksX6_digest_2 0 rfl rfl)
theorem dX6_digest_50 : decode cX6_digest 50 = .ok (.lload_n 1, 1) := dk_31 (dk_at dksX6_digest_2 3 rfl rfl)
theorem dX6_digest_51 : decode cX6_digest 51 = .ok (.lmul, 1) := dk_105 (dk_at dksX6_digest_2 4 rfl rfl)
theorem dX6_digest_52 : decode cX6_digest 52 = .ok (.aload_n 0, 1) := dk_42 (dk_at dksX6_digest_2 5 rfl rfl)
theorem dX6_digest_53 : decode cX6_digest 53 = .ok (.getfield 7, 3) := dk_180 0 7 (dk_at dksX6_digest_2 6 rfl rfl)
theorem dX6_digest_56 : decode cX6_digest 56 = .ok (.iconst 1, 1) := dk_4 (dk_at dksX6_digest_2 9 rfl rfl)
theorem dX6_digest_57 : decode cX6_digest 57 = .ok (.iaload, 1) := dk_46 (dk_at dksX6_digest_2 10 rfl rfl)
theorem dX6_digest_58 : decode cX6_digest 58 = .ok (.i2l, 1) := dk_133 (dk_at dksX6_digest_2 11 rfl rfl)
theorem dX6_digest_59 : decode cX6_digest 59 = .ok (.ladd, 1) := dk_97 (dk_at dksX6_digest_2 12 rfl rfl)
theorem dX6_digest_60 : decode cX6_digest 60 = .ok (.lstore_n 1, 1) := dk_64 (dk_at dksX6_digest_2 13 rfl rfl)
theorem dX6_digest_61 : decode cX6_digest 61 = .ok (.ldc2_w 165, 3) := dk_20 0 165 (dk_at dksX6_digest_2 14 rfl rfl)
theorem dX6_digest_64 : decode cX6_digest 64 = .ok (.lload_n 1, 1) := dk_31 (dk_at dksX6_digest_2 17 rfl rfl)
theorem dX6_digest_65 : decode cX6_digest 65 = .ok (.lmul, 1) := dk_105 (dk_at dksX6_digest_2 18 rfl rfl)
theorem dX6_digest_66 : decode cX6_digest 66 = .ok (.aload_n 0, 1) := dk_42 (dk_at dksX6_digest_2 19 rfl rfl)
theorem dX6_digest_67 : decode cX6_digest 67 = .ok (.getfield 7, 3) := dk_180 0 7 (dk_at dksX6_digest_2 20 rfl rfl)
theorem dX6_digest_70 : decode cX6_digest 70 = .ok (.iconst 2, 1) := dk_5 (dk_at dksX6_digest_2 23 rfl rfl)
theorem dX6_digest_71 : decode cX6_digest 71 = .ok (.iaload, 1) := dk_46 (dk_at dksX6_digest_3 0 rfl rfl)
theorem dX6_digest_72 : decode cX6_digest 72 = .ok (.i2l, 1) := dk_133 (dk_at dksX6_digest_3 1 rfl rfl)
theorem dX6_digest_73 : decode cX6_digest 73 = .ok (.ladd, 1) := dk_97 (dk_at dksX6_digest_3 2 rfl rfl)
theorem dX6_digest_74 : decode cX6_digest 74 = .ok (.lstore_n 1, 1) := dk_64 (dk_at dksX6_digest_3 3 rfl rfl)
theorem dX6_digest_75 : decode cX6_digest 75 = .ok (.ldc2_w 165, 3) := dk_20 0 165 (dk_at dksX6_digest_3 4 rfl rfl)
theorem dX6_digest_78 : decode cX6_digest 78 = .ok (.lload_n 1, 1) := dk_31 (dk_at dksX6_digest_3 7 rfl rfl)
theorem dX6_digest_79 : decode cX6_digest 79 = .ok (.lmul, 1) := dk_105 (dk_at dksX6_digest_3 8 rfl rfl)
theorem dX6_digest_80 : decode cX6_digest 80 = .ok (.aload_n 0, 1) := dk_42 (dk_at dksX6_digest_3 9 rfl rfl)
theorem dX6_digest_81 : decode cX6_digest 81 = .ok (.getfield 7, 3) := dk_180 0 7 (dk_at dksX6_digest_3 10 rfl rfl)
theorem dX6_digest_84 : decode cX6_digest 84 = .ok (.iconst 3, 1) := dk_6 (dk_at dksX6_digest_3 13 rfl rfl)
theorem dX6_digest_85 : decode cX6_digest 85 = .ok (.iaload, 1) := dk_46 (dk_at dksX6_digest_3 14 rfl rfl)
theorem dX6_digest_86 : decode cX6_digest 86 = .ok (.i2l, 1) := dk_133 (dk_at dksX6_digest_3 15 rfl rfl)
theorem dX6_digest_87 : decode cX6_digest 87 = .ok (.ladd, 1) := dk_97 (dk_at dksX6_digest_3 16 rfl rfl)
theorem dX6_digest_88 : decode cX6_digest 88 = .ok (.lstore_n 1, 1) := dk_64 (dk_at dksX6_digest_3 17 rfl rfl)
theorem dX6_digest_89 : decode cX6_digest 89 = .ok (.iconst 0, 1) := dk_3 (dk_at dksX6_digest_3 18 rfl rfl)
theorem dX6_digest_90 : decode cX6_digest 90 = .ok (.istore_n 3, 1) := dk_62 (dk_at dksX6_digest_3 19 rfl rfl)
theorem dX6_digest_91 : decode cX6_digest 91 = .ok (.iload_n 3, 1) := dk_29 (dk_at dksX6_digest_3 20 rfl rfl)
theorem dX6_digest_92 : decode cX6_digest 92 = .ok (.bipush 6, 2) := dk_16 6 (dk_at dksX6_digest_3 21 rfl rfl)
theorem dX6_digest_94 : decode cX6_digest 94 = .ok (.if_icmp .ge 68, 3) := dk_162 0 68 (dk_at dksX6_digest_4 0 rfl rfl)
theorem dX6_digest_97 : decode cX6_digest 97 = .ok (.ldc2_w 165, 3) := dk_20 0 165 (dk_at dksX6_digest_4 3 rfl rfl)
theorem dX6_digest_100 : decode cX6_digest 100 = .ok (.lload_n 1, 1) := dk_31 (dk_at dksX6_digest_4 6 rfl rfl)
theorem dX6_digest_101 : decode cX6_digest 101 = .ok (.lmul, 1) := dk_105 (dk_at dksX6_digest_4 7 rfl rfl)
theorem dX6_digest_102 : decode cX6_digest 102 = .ok (.aload_n 0, 1) := dk_42 (dk_at dksX6_digest_4 8 rfl rfl)
theorem dX6_digest_103 : decode cX6_digest 103 = .ok (.iload_n 3, 1) := dk_29 (dk_at dksX6_digest_4 9 rfl rfl)
theorem dX6_digest_104 : decode cX6_digest 104 = .ok (.iconst 0, 1) := dk_3 (dk_at dksX6_digest_4 10 rfl rfl)
theorem dX6_digest_105 : decode cX6_digest 105 = .ok (.invokevirtual 50, 3) := dk_182 0 50 (dk_at dksX6_digest_4 11 rfl rfl)
theorem dX6_digest_108 : decode cX6_digest 108 = .ok (.i2l, 1) := dk_133 (dk_at dksX6_digest_4 14 rfl rfl)
theorem dX6_digest_109 : decode cX6_digest 109 = .ok (.ladd, 1) := dk_97 (dk_at dksX6_digest_4 15 rfl rfl)
theorem dX6_digest_110 : decode cX6_digest 110 = .ok (.lstore_n 1, 1) := dk_64 (dk_at dksX6_digest_4 16 rfl rfl)
theorem dX6_digest_111 : decode cX6_digest 111 = .ok (.ldc2_w 165, 3) := dk_20 0 165 (dk_at dksX6_digest_4 17 rfl rfl)
theorem dX6_digest_114 : decode cX6_digest 114 = .ok (.lload_n 1, 1) := dk_31 (dk_at dksX6_digest_4 20 rfl rfl)
theorem dX6_digest_115 : decode cX6_digest 115 = .ok (.lmul, 1) := dk_105 (dk_at dksX6_digest_4 21 rfl rfl)
theorem dX6_digest_116 : decode cX6_digest 116 = .ok (.aload_n 0, 1) := dk_42 (dk_at dksX6_digest_4 22 rfl rfl)
theorem dX6_digest_117 : decode cX6_digest 117 = .ok (.iload_n 3, 1) := dk_29 (dk_at dksX6_digest_4 23 rfl rfl)
theorem dX6_digest_118 : decode cX6_digest 118 = .ok (.invokevirtual 100, 3) := dk_182 0 100 (dk_at dksX6_digest_5 0 rfl rfl)
theorem dX6_digest_121 : decode cX6_digest 121 = .ok (.i2l, 1) := dk_133 (dk_at dksX6_digest_5 3 rfl rfl)
theorem dX6_digest_122 : decode cX6_digest 122 = .ok (.ladd, 1) := dk_97 (dk_at dksX6_digest_5 4 rfl rfl)
theorem dX6_digest_123 : decode cX6_digest 123 = .ok (.lstore_n 1, 1) := dk_64 (dk_at dksX6_digest_5 5 rfl rfl)
theorem dX6_digest_124 : decode cX6_digest 124 = .ok (.ldc2_w 165, 3) := dk_20 0 165 (dk_at dksX6_digest_5 6 rfl rfl)
theorem dX6_digest_127 : decode cX6_digest 127 = .ok (.lload_n 1, 1) := dk_31 (dk_at dksX6_digest_5 9 rfl rfl)
theorem dX6_digest_128 : decode cX6_digest 128 = .ok (.lmul, 1) := dk_105 (dk_at dksX6_digest_5 10 rfl rfl)
theorem dX6_digest_129 : decode cX6_digest 129 = .ok (.aload_n 0, 1) := dk_42 (dk_at dksX6_digest_5 11 rfl rfl)
theorem dX6_digest_130 : decode cX6_digest 130 = .ok (.aload_n 0, 1) := dk_42 (dk_at dksX6_digest_5 12 rfl rfl)
theorem dX6_digest_131 : decode cX6_digest 131 = .ok (.iload_n 3, 1) := dk_29 (dk_at dksX6_digest_5 13 rfl rfl)
theorem dX6_digest_132 : decode cX6_digest 132 = .ok (.iconst 3, 1) := dk_6 (dk_at dksX6_digest_5 14 rfl rfl)
theorem dX6_digest_133 : decode cX6_digest 133 = .ok (.invokevirtual 50, 3) := dk_182 0 50 (dk_at dksX6_digest_5 15 rfl rfl)
theorem dX6_digest_136 : decode cX6_digest 136 = .ok (.invokevirtual 109, 3) := dk_182 0 109 (dk_at dksX6_digest_5 18 rfl rfl)
theorem dX6_digest_139 : decode cX6_digest 139 = .ok (.i2l, 1) := dk_133 (dk_at dksX6_digest_5 21 rfl rfl)
theorem dX6_digest_140 : decode cX6_digest 140 = .ok (.ladd, 1) := dk_97 (dk_at dksX6_digest_5 22 rfl rfl)
theorem dX6_digest_141 : decode cX6_digest 141 = .ok (.lstore_n 1, 1) := dk_64 (dk_at dksX6_digest_5 23 rfl rfl)
theorem dX6_digest_142 : decode cX6_digest 142 = .ok (.ldc2_w 165, 3) := dk_20 0 165 (dk_at dksX6_digest_6 0 rfl rfl)
theorem dX6_digest_145 : decode cX6_digest 145 = .ok (.lload_n 1, 1) := dk_31 (dk_at dksX6_digest_6 3 rfl rfl)
theorem dX6_digest_146 : decode cX6_digest 146 = .ok (.lmul, 1) := dk_105 (dk_at dksX6_digest_6 4 rfl rfl)
theorem dX6_digest_147 : decode cX6_digest 147 = .ok (.aload_n 0, 1) := dk_42 (dk_at dksX6_digest_6 5 rfl rfl)
theorem dX6_digest_148 : decode cX6_digest 148 = .ok (.iload_n 3, 1) := dk_29 (dk_at dksX6_digest_6 6 rfl rfl)
theorem dX6_digest_149 : decode cX6_digest 149 = .ok (.iconst 4, 1) := dk_7 (dk_at dksX6_digest_6 7 rfl rfl)
theorem dX6_digest_150 : decode cX6_digest 150 = .ok (.invokevirtual 50, 3) := dk_182 0 50 (dk_at dksX6_digest_6 8 rfl rfl)
theorem dX6_digest_153 : decode cX6_digest 153 = .ok (.i2l, 1) := dk_133 (dk_at dksX6_digest_6 11 rfl rfl)
theorem dX6_digest_154 : decode cX6_digest 154 = .ok (.ladd, 1) := dk_97 (dk_at dksX6_digest_6 12 rfl rfl)
theorem dX6_digest_155 : decode cX6_digest 155 = .ok (.lstore_n 1, 1) := dk_64 (dk_at dksX6_digest_6 13 rfl rfl)
theorem dX6_digest_156 : decode cX6_digest 156 = .ok (.iinc 3 1, 3) := dk_132 3 1 (dk_at dksX6_digest_6 14 rfl rfl)
theorem dX6_digest_159 : decode cX6_digest 159 = .ok (.goto (-68), 3) := dk_167 255 188 (dk_at dksX6_digest_6 17 rfl rfl)
theorem dX6_digest_162 : decode cX6_digest 162 = .ok (.iconst 0, 1) := dk_3 (dk_at dksX6_digest_6 20 rfl rfl)
theorem dX6_digest_163 : decode cX6_digest 163 = .ok (.istore_n 3, 1) := dk_62 (dk_at dksX6_digest_6 21 rfl rfl)
theorem dX6_digest_164 : decode cX6_digest 164 = .ok (.iload_n 3, 1) := dk_29 (dk_at dksX6_digest_6 22 rfl rfl)
theorem dX6_digest_165 : decode cX6_digest 165 = .ok (.bipush 36, 2) := dk_16 36 (dk_at dksX6_digest_7 0 rfl rfl)
theorem dX6_digest_167 : decode cX6_digest 167 = .ok (.if_icmp .ge 129, 3) := dk_162 0 129 (dk_at dksX6_digest_7 2 rfl rfl)
theorem dX6_digest_170 : decode cX6_digest 170 = .ok (.ldc2_w 165, 3) := dk_20 0 165 (dk_at dksX6_digest_7 5 rfl rfl)
theorem dX6_digest_173 : decode cX6_digest 173 = .ok (.lload_n 1, 1) := dk_31 (dk_at dksX6_digest_7 8 rfl rfl)
theorem dX6_digest_174 : decode cX6_digest 174 = .ok (.lmul, 1) := dk_105 (dk_at dksX6_digest_7 9 rfl rfl)
theorem dX6_digest_175 : decode cX6_digest 175 = .ok (.aload_n 0, 1) := dk_42 (dk_at dksX6_digest_7 10 rfl rfl)
theorem dX6_digest_176 : decode cX6_digest 176 = .ok (.iload_n 3, 1) := dk_29 (dk_at dksX6_digest_7 11 rfl rfl)
theorem dX6_digest_177 : decode cX6_digest 177 = .ok (.iconst 0, 1) := dk_3 (dk_at dksX6_digest_7 12 rfl rfl)
theorem dX6_digest_178 : decode cX6_digest 178 = .ok (.invokevirtual 61, 3) := dk_182 0 61 (dk_at dksX6_digest_7 13 rfl rfl)
theorem dX6_digest_181 : decode cX6_digest 181 = .ok (.i2l, 1) := dk_133 (dk_at dksX6_digest_7 16 rfl rfl)
theorem dX6_digest_182 : decode cX6_digest 182 = .ok (.ladd, 1) := dk_97 (dk_at dksX6_digest_7 17 rfl rfl)
theorem dX6_digest_183 : decode cX6_digest 183 = .ok (.lstore_n 1, 1) := dk_64 (dk_at dksX6_digest_7 18 rfl rfl)
theorem dX6_digest_184 : decode cX6_digest 184 = .ok (.ldc2_w 165, 3) := dk_20 0 165 (dk_at dksX6_digest_7 19 rfl rfl)
theorem dX6_digest_187 : decode cX6_digest 187 = .ok (.lload_n 1, 1) := dk_31 (dk_at dksX6_digest_7 22 rfl rfl)
theorem dX6_digest_188 : decode cX6_digest 188 = .ok (.lmul, 1) := dk_105 (dk_at dksX6_digest_7 23 rfl rfl)
theorem dX6_digest_189 : decode cX6_digest 189 = .ok (.aload_n 0, 1) := dk_42 (dk_at dksX6_digest_8 0 rfl rfl)
theorem dX6_digest_190 : decode cX6_digest 190 = .ok (.iload_n 3, 1) := dk_29 (dk_at dksX6_digest_8 1 rfl rfl)
theorem dX6_digest_191 : decode cX6_digest 191 = .ok (.iconst 1, 1) := dk_4 (dk_at dksX6_digest_8 2 rfl rfl)
theorem dX6_digest_192 : decode cX6_digest 192 = .ok (.invokevirtual 61, 3) := dk_182 0 61 (dk_at dksX6_digest_8 3 rfl rfl)
theorem dX6_digest_195 : decode cX6_digest 195 = .ok (.i2l, 1) := dk_133 (dk_at dksX6_digest_8 6 rfl rfl)
theorem dX6_digest_196 : decode cX6_digest 196 = .ok (.ladd, 1) := dk_97 (dk_at dksX6_digest_8 7 rfl rfl)
theorem dX6_digest_197 : decode cX6_digest 197 = .ok (.lstore_n 1, 1) := dk_64 (dk_at dksX6_digest_8 8 rfl rfl)
theorem dX6_digest_198 : decode cX6_digest 198 = .ok (.ldc2_w 165, 3) := dk_20 0 165 (dk_at dksX6_digest_8 9 rfl rfl)
theorem dX6_digest_201 : decode cX6_digest 201 = .ok (.lload_n 1, 1) := dk_31 (dk_at dksX6_digest_8 12 rfl rfl)
theorem dX6_digest_202 : decode cX6_digest 202 = .ok (.lmul, 1) := dk_105 (dk_at dksX6_digest_8 13 rfl rfl)
theorem dX6_digest_203 : decode cX6_digest 203 = .ok (.aload_n 0, 1) := dk_42 (dk_at dksX6_digest_8 14 rfl rfl)
theorem dX6_digest_204 : decode cX6_digest 204 = .ok (.iload_n 3, 1) := dk_29 (dk_at dksX6_digest_8 15 rfl rfl)
theorem dX6_digest_205 : decode cX6_digest 205 = .ok (.invokevirtual 106, 3) := dk_182 0 106 (dk_at dksX6_digest_8 16 rfl rfl)
theorem dX6_digest_208 : decode cX6_digest 208 = .ok (.i2l, 1) := dk_133 (dk_at dksX6_digest_8 19 rfl rfl)
theorem dX6_digest_209 : decode cX6_digest 209 = .ok (.ladd, 1) := dk_97 (dk_at dksX6_digest_8 20 rfl rfl)
theorem dX6_digest_210 : decode cX6_digest 210 = .ok (.lstore_n 1, 1) := dk_64 (dk_at dksX6_digest_8 21 rfl rfl)
theorem dX6_digest_211 : decode cX6_digest 211 = .ok (.ldc2_w 165, 3) := dk_20 0 165 (dk_at dksX6_digest_9 0 rfl rfl)
theorem dX6_digest_214 : decode cX6_digest 214 = .ok (.lload_n 1, 1) := dk_31 (dk_at dksX6_digest_9 3 rfl rfl)
theorem dX6_digest_215 : decode cX6_digest 215 = .ok (.lmul, 1) := dk_105 (dk_at dksX6_digest_9 4 rfl rfl)
theorem dX6_digest_216 : decode cX6_digest 216 = .ok (.aload_n 0, 1) := dk_42 (dk_at dksX6_digest_9 5 rfl rfl)
theorem dX6_digest_217 : decode cX6_digest 217 = .ok (.iload_n 3, 1) := dk_29 (dk_at dksX6_digest_9 6 rfl rfl)
theorem dX6_digest_218 : decode cX6_digest 218 = .ok (.iconst 3, 1) := dk_6 (dk_at dksX6_digest_9 7 rfl rfl)
theorem dX6_digest_219 : decode cX6_digest 219 = .ok (.invokevirtual 61, 3) := dk_182 0 61 (dk_at dksX6_digest_9 8 rfl rfl)
theorem dX6_digest_222 : decode cX6_digest 222 = .ok (.i2l, 1) := dk_133 (dk_at dksX6_digest_9 11 rfl rfl)
theorem dX6_digest_223 : decode cX6_digest 223 = .ok (.ladd, 1) := dk_97 (dk_at dksX6_digest_9 12 rfl rfl)
theorem dX6_digest_224 : decode cX6_digest 224 = .ok (.lstore_n 1, 1) := dk_64 (dk_at dksX6_digest_9 13 rfl rfl)
theorem dX6_digest_225 : decode cX6_digest 225 = .ok (.ldc2_w 165, 3) := dk_20 0 165 (dk_at dksX6_digest_9 14 rfl rfl)
theorem dX6_digest_228 : decode cX6_digest 228 = .ok (.lload_n 1, 1) := dk_31 (dk_at dksX6_digest_9 17 rfl rfl)
theorem dX6_digest_229 : decode cX6_digest 229 = .ok (.lmul, 1) := dk_105 (dk_at dksX6_digest_9 18 rfl rfl)
theorem dX6_digest_230 : decode cX6_digest 230 = .ok (.aload_n 0, 1) := dk_42 (dk_at dksX6_digest_9 19 rfl rfl)
theorem dX6_digest_231 : decode cX6_digest 231 = .ok (.aload_n 0, 1) := dk_42 (dk_at dksX6_digest_9 20 rfl rfl)
theorem dX6_digest_232 : decode cX6_digest 232 = .ok (.iload_n 3, 1) := dk_29 (dk_at dksX6_digest_9 21 rfl rfl)
theorem dX6_digest_233 : decode cX6_digest 233 = .ok (.iconst 5, 1) := dk_8 (dk_at dksX6_digest_9 22 rfl rfl)
theorem dX6_digest_234 : decode cX6_digest 234 = .ok (.invokevirtual 61, 3) := dk_182 0 61 (dk_at dksX6_digest_10 0 rfl rfl)
theorem dX6_digest_237 : decode cX6_digest 237 = .ok (.invokevirtual 109, 3) := dk_182 0 109 (dk_at dksX6_digest_10 3 rfl rfl)
theorem dX6_digest_240 : decode cX6_digest 240 = .ok (.i2l, 1) := dk_133 (dk_at dksX6_digest_10 6 rfl rfl)
theorem dX6_digest_241 : decode cX6_digest 241 = .ok (.ladd, 1) := dk_97 (dk_at dksX6_digest_10 7 rfl rfl)
theorem dX6_digest_242 : decode cX6_digest 242 = .ok (.lstore_n 1, 1) := dk_64 (dk_at dksX6_digest_10 8 rfl rfl)
theorem dX6_digest_243 : decode cX6_digest 243 = .ok (.ldc2_w 165, 3) := dk_20 0 165 (dk_at dksX6_digest_10 9 rfl rfl)
theorem dX6_digest_246 : decode cX6_digest 246 = .ok (.lload_n 1, 1) := dk_31 (dk_at dksX6_digest_10 12 rfl rfl)
theorem dX6_digest_247 : decode cX6_digest 247 = .ok (.lmul, 1) := dk_105 (dk_at dksX6_digest_10 13 rfl rfl)
theorem dX6_digest_248 : decode cX6_digest 248 = .ok (.aload_n 0, 1) := dk_42 (dk_at dksX6_digest_10 14 rfl rfl)
theorem dX6_digest_249 : decode cX6_digest 249 = .ok (.iload_n 3, 1) := dk_29 (dk_at dksX6_digest_10 15 rfl rfl)
theorem dX6_digest_250 : decode cX6_digest 250 = .ok (.invokevirtual 122, 3) := dk_182 0 122 (dk_at dksX6_digest_10 16 rfl rfl)
theorem dX6_digest_253 : decode cX6_digest 253 = .ok (.ifCond .eq 7, 3) := dk_153 0 7 (dk_at dksX6_digest_10 19 rfl rfl)
theorem dX6_digest_256 : decode cX6_digest 256 = .ok (.iconst 1, 1) := dk_4 (dk_at dksX6_digest_10 22 rfl rfl)
theorem dX6_digest_257 : decode cX6_digest 257 = .ok (.goto 4, 3) := dk_167 0 4 (dk_at dksX6_digest_11 0 rfl rfl)
theorem dX6_digest_260 : decode cX6_digest 260 = .ok (.iconst 0, 1) := dk_3 (dk_at dksX6_digest_11 3 rfl rfl)
theorem dX6_digest_261 : decode cX6_digest 261 = .ok (.i2l, 1) := dk_133 (dk_at dksX6_digest_11 4 rfl rfl)
theorem dX6_digest_262 : decode cX6_digest 262 = .ok (.ladd, 1) := dk_97 (dk_at dksX6_digest_11 5 rfl rfl)
theorem dX6_digest_263 : decode cX6_digest 263 = .ok (.lstore_n 1, 1) := dk_64 (dk_at dksX6_digest_11 6 rfl rfl)
theorem dX6_digest_264 : decode cX6_digest 264 = .ok (.ldc2_w 165, 3) := dk_20 0 165 (dk_at dksX6_digest_11 7 rfl rfl)
theorem dX6_digest_267 : decode cX6_digest 267 = .ok (.lload_n 1, 1) := dk_31 (dk_at dksX6_digest_11 10 rfl rfl)
theorem dX6_digest_268 : decode cX6_digest 268 = .ok (.lmul, 1) := dk_105 (dk_at dksX6_digest_11 11 rfl rfl)
theorem dX6_digest_269 : decode cX6_digest 269 = .ok (.aload_n 0, 1) := dk_42 (dk_at dksX6_digest_11 12 rfl rfl)
theorem dX6_digest_270 : decode cX6_digest 270 = .ok (.iload_n 3, 1) := dk_29 (dk_at dksX6_digest_11 13 rfl rfl)
theorem dX6_digest_271 : decode cX6_digest 271 = .ok (.invokevirtual 125, 3) := dk_182 0 125 (dk_at dksX6_digest_11 14 rfl rfl)
theorem dX6_digest_274 : decode cX6_digest 274 = .ok (.i2l, 1) := dk_133 (dk_at dksX6_digest_11 17 rfl rfl)
theorem dX6_digest_275 : decode cX6_digest 275 = .ok (.ladd, 1) := dk_97 (dk_at dksX6_digest_11 18 rfl rfl)
theorem dX6_digest_276 : decode cX6_digest 276 = .ok (.lstore_n 1, 1) := dk_64 (dk_at dksX6_digest_11 19 rfl rfl)
theorem dX6_digest_277 : decode cX6_digest 277 = .ok (.ldc2_w 165, 3) := dk_20 0 165 (dk_at dksX6_digest_11 20 rfl rfl)
theorem dX6_digest_280 : decode cX6_digest 280 = .ok (.lload_n 1, 1) := dk_31 (dk_at dksX6_digest_11 23 rfl rfl)
theorem dX6_digest_281 : decode cX6_digest 281 = .ok (.lmul, 1) := dk_105 (dk_at dksX6_digest_12 0 rfl rfl)
theorem dX6_digest_282 : decode cX6_digest 282 = .ok (.aload_n 0, 1) := dk_42 (dk_at dksX6_digest_12 1 rfl rfl)
theorem dX6_digest_283 : decode cX6_digest 283 = .ok (.iload_n 3, 1) := dk_29 (dk_at dksX6_digest_12 2 rfl rfl)
theorem dX6_digest_284 : decode cX6_digest 284 = .ok (.invokevirtual 128, 3) := dk_182 0 128 (dk_at dksX6_digest_12 3 rfl rfl)
theorem dX6_digest_287 : decode cX6_digest 287 = .ok (.i2l, 1) := dk_133 (dk_at dksX6_digest_12 6 rfl rfl)
theorem dX6_digest_288 : decode cX6_digest 288 = .ok (.ladd, 1) := dk_97 (dk_at dksX6_digest_12 7 rfl rfl)
theorem dX6_digest_289 : decode cX6_digest 289 = .ok (.lstore_n 1, 1) := dk_64 (dk_at dksX6_digest_12 8 rfl rfl)
theorem dX6_digest_290 : decode cX6_digest 290 = .ok (.iinc 3 1, 3) := dk_132 3 1 (dk_at dksX6_digest_12 9 rfl rfl)
theorem dX6_digest_293 : decode cX6_digest 293 = .ok (.goto (-129), 3) := dk_167 255 127 (dk_at dksX6_digest_12 12 rfl rfl)
theorem dX6_digest_296 : decode cX6_digest 296 = .ok (.lload_n 1, 1) := dk_31 (dk_at dksX6_digest_12 15 rfl rfl)
theorem dX6_digest_297 : decode cX6_digest 297 = .ok (.lreturn, 1) := dk_173 (dk_at dksX6_digest_12 16 rfl rfl)
