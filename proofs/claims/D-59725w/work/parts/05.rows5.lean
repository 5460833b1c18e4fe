/-! decode rows (out of claim/names) -/
set_option maxRecDepth 100000
theorem dJ0_init_0 : decode cJ0_init 0 = .ok (.aload_n 0, 1) := by decide +kernel
theorem dJ0_init_1 : decode cJ0_init 1 = .ok (.invokespecial 1, 3) := by decide +kernel
theorem dJ0_init_4 : decode cJ0_init 4 = .ok (.return_, 1) := by decide +kernel
def dkwJ0_putAll_2 : List UInt8 := [182, 0, 55, 87, 167, 255, 220, 177]
abbrev dktJ0_putAll_2 : List UInt8 := dkwJ0_putAll_2 ++ []
def dkwJ0_putAll_1 : List UInt8 := [185, 0, 30, 1, 0, 192, 0, 34, 78, 42, 45, 185, 0, 43, 1, 0, 45, 185, 0, 36, 1, 0]
abbrev dktJ0_putAll_1 : List UInt8 := dkwJ0_putAll_1 ++ dktJ0_putAll_2
def dkwJ0_putAll_0 : List UInt8 := [43, 185, 0, 52, 1, 0, 185, 0, 20, 1, 0, 77, 44, 185, 0, 24, 1, 0, 153, 0, 33, 44]
abbrev dktJ0_putAll_0 : List UInt8 := dkwJ0_putAll_0 ++ dktJ0_putAll_1
theorem dksJ0_putAll_0 : cJ0_putAll.data.toList.drop 0 = dktJ0_putAll_0 := by decide +kernel
theorem dksJ0_putAll_1 : cJ0_putAll.data.toList.drop 22 = dktJ0_putAll_1 := dk_seg dksJ0_putAll_0 22 rfl rfl
theorem dksJ0_putAll_2 : cJ0_putAll.data.toList.drop 44 = dktJ0_putAll_2 := dk_seg dksJ0_putAll_1 22 rfl rfl
theorem dJ0_putAll_0 : decode cJ0_putAll 0 = .ok (.aload_n 1, 1) := dk_43 (dk_at dksJ0_putAll_0 0 rfl rfl)
theorem dJ0_putAll_1 : decode cJ0_putAll 1 = .ok (.invokeinterface 52 1, 5) := by decide +kernel
theorem dJ0_putAll_6 : decode cJ0_putAll 6 = .ok (.invokeinterface 20 1, 5) := by decide +kernel
theorem dJ0_putAll_11 : decode cJ0_putAll 11 = .ok (.astore_n 2, 1) := dk_77 (dk_at dksJ0_putAll_0 11 rfl rfl)
theorem dJ0_putAll_12 : decode cJ0_putAll 12 = .ok (.aload_n 2, 1) := dk_44 (dk_at dksJ0_putAll_0 12 rfl rfl)
theorem dJ0_putAll_13 : decode cJ0_putAll 13 = .ok (.invokeinterface 24 1, 5) := by decide +kernel
theorem dJ0_putAll_18 : decode cJ0_putAll 18 = .ok (.ifCond .eq 33, 3) := dk_153 0 33 (dk_at dksJ0_putAll_0 18 rfl rfl)
theorem dJ0_putAll_21 : decode cJ0_putAll 21 = .ok (.aload_n 2, 1) := dk_44 (dk_at dksJ0_putAll_0 21 rfl rfl)
theorem dJ0_putAll_22 : decode cJ0_putAll 22 = .ok (.invokeinterface 30 1, 5) := by decide +kernel
theorem dJ0_putAll_27 : decode cJ0_putAll 27 = .ok (.checkcast 34, 3) := dk_192 0 34 (dk_at dksJ0_putAll_1 5 rfl rfl)
theorem dJ0_putAll_30 : decode cJ0_putAll 30 = .ok (.astore_n 3, 1) := dk_78 (dk_at dksJ0_putAll_1 8 rfl rfl)
theorem dJ0_putAll_31 : decode cJ0_putAll 31 = .ok (.aload_n 0, 1) := dk_42 (dk_at dksJ0_putAll_1 9 rfl rfl)
theorem dJ0_putAll_32 : decode cJ0_putAll 32 = .ok (.aload_n 3, 1) := dk_45 (dk_at dksJ0_putAll_1 10 rfl rfl)
theorem dJ0_putAll_33 : decode cJ0_putAll 33 = .ok (.invokeinterface 43 1, 5) := by decide +kernel
theorem dJ0_putAll_38 : decode cJ0_putAll 38 = .ok (.aload_n 3, 1) := dk_45 (dk_at dksJ0_putAll_1 16 rfl rfl)
theorem dJ0_putAll_39 : decode cJ0_putAll 39 = .ok (.invokeinterface 36 1, 5) := by decide +kernel
theorem dJ0_putAll_44 : decode cJ0_putAll 44 = .ok (.invokevirtual 55, 3) := dk_182 0 55 (dk_at dksJ0_putAll_2 0 rfl rfl)
theorem dJ0_putAll_47 : decode cJ0_putAll 47 = .ok (.pop, 1) := dk_87 (dk_at dksJ0_putAll_2 3 rfl rfl)
theorem dJ0_putAll_48 : decode cJ0_putAll 48 = .ok (.goto (-36), 3) := dk_167 255 220 (dk_at dksJ0_putAll_2 4 rfl rfl)
theorem dJ0_putAll_51 : decode cJ0_putAll 51 = .ok (.return_, 1) := dk_177 (dk_at dksJ0_putAll_2 7 rfl rfl)
def dkwJ1_init_0 : List UInt8 := [42, 183, 0, 1, 42, 3, 181, 0, 7, 42, 3, 181, 0, 13, 42, 1, 181, 0, 16, 177]
abbrev dktJ1_init_0 : List UInt8 := dkwJ1_init_0 ++ []
theorem dksJ1_init_0 : cJ1_init.data.toList.drop 0 = dktJ1_init_0 := by decide +kernel
theorem dJ1_init_0 : decode cJ1_init 0 = .ok (.aload_n 0, 1) := dk_42 (dk_at dksJ1_init_0 0 rfl rfl)
theorem dJ1_init_1 : decode cJ1_init 1 = .ok (.invokespecial 1, 3) := dk_183 0 1 (dk_at dksJ1_init_0 1 rfl rfl)
theorem dJ1_init_4 : decode cJ1_init 4 = .ok (.aload_n 0, 1) := dk_42 (dk_at dksJ1_init_0 4 rfl rfl)
theorem dJ1_init_5 : decode cJ1_init 5 = .ok (.iconst 0, 1) := dk_3 (dk_at dksJ1_init_0 5 rfl rfl)
theorem dJ1_init_6 : decode cJ1_init 6 = .ok (.putfield 7, 3) := dk_181 0 7 (dk_at dksJ1_init_0 6 rfl rfl)
theorem dJ1_init_9 : decode cJ1_init 9 = .ok (.aload_n 0, 1) := dk_42 (dk_at dksJ1_init_0 9 rfl rfl)
theorem dJ1_init_10 : decode cJ1_init 10 = .ok (.iconst 0, 1) := dk_3 (dk_at dksJ1_init_0 10 rfl rfl)
theorem dJ1_init_11 : decode cJ1_init 11 = .ok (.putfield 13, 3) := dk_181 0 13 (dk_at dksJ1_init_0 11 rfl rfl)
theorem dJ1_init_14 : decode cJ1_init 14 = .ok (.aload_n 0, 1) := dk_42 (dk_at dksJ1_init_0 14 rfl rfl)
theorem dJ1_init_15 : decode cJ1_init 15 = .ok (.aconst_null, 1) := dk_1 (dk_at dksJ1_init_0 15 rfl rfl)
theorem dJ1_init_16 : decode cJ1_init 16 = .ok (.putfield 16, 3) := dk_181 0 16 (dk_at dksJ1_init_0 16 rfl rfl)
theorem dJ1_init_19 : decode cJ1_init 19 = .ok (.return_, 1) := dk_177 (dk_at dksJ1_init_0 19 rfl rfl)
theorem dJ1_size_0 : decode cJ1_size 0 = .ok (.aload_n 0, 1) := by decide +kernel
theorem dJ1_size_1 : decode cJ1_size 1 = .ok (.getfield 7, 3) := by decide +kernel
theorem dJ1_size_4 : decode cJ1_size 4 = .ok (.ireturn, 1) := by decide +kernel
def dkwJ1_get_0 : List UInt8 := [42, 43, 182, 0, 50, 77, 44, 199, 0, 7, 1, 167, 0, 7, 44, 180, 0, 58, 176]
abbrev dktJ1_get_0 : List UInt8 := dkwJ1_get_0 ++ []
theorem dksJ1_get_0 : cJ1_get.data.toList.drop 0 = dktJ1_get_0 := by decide +kernel
theorem dJ1_get_0 : decode cJ1_get 0 = .ok (.aload_n 0, 1) := dk_42 (dk_at dksJ1_get_0 0 rfl rfl)
theorem dJ1_get_1 : decode cJ1_get 1 = .ok (.aload_n 1, 1) := dk_43 (dk_at dksJ1_get_0 1 rfl rfl)
theorem dJ1_get_2 : decode cJ1_get 2 = .ok (.invokevirtual 50, 3) := dk_182 0 50 (dk_at dksJ1_get_0 2 rfl rfl)
theorem dJ1_get_5 : decode cJ1_get 5 = .ok (.astore_n 2, 1) := dk_77 (dk_at dksJ1_get_0 5 rfl rfl)
theorem dJ1_get_6 : decode cJ1_get 6 = .ok (.aload_n 2, 1) := dk_44 (dk_at dksJ1_get_0 6 rfl rfl)
theorem dJ1_get_7 : decode cJ1_get 7 = .ok (.ifnonnull 7, 3) := dk_199 0 7 (dk_at dksJ1_get_0 7 rfl rfl)
theorem dJ1_get_10 : decode cJ1_get 10 = .ok (.aconst_null, 1) := dk_1 (dk_at dksJ1_get_0 10 rfl rfl)
theorem dJ1_get_11 : decode cJ1_get 11 = .ok (.goto 7, 3) := dk_167 0 7 (dk_at dksJ1_get_0 11 rfl rfl)
theorem dJ1_get_14 : decode cJ1_get 14 = .ok (.aload_n 2, 1) := dk_44 (dk_at dksJ1_get_0 14 rfl rfl)
theorem dJ1_get_15 : decode cJ1_get 15 = .ok (.getfield 58, 3) := dk_180 0 58 (dk_at dksJ1_get_0 15 rfl rfl)
theorem dJ1_get_18 : decode cJ1_get 18 = .ok (.areturn, 1) := dk_176 (dk_at dksJ1_get_0 18 rfl rfl)
def dkwJ1_getEntry_3 : List UInt8 := [45, 176, 167, 255, 212, 1, 176]
abbrev dktJ1_getEntry_3 : List UInt8 := dkwJ1_getEntry_3 ++ []
def dkwJ1_getEntry_2 : List UInt8 := [156, 0, 11, 45, 180, 0, 111, 78, 167, 0, 18, 21, 4, 158, 0, 11, 45, 180, 0, 114, 78, 167, 0, 5]
abbrev dktJ1_getEntry_2 : List UInt8 := dkwJ1_getEntry_2 ++ dktJ1_getEntry_3
def dkwJ1_getEntry_1 : List UInt8 := [180, 0, 101, 78, 45, 198, 0, 46, 44, 45, 180, 0, 105, 185, 0, 107, 2, 0, 54, 4, 21, 4]
abbrev dktJ1_getEntry_1 : List UInt8 := dkwJ1_getEntry_1 ++ dktJ1_getEntry_2
def dkwJ1_getEntry_0 : List UInt8 := [42, 180, 0, 16, 198, 0, 9, 42, 43, 182, 0, 92, 176, 43, 184, 0, 95, 87, 43, 192, 0, 99, 77, 42]
abbrev dktJ1_getEntry_0 : List UInt8 := dkwJ1_getEntry_0 ++ dktJ1_getEntry_1
theorem dksJ1_getEntry_0 : cJ1_getEntry.data.toList.drop 0 = dktJ1_getEntry_0 := by decide +kernel
theorem dksJ1_getEntry_1 : cJ1_getEntry.data.toList.drop 24 = dktJ1_getEntry_1 := dk_seg dksJ1_getEntry_0 24 rfl rfl
theorem dksJ1_getEntry_2 : cJ1_getEntry.data.toList.drop 46 = dktJ1_getEntry_2 := dk_seg dksJ1_getEntry_1 22 rfl rfl
theorem dksJ1_getEntry_3 : cJ1_getEntry.data.toList.drop 70 = dktJ1_getEntry_3 := dk_seg dksJ1_getEntry_2 24 rfl rfl
theorem dJ1_getEntry_0 : decode cJ1_getEntry 0 = .ok (.aload_n 0, 1) := dk_42 (dk_at dksJ1_getEntry_0 0 rfl rfl)
theorem dJ1_getEntry_1 : decode cJ1_getEntry 1 = .ok (.getfield 16, 3) := dk_180 0 16 (dk_at dksJ1_getEntry_0 1 rfl rfl)
theorem dJ1_getEntry_4 : decode cJ1_getEntry 4 = .ok (.ifnull 9, 3) := dk_198 0 9 (dk_at dksJ1_getEntry_0 4 rfl rfl)
theorem dJ1_getEntry_7 : decode cJ1_getEntry 7 = .ok (.aload_n 0, 1) := dk_42 (dk_at dksJ1_getEntry_0 7 rfl rfl)
theorem dJ1_getEntry_8 : decode cJ1_getEntry 8 = .ok (.aload_n 1, 1) := dk_43 (dk_at dksJ1_getEntry_0 8 rfl rfl)
theorem dJ1_getEntry_9 : decode cJ1_getEntry 9 = .ok (.invokevirtual 92, 3) := dk_182 0 92 (dk_at dksJ1_getEntry_0 9 rfl rfl)
theorem dJ1_getEntry_12 : decode cJ1_getEntry 12 = .ok (.areturn, 1) := dk_176 (dk_at dksJ1_getEntry_0 12 rfl rfl)
theorem dJ1_getEntry_13 : decode cJ1_getEntry 13 = .ok (.aload_n 1, 1) := dk_43 (dk_at dksJ1_getEntry_0 13 rfl rfl)
theorem dJ1_getEntry_14 : decode cJ1_getEntry 14 = .ok (.invokestatic 95, 3) := dk_184 0 95 (dk_at dksJ1_getEntry_0 14 rfl rfl)
theorem dJ1_getEntry_17 : decode cJ1_getEntry 17 = .ok (.pop, 1) := dk_87 (dk_at dksJ1_getEntry_0 17 rfl rfl)
theorem dJ1_getEntry_18 : decode cJ1_getEntry 18 = .ok (.aload_n 1, 1) := dk_43 (dk_at dksJ1_getEntry_0 18 rfl rfl)
theorem dJ1_getEntry_19 : decode cJ1_getEntry 19 = .ok (.checkcast 99, 3) := dk_192 0 99 (dk_at dksJ1_getEntry_0 19 rfl rfl)
theorem dJ1_getEntry_22 : decode cJ1_getEntry 22 = .ok (.astore_n 2, 1) := dk_77 (dk_at dksJ1_getEntry_0 22 rfl rfl)
theorem dJ1_getEntry_23 : decode cJ1_getEntry 23 = .ok (.aload_n 0, 1) := dk_42 (dk_at dksJ1_getEntry_0 23 rfl rfl)
theorem dJ1_getEntry_24 : decode cJ1_getEntry 24 = .ok (.getfield 101, 3) := dk_180 0 101 (dk_at dksJ1_getEntry_1 0 rfl rfl)
theorem dJ1_getEntry_27 : decode cJ1_getEntry 27 = .ok (.astore_n 3, 1) := dk_78 (dk_at dksJ1_getEntry_1 3 rfl rfl)
theorem dJ1_getEntry_28 : decode cJ1_getEntry 28 = .ok (.aload_n 3, 1) := dk_45 (dk_at dksJ1_getEntry_1 4 rfl rfl)
theorem dJ1_getEntry_29 : decode cJ1_getEntry 29 = .ok (.ifnull 46, 3) := dk_198 0 46 (dk_at dksJ1_getEntry_1 5 rfl rfl)
theorem dJ1_getEntry_32 : decode cJ1_getEntry 32 = .ok (.aload_n 2, 1) := dk_44 (dk_at dksJ1_getEntry_1 8 rfl rfl)
theorem dJ1_getEntry_33 : decode cJ1_getEntry 33 = .ok (.aload_n 3, 1) := dk_45 (dk_at dksJ1_getEntry_1 9 rfl rfl)
theorem dJ1_getEntry_34 : decode cJ1_getEntry 34 = .ok (.getfield 105, 3) := dk_180 0 105 (dk_at dksJ1_getEntry_1 10 rfl rfl)
theorem dJ1_getEntry_37 : decode cJ1_getEntry 37 = .ok (.invokeinterface 107 2, 5) := by decide +kernel
theorem dJ1_getEntry_42 : decode cJ1_getEntry 42 = .ok (.istore 4, 2) := dk_54 4 (dk_at dksJ1_getEntry_1 18 rfl rfl)
theorem dJ1_getEntry_44 : decode cJ1_getEntry 44 = .ok (.iload 4, 2) := dk_21 4 (dk_at dksJ1_getEntry_1 20 rfl rfl)
theorem dJ1_getEntry_46 : decode cJ1_getEntry 46 = .ok (.ifCond .ge 11, 3) := dk_156 0 11 (dk_at dksJ1_getEntry_2 0 rfl rfl)
theorem dJ1_getEntry_49 : decode cJ1_getEntry 49 = .ok (.aload_n 3, 1) := dk_45 (dk_at dksJ1_getEntry_2 3 rfl rfl)
theorem dJ1_getEntry_50 : decode cJ1_getEntry 50 = .ok (.getfield 111, 3) := dk_180 0 111 (dk_at dksJ1_getEntry_2 4 rfl rfl)
theorem dJ1_getEntry_53 : decode cJ1_getEntry 53 = .ok (.astore_n 3, 1) := dk_78 (dk_at dksJ1_getEntry_2 7 rfl rfl)
theorem dJ1_getEntry_54 : decode cJ1_getEntry 54 = .ok (.goto 18, 3) := dk_167 0 18 (dk_at dksJ1_getEntry_2 8 rfl rfl)
theorem dJ1_getEntry_57 : decode cJ1_getEntry 57 = .ok (.iload 4, 2) := dk_21 4 (dk_at dksJ1_getEntry_2 11 rfl rfl)
theorem dJ1_getEntry_59 : decode cJ1_getEntry 59 = .ok (.ifCond .le 11, 3) := dk_158 0 11 (dk_at dksJ1_getEntry_2 13 rfl rfl)
theorem dJ1_getEntry_62 : decode cJ1_getEntry 62 = .ok (.aload_n 3, 1) := dk_45 (dk_at dksJ1_getEntry_2 16 rfl rfl)
theorem dJ1_getEntry_63 : decode cJ1_getEntry 63 = .ok (.getfield 114, 3) := dk_180 0 114 (dk_at dksJ1_getEntry_2 17 rfl rfl)
theorem dJ1_getEntry_66 : decode cJ1_getEntry 66 = .ok (.astore_n 3, 1) := dk_78 (dk_at dksJ1_getEntry_2 20 rfl rfl)
theorem dJ1_getEntry_67 : decode cJ1_getEntry 67 = .ok (.goto 5, 3) := dk_167 0 5 (dk_at dksJ1_getEntry_2 21 rfl rfl)
theorem dJ1_getEntry_70 : decode cJ1_getEntry 70 = .ok (.aload_n 3, 1) := dk_45 (dk_at dksJ1_getEntry_3 0 rfl rfl)
theorem dJ1_getEntry_71 : decode cJ1_getEntry 71 = .ok (.areturn, 1) := dk_176 (dk_at dksJ1_getEntry_3 1 rfl rfl)
theorem dJ1_getEntry_72 : decode cJ1_getEntry 72 = .ok (.goto (-44), 3) := dk_167 255 212 (dk_at dksJ1_getEntry_3 2 rfl rfl)
theorem dJ1_getEntry_75 : decode cJ1_getEntry 75 = .ok (.aconst_null, 1) := dk_1 (dk_at dksJ1_getEntry_3 5 rfl rfl)
theorem dJ1_getEntry_76 : decode cJ1_getEntry 76 = .ok (.areturn, 1) := dk_176 (dk_at dksJ1_getEntry_3 6 rfl rfl)
def dkwJ1_getEntryUsingComparator_3 : List UInt8 := [1, 176]
abbrev dktJ1_getEntryUsingComparator_3 : List UInt8 := dkwJ1_getEntryUsingComparator_3 ++ []
def dkwJ1_getEntryUsingComparator_2 : List UInt8 := [167, 0, 21, 21, 5, 158, 0, 13, 25, 4, 180, 0, 114, 58, 4, 167, 0, 6, 25, 4, 176, 167, 255, 204]
abbrev dktJ1_getEntryUsingComparator_2 : List UInt8 := dkwJ1_getEntryUsingComparator_2 ++ dktJ1_getEntryUsingComparator_3
def dkwJ1_getEntryUsingComparator_1 : List UInt8 := [25, 4, 180, 0, 105, 185, 0, 117, 3, 0, 54, 5, 21, 5, 156, 0, 13, 25, 4, 180, 0, 111, 58, 4]
abbrev dktJ1_getEntryUsingComparator_1 : List UInt8 := dkwJ1_getEntryUsingComparator_1 ++ dktJ1_getEntryUsingComparator_2
def dkwJ1_getEntryUsingComparator_0 : List UInt8 := [43, 77, 42, 180, 0, 16, 78, 45, 198, 0, 64, 42, 180, 0, 101, 58, 4, 25, 4, 198, 0, 53, 45, 44]
abbrev dktJ1_getEntryUsingComparator_0 : List UInt8 := dkwJ1_getEntryUsingComparator_0 ++ dktJ1_getEntryUsingComparator_1
theorem dksJ1_getEntryUsingComparator_0 : cJ1_getEntryUsingComparator.data.toList.drop 0 = dktJ1_getEntryUsingComparator_0 := by decide +kernel
theorem dksJ1_getEntryUsingComparator_1 : cJ1_getEntryUsingComparator.data.toList.drop 24 = dktJ1_getEntryUsingComparator_1 := dk_seg dksJ1_getEntryUsingComparator_0 24 rfl rfl
theorem dksJ1_getEntryUsingComparator_2 : cJ1_getEntryUsingComparator.data.toList.drop 48 = dktJ1_getEntryUsingComparator_2 := dk_seg dksJ1_getEntryUsingComparator_1 24 rfl rfl
theorem dksJ1_getEntryUsingComparator_3 : cJ1_getEntryUsingComparator.data.toList.drop 72 = dktJ1_getEntryUsingComparator_3 := dk_seg dksJ1_getEntryUsingComparator_2 24 rfl rfl
theorem dJ1_getEntryUsingComparator_0 : decode cJ1_getEntryUsingComparator 0 = .ok (.aload_n 1, 1) := dk_43 (dk_at dksJ1_getEntryUsingComparator_0 0 rfl rfl)
theorem dJ1_getEntryUsingComparator_1 : decode cJ1_getEntryUsingComparator 1 = .ok (.astore_n 2, 1) := dk_77 (dk_at dksJ1_getEntryUsingComparator_0 1 rfl rfl)
theorem dJ1_getEntryUsingComparator_2 : decode cJ1_getEntryUsingComparator 2 = .ok (.aload_n 0, 1) := dk_42 (dk_at dksJ1_getEntryUsingComparator_0 2 rfl rfl)
theorem dJ1_getEntryUsingComparator_3 : decode cJ1_getEntryUsingComparator 3 = .ok (.getfield 16, 3) := dk_180 0 16 (dk_at dksJ1_getEntryUsingComparator_0 3 rfl rfl)
theorem dJ1_getEntryUsingComparator_6 : decode cJ1_getEntryUsingComparator 6 = .ok (.astore_n 3, 1) := dk_78 (dk_at dksJ1_getEntryUsingComparator_0 6 rfl rfl)
theorem dJ1_getEntryUsingComparator_7 : decode cJ1_getEntryUsingComparator 7 = .ok (.aload_n 3, 1) := dk_45 (dk_at dksJ1_getEntryUsingComparator_0 7 rfl rfl)
theorem dJ1_getEntryUsingComparator_8 : decode cJ1_getEntryUsingComparator 8 = .ok (.ifnull 64, 3) := dk_198 0 64 (dk_at dksJ1_getEntryUsingComparator_0 8 rfl rfl)
theorem dJ1_getEntryUsingComparator_11 : decode cJ1_getEntryUsingComparator 11 = .ok (.aload_n 0, 1) := dk_42 (dk_at dksJ1_getEntryUsingComparator_0 11 rfl rfl)
theorem dJ1_getEntryUsingComparator_12 : decode cJ1_getEntryUsingComparator 12 = .ok (.getfield 101, 3) := dk_180 0 101 (dk_at dksJ1_getEntryUsingComparator_0 12 rfl rfl)
theorem dJ1_getEntryUsingComparator_15 : decode cJ1_getEntryUsingComparator 15 = .ok (.astore 4, 2) := dk_58 4 (dk_at dksJ1_getEntryUsingComparator_0 15 rfl rfl)
theorem dJ1_getEntryUsingComparator_17 : decode cJ1_getEntryUsingComparator 17 = .ok (.aload 4, 2) := dk_25 4 (dk_at dksJ1_getEntryUsingComparator_0 17 rfl rfl)
theorem dJ1_getEntryUsingComparator_19 : decode cJ1_getEntryUsingComparator 19 = .ok (.ifnull 53, 3) := dk_198 0 53 (dk_at dksJ1_getEntryUsingComparator_0 19 rfl rfl)
theorem dJ1_getEntryUsingComparator_22 : decode cJ1_getEntryUsingComparator 22 = .ok (.aload_n 3, 1) := dk_45 (dk_at dksJ1_getEntryUsingComparator_0 22 rfl rfl)
theorem dJ1_getEntryUsingComparator_23 : decode cJ1_getEntryUsingComparator 23 = .ok (.aload_n 2, 1) := dk_44 (dk_at dksJ1_getEntryUsingComparator_0 23 rfl rfl)
theorem dJ1_getEntryUsingComparator_24 : decode cJ1_getEntryUsingComparator 24 = .ok (.aload 4, 2) := dk_25 4 (dk_at dksJ1_getEntryUsingComparator_1 0 rfl rfl)
theorem dJ1_getEntryUsingComparator_26 : decode cJ1_getEntryUsingComparator 26 = .ok (.getfield 105, 3) := dk_180 0 105 (dk_at dksJ1_getEntryUsingComparator_1 2 rfl rfl)
theorem dJ1_getEntryUsingComparator_29 : decode cJ1_getEntryUsingComparator 29 = .ok (.invokeinterface 117 3, 5) := by decide +kernel
theorem dJ1_getEntryUsingComparator_34 : decode cJ1_getEntryUsingComparator 34 = .ok (.istore 5, 2) := dk_54 5 (dk_at dksJ1_getEntryUsingComparator_1 10 rfl rfl)
theorem dJ1_getEntryUsingComparator_36 : decode cJ1_getEntryUsingComparator 36 = .ok (.iload 5, 2) := dk_21 5 (dk_at dksJ1_getEntryUsingComparator_1 12 rfl rfl)
theorem dJ1_getEntryUsingComparator_38 : decode cJ1_getEntryUsingComparator 38 = .ok (.ifCond .ge 13, 3) := dk_156 0 13 (dk_at dksJ1_getEntryUsingComparator_1 14 rfl rfl)
theorem dJ1_getEntryUsingComparator_41 : decode cJ1_getEntryUsingComparator 41 = .ok (.aload 4, 2) := dk_25 4 (dk_at dksJ1_getEntryUsingComparator_1 17 rfl rfl)
theorem dJ1_getEntryUsingComparator_43 : decode cJ1_getEntryUsingComparator 43 = .ok (.getfield 111, 3) := dk_180 0 111 (dk_at dksJ1_getEntryUsingComparator_1 19 rfl rfl)
theorem dJ1_getEntryUsingComparator_46 : decode cJ1_getEntryUsingComparator 46 = .ok (.astore 4, 2) := dk_58 4 (dk_at dksJ1_getEntryUsingComparator_1 22 rfl rfl)
theorem dJ1_getEntryUsingComparator_48 : decode cJ1_getEntryUsingComparator 48 = .ok (.goto 21, 3) := dk_167 0 21 (dk_at dksJ1_getEntryUsingComparator_2 0 rfl rfl)
theorem dJ1_getEntryUsingComparator_51 : decode cJ1_getEntryUsingComparator 51 = .ok (.iload 5, 2) := dk_21 5 (dk_at dksJ1_getEntryUsingComparator_2 3 rfl rfl)
theorem dJ1_getEntryUsingComparator_53 : decode cJ1_getEntryUsingComparator 53 = .ok (.ifCond .le 13, 3) := dk_158 0 13 (dk_at dksJ1_getEntryUsingComparator_2 5 rfl rfl)
theorem dJ1_getEntryUsingComparator_56 : decode cJ1_getEntryUsingComparator 56 = .ok (.aload 4, 2) := dk_25 4 (dk_at dksJ1_getEntryUsingComparator_2 8 rfl rfl)
theorem dJ1_getEntryUsingComparator_58 : decode cJ1_getEntryUsingComparator 58 = .ok (.getfield 114, 3) := dk_180 0 114 (dk_at dksJ1_getEntryUsingComparator_2 10 rfl rfl)
theorem dJ1_getEntryUsingComparator_61 : decode cJ1_getEntryUsingComparator 61 = .ok (.astore 4, 2) := dk_58 4 (dk_at dksJ1_getEntryUsingComparator_2 13 rfl rfl)
theorem dJ1_getEntryUsingComparator_63 : decode cJ1_getEntryUsingComparator 63 = .ok (.goto 6, 3) := dk_167 0 6 (dk_at dksJ1_getEntryUsingComparator_2 15 rfl rfl)
theorem dJ1_getEntryUsingComparator_66 : decode cJ1_getEntryUsingComparator 66 = .ok (.aload 4, 2) := dk_25 4 (dk_at dksJ1_getEntryUsingComparator_2 18 rfl rfl)
theorem dJ1_getEntryUsingComparator_68 : decode cJ1_getEntryUsingComparator 68 = .ok (.areturn, 1) := dk_176 (dk_at dksJ1_getEntryUsingComparator_2 20 rfl rfl)
theorem dJ1_getEntryUsingComparator_69 : decode cJ1_getEntryUsingComparator 69 = .ok (.goto (-52), 3) := dk_167 255 204 (dk_at dksJ1_getEntryUsingComparator_2 21 rfl rfl)
theorem dJ1_getEntryUsingComparator_72 : decode cJ1_getEntryUsingComparator 72 = .ok (.aconst_null, 1) := dk_1 (dk_at dksJ1_getEntryUsingComparator_3 0 rfl rfl)
theorem dJ1_getEntryUsingComparator_73 : decode cJ1_getEntryUsingComparator 73 = .ok (.areturn, 1) := dk_176 (dk_at dksJ1_getEntryUsingComparator_3 1 rfl rfl)
def dkwJ1_putAll_3 : List UInt8 := [182, 0, 42, 167, 0, 4, 78, 177, 42, 43, 183, 0, 91, 177]
abbrev dktJ1_putAll_3 : List UInt8 := dkwJ1_putAll_3 ++ []
def dkwJ1_putAll_2 : List UInt8 := [180, 0, 13, 4, 96, 181, 0, 13, 42, 28, 43, 185, 0, 90, 1, 0, 185, 0, 36, 1, 0, 1, 1]
abbrev dktJ1_putAll_2 : List UInt8 := dkwJ1_putAll_2 ++ dktJ1_putAll_3
def dkwJ1_putAll_1 : List UInt8 := [153, 0, 55, 42, 180, 0, 16, 43, 192, 0, 25, 185, 0, 24, 1, 0, 184, 0, 85, 153, 0, 36, 42, 89]
abbrev dktJ1_putAll_1 : List UInt8 := dkwJ1_putAll_1 ++ dktJ1_putAll_2
def dkwJ1_putAll_0 : List UInt8 := [43, 185, 0, 82, 1, 0, 61, 42, 180, 0, 7, 154, 0, 66, 28, 153, 0, 62, 43, 193, 0, 25]
abbrev dktJ1_putAll_0 : List UInt8 := dkwJ1_putAll_0 ++ dktJ1_putAll_1
theorem dksJ1_putAll_0 : cJ1_putAll.data.toList.drop 0 = dktJ1_putAll_0 := by decide +kernel
theorem dksJ1_putAll_1 : cJ1_putAll.data.toList.drop 22 = dktJ1_putAll_1 := dk_seg dksJ1_putAll_0 22 rfl rfl
theorem dksJ1_putAll_2 : cJ1_putAll.data.toList.drop 46 = dktJ1_putAll_2 := dk_seg dksJ1_putAll_1 24 rfl rfl
theorem dksJ1_putAll_3 : cJ1_putAll.data.toList.drop 69 = dktJ1_putAll_3 := dk_seg dksJ1_putAll_2 23 rfl rfl
theorem dJ1_putAll_0 : decode cJ1_putAll 0 = .ok (.aload_n 1, 1) := dk_43 (dk_at dksJ1_putAll_0 0 rfl rfl)
theorem dJ1_putAll_1 : decode cJ1_putAll 1 = .ok (.invokeinterface 82 1, 5) := by decide +kernel
theorem dJ1_putAll_6 : decode cJ1_putAll 6 = .ok (.istore_n 2, 1) := dk_61 (dk_at dksJ1_putAll_0 6 rfl rfl)
theorem dJ1_putAll_7 : decode cJ1_putAll 7 = .ok (.aload_n 0, 1) := dk_42 (dk_at dksJ1_putAll_0 7 rfl rfl)
theorem dJ1_putAll_8 : decode cJ1_putAll 8 = .ok (.getfield 7, 3) := dk_180 0 7 (dk_at dksJ1_putAll_0 8 rfl rfl)
theorem dJ1_putAll_11 : decode cJ1_putAll 11 = .ok (.ifCond .ne 66, 3) := dk_154 0 66 (dk_at dksJ1_putAll_0 11 rfl rfl)
theorem dJ1_putAll_14 : decode cJ1_putAll 14 = .ok (.iload_n 2, 1) := dk_28 (dk_at dksJ1_putAll_0 14 rfl rfl)
theorem dJ1_putAll_15 : decode cJ1_putAll 15 = .ok (.ifCond .eq 62, 3) := dk_153 0 62 (dk_at dksJ1_putAll_0 15 rfl rfl)
theorem dJ1_putAll_18 : decode cJ1_putAll 18 = .ok (.aload_n 1, 1) := dk_43 (dk_at dksJ1_putAll_0 18 rfl rfl)
theorem dJ1_putAll_19 : decode cJ1_putAll 19 = .ok (.instanceof 25, 3) := dk_193 0 25 (dk_at dksJ1_putAll_0 19 rfl rfl)
theorem dJ1_putAll_22 : decode cJ1_putAll 22 = .ok (.ifCond .eq 55, 3) := dk_153 0 55 (dk_at dksJ1_putAll_1 0 rfl rfl)
theorem dJ1_putAll_25 : decode cJ1_putAll 25 = .ok (.aload_n 0, 1) := dk_42 (dk_at dksJ1_putAll_1 3 rfl rfl)
theorem dJ1_putAll_26 : decode cJ1_putAll 26 = .ok (.getfield 16, 3) := dk_180 0 16 (dk_at dksJ1_putAll_1 4 rfl rfl)
theorem dJ1_putAll_29 : decode cJ1_putAll 29 = .ok (.aload_n 1, 1) := dk_43 (dk_at dksJ1_putAll_1 7 rfl rfl)
theorem dJ1_putAll_30 : decode cJ1_putAll 30 = .ok (.checkcast 25, 3) := dk_192 0 25 (dk_at dksJ1_putAll_1 8 rfl rfl)
theorem dJ1_putAll_33 : decode cJ1_putAll 33 = .ok (.invokeinterface 24 1, 5) := by decide +kernel
theorem dJ1_putAll_38 : decode cJ1_putAll 38 = .ok (.invokestatic 85, 3) := dk_184 0 85 (dk_at dksJ1_putAll_1 16 rfl rfl)
theorem dJ1_putAll_41 : decode cJ1_putAll 41 = .ok (.ifCond .eq 36, 3) := dk_153 0 36 (dk_at dksJ1_putAll_1 19 rfl rfl)
theorem dJ1_putAll_44 : decode cJ1_putAll 44 = .ok (.aload_n 0, 1) := dk_42 (dk_at dksJ1_putAll_1 22 rfl rfl)
theorem dJ1_putAll_45 : decode cJ1_putAll 45 = .ok (.dup, 1) := dk_89 (dk_at dksJ1_putAll_1 23 rfl rfl)
theorem dJ1_putAll_46 : decode cJ1_putAll 46 = .ok (.getfield 13, 3) := dk_180 0 13 (dk_at dksJ1_putAll_2 0 rfl rfl)
theorem dJ1_putAll_49 : decode cJ1_putAll 49 = .ok (.iconst 1, 1) := dk_4 (dk_at dksJ1_putAll_2 3 rfl rfl)
theorem dJ1_putAll_50 : decode cJ1_putAll 50 = .ok (.iadd, 1) := dk_96 (dk_at dksJ1_putAll_2 4 rfl rfl)
theorem dJ1_putAll_51 : decode cJ1_putAll 51 = .ok (.putfield 13, 3) := dk_181 0 13 (dk_at dksJ1_putAll_2 5 rfl rfl)
theorem dJ1_putAll_54 : decode cJ1_putAll 54 = .ok (.aload_n 0, 1) := dk_42 (dk_at dksJ1_putAll_2 8 rfl rfl)
theorem dJ1_putAll_55 : decode cJ1_putAll 55 = .ok (.iload_n 2, 1) := dk_28 (dk_at dksJ1_putAll_2 9 rfl rfl)
theorem dJ1_putAll_56 : decode cJ1_putAll 56 = .ok (.aload_n 1, 1) := dk_43 (dk_at dksJ1_putAll_2 10 rfl rfl)
theorem dJ1_putAll_57 : decode cJ1_putAll 57 = .ok (.invokeinterface 90 1, 5) := by decide +kernel
theorem dJ1_putAll_62 : decode cJ1_putAll 62 = .ok (.invokeinterface 36 1, 5) := by decide +kernel
theorem dJ1_putAll_67 : decode cJ1_putAll 67 = .ok (.aconst_null, 1) := dk_1 (dk_at dksJ1_putAll_2 21 rfl rfl)
theorem dJ1_putAll_68 : decode cJ1_putAll 68 = .ok (.aconst_null, 1) := dk_1 (dk_at dksJ1_putAll_2 22 rfl rfl)
theorem dJ1_putAll_69 : decode cJ1_putAll 69 = .ok (.invokevirtual 42, 3) := dk_182 0 42 (dk_at dksJ1_putAll_3 0 rfl rfl)
theorem dJ1_putAll_72 : decode cJ1_putAll 72 = .ok (.goto 4, 3) := dk_167 0 4 (dk_at dksJ1_putAll_3 3 rfl rfl)
theorem dJ1_putAll_75 : decode cJ1_putAll 75 = .ok (.astore_n 3, 1) := dk_78 (dk_at dksJ1_putAll_3 6 rfl rfl)
theorem dJ1_putAll_76 : decode cJ1_putAll 76 = .ok (.return_, 1) := dk_177 (dk_at dksJ1_putAll_3 7 rfl rfl)
theorem dJ1_putAll_77 : decode cJ1_putAll 77 = .ok (.aload_n 0, 1) := dk_42 (dk_at dksJ1_putAll_3 8 rfl rfl)
theorem dJ1_putAll_78 : decode cJ1_putAll 78 = .ok (.aload_n 1, 1) := dk_43 (dk_at dksJ1_putAll_3 9 rfl rfl)
theorem dJ1_putAll_79 : decode cJ1_putAll 79 = .ok (.invokespecial 91, 3) := dk_183 0 91 (dk_at dksJ1_putAll_3 10 rfl rfl)
theorem dJ1_putAll_82 : decode cJ1_putAll 82 = .ok (.return_, 1) := dk_177 (dk_at dksJ1_putAll_3 13 rfl rfl)
theorem dJ1_comparator_0 : decode cJ1_comparator 0 = .ok (.aload_n 0, 1) := by decide +kernel
theorem dJ1_comparator_1 : decode cJ1_comparator 1 = .ok (.getfield 16, 3) := by decide +kernel
theorem dJ1_comparator_4 : decode cJ1_comparator 4 = .ok (.areturn, 1) := by decide +kernel
def dkwJ1_entrySet_1 : List UInt8 := [181, 0, 188, 176]
abbrev dktJ1_entrySet_1 : List UInt8 := dkwJ1_entrySet_1 ++ []
def dkwJ1_entrySet_0 : List UInt8 := [42, 180, 0, 188, 76, 43, 198, 0, 7, 43, 167, 0, 16, 42, 187, 0, 242, 89, 42, 183, 0, 244, 90]
abbrev dktJ1_entrySet_0 : List UInt8 := dkwJ1_entrySet_0 ++ dktJ1_entrySet_1
theorem dksJ1_entrySet_0 : cJ1_entrySet.data.toList.drop 0 = dktJ1_entrySet_0 := by decide +kernel
theorem dksJ1_entrySet_1 : cJ1_entrySet.data.toList.drop 23 = dktJ1_entrySet_1 := dk_seg dksJ1_entrySet_0 23 rfl rfl
theorem dJ1_entrySet_0 : decode cJ1_entrySet 0 = .ok (.aload_n 0, 1) := dk_42 (dk_at dksJ1_entrySet_0 0 rfl rfl)
theorem dJ1_entrySet_1 : decode cJ1_entrySet 1 = .ok (.getfield 188, 3) := dk_180 0 188 (dk_at dksJ1_entrySet_0 1 rfl rfl)
theorem dJ1_entrySet_4 : decode cJ1_entrySet 4 = .ok (.astore_n 1, 1) := dk_76 (dk_at dksJ1_entrySet_0 4 rfl rfl)
theorem dJ1_entrySet_5 : decode cJ1_entrySet 5 = .ok (.aload_n 1, 1) := dk_43 (dk_at dksJ1_entrySet_0 5 rfl rfl)
theorem dJ1_entrySet_6 : decode cJ1_entrySet 6 = .ok (.ifnull 7, 3) := dk_198 0 7 (dk_at dksJ1_entrySet_0 6 rfl rfl)
theorem dJ1_entrySet_9 : decode cJ1_entrySet 9 = .ok (.aload_n 1, 1) := dk_43 (dk_at dksJ1_entrySet_0 9 rfl rfl)
theorem dJ1_entrySet_10 : decode cJ1_entrySet 10 = .ok (.goto 16, 3) := dk_167 0 16 (dk_at dksJ1_entrySet_0 10 rfl rfl)
theorem dJ1_entrySet_13 : decode cJ1_entrySet 13 = .ok (.aload_n 0, 1) := dk_42 (dk_at dksJ1_entrySet_0 13 rfl rfl)
theorem dJ1_entrySet_14 : decode cJ1_entrySet 14 = .ok (.new 242, 3) := dk_187 0 242 (dk_at dksJ1_entrySet_0 14 rfl rfl)
theorem dJ1_entrySet_17 : decode cJ1_entrySet 17 = .ok (.dup, 1) := dk_89 (dk_at dksJ1_entrySet_0 17 rfl rfl)
theorem dJ1_entrySet_18 : decode cJ1_entrySet 18 = .ok (.aload_n 0, 1) := dk_42 (dk_at dksJ1_entrySet_0 18 rfl rfl)
theorem dJ1_entrySet_19 : decode cJ1_entrySet 19 = .ok (.invokespecial 244, 3) := dk_183 0 244 (dk_at dksJ1_entrySet_0 19 rfl rfl)
theorem dJ1_entrySet_22 : decode cJ1_entrySet 22 = .ok (.dup_x1, 1) := dk_90 (dk_at dksJ1_entrySet_0 22 rfl rfl)
theorem dJ1_entrySet_23 : decode cJ1_entrySet 23 = .ok (.putfield 188, 3) := dk_181 0 188 (dk_at dksJ1_entrySet_1 0 rfl rfl)
theorem dJ1_entrySet_26 : decode cJ1_entrySet 26 = .ok (.areturn, 1) := dk_176 (dk_at dksJ1_entrySet_1 3 rfl rfl)
def dkwJ1_getFirstEntry_1 : List UInt8 := [43, 176]
abbrev dktJ1_getFirstEntry_1 : List UInt8 := dkwJ1_getFirstEntry_1 ++ []
def dkwJ1_getFirstEntry_0 : List UInt8 := [42, 180, 0, 101, 76, 43, 198, 0, 18, 43, 180, 0, 111, 198, 0, 11, 43, 180, 0, 111, 76, 167, 255, 244]
abbrev dktJ1_getFirstEntry_0 : List UInt8 := dkwJ1_getFirstEntry_0 ++ dktJ1_getFirstEntry_1
theorem dksJ1_getFirstEntry_0 : cJ1_getFirstEntry.data.toList.drop 0 = dktJ1_getFirstEntry_0 := by decide +kernel
theorem dksJ1_getFirstEntry_1 : cJ1_getFirstEntry.data.toList.drop 24 = dktJ1_getFirstEntry_1 := dk_seg dksJ1_getFirstEntry_0 24 rfl rfl
theorem dJ1_getFirstEntry_0 : decode cJ1_getFirstEntry 0 = .ok (.aload_n 0, 1) := dk_42 (dk_at dksJ1_getFirstEntry_0 0 rfl rfl)
theorem dJ1_getFirstEntry_1 : decode cJ1_getFirstEntry 1 = .ok (.getfield 101, 3) := dk_180 0 101 (dk_at dksJ1_getFirstEntry_0 1 rfl rfl)
theorem dJ1_getFirstEntry_4 : decode cJ1_getFirstEntry 4 = .ok (.astore_n 1, 1) := dk_76 (dk_at dksJ1_getFirstEntry_0 4 rfl rfl)
theorem dJ1_getFirstEntry_5 : decode cJ1_getFirstEntry 5 = .ok (.aload_n 1, 1) := dk_43 (dk_at dksJ1_getFirstEntry_0 5 rfl rfl)
theorem dJ1_getFirstEntry_6 : decode cJ1_getFirstEntry 6 = .ok (.ifnull 18, 3) := dk_198 0 18 (dk_at dksJ1_getFirstEntry_0 6 rfl rfl)
theorem dJ1_getFirstEntry_9 : decode cJ1_getFirstEntry 9 = .ok (.aload_n 1, 1) := dk_43 (dk_at dksJ1_getFirstEntry_0 9 rfl rfl)
theorem dJ1_getFirstEntry_10 : decode cJ1_getFirstEntry 10 = .ok (.getfield 111, 3) := dk_180 0 111 (dk_at dksJ1_getFirstEntry_0 10 rfl rfl)
theorem dJ1_getFirstEntry_13 : decode cJ1_getFirstEntry 13 = .ok (.ifnull 11, 3) := dk_198 0 11 (dk_at dksJ1_getFirstEntry_0 13 rfl rfl)
theorem dJ1_getFirstEntry_16 : decode cJ1_getFirstEntry 16 = .ok (.aload_n 1, 1) := dk_43 (dk_at dksJ1_getFirstEntry_0 16 rfl rfl)
theorem dJ1_getFirstEntry_17 : decode cJ1_getFirstEntry 17 = .ok (.getfield 111, 3) := dk_180 0 111 (dk_at dksJ1_getFirstEntry_0 17 rfl rfl)
theorem dJ1_getFirstEntry_20 : decode cJ1_getFirstEntry 20 = .ok (.astore_n 1, 1) := dk_76 (dk_at dksJ1_getFirstEntry_0 20 rfl rfl)
theorem dJ1_getFirstEntry_21 : decode cJ1_getFirstEntry 21 = .ok (.goto (-12), 3) := dk_167 255 244 (dk_at dksJ1_getFirstEntry_0 21 rfl rfl)
theorem dJ1_getFirstEntry_24 : decode cJ1_getFirstEntry 24 = .ok (.aload_n 1, 1) := dk_43 (dk_at dksJ1_getFirstEntry_1 0 rfl rfl)
theorem dJ1_getFirstEntry_25 : decode cJ1_getFirstEntry 25 = .ok (.areturn, 1) := dk_176 (dk_at dksJ1_getFirstEntry_1 1 rfl rfl)
def dkwJ1_keyIterator_0 : List UInt8 := [187, 1, 13, 89, 42, 42, 182, 0, 54, 183, 1, 15, 176]
abbrev dktJ1_keyIterator_0 : List UInt8 := dkwJ1_keyIterator_0 ++ []
theorem dksJ1_keyIterator_0 : cJ1_keyIterator.data.toList.drop 0 = dktJ1_keyIterator_0 := by decide +kernel
theorem dJ1_keyIterator_0 : decode cJ1_keyIterator 0 = .ok (.new 269, 3) := dk_187 1 13 (dk_at dksJ1_keyIterator_0 0 rfl rfl)
theorem dJ1_keyIterator_3 : decode cJ1_keyIterator 3 = .ok (.dup, 1) := dk_89 (dk_at dksJ1_keyIterator_0 3 rfl rfl)
theorem dJ1_keyIterator_4 : decode cJ1_keyIterator 4 = .ok (.aload_n 0, 1) := dk_42 (dk_at dksJ1_keyIterator_0 4 rfl rfl)
theorem dJ1_keyIterator_5 : decode cJ1_keyIterator 5 = .ok (.aload_n 0, 1) := dk_42 (dk_at dksJ1_keyIterator_0 5 rfl rfl)
theorem dJ1_keyIterator_6 : decode cJ1_keyIterator 6 = .ok (.invokevirtual 54, 3) := dk_182 0 54 (dk_at dksJ1_keyIterator_0 6 rfl rfl)
theorem dJ1_keyIterator_9 : decode cJ1_keyIterator 9 = .ok (.invokespecial 271, 3) := dk_183 1 15 (dk_at dksJ1_keyIterator_0 9 rfl rfl)
theorem dJ1_keyIterator_12 : decode cJ1_keyIterator 12 = .ok (.areturn, 1) := dk_176 (dk_at dksJ1_keyIterator_0 12 rfl rfl)
def dkwJ1_navigableKeySet_1 : List UInt8 := [181, 0, 191, 176]
abbrev dktJ1_navigableKeySet_1 : List UInt8 := dkwJ1_navigableKeySet_1 ++ []
def dkwJ1_navigableKeySet_0 : List UInt8 := [42, 180, 0, 191, 76, 43, 198, 0, 7, 43, 167, 0, 16, 42, 187, 0, 222, 89, 42, 183, 0, 224, 90]
abbrev dktJ1_navigableKeySet_0 : List UInt8 := dkwJ1_navigableKeySet_0 ++ dktJ1_navigableKeySet_1
theorem dksJ1_navigableKeySet_0 : cJ1_navigableKeySet.data.toList.drop 0 = dktJ1_navigableKeySet_0 := by decide +kernel
theorem dksJ1_navigableKeySet_1 : cJ1_navigableKeySet.data.toList.drop 23 = dktJ1_navigableKeySet_1 := dk_seg dksJ1_navigableKeySet_0 23 rfl rfl
theorem dJ1_navigableKeySet_0 : decode cJ1_navigableKeySet 0 = .ok (.aload_n 0, 1) := dk_42 (dk_at dksJ1_navigableKeySet_0 0 rfl rfl)
theorem dJ1_navigableKeySet_1 : decode cJ1_navigableKeySet 1 = .ok (.getfield 191, 3) := dk_180 0 191 (dk_at dksJ1_navigableKeySet_0 1 rfl rfl)
theorem dJ1_navigableKeySet_4 : decode cJ1_navigableKeySet 4 = .ok (.astore_n 1, 1) := dk_76 (dk_at dksJ1_navigableKeySet_0 4 rfl rfl)
theorem dJ1_navigableKeySet_5 : decode cJ1_navigableKeySet 5 = .ok (.aload_n 1, 1) := dk_43 (dk_at dksJ1_navigableKeySet_0 5 rfl rfl)
theorem dJ1_navigableKeySet_6 : decode cJ1_navigableKeySet 6 = .ok (.ifnull 7, 3) := dk_198 0 7 (dk_at dksJ1_navigableKeySet_0 6 rfl rfl)
theorem dJ1_navigableKeySet_9 : decode cJ1_navigableKeySet 9 = .ok (.aload_n 1, 1) := dk_43 (dk_at dksJ1_navigableKeySet_0 9 rfl rfl)
theorem dJ1_navigableKeySet_10 : decode cJ1_navigableKeySet 10 = .ok (.goto 16, 3) := dk_167 0 16 (dk_at dksJ1_navigableKeySet_0 10 rfl rfl)
theorem dJ1_navigableKeySet_13 : decode cJ1_navigableKeySet 13 = .ok (.aload_n 0, 1) := dk_42 (dk_at dksJ1_navigableKeySet_0 13 rfl rfl)
theorem dJ1_navigableKeySet_14 : decode cJ1_navigableKeySet 14 = .ok (.new 222, 3) := dk_187 0 222 (dk_at dksJ1_navigableKeySet_0 14 rfl rfl)
theorem dJ1_navigableKeySet_17 : decode cJ1_navigableKeySet 17 = .ok (.dup, 1) := dk_89 (dk_at dksJ1_navigableKeySet_0 17 rfl rfl)
theorem dJ1_navigableKeySet_18 : decode cJ1_navigableKeySet 18 = .ok (.aload_n 0, 1) := dk_42 (dk_at dksJ1_navigableKeySet_0 18 rfl rfl)
theorem dJ1_navigableKeySet_19 : decode cJ1_navigableKeySet 19 = .ok (.invokespecial 224, 3) := dk_183 0 224 (dk_at dksJ1_navigableKeySet_0 19 rfl rfl)
theorem dJ1_navigableKeySet_22 : decode cJ1_navigableKeySet 22 = .ok (.dup_x1, 1) := dk_90 (dk_at dksJ1_navigableKeySet_0 22 rfl rfl)
theorem dJ1_navigableKeySet_23 : decode cJ1_navigableKeySet 23 = .ok (.putfield 191, 3) := dk_181 0 191 (dk_at dksJ1_navigableKeySet_1 0 rfl rfl)
theorem dJ1_navigableKeySet_26 : decode cJ1_navigableKeySet 26 = .ok (.areturn, 1) := dk_176 (dk_at dksJ1_navigableKeySet_1 3 rfl rfl)
def dkwJ1_buildFromSorted_1 : List UInt8 := [181, 0, 101, 177]
abbrev dktJ1_buildFromSorted_1 : List UInt8 := dkwJ1_buildFromSorted_1 ++ []
def dkwJ1_buildFromSorted_0 : List UInt8 := [42, 27, 181, 0, 7, 42, 42, 3, 3, 27, 4, 100, 27, 184, 1, 106, 44, 45, 25, 4, 182, 1, 110]
abbrev dktJ1_buildFromSorted_0 : List UInt8 := dkwJ1_buildFromSorted_0 ++ dktJ1_buildFromSorted_1
theorem dksJ1_buildFromSorted_0 : cJ1_buildFromSorted.data.toList.drop 0 = dktJ1_buildFromSorted_0 := by decide +kernel
theorem dksJ1_buildFromSorted_1 : cJ1_buildFromSorted.data.toList.drop 23 = dktJ1_buildFromSorted_1 := dk_seg dksJ1_buildFromSorted_0 23 rfl rfl
theorem dJ1_buildFromSorted_0 : decode cJ1_buildFromSorted 0 = .ok (.aload_n 0, 1) := dk_42 (dk_at dksJ1_buildFromSorted_0 0 rfl rfl)
theorem dJ1_buildFromSorted_1 : decode cJ1_buildFromSorted 1 = .ok (.iload_n 1, 1) := dk_27 (dk_at dksJ1_buildFromSorted_0 1 rfl rfl)
theorem dJ1_buildFromSorted_2 : decode cJ1_buildFromSorted 2 = .ok (.putfield 7, 3) := dk_181 0 7 (dk_at dksJ1_buildFromSorted_0 2 rfl rfl)
theorem dJ1_buildFromSorted_5 : decode cJ1_buildFromSorted 5 = .ok (.aload_n 0, 1) := dk_42 (dk_at dksJ1_buildFromSorted_0 5 rfl rfl)
theorem dJ1_buildFromSorted_6 : decode cJ1_buildFromSorted 6 = .ok (.aload_n 0, 1) := dk_42 (dk_at dksJ1_buildFromSorted_0 6 rfl rfl)
theorem dJ1_buildFromSorted_7 : decode cJ1_buildFromSorted 7 = .ok (.iconst 0, 1) := dk_3 (dk_at dksJ1_buildFromSorted_0 7 rfl rfl)
theorem dJ1_buildFromSorted_8 : decode cJ1_buildFromSorted 8 = .ok (.iconst 0, 1) := dk_3 (dk_at dksJ1_buildFromSorted_0 8 rfl rfl)
theorem dJ1_buildFromSorted_9 : decode cJ1_buildFromSorted 9 = .ok (.iload_n 1, 1) := dk_27 (dk_at dksJ1_buildFromSorted_0 9 rfl rfl)
theorem dJ1_buildFromSorted_10 : decode cJ1_buildFromSorted 10 = .ok (.iconst 1, 1) := dk_4 (dk_at dksJ1_buildFromSorted_0 10 rfl rfl)
theorem dJ1_buildFromSorted_11 : decode cJ1_buildFromSorted 11 = .ok (.isub, 1) := dk_100 (dk_at dksJ1_buildFromSorted_0 11 rfl rfl)
theorem dJ1_buildFromSorted_12 : decode cJ1_buildFromSorted 12 = .ok (.iload_n 1, 1) := dk_27 (dk_at dksJ1_buildFromSorted_0 12 rfl rfl)
theorem dJ1_buildFromSorted_13 : decode cJ1_buildFromSorted 13 = .ok (.invokestatic 362, 3) := dk_184 1 106 (dk_at dksJ1_buildFromSorted_0 13 rfl rfl)
theorem dJ1_buildFromSorted_16 : decode cJ1_buildFromSorted 16 = .ok (.aload_n 2, 1) := dk_44 (dk_at dksJ1_buildFromSorted_0 16 rfl rfl)
theorem dJ1_buildFromSorted_17 : decode cJ1_buildFromSorted 17 = .ok (.aload_n 3, 1) := dk_45 (dk_at dksJ1_buildFromSorted_0 17 rfl rfl)
theorem dJ1_buildFromSorted_18 : decode cJ1_buildFromSorted 18 = .ok (.aload 4, 2) := dk_25 4 (dk_at dksJ1_buildFromSorted_0 18 rfl rfl)
theorem dJ1_buildFromSorted_20 : decode cJ1_buildFromSorted 20 = .ok (.invokevirtual 366, 3) := dk_182 1 110 (dk_at dksJ1_buildFromSorted_0 20 rfl rfl)
theorem dJ1_buildFromSorted_23 : decode cJ1_buildFromSorted 23 = .ok (.putfield 101, 3) := dk_181 0 101 (dk_at dksJ1_buildFromSorted_1 0 rfl rfl)
theorem dJ1_buildFromSorted_26 : decode cJ1_buildFromSorted 26 = .ok (.return_, 1) := dk_177 (dk_at dksJ1_buildFromSorted_1 3 rfl rfl)
def dkwJ1_computeRedLevel_0 : List UInt8 := [16, 31, 26, 4, 96, 184, 1, 116, 100, 172]
abbrev dktJ1_computeRedLevel_0 : List UInt8 := dkwJ1_computeRedLevel_0 ++ []
theorem dksJ1_computeRedLevel_0 : cJ1_computeRedLevel.data.toList.drop 0 = dktJ1_computeRedLevel_0 := by decide +kernel
theorem dJ1_computeRedLevel_0 : decode cJ1_computeRedLevel 0 = .ok (.bipush 31, 2) := dk_16 31 (dk_at dksJ1_computeRedLevel_0 0 rfl rfl)
theorem dJ1_computeRedLevel_2 : decode cJ1_computeRedLevel 2 = .ok (.iload_n 0, 1) := dk_26 (dk_at dksJ1_computeRedLevel_0 2 rfl rfl)
theorem dJ1_computeRedLevel_3 : decode cJ1_computeRedLevel 3 = .ok (.iconst 1, 1) := dk_4 (dk_at dksJ1_computeRedLevel_0 3 rfl rfl)
theorem dJ1_computeRedLevel_4 : decode cJ1_computeRedLevel 4 = .ok (.iadd, 1) := dk_96 (dk_at dksJ1_computeRedLevel_0 4 rfl rfl)
theorem dJ1_computeRedLevel_5 : decode cJ1_computeRedLevel 5 = .ok (.invokestatic 372, 3) := dk_184 1 116 (dk_at dksJ1_computeRedLevel_0 5 rfl rfl)
theorem dJ1_computeRedLevel_8 : decode cJ1_computeRedLevel 8 = .ok (.isub, 1) := dk_100 (dk_at dksJ1_computeRedLevel_0 8 rfl rfl)
theorem dJ1_computeRedLevel_9 : decode cJ1_computeRedLevel 9 = .ok (.ireturn, 1) := dk_172 (dk_at dksJ1_computeRedLevel_0 9 rfl rfl)
def dkwJ1_buildFromSorted_2_9 : List UInt8 := [25, 13, 25, 12, 181, 0, 124, 25, 12, 176]
abbrev dktJ1_buildFromSorted_2_9 : List UInt8 := dkwJ1_buildFromSorted_2_9 ++ []
def dkwJ1_buildFromSorted_2_8 : List UInt8 := [4, 96, 29, 21, 4, 25, 5, 25, 6, 25, 7, 182, 1, 110, 58, 13, 25, 12, 25, 13, 181, 0, 114]
abbrev dktJ1_buildFromSorted_2_8 : List UInt8 := dkwJ1_buildFromSorted_2_8 ++ dktJ1_buildFromSorted_2_9
def dkwJ1_buildFromSorted_2_7 : List UInt8 := [25, 9, 181, 0, 111, 25, 9, 25, 12, 181, 0, 124, 21, 8, 29, 162, 0, 39, 42, 27, 4, 96, 21, 8]
abbrev dktJ1_buildFromSorted_2_7 : List UInt8 := dkwJ1_buildFromSorted_2_7 ++ dktJ1_buildFromSorted_2_8
def dkwJ1_buildFromSorted_2_6 : List UInt8 := [183, 0, 167, 58, 12, 27, 21, 4, 160, 0, 9, 25, 12, 3, 181, 1, 34, 25, 9, 198, 0, 17, 25, 12]
abbrev dktJ1_buildFromSorted_2_6 : List UInt8 := dkwJ1_buildFromSorted_2_6 ++ dktJ1_buildFromSorted_2_7
def dkwJ1_buildFromSorted_2_5 : List UInt8 := [198, 0, 8, 25, 7, 167, 0, 8, 25, 6, 182, 1, 113, 58, 11, 187, 0, 59, 89, 25, 10, 25, 11, 1]
abbrev dktJ1_buildFromSorted_2_5 : List UInt8 := dkwJ1_buildFromSorted_2_5 ++ dktJ1_buildFromSorted_2_6
def dkwJ1_buildFromSorted_2_4 : List UInt8 := [185, 1, 79, 1, 0, 58, 10, 25, 7, 58, 11, 167, 0, 27, 25, 6, 182, 1, 113, 58, 10, 25, 7]
abbrev dktJ1_buildFromSorted_2_4 : List UInt8 := dkwJ1_buildFromSorted_2_4 ++ dktJ1_buildFromSorted_2_5
def dkwJ1_buildFromSorted_2_3 : List UInt8 := [185, 1, 84, 1, 0, 58, 10, 25, 12, 185, 1, 91, 1, 0, 58, 11, 167, 0, 43, 25, 5]
abbrev dktJ1_buildFromSorted_2_3 : List UInt8 := dkwJ1_buildFromSorted_2_3 ++ dktJ1_buildFromSorted_2_4
def dkwJ1_buildFromSorted_2_2 : List UInt8 := [198, 0, 57, 25, 7, 199, 0, 36, 25, 5, 185, 1, 79, 1, 0, 192, 1, 82, 58, 12, 25, 12]
abbrev dktJ1_buildFromSorted_2_2 : List UInt8 := dkwJ1_buildFromSorted_2_2 ++ dktJ1_buildFromSorted_2_3
def dkwJ1_buildFromSorted_2_1 : List UInt8 := [27, 4, 96, 28, 21, 8, 4, 100, 21, 4, 25, 5, 25, 6, 25, 7, 182, 1, 110, 58, 9, 25, 5]
abbrev dktJ1_buildFromSorted_2_1 : List UInt8 := dkwJ1_buildFromSorted_2_1 ++ dktJ1_buildFromSorted_2_2
def dkwJ1_buildFromSorted_2_0 : List UInt8 := [29, 28, 162, 0, 5, 1, 176, 28, 29, 96, 4, 124, 54, 8, 1, 58, 9, 28, 21, 8, 162, 0, 25, 42]
abbrev dktJ1_buildFromSorted_2_0 : List UInt8 := dkwJ1_buildFromSorted_2_0 ++ dktJ1_buildFromSorted_2_1
theorem dksJ1_buildFromSorted_2_0 : cJ1_buildFromSorted_2.data.toList.drop 0 = dktJ1_buildFromSorted_2_0 := by decide +kernel
theorem dksJ1_buildFromSorted_2_1 : cJ1_buildFromSorted_2.data.toList.drop 24 = dktJ1_buildFromSorted_2_1 := dk_seg dksJ1_buildFromSorted_2_0 24 rfl rfl
theorem dksJ1_buildFromSorted_2_2 : cJ1_buildFromSorted_2.data.toList.drop 47 = dktJ1_buildFromSorted_2_2 := dk_seg dksJ1_buildFromSorted_2_1 23 rfl rfl
theorem dksJ1_buildFromSorted_2_3 : cJ1_buildFromSorted_2.data.toList.drop 69 = dktJ1_buildFromSorted_2_3 := dk_seg dksJ1_buildFromSorted_2_2 22 rfl rfl
theorem dksJ1_buildFromSorted_2_4 : cJ1_buildFromSorted_2.data.toList.drop 90 = dktJ1_buildFromSorted_2_4 := dk_seg dksJ1_buildFromSorted_2_3 21 rfl rfl
theorem dksJ1_buildFromSorted_2_5 : cJ1_buildFromSorted_2.data.toList.drop 113 = dktJ1_buildFromSorted_2_5 := dk_seg dksJ1_buildFromSorted_2_4 23 rfl rfl
theorem dksJ1_buildFromSorted_2_6 : cJ1_buildFromSorted_2.data.toList.drop 137 = dktJ1_buildFromSorted_2_6 := dk_seg dksJ1_buildFromSorted_2_5 24 rfl rfl
theorem dksJ1_buildFromSorted_2_7 : cJ1_buildFromSorted_2.data.toList.drop 161 = dktJ1_buildFromSorted_2_7 := dk_seg dksJ1_buildFromSorted_2_6 24 rfl rfl
theorem dksJ1_buildFromSorted_2_8 : cJ1_buildFromSorted_2.data.toList.drop 185 = dktJ1_buildFromSorted_2_8 := dk_seg dksJ1_buildFromSorted_2_7 24 rfl rfl
theorem dksJ1_buildFromSorted_2_9 : cJ1_buildFromSorted_2.data.toList.drop 208 = dktJ1_buildFromSorted_2_9 := dk_seg dksJ1_buildFromSorted_2_8 23 rfl rfl
theorem dJ1_buildFromSorted_2_0 : decode cJ1_buildFromSorted_2 0 = .ok (.iload_n 3, 1) := dk_29 (dk_at dksJ1_buildFromSorted_2_0 0 rfl rfl)
theorem dJ1_buildFromSorted_2_1 : decode cJ1_buildFromSorted_2 1 = .ok (.iload_n 2, 1) := dk_28 (dk_at dksJ1_buildFromSorted_2_0 1 rfl rfl)
theorem dJ1_buildFromSorted_2_2 : decode cJ1_buildFromSorted_2 2 = .ok (.if_icmp .ge 5, 3) := dk_162 0 5 (dk_at dksJ1_buildFromSorted_2_0 2 rfl rfl)
theorem dJ1_buildFromSorted_2_5 : decode cJ1_buildFromSorted_2 5 = .ok (.aconst_null, 1) := dk_1 (dk_at dksJ1_buildFromSorted_2_0 5 rfl rfl)
theorem dJ1_buildFromSorted_2_6 : decode cJ1_buildFromSorted_2 6 = .ok (.areturn, 1) := dk_176 (dk_at dksJ1_buildFromSorted_2_0 6 rfl rfl)
theorem dJ1_buildFromSorted_2_7 : decode cJ1_buildFromSorted_2 7 = .ok (.iload_n 2, 1) := dk_28 (dk_at dksJ1_buildFromSorted_2_0 7 rfl rfl)
theorem dJ1_buildFromSorted_2_8 : decode cJ1_buildFromSorted_2 8 = .ok (.iload_n 3, 1) := dk_29 (dk_at dksJ1_buildFromSorted_2_0 8 rfl rfl)
theorem dJ1_buildFromSorted_2_9 : decode cJ1_buildFromSorted_2 9 = .ok (.iadd, 1) := dk_96 (dk_at dksJ1_buildFromSorted_2_0 9 rfl rfl)
theorem dJ1_buildFromSorted_2_10 : decode cJ1_buildFromSorted_2 10 = .ok (.iconst 1, 1) := dk_4 (dk_at dksJ1_buildFromSorted_2_0 10 rfl rfl)
theorem dJ1_buildFromSorted_2_11 : decode cJ1_buildFromSorted_2 11 = .ok (.iushr, 1) := dk_124 (dk_at dksJ1_buildFromSorted_2_0 11 rfl rfl)
theorem dJ1_buildFromSorted_2_12 : decode cJ1_buildFromSorted_2 12 = .ok (.istore 8, 2) := dk_54 8 (dk_at dksJ1_buildFromSorted_2_0 12 rfl rfl)
theorem dJ1_buildFromSorted_2_14 : decode cJ1_buildFromSorted_2 14 = .ok (.aconst_null, 1) := dk_1 (dk_at dksJ1_buildFromSorted_2_0 14 rfl rfl)
theorem dJ1_buildFromSorted_2_15 : decode cJ1_buildFromSorted_2 15 = .ok (.astore 9, 2) := dk_58 9 (dk_at dksJ1_buildFromSorted_2_0 15 rfl rfl)
theorem dJ1_buildFromSorted_2_17 : decode cJ1_buildFromSorted_2 17 = .ok (.iload_n 2, 1) := dk_28 (dk_at dksJ1_buildFromSorted_2_0 17 rfl rfl)
theorem dJ1_buildFromSorted_2_18 : decode cJ1_buildFromSorted_2 18 = .ok (.iload 8, 2) := dk_21 8 (dk_at dksJ1_buildFromSorted_2_0 18 rfl rfl)
theorem dJ1_buildFromSorted_2_20 : decode cJ1_buildFromSorted_2 20 = .ok (.if_icmp .ge 25, 3) := dk_162 0 25 (dk_at dksJ1_buildFromSorted_2_0 20 rfl rfl)
theorem dJ1_buildFromSorted_2_23 : decode cJ1_buildFromSorted_2 23 = .ok (.aload_n 0, 1) := dk_42 (dk_at dksJ1_buildFromSorted_2_0 23 rfl rfl)
theorem dJ1_buildFromSorted_2_24 : decode cJ1_buildFromSorted_2 24 = .ok (.iload_n 1, 1) := dk_27 (dk_at dksJ1_buildFromSorted_2_1 0 rfl rfl)
theorem dJ1_buildFromSorted_2_25 : decode cJ1_buildFromSorted_2 25 = .ok (.iconst 1, 1) := dk_4 (dk_at dksJ1_buildFromSorted_2_1 1 rfl rfl)
theorem dJ1_buildFromSorted_2_26 : decode cJ1_buildFromSorted_2 26 = .ok (.iadd, 1) := dk_96 (dk_at dksJ1_buildFromSorted_2_1 2 rfl rfl)
theorem dJ1_buildFromSorted_2_27 : decode cJ1_buildFromSorted_2 27 = .ok (.iload_n 2, 1) := dk_28 (dk_at dksJ1_buildFromSorted_2_1 3 rfl rfl)
theorem dJ1_buildFromSorted_2_28 : decode cJ1_buildFromSorted_2 28 = .ok (.iload 8, 2) := dk_21 8 (dk_at dksJ1_buildFromSorted_2_1 4 rfl rfl)
theorem dJ1_buildFromSorted_2_30 : decode cJ1_buildFromSorted_2 30 = .ok (.iconst 1, 1) := dk_4 (dk_at dksJ1_buildFromSorted_2_1 6 rfl rfl)
theorem dJ1_buildFromSorted_2_31 : decode cJ1_buildFromSorted_2 31 = .ok (.isub, 1) := dk_100 (dk_at dksJ1_buildFromSorted_2_1 7 rfl rfl)
theorem dJ1_buildFromSorted_2_32 : decode cJ1_buildFromSorted_2 32 = .ok (.iload 4, 2) := dk_21 4 (dk_at dksJ1_buildFromSorted_2_1 8 rfl rfl)
theorem dJ1_buildFromSorted_2_34 : decode cJ1_buildFromSorted_2 34 = .ok (.aload 5, 2) := dk_25 5 (dk_at dksJ1_buildFromSorted_2_1 10 rfl rfl)
theorem dJ1_buildFromSorted_2_36 : decode cJ1_buildFromSorted_2 36 = .ok (.aload 6, 2) := dk_25 6 (dk_at dksJ1_buildFromSorted_2_1 12 rfl rfl)
theorem dJ1_buildFromSorted_2_38 : decode cJ1_buildFromSorted_2 38 = .ok (.aload 7, 2) := dk_25 7 (dk_at dksJ1_buildFromSorted_2_1 14 rfl rfl)
theorem dJ1_buildFromSorted_2_40 : decode cJ1_buildFromSorted_2 40 = .ok (.invokevirtual 366, 3) := dk_182 1 110 (dk_at dksJ1_buildFromSorted_2_1 16 rfl rfl)
theorem dJ1_buildFromSorted_2_43 : decode cJ1_buildFromSorted_2 43 = .ok (.astore 9, 2) := dk_58 9 (dk_at dksJ1_buildFromSorted_2_1 19 rfl rfl)
theorem dJ1_buildFromSorted_2_45 : decode cJ1_buildFromSorted_2 45 = .ok (.aload 5, 2) := dk_25 5 (dk_at dksJ1_buildFromSorted_2_1 21 rfl rfl)
theorem dJ1_buildFromSorted_2_47 : decode cJ1_buildFromSorted_2 47 = .ok (.ifnull 57, 3) := dk_198 0 57 (dk_at dksJ1_buildFromSorted_2_2 0 rfl rfl)
theorem dJ1_buildFromSorted_2_50 : decode cJ1_buildFromSorted_2 50 = .ok (.aload 7, 2) := dk_25 7 (dk_at dksJ1_buildFromSorted_2_2 3 rfl rfl)
theorem dJ1_buildFromSorted_2_52 : decode cJ1_buildFromSorted_2 52 = .ok (.ifnonnull 36, 3) := dk_199 0 36 (dk_at dksJ1_buildFromSorted_2_2 5 rfl rfl)
theorem dJ1_buildFromSorted_2_55 : decode cJ1_buildFromSorted_2 55 = .ok (.aload 5, 2) := dk_25 5 (dk_at dksJ1_buildFromSorted_2_2 8 rfl rfl)
theorem dJ1_buildFromSorted_2_57 : decode cJ1_buildFromSorted_2 57 = .ok (.invokeinterface 335 1, 5) := by decide +kernel
theorem dJ1_buildFromSorted_2_62 : decode cJ1_buildFromSorted_2 62 = .ok (.checkcast 338, 3) := dk_192 1 82 (dk_at dksJ1_buildFromSorted_2_2 15 rfl rfl)
theorem dJ1_buildFromSorted_2_65 : decode cJ1_buildFromSorted_2 65 = .ok (.astore 12, 2) := dk_58 12 (dk_at dksJ1_buildFromSorted_2_2 18 rfl rfl)
theorem dJ1_buildFromSorted_2_67 : decode cJ1_buildFromSorted_2 67 = .ok (.aload 12, 2) := dk_25 12 (dk_at dksJ1_buildFromSorted_2_2 20 rfl rfl)
theorem dJ1_buildFromSorted_2_69 : decode cJ1_buildFromSorted_2 69 = .ok (.invokeinterface 340 1, 5) := by decide +kernel
theorem dJ1_buildFromSorted_2_74 : decode cJ1_buildFromSorted_2 74 = .ok (.astore 10, 2) := dk_58 10 (dk_at dksJ1_buildFromSorted_2_3 5 rfl rfl)
theorem dJ1_buildFromSorted_2_76 : decode cJ1_buildFromSorted_2 76 = .ok (.aload 12, 2) := dk_25 12 (dk_at dksJ1_buildFromSorted_2_3 7 rfl rfl)
theorem dJ1_buildFromSorted_2_78 : decode cJ1_buildFromSorted_2 78 = .ok (.invokeinterface 347 1, 5) := by decide +kernel
theorem dJ1_buildFromSorted_2_83 : decode cJ1_buildFromSorted_2 83 = .ok (.astore 11, 2) := dk_58 11 (dk_at dksJ1_buildFromSorted_2_3 14 rfl rfl)
theorem dJ1_buildFromSorted_2_85 : decode cJ1_buildFromSorted_2 85 = .ok (.goto 43, 3) := dk_167 0 43 (dk_at dksJ1_buildFromSorted_2_3 16 rfl rfl)
theorem dJ1_buildFromSorted_2_88 : decode cJ1_buildFromSorted_2 88 = .ok (.aload 5, 2) := dk_25 5 (dk_at dksJ1_buildFromSorted_2_3 19 rfl rfl)
theorem dJ1_buildFromSorted_2_90 : decode cJ1_buildFromSorted_2 90 = .ok (.invokeinterface 335 1, 5) := by decide +kernel
theorem dJ1_buildFromSorted_2_95 : decode cJ1_buildFromSorted_2 95 = .ok (.astore 10, 2) := dk_58 10 (dk_at dksJ1_buildFromSorted_2_4 5 rfl rfl)
theorem dJ1_buildFromSorted_2_97 : decode cJ1_buildFromSorted_2 97 = .ok (.aload 7, 2) := dk_25 7 (dk_at dksJ1_buildFromSorted_2_4 7 rfl rfl)
theorem dJ1_buildFromSorted_2_99 : decode cJ1_buildFromSorted_2 99 = .ok (.astore 11, 2) := dk_58 11 (dk_at dksJ1_buildFromSorted_2_4 9 rfl rfl)
theorem dJ1_buildFromSorted_2_101 : decode cJ1_buildFromSorted_2 101 = .ok (.goto 27, 3) := dk_167 0 27 (dk_at dksJ1_buildFromSorted_2_4 11 rfl rfl)
theorem dJ1_buildFromSorted_2_104 : decode cJ1_buildFromSorted_2 104 = .ok (.aload 6, 2) := dk_25 6 (dk_at dksJ1_buildFromSorted_2_4 14 rfl rfl)
theorem dJ1_buildFromSorted_2_106 : decode cJ1_buildFromSorted_2 106 = .ok (.invokevirtual 369, 3) := dk_182 1 113 (dk_at dksJ1_buildFromSorted_2_4 16 rfl rfl)
theorem dJ1_buildFromSorted_2_109 : decode cJ1_buildFromSorted_2 109 = .ok (.astore 10, 2) := dk_58 10 (dk_at dksJ1_buildFromSorted_2_4 19 rfl rfl)
theorem dJ1_buildFromSorted_2_111 : decode cJ1_buildFromSorted_2 111 = .ok (.aload 7, 2) := dk_25 7 (dk_at dksJ1_buildFromSorted_2_4 21 rfl rfl)
theorem dJ1_buildFromSorted_2_113 : decode cJ1_buildFromSorted_2 113 = .ok (.ifnull 8, 3) := dk_198 0 8 (dk_at dksJ1_buildFromSorted_2_5 0 rfl rfl)
theorem dJ1_buildFromSorted_2_116 : decode cJ1_buildFromSorted_2 116 = .ok (.aload 7, 2) := dk_25 7 (dk_at dksJ1_buildFromSorted_2_5 3 rfl rfl)
theorem dJ1_buildFromSorted_2_118 : decode cJ1_buildFromSorted_2 118 = .ok (.goto 8, 3) := dk_167 0 8 (dk_at dksJ1_buildFromSorted_2_5 5 rfl rfl)
theorem dJ1_buildFromSorted_2_121 : decode cJ1_buildFromSorted_2 121 = .ok (.aload 6, 2) := dk_25 6 (dk_at dksJ1_buildFromSorted_2_5 8 rfl rfl)
theorem dJ1_buildFromSorted_2_123 : decode cJ1_buildFromSorted_2 123 = .ok (.invokevirtual 369, 3) := dk_182 1 113 (dk_at dksJ1_buildFromSorted_2_5 10 rfl rfl)
theorem dJ1_buildFromSorted_2_126 : decode cJ1_buildFromSorted_2 126 = .ok (.astore 11, 2) := dk_58 11 (dk_at dksJ1_buildFromSorted_2_5 13 rfl rfl)
theorem dJ1_buildFromSorted_2_128 : decode cJ1_buildFromSorted_2 128 = .ok (.new 59, 3) := dk_187 0 59 (dk_at dksJ1_buildFromSorted_2_5 15 rfl rfl)
theorem dJ1_buildFromSorted_2_131 : decode cJ1_buildFromSorted_2 131 = .ok (.dup, 1) := dk_89 (dk_at dksJ1_buildFromSorted_2_5 18 rfl rfl)
theorem dJ1_buildFromSorted_2_132 : decode cJ1_buildFromSorted_2 132 = .ok (.aload 10, 2) := dk_25 10 (dk_at dksJ1_buildFromSorted_2_5 19 rfl rfl)
theorem dJ1_buildFromSorted_2_134 : decode cJ1_buildFromSorted_2 134 = .ok (.aload 11, 2) := dk_25 11 (dk_at dksJ1_buildFromSorted_2_5 21 rfl rfl)
theorem dJ1_buildFromSorted_2_136 : decode cJ1_buildFromSorted_2 136 = .ok (.aconst_null, 1) := dk_1 (dk_at dksJ1_buildFromSorted_2_5 23 rfl rfl)
theorem dJ1_buildFromSorted_2_137 : decode cJ1_buildFromSorted_2 137 = .ok (.invokespecial 167, 3) := dk_183 0 167 (dk_at dksJ1_buildFromSorted_2_6 0 rfl rfl)
theorem dJ1_buildFromSorted_2_140 : decode cJ1_buildFromSorted_2 140 = .ok (.astore 12, 2) := dk_58 12 (dk_at dksJ1_buildFromSorted_2_6 3 rfl rfl)
theorem dJ1_buildFromSorted_2_142 : decode cJ1_buildFromSorted_2 142 = .ok (.iload_n 1, 1) := dk_27 (dk_at dksJ1_buildFromSorted_2_6 5 rfl rfl)
theorem dJ1_buildFromSorted_2_143 : decode cJ1_buildFromSorted_2 143 = .ok (.iload 4, 2) := dk_21 4 (dk_at dksJ1_buildFromSorted_2_6 6 rfl rfl)
theorem dJ1_buildFromSorted_2_145 : decode cJ1_buildFromSorted_2 145 = .ok (.if_icmp .ne 9, 3) := dk_160 0 9 (dk_at dksJ1_buildFromSorted_2_6 8 rfl rfl)
theorem dJ1_buildFromSorted_2_148 : decode cJ1_buildFromSorted_2 148 = .ok (.aload 12, 2) := dk_25 12 (dk_at dksJ1_buildFromSorted_2_6 11 rfl rfl)
theorem dJ1_buildFromSorted_2_150 : decode cJ1_buildFromSorted_2 150 = .ok (.iconst 0, 1) := dk_3 (dk_at dksJ1_buildFromSorted_2_6 13 rfl rfl)
theorem dJ1_buildFromSorted_2_151 : decode cJ1_buildFromSorted_2 151 = .ok (.putfield 290, 3) := dk_181 1 34 (dk_at dksJ1_buildFromSorted_2_6 14 rfl rfl)
theorem dJ1_buildFromSorted_2_154 : decode cJ1_buildFromSorted_2 154 = .ok (.aload 9, 2) := dk_25 9 (dk_at dksJ1_buildFromSorted_2_6 17 rfl rfl)
theorem dJ1_buildFromSorted_2_156 : decode cJ1_buildFromSorted_2 156 = .ok (.ifnull 17, 3) := dk_198 0 17 (dk_at dksJ1_buildFromSorted_2_6 19 rfl rfl)
theorem dJ1_buildFromSorted_2_159 : decode cJ1_buildFromSorted_2 159 = .ok (.aload 12, 2) := dk_25 12 (dk_at dksJ1_buildFromSorted_2_6 22 rfl rfl)
theorem dJ1_buildFromSorted_2_161 : decode cJ1_buildFromSorted_2 161 = .ok (.aload 9, 2) := dk_25 9 (dk_at dksJ1_buildFromSorted_2_7 0 rfl rfl)
theorem dJ1_buildFromSorted_2_163 : decode cJ1_buildFromSorted_2 163 = .ok (.putfield 111, 3) := dk_181 0 111 (dk_at dksJ1_buildFromSorted_2_7 2 rfl rfl)
theorem dJ1_buildFromSorted_2_166 : decode cJ1_buildFromSorted_2 166 = .ok (.aload 9, 2) := dk_25 9 (dk_at dksJ1_buildFromSorted_2_7 5 rfl rfl)
theorem dJ1_buildFromSorted_2_168 : decode cJ1_buildFromSorted_2 168 = .ok (.aload 12, 2) := dk_25 12 (dk_at dksJ1_buildFromSorted_2_7 7 rfl rfl)
theorem dJ1_buildFromSorted_2_170 : decode cJ1_buildFromSorted_2 170 = .ok (.putfield 124, 3) := dk_181 0 124 (dk_at dksJ1_buildFromSorted_2_7 9 rfl rfl)
theorem dJ1_buildFromSorted_2_173 : decode cJ1_buildFromSorted_2 173 = .ok (.iload 8, 2) := dk_21 8 (dk_at dksJ1_buildFromSorted_2_7 12 rfl rfl)
theorem dJ1_buildFromSorted_2_175 : decode cJ1_buildFromSorted_2 175 = .ok (.iload_n 3, 1) := dk_29 (dk_at dksJ1_buildFromSorted_2_7 14 rfl rfl)
theorem dJ1_buildFromSorted_2_176 : decode cJ1_buildFromSorted_2 176 = .ok (.if_icmp .ge 39, 3) := dk_162 0 39 (dk_at dksJ1_buildFromSorted_2_7 15 rfl rfl)
theorem dJ1_buildFromSorted_2_179 : decode cJ1_buildFromSorted_2 179 = .ok (.aload_n 0, 1) := dk_42 (dk_at dksJ1_buildFromSorted_2_7 18 rfl rfl)
theorem dJ1_buildFromSorted_2_180 : decode cJ1_buildFromSorted_2 180 = .ok (.iload_n 1, 1) := dk_27 (dk_at dksJ1_buildFromSorted_2_7 19 rfl rfl)
theorem dJ1_buildFromSorted_2_181 : decode cJ1_buildFromSorted_2 181 = .ok (.iconst 1, 1) := dk_4 (dk_at dksJ1_buildFromSorted_2_7 20 rfl rfl)
theorem dJ1_buildFromSorted_2_182 : decode cJ1_buildFromSorted_2 182 = .ok (.iadd, 1) := dk_96 (dk_at dksJ1_buildFromSorted_2_7 21 rfl rfl)
theorem dJ1_buildFromSorted_2_183 : decode cJ1_buildFromSorted_2 183 = .ok (.iload 8, 2) := dk_21 8 (dk_at dksJ1_buildFromSorted_2_7 22 rfl rfl)
theorem dJ1_buildFromSorted_2_185 : decode cJ1_buildFromSorted_2 185 = .ok (.iconst 1, 1) := dk_4 (dk_at dksJ1_buildFromSorted_2_8 0 rfl rfl)
theorem dJ1_buildFromSorted_2_186 : decode cJ1_buildFromSorted_2 186 = .ok (.iadd, 1) := dk_96 (dk_at dksJ1_buildFromSorted_2_8 1 rfl rfl)
theorem dJ1_buildFromSorted_2_187 : decode cJ1_buildFromSorted_2 187 = .ok (.iload_n 3, 1) := dk_29 (dk_at dksJ1_buildFromSorted_2_8 2 rfl rfl)
theorem dJ1_buildFromSorted_2_188 : decode cJ1_buildFromSorted_2 188 = .ok (.iload 4, 2) := dk_21 4 (dk_at dksJ1_buildFromSorted_2_8 3 rfl rfl)
theorem dJ1_buildFromSorted_2_190 : decode cJ1_buildFromSorted_2 190 = .ok (.aload 5, 2) := dk_25 5 (dk_at dksJ1_buildFromSorted_2_8 5 rfl rfl)
theorem dJ1_buildFromSorted_2_192 : decode cJ1_buildFromSorted_2 192 = .ok (.aload 6, 2) := dk_25 6 (dk_at dksJ1_buildFromSorted_2_8 7 rfl rfl)
theorem dJ1_buildFromSorted_2_194 : decode cJ1_buildFromSorted_2 194 = .ok (.aload 7, 2) := dk_25 7 (dk_at dksJ1_buildFromSorted_2_8 9 rfl rfl)
theorem dJ1_buildFromSorted_2_196 : decode cJ1_buildFromSorted_2 196 = .ok (.invokevirtual 366, 3) := dk_182 1 110 (dk_at dksJ1_buildFromSorted_2_8 11 rfl rfl)
theorem dJ1_buildFromSorted_2_199 : decode cJ1_buildFromSorted_2 199 = .ok (.astore 13, 2) := dk_58 13 (dk_at dksJ1_buildFromSorted_2_8 14 rfl rfl)
theorem dJ1_buildFromSorted_2_201 : decode cJ1_buildFromSorted_2 201 = .ok (.aload 12, 2) := dk_25 12 (dk_at dksJ1_buildFromSorted_2_8 16 rfl rfl)
theorem dJ1_buildFromSorted_2_203 : decode cJ1_buildFromSorted_2 203 = .ok (.aload 13, 2) := dk_25 13 (dk_at dksJ1_buildFromSorted_2_8 18 rfl rfl)
theorem dJ1_buildFromSorted_2_205 : decode cJ1_buildFromSorted_2 205 = .ok (.putfield 114, 3) := dk_181 0 114 (dk_at dksJ1_buildFromSorted_2_8 20 rfl rfl)
theorem dJ1_buildFromSorted_2_208 : decode cJ1_buildFromSorted_2 208 = .ok (.aload 13, 2) := dk_25 13 (dk_at dksJ1_buildFromSorted_2_9 0 rfl rfl)
theorem dJ1_buildFromSorted_2_210 : decode cJ1_buildFromSorted_2 210 = .ok (.aload 12, 2) := dk_25 12 (dk_at dksJ1_buildFromSorted_2_9 2 rfl rfl)
theorem dJ1_buildFromSorted_2_212 : decode cJ1_buildFromSorted_2 212 = .ok (.putfield 124, 3) := dk_181 0 124 (dk_at dksJ1_buildFromSorted_2_9 4 rfl rfl)
theorem dJ1_buildFromSorted_2_215 : decode cJ1_buildFromSorted_2 215 = .ok (.aload 12, 2) := dk_25 12 (dk_at dksJ1_buildFromSorted_2_9 7 rfl rfl)
theorem dJ1_buildFromSorted_2_217 : decode cJ1_buildFromSorted_2 217 = .ok (.areturn, 1) := dk_176 (dk_at dksJ1_buildFromSorted_2_9 9 rfl rfl)
def dkwJ1_successor_2 : List UInt8 := [44, 43, 180, 0, 114, 166, 0, 13, 43, 77, 43, 180, 0, 124, 76, 167, 255, 237, 43, 176]
abbrev dktJ1_successor_2 : List UInt8 := dkwJ1_successor_2 ++ []
def dkwJ1_successor_1 : List UInt8 := [198, 0, 11, 43, 180, 0, 111, 76, 167, 255, 244, 43, 176, 42, 180, 0, 124, 76, 42, 77, 43, 198, 0, 21]
abbrev dktJ1_successor_1 : List UInt8 := dkwJ1_successor_1 ++ dktJ1_successor_2
def dkwJ1_successor_0 : List UInt8 := [42, 199, 0, 5, 1, 176, 42, 180, 0, 114, 198, 0, 25, 42, 180, 0, 114, 76, 43, 180, 0, 111]
abbrev dktJ1_successor_0 : List UInt8 := dkwJ1_successor_0 ++ dktJ1_successor_1
theorem dksJ1_successor_0 : cJ1_successor.data.toList.drop 0 = dktJ1_successor_0 := by decide +kernel
theorem dksJ1_successor_1 : cJ1_successor.data.toList.drop 22 = dktJ1_successor_1 := dk_seg dksJ1_successor_0 22 rfl rfl
theorem dksJ1_successor_2 : cJ1_successor.data.toList.drop 46 = dktJ1_successor_2 := dk_seg dksJ1_successor_1 24 rfl rfl
theorem dJ1_successor_0 : decode cJ1_successor 0 = .ok (.aload_n 0, 1) := dk_42 (dk_at dksJ1_successor_0 0 rfl rfl)
theorem dJ1_successor_1 : decode cJ1_successor 1 = .ok (.ifnonnull 5, 3) := dk_199 0 5 (dk_at dksJ1_successor_0 1 rfl rfl)
theorem dJ1_successor_4 : decode cJ1_successor 4 = .ok (.aconst_null, 1) := dk_1 (dk_at dksJ1_successor_0 4 rfl rfl)
theorem dJ1_successor_5 : decode cJ1_successor 5 = .ok (.areturn, 1) := dk_176 (dk_at dksJ1_successor_0 5 rfl rfl)
theorem dJ1_successor_6 : decode cJ1_successor 6 = .ok (.aload_n 0, 1) := dk_42 (dk_at dksJ1_successor_0 6 rfl rfl)
theorem dJ1_successor_7 : decode cJ1_successor 7 = .ok (.getfield 114, 3) := dk_180 0 114 (dk_at dksJ1_successor_0 7 rfl rfl)
theorem dJ1_successor_10 : decode cJ1_successor 10 = .ok (.ifnull 25, 3) := dk_198 0 25 (dk_at dksJ1_successor_0 10 rfl rfl)
theorem dJ1_successor_13 : decode cJ1_successor 13 = .ok (.aload_n 0, 1) := dk_42 (dk_at dksJ1_successor_0 13 rfl rfl)
theorem dJ1_successor_14 : decode cJ1_successor 14 = .ok (.getfield 114, 3) := dk_180 0 114 (dk_at dksJ1_successor_0 14 rfl rfl)
theorem dJ1_successor_17 : decode cJ1_successor 17 = .ok (.astore_n 1, 1) := dk_76 (dk_at dksJ1_successor_0 17 rfl rfl)
theorem dJ1_successor_18 : decode cJ1_successor 18 = .ok (.aload_n 1, 1) := dk_43 (dk_at dksJ1_successor_0 18 rfl rfl)
theorem dJ1_successor_19 : decode cJ1_successor 19 = .ok (.getfield 111, 3) := dk_180 0 111 (dk_at dksJ1_successor_0 19 rfl rfl)
theorem dJ1_successor_22 : decode cJ1_successor 22 = .ok (.ifnull 11, 3) := dk_198 0 11 (dk_at dksJ1_successor_1 0 rfl rfl)
theorem dJ1_successor_25 : decode cJ1_successor 25 = .ok (.aload_n 1, 1) := dk_43 (dk_at dksJ1_successor_1 3 rfl rfl)
theorem dJ1_successor_26 : decode cJ1_successor 26 = .ok (.getfield 111, 3) := dk_180 0 111 (dk_at dksJ1_successor_1 4 rfl rfl)
theorem dJ1_successor_29 : decode cJ1_successor 29 = .ok (.astore_n 1, 1) := dk_76 (dk_at dksJ1_successor_1 7 rfl rfl)
theorem dJ1_successor_30 : decode cJ1_successor 30 = .ok (.goto (-12), 3) := dk_167 255 244 (dk_at dksJ1_successor_1 8 rfl rfl)
theorem dJ1_successor_33 : decode cJ1_successor 33 = .ok (.aload_n 1, 1) := dk_43 (dk_at dksJ1_successor_1 11 rfl rfl)
theorem dJ1_successor_34 : decode cJ1_successor 34 = .ok (.areturn, 1) := dk_176 (dk_at dksJ1_successor_1 12 rfl rfl)
theorem dJ1_successor_35 : decode cJ1_successor 35 = .ok (.aload_n 0, 1) := dk_42 (dk_at dksJ1_successor_1 13 rfl rfl)
theorem dJ1_successor_36 : decode cJ1_successor 36 = .ok (.getfield 124, 3) := dk_180 0 124 (dk_at dksJ1_successor_1 14 rfl rfl)
theorem dJ1_successor_39 : decode cJ1_successor 39 = .ok (.astore_n 1, 1) := dk_76 (dk_at dksJ1_successor_1 17 rfl rfl)
theorem dJ1_successor_40 : decode cJ1_successor 40 = .ok (.aload_n 0, 1) := dk_42 (dk_at dksJ1_successor_1 18 rfl rfl)
theorem dJ1_successor_41 : decode cJ1_successor 41 = .ok (.astore_n 2, 1) := dk_77 (dk_at dksJ1_successor_1 19 rfl rfl)
theorem dJ1_successor_42 : decode cJ1_successor 42 = .ok (.aload_n 1, 1) := dk_43 (dk_at dksJ1_successor_1 20 rfl rfl)
theorem dJ1_successor_43 : decode cJ1_successor 43 = .ok (.ifnull 21, 3) := dk_198 0 21 (dk_at dksJ1_successor_1 21 rfl rfl)
theorem dJ1_successor_46 : decode cJ1_successor 46 = .ok (.aload_n 2, 1) := dk_44 (dk_at dksJ1_successor_2 0 rfl rfl)
theorem dJ1_successor_47 : decode cJ1_successor 47 = .ok (.aload_n 1, 1) := dk_43 (dk_at dksJ1_successor_2 1 rfl rfl)
theorem dJ1_successor_48 : decode cJ1_successor 48 = .ok (.getfield 114, 3) := dk_180 0 114 (dk_at dksJ1_successor_2 2 rfl rfl)
theorem dJ1_successor_51 : decode cJ1_successor 51 = .ok (.if_acmp .ne 13, 3) := dk_166 0 13 (dk_at dksJ1_successor_2 5 rfl rfl)
theorem dJ1_successor_54 : decode cJ1_successor 54 = .ok (.aload_n 1, 1) := dk_43 (dk_at dksJ1_successor_2 8 rfl rfl)
theorem dJ1_successor_55 : decode cJ1_successor 55 = .ok (.astore_n 2, 1) := dk_77 (dk_at dksJ1_successor_2 9 rfl rfl)
theorem dJ1_successor_56 : decode cJ1_successor 56 = .ok (.aload_n 1, 1) := dk_43 (dk_at dksJ1_successor_2 10 rfl rfl)
theorem dJ1_successor_57 : decode cJ1_successor 57 = .ok (.getfield 124, 3) := dk_180 0 124 (dk_at dksJ1_successor_2 11 rfl rfl)
theorem dJ1_successor_60 : decode cJ1_successor 60 = .ok (.astore_n 1, 1) := dk_76 (dk_at dksJ1_successor_2 14 rfl rfl)
theorem dJ1_successor_61 : decode cJ1_successor 61 = .ok (.goto (-19), 3) := dk_167 255 237 (dk_at dksJ1_successor_2 15 rfl rfl)
theorem dJ1_successor_64 : decode cJ1_successor 64 = .ok (.aload_n 1, 1) := dk_43 (dk_at dksJ1_successor_2 18 rfl rfl)
theorem dJ1_successor_65 : decode cJ1_successor 65 = .ok (.areturn, 1) := dk_176 (dk_at dksJ1_successor_2 19 rfl rfl)
def dkwJ1_put_0 : List UInt8 := [42, 43, 44, 4, 182, 0, 127, 176]
abbrev dktJ1_put_0 : List UInt8 := dkwJ1_put_0 ++ []
theorem dksJ1_put_0 : cJ1_put.data.toList.drop 0 = dktJ1_put_0 := by decide +kernel
theorem dJ1_put_0 : decode cJ1_put 0 = .ok (.aload_n 0, 1) := dk_42 (dk_at dksJ1_put_0 0 rfl rfl)
theorem dJ1_put_1 : decode cJ1_put 1 = .ok (.aload_n 1, 1) := dk_43 (dk_at dksJ1_put_0 1 rfl rfl)
theorem dJ1_put_2 : decode cJ1_put 2 = .ok (.aload_n 2, 1) := dk_44 (dk_at dksJ1_put_0 2 rfl rfl)
theorem dJ1_put_3 : decode cJ1_put 3 = .ok (.iconst 1, 1) := dk_4 (dk_at dksJ1_put_0 3 rfl rfl)
theorem dJ1_put_4 : decode cJ1_put 4 = .ok (.invokevirtual 127, 3) := dk_182 0 127 (dk_at dksJ1_put_0 4 rfl rfl)
theorem dJ1_put_7 : decode cJ1_put 7 = .ok (.areturn, 1) := dk_176 (dk_at dksJ1_put_0 7 rfl rfl)
def dkwJ1_put_2_9 : List UInt8 := [4, 167, 0, 4, 3, 182, 0, 139, 1, 176]
abbrev dktJ1_put_2_9 : List UInt8 := dkwJ1_put_2_9 ++ []
def dkwJ1_put_2_8 : List UInt8 := [25, 4, 44, 181, 0, 58, 25, 9, 176, 25, 4, 199, 255, 181, 42, 43, 44, 25, 6, 21, 5, 156, 0, 7]
abbrev dktJ1_put_2_8 : List UInt8 := dkwJ1_put_2_8 ++ dktJ1_put_2_9
def dkwJ1_put_2_7 : List UInt8 := [180, 0, 114, 58, 4, 167, 0, 28, 25, 4, 180, 0, 58, 58, 9, 29, 154, 0, 8, 25, 9, 199, 0, 9]
abbrev dktJ1_put_2_7 : List UInt8 := dkwJ1_put_2_7 ++ dktJ1_put_2_8
def dkwJ1_put_2_6 : List UInt8 := [21, 5, 156, 0, 13, 25, 4, 180, 0, 111, 58, 4, 167, 0, 43, 21, 5, 158, 0, 13, 25, 4]
abbrev dktJ1_put_2_6 : List UInt8 := dkwJ1_put_2_6 ++ dktJ1_put_2_7
def dkwJ1_put_2_5 : List UInt8 := [192, 0, 99, 58, 8, 25, 4, 58, 6, 25, 8, 25, 4, 180, 0, 105, 185, 0, 107, 2, 0, 54, 5]
abbrev dktJ1_put_2_5 : List UInt8 := dkwJ1_put_2_5 ++ dktJ1_put_2_6
def dkwJ1_put_2_4 : List UInt8 := [25, 4, 44, 181, 0, 58, 25, 8, 176, 25, 4, 199, 255, 180, 167, 0, 92, 43, 184, 0, 95, 87, 43]
abbrev dktJ1_put_2_4 : List UInt8 := dkwJ1_put_2_4 ++ dktJ1_put_2_5
def dkwJ1_put_2_3 : List UInt8 := [180, 0, 114, 58, 4, 167, 0, 28, 25, 4, 180, 0, 58, 58, 8, 29, 154, 0, 8, 25, 8, 199, 0, 9]
abbrev dktJ1_put_2_3 : List UInt8 := dkwJ1_put_2_3 ++ dktJ1_put_2_4
def dkwJ1_put_2_2 : List UInt8 := [54, 5, 21, 5, 156, 0, 13, 25, 4, 180, 0, 111, 58, 4, 167, 0, 43, 21, 5, 158, 0, 13, 25, 4]
abbrev dktJ1_put_2_2 : List UInt8 := dkwJ1_put_2_2 ++ dktJ1_put_2_3
def dkwJ1_put_2_1 : List UInt8 := [58, 7, 25, 7, 198, 0, 85, 25, 4, 58, 6, 25, 7, 43, 25, 4, 180, 0, 105, 185, 0, 117, 3, 0]
abbrev dktJ1_put_2_1 : List UInt8 := dkwJ1_put_2_1 ++ dktJ1_put_2_2
def dkwJ1_put_2_0 : List UInt8 := [42, 180, 0, 101, 58, 4, 25, 4, 199, 0, 11, 42, 43, 44, 182, 0, 135, 1, 176, 42, 180, 0, 16]
abbrev dktJ1_put_2_0 : List UInt8 := dkwJ1_put_2_0 ++ dktJ1_put_2_1
theorem dksJ1_put_2_0 : cJ1_put_2.data.toList.drop 0 = dktJ1_put_2_0 := by decide +kernel
theorem dksJ1_put_2_1 : cJ1_put_2.data.toList.drop 23 = dktJ1_put_2_1 := dk_seg dksJ1_put_2_0 23 rfl rfl
theorem dksJ1_put_2_2 : cJ1_put_2.data.toList.drop 47 = dktJ1_put_2_2 := dk_seg dksJ1_put_2_1 24 rfl rfl
theorem dksJ1_put_2_3 : cJ1_put_2.data.toList.drop 71 = dktJ1_put_2_3 := dk_seg dksJ1_put_2_2 24 rfl rfl
theorem dksJ1_put_2_4 : cJ1_put_2.data.toList.drop 95 = dktJ1_put_2_4 := dk_seg dksJ1_put_2_3 24 rfl rfl
theorem dksJ1_put_2_5 : cJ1_put_2.data.toList.drop 118 = dktJ1_put_2_5 := dk_seg dksJ1_put_2_4 23 rfl rfl
theorem dksJ1_put_2_6 : cJ1_put_2.data.toList.drop 141 = dktJ1_put_2_6 := dk_seg dksJ1_put_2_5 23 rfl rfl
theorem dksJ1_put_2_7 : cJ1_put_2.data.toList.drop 163 = dktJ1_put_2_7 := dk_seg dksJ1_put_2_6 22 rfl rfl
theorem dksJ1_put_2_8 : cJ1_put_2.data.toList.drop 187 = dktJ1_put_2_8 := dk_seg dksJ1_put_2_7 24 rfl rfl
theorem dksJ1_put_2_9 : cJ1_put_2.data.toList.drop 211 = dktJ1_put_2_9 := dk_seg dksJ1_put_2_8 24 rfl rfl
theorem dJ1_put_2_0 : decode cJ1_put_2 0 = .ok (.aload_n 0, 1) := dk_42 (dk_at dksJ1_put_2_0 0 rfl rfl)
theorem dJ1_put_2_1 : decode cJ1_put_2 1 = .ok (.getfield 101, 3) := dk_180 0 101 (dk_at dksJ1_put_2_0 1 rfl rfl)
theorem dJ1_put_2_4 : decode cJ1_put_2 4 = .ok (.astore 4, 2) := dk_58 4 (dk_at dksJ1_put_2_0 4 rfl rfl)
theorem dJ1_put_2_6 : decode cJ1_put_2 6 = .ok (.aload 4, 2) := dk_25 4 (dk_at dksJ1_put_2_0 6 rfl rfl)
theorem dJ1_put_2_8 : decode cJ1_put_2 8 = .ok (.ifnonnull 11, 3) := dk_199 0 11 (dk_at dksJ1_put_2_0 8 rfl rfl)
theorem dJ1_put_2_11 : decode cJ1_put_2 11 = .ok (.aload_n 0, 1) := dk_42 (dk_at dksJ1_put_2_0 11 rfl rfl)
theorem dJ1_put_2_12 : decode cJ1_put_2 12 = .ok (.aload_n 1, 1) := dk_43 (dk_at dksJ1_put_2_0 12 rfl rfl)
theorem dJ1_put_2_13 : decode cJ1_put_2 13 = .ok (.aload_n 2, 1) := dk_44 (dk_at dksJ1_put_2_0 13 rfl rfl)
theorem dJ1_put_2_14 : decode cJ1_put_2 14 = .ok (.invokevirtual 135, 3) := dk_182 0 135 (dk_at dksJ1_put_2_0 14 rfl rfl)
theorem dJ1_put_2_17 : decode cJ1_put_2 17 = .ok (.aconst_null, 1) := dk_1 (dk_at dksJ1_put_2_0 17 rfl rfl)
theorem dJ1_put_2_18 : decode cJ1_put_2 18 = .ok (.areturn, 1) := dk_176 (dk_at dksJ1_put_2_0 18 rfl rfl)
theorem dJ1_put_2_19 : decode cJ1_put_2 19 = .ok (.aload_n 0, 1) := dk_42 (dk_at dksJ1_put_2_0 19 rfl rfl)
theorem dJ1_put_2_20 : decode cJ1_put_2 20 = .ok (.getfield 16, 3) := dk_180 0 16 (dk_at dksJ1_put_2_0 20 rfl rfl)
theorem dJ1_put_2_23 : decode cJ1_put_2 23 = .ok (.astore 7, 2) := dk_58 7 (dk_at dksJ1_put_2_1 0 rfl rfl)
theorem dJ1_put_2_25 : decode cJ1_put_2 25 = .ok (.aload 7, 2) := dk_25 7 (dk_at dksJ1_put_2_1 2 rfl rfl)
theorem dJ1_put_2_27 : decode cJ1_put_2 27 = .ok (.ifnull 85, 3) := dk_198 0 85 (dk_at dksJ1_put_2_1 4 rfl rfl)
theorem dJ1_put_2_30 : decode cJ1_put_2 30 = .ok (.aload 4, 2) := dk_25 4 (dk_at dksJ1_put_2_1 7 rfl rfl)
theorem dJ1_put_2_32 : decode cJ1_put_2 32 = .ok (.astore 6, 2) := dk_58 6 (dk_at dksJ1_put_2_1 9 rfl rfl)
theorem dJ1_put_2_34 : decode cJ1_put_2 34 = .ok (.aload 7, 2) := dk_25 7 (dk_at dksJ1_put_2_1 11 rfl rfl)
theorem dJ1_put_2_36 : decode cJ1_put_2 36 = .ok (.aload_n 1, 1) := dk_43 (dk_at dksJ1_put_2_1 13 rfl rfl)
theorem dJ1_put_2_37 : decode cJ1_put_2 37 = .ok (.aload 4, 2) := dk_25 4 (dk_at dksJ1_put_2_1 14 rfl rfl)
theorem dJ1_put_2_39 : decode cJ1_put_2 39 = .ok (.getfield 105, 3) := dk_180 0 105 (dk_at dksJ1_put_2_1 16 rfl rfl)
theorem dJ1_put_2_42 : decode cJ1_put_2 42 = .ok (.invokeinterface 117 3, 5) := by decide +kernel
theorem dJ1_put_2_47 : decode cJ1_put_2 47 = .ok (.istore 5, 2) := dk_54 5 (dk_at dksJ1_put_2_2 0 rfl rfl)
theorem dJ1_put_2_49 : decode cJ1_put_2 49 = .ok (.iload 5, 2) := dk_21 5 (dk_at dksJ1_put_2_2 2 rfl rfl)
theorem dJ1_put_2_51 : decode cJ1_put_2 51 = .ok (.ifCond .ge 13, 3) := dk_156 0 13 (dk_at dksJ1_put_2_2 4 rfl rfl)
theorem dJ1_put_2_54 : decode cJ1_put_2 54 = .ok (.aload 4, 2) := dk_25 4 (dk_at dksJ1_put_2_2 7 rfl rfl)
theorem dJ1_put_2_56 : decode cJ1_put_2 56 = .ok (.getfield 111, 3) := dk_180 0 111 (dk_at dksJ1_put_2_2 9 rfl rfl)
theorem dJ1_put_2_59 : decode cJ1_put_2 59 = .ok (.astore 4, 2) := dk_58 4 (dk_at dksJ1_put_2_2 12 rfl rfl)
theorem dJ1_put_2_61 : decode cJ1_put_2 61 = .ok (.goto 43, 3) := dk_167 0 43 (dk_at dksJ1_put_2_2 14 rfl rfl)
theorem dJ1_put_2_64 : decode cJ1_put_2 64 = .ok (.iload 5, 2) := dk_21 5 (dk_at dksJ1_put_2_2 17 rfl rfl)
theorem dJ1_put_2_66 : decode cJ1_put_2 66 = .ok (.ifCond .le 13, 3) := dk_158 0 13 (dk_at dksJ1_put_2_2 19 rfl rfl)
theorem dJ1_put_2_69 : decode cJ1_put_2 69 = .ok (.aload 4, 2) := dk_25 4 (dk_at dksJ1_put_2_2 22 rfl rfl)
theorem dJ1_put_2_71 : decode cJ1_put_2 71 = .ok (.getfield 114, 3) := dk_180 0 114 (dk_at dksJ1_put_2_3 0 rfl rfl)
theorem dJ1_put_2_74 : decode cJ1_put_2 74 = .ok (.astore 4, 2) := dk_58 4 (dk_at dksJ1_put_2_3 3 rfl rfl)
theorem dJ1_put_2_76 : decode cJ1_put_2 76 = .ok (.goto 28, 3) := dk_167 0 28 (dk_at dksJ1_put_2_3 5 rfl rfl)
theorem dJ1_put_2_79 : decode cJ1_put_2 79 = .ok (.aload 4, 2) := dk_25 4 (dk_at dksJ1_put_2_3 8 rfl rfl)
theorem dJ1_put_2_81 : decode cJ1_put_2 81 = .ok (.getfield 58, 3) := dk_180 0 58 (dk_at dksJ1_put_2_3 10 rfl rfl)
theorem dJ1_put_2_84 : decode cJ1_put_2 84 = .ok (.astore 8, 2) := dk_58 8 (dk_at dksJ1_put_2_3 13 rfl rfl)
theorem dJ1_put_2_86 : decode cJ1_put_2 86 = .ok (.iload_n 3, 1) := dk_29 (dk_at dksJ1_put_2_3 15 rfl rfl)
theorem dJ1_put_2_87 : decode cJ1_put_2 87 = .ok (.ifCond .ne 8, 3) := dk_154 0 8 (dk_at dksJ1_put_2_3 16 rfl rfl)
theorem dJ1_put_2_90 : decode cJ1_put_2 90 = .ok (.aload 8, 2) := dk_25 8 (dk_at dksJ1_put_2_3 19 rfl rfl)
theorem dJ1_put_2_92 : decode cJ1_put_2 92 = .ok (.ifnonnull 9, 3) := dk_199 0 9 (dk_at dksJ1_put_2_3 21 rfl rfl)
theorem dJ1_put_2_95 : decode cJ1_put_2 95 = .ok (.aload 4, 2) := dk_25 4 (dk_at dksJ1_put_2_4 0 rfl rfl)
theorem dJ1_put_2_97 : decode cJ1_put_2 97 = .ok (.aload_n 2, 1) := dk_44 (dk_at dksJ1_put_2_4 2 rfl rfl)
theorem dJ1_put_2_98 : decode cJ1_put_2 98 = .ok (.putfield 58, 3) := dk_181 0 58 (dk_at dksJ1_put_2_4 3 rfl rfl)
theorem dJ1_put_2_101 : decode cJ1_put_2 101 = .ok (.aload 8, 2) := dk_25 8 (dk_at dksJ1_put_2_4 6 rfl rfl)
theorem dJ1_put_2_103 : decode cJ1_put_2 103 = .ok (.areturn, 1) := dk_176 (dk_at dksJ1_put_2_4 8 rfl rfl)
theorem dJ1_put_2_104 : decode cJ1_put_2 104 = .ok (.aload 4, 2) := dk_25 4 (dk_at dksJ1_put_2_4 9 rfl rfl)
theorem dJ1_put_2_106 : decode cJ1_put_2 106 = .ok (.ifnonnull (-76), 3) := dk_199 255 180 (dk_at dksJ1_put_2_4 11 rfl rfl)
theorem dJ1_put_2_109 : decode cJ1_put_2 109 = .ok (.goto 92, 3) := dk_167 0 92 (dk_at dksJ1_put_2_4 14 rfl rfl)
theorem dJ1_put_2_112 : decode cJ1_put_2 112 = .ok (.aload_n 1, 1) := dk_43 (dk_at dksJ1_put_2_4 17 rfl rfl)
theorem dJ1_put_2_113 : decode cJ1_put_2 113 = .ok (.invokestatic 95, 3) := dk_184 0 95 (dk_at dksJ1_put_2_4 18 rfl rfl)
theorem dJ1_put_2_116 : decode cJ1_put_2 116 = .ok (.pop, 1) := dk_87 (dk_at dksJ1_put_2_4 21 rfl rfl)
theorem dJ1_put_2_117 : decode cJ1_put_2 117 = .ok (.aload_n 1, 1) := dk_43 (dk_at dksJ1_put_2_4 22 rfl rfl)
theorem dJ1_put_2_118 : decode cJ1_put_2 118 = .ok (.checkcast 99, 3) := dk_192 0 99 (dk_at dksJ1_put_2_5 0 rfl rfl)
theorem dJ1_put_2_121 : decode cJ1_put_2 121 = .ok (.astore 8, 2) := dk_58 8 (dk_at dksJ1_put_2_5 3 rfl rfl)
theorem dJ1_put_2_123 : decode cJ1_put_2 123 = .ok (.aload 4, 2) := dk_25 4 (dk_at dksJ1_put_2_5 5 rfl rfl)
theorem dJ1_put_2_125 : decode cJ1_put_2 125 = .ok (.astore 6, 2) := dk_58 6 (dk_at dksJ1_put_2_5 7 rfl rfl)
theorem dJ1_put_2_127 : decode cJ1_put_2 127 = .ok (.aload 8, 2) := dk_25 8 (dk_at dksJ1_put_2_5 9 rfl rfl)
theorem dJ1_put_2_129 : decode cJ1_put_2 129 = .ok (.aload 4, 2) := dk_25 4 (dk_at dksJ1_put_2_5 11 rfl rfl)
theorem dJ1_put_2_131 : decode cJ1_put_2 131 = .ok (.getfield 105, 3) := dk_180 0 105 (dk_at dksJ1_put_2_5 13 rfl rfl)
theorem dJ1_put_2_134 : decode cJ1_put_2 134 = .ok (.invokeinterface 107 2, 5) := by decide +kernel
theorem dJ1_put_2_139 : decode cJ1_put_2 139 = .ok (.istore 5, 2) := dk_54 5 (dk_at dksJ1_put_2_5 21 rfl rfl)
theorem dJ1_put_2_141 : decode cJ1_put_2 141 = .ok (.iload 5, 2) := dk_21 5 (dk_at dksJ1_put_2_6 0 rfl rfl)
theorem dJ1_put_2_143 : decode cJ1_put_2 143 = .ok (.ifCond .ge 13, 3) := dk_156 0 13 (dk_at dksJ1_put_2_6 2 rfl rfl)
theorem dJ1_put_2_146 : decode cJ1_put_2 146 = .ok (.aload 4, 2) := dk_25 4 (dk_at dksJ1_put_2_6 5 rfl rfl)
theorem dJ1_put_2_148 : decode cJ1_put_2 148 = .ok (.getfield 111, 3) := dk_180 0 111 (dk_at dksJ1_put_2_6 7 rfl rfl)
theorem dJ1_put_2_151 : decode cJ1_put_2 151 = .ok (.astore 4, 2) := dk_58 4 (dk_at dksJ1_put_2_6 10 rfl rfl)
theorem dJ1_put_2_153 : decode cJ1_put_2 153 = .ok (.goto 43, 3) := dk_167 0 43 (dk_at dksJ1_put_2_6 12 rfl rfl)
theorem dJ1_put_2_156 : decode cJ1_put_2 156 = .ok (.iload 5, 2) := dk_21 5 (dk_at dksJ1_put_2_6 15 rfl rfl)
theorem dJ1_put_2_158 : decode cJ1_put_2 158 = .ok (.ifCond .le 13, 3) := dk_158 0 13 (dk_at dksJ1_put_2_6 17 rfl rfl)
theorem dJ1_put_2_161 : decode cJ1_put_2 161 = .ok (.aload 4, 2) := dk_25 4 (dk_at dksJ1_put_2_6 20 rfl rfl)
theorem dJ1_put_2_163 : decode cJ1_put_2 163 = .ok (.getfield 114, 3) := dk_180 0 114 (dk_at dksJ1_put_2_7 0 rfl rfl)
theorem dJ1_put_2_166 : decode cJ1_put_2 166 = .ok (.astore 4, 2) := dk_58 4 (dk_at dksJ1_put_2_7 3 rfl rfl)
theorem dJ1_put_2_168 : decode cJ1_put_2 168 = .ok (.goto 28, 3) := dk_167 0 28 (dk_at dksJ1_put_2_7 5 rfl rfl)
theorem dJ1_put_2_171 : decode cJ1_put_2 171 = .ok (.aload 4, 2) := dk_25 4 (dk_at dksJ1_put_2_7 8 rfl rfl)
theorem dJ1_put_2_173 : decode cJ1_put_2 173 = .ok (.getfield 58, 3) := dk_180 0 58 (dk_at dksJ1_put_2_7 10 rfl rfl)
theorem dJ1_put_2_176 : decode cJ1_put_2 176 = .ok (.astore 9, 2) := dk_58 9 (dk_at dksJ1_put_2_7 13 rfl rfl)
theorem dJ1_put_2_178 : decode cJ1_put_2 178 = .ok (.iload_n 3, 1) := dk_29 (dk_at dksJ1_put_2_7 15 rfl rfl)
theorem dJ1_put_2_179 : decode cJ1_put_2 179 = .ok (.ifCond .ne 8, 3) := dk_154 0 8 (dk_at dksJ1_put_2_7 16 rfl rfl)
theorem dJ1_put_2_182 : decode cJ1_put_2 182 = .ok (.aload 9, 2) := dk_25 9 (dk_at dksJ1_put_2_7 19 rfl rfl)
theorem dJ1_put_2_184 : decode cJ1_put_2 184 = .ok (.ifnonnull 9, 3) := dk_199 0 9 (dk_at dksJ1_put_2_7 21 rfl rfl)
theorem dJ1_put_2_187 : decode cJ1_put_2 187 = .ok (.aload 4, 2) := dk_25 4 (dk_at dksJ1_put_2_8 0 rfl rfl)
theorem dJ1_put_2_189 : decode cJ1_put_2 189 = .ok (.aload_n 2, 1) := dk_44 (dk_at dksJ1_put_2_8 2 rfl rfl)
theorem dJ1_put_2_190 : decode cJ1_put_2 190 = .ok (.putfield 58, 3) := dk_181 0 58 (dk_at dksJ1_put_2_8 3 rfl rfl)
theorem dJ1_put_2_193 : decode cJ1_put_2 193 = .ok (.aload 9, 2) := dk_25 9 (dk_at dksJ1_put_2_8 6 rfl rfl)
theorem dJ1_put_2_195 : decode cJ1_put_2 195 = .ok (.areturn, 1) := dk_176 (dk_at dksJ1_put_2_8 8 rfl rfl)
theorem dJ1_put_2_196 : decode cJ1_put_2 196 = .ok (.aload 4, 2) := dk_25 4 (dk_at dksJ1_put_2_8 9 rfl rfl)
theorem dJ1_put_2_198 : decode cJ1_put_2 198 = .ok (.ifnonnull (-75), 3) := dk_199 255 181 (dk_at dksJ1_put_2_8 11 rfl rfl)
theorem dJ1_put_2_201 : decode cJ1_put_2 201 = .ok (.aload_n 0, 1) := dk_42 (dk_at dksJ1_put_2_8 14 rfl rfl)
theorem dJ1_put_2_202 : decode cJ1_put_2 202 = .ok (.aload_n 1, 1) := dk_43 (dk_at dksJ1_put_2_8 15 rfl rfl)
theorem dJ1_put_2_203 : decode cJ1_put_2 203 = .ok (.aload_n 2, 1) := dk_44 (dk_at dksJ1_put_2_8 16 rfl rfl)
theorem dJ1_put_2_204 : decode cJ1_put_2 204 = .ok (.aload 6, 2) := dk_25 6 (dk_at dksJ1_put_2_8 17 rfl rfl)
theorem dJ1_put_2_206 : decode cJ1_put_2 206 = .ok (.iload 5, 2) := dk_21 5 (dk_at dksJ1_put_2_8 19 rfl rfl)
theorem dJ1_put_2_208 : decode cJ1_put_2 208 = .ok (.ifCond .ge 7, 3) := dk_156 0 7 (dk_at dksJ1_put_2_8 21 rfl rfl)
theorem dJ1_put_2_211 : decode cJ1_put_2 211 = .ok (.iconst 1, 1) := dk_4 (dk_at dksJ1_put_2_9 0 rfl rfl)
theorem dJ1_put_2_212 : decode cJ1_put_2 212 = .ok (.goto 4, 3) := dk_167 0 4 (dk_at dksJ1_put_2_9 1 rfl rfl)
theorem dJ1_put_2_215 : decode cJ1_put_2 215 = .ok (.iconst 0, 1) := dk_3 (dk_at dksJ1_put_2_9 4 rfl rfl)
theorem dJ1_put_2_216 : decode cJ1_put_2 216 = .ok (.invokevirtual 139, 3) := dk_182 0 139 (dk_at dksJ1_put_2_9 5 rfl rfl)
theorem dJ1_put_2_219 : decode cJ1_put_2 219 = .ok (.aconst_null, 1) := dk_1 (dk_at dksJ1_put_2_9 8 rfl rfl)
theorem dJ1_put_2_220 : decode cJ1_put_2 220 = .ok (.areturn, 1) := dk_176 (dk_at dksJ1_put_2_9 9 rfl rfl)
def dkwJ1_addEntryToEmptyMap_1 : List UInt8 := [181, 0, 7, 42, 89, 180, 0, 13, 4, 96, 181, 0, 13, 177]
abbrev dktJ1_addEntryToEmptyMap_1 : List UInt8 := dkwJ1_addEntryToEmptyMap_1 ++ []
def dkwJ1_addEntryToEmptyMap_0 : List UInt8 := [42, 43, 43, 182, 0, 123, 87, 42, 187, 0, 59, 89, 43, 44, 1, 183, 0, 167, 181, 0, 101, 42, 4]
abbrev dktJ1_addEntryToEmptyMap_0 : List UInt8 := dkwJ1_addEntryToEmptyMap_0 ++ dktJ1_addEntryToEmptyMap_1
theorem dksJ1_addEntryToEmptyMap_0 : cJ1_addEntryToEmptyMap.data.toList.drop 0 = dktJ1_addEntryToEmptyMap_0 := by decide +kernel
theorem dksJ1_addEntryToEmptyMap_1 : cJ1_addEntryToEmptyMap.data.toList.drop 23 = dktJ1_addEntryToEmptyMap_1 := dk_seg dksJ1_addEntryToEmptyMap_0 23 rfl rfl
theorem dJ1_addEntryToEmptyMap_0 : decode cJ1_addEntryToEmptyMap 0 = .ok (.aload_n 0, 1) := dk_42 (dk_at dksJ1_addEntryToEmptyMap_0 0 rfl rfl)
theorem dJ1_addEntryToEmptyMap_1 : decode cJ1_addEntryToEmptyMap 1 = .ok (.aload_n 1, 1) := dk_43 (dk_at dksJ1_addEntryToEmptyMap_0 1 rfl rfl)
theorem dJ1_addEntryToEmptyMap_2 : decode cJ1_addEntryToEmptyMap 2 = .ok (.aload_n 1, 1) := dk_43 (dk_at dksJ1_addEntryToEmptyMap_0 2 rfl rfl)
theorem dJ1_addEntryToEmptyMap_3 : decode cJ1_addEntryToEmptyMap 3 = .ok (.invokevirtual 123, 3) := dk_182 0 123 (dk_at dksJ1_addEntryToEmptyMap_0 3 rfl rfl)
theorem dJ1_addEntryToEmptyMap_6 : decode cJ1_addEntryToEmptyMap 6 = .ok (.pop, 1) := dk_87 (dk_at dksJ1_addEntryToEmptyMap_0 6 rfl rfl)
theorem dJ1_addEntryToEmptyMap_7 : decode cJ1_addEntryToEmptyMap 7 = .ok (.aload_n 0, 1) := dk_42 (dk_at dksJ1_addEntryToEmptyMap_0 7 rfl rfl)
theorem dJ1_addEntryToEmptyMap_8 : decode cJ1_addEntryToEmptyMap 8 = .ok (.new 59, 3) := dk_187 0 59 (dk_at dksJ1_addEntryToEmptyMap_0 8 rfl rfl)
theorem dJ1_addEntryToEmptyMap_11 : decode cJ1_addEntryToEmptyMap 11 = .ok (.dup, 1) := dk_89 (dk_at dksJ1_addEntryToEmptyMap_0 11 rfl rfl)
theorem dJ1_addEntryToEmptyMap_12 : decode cJ1_addEntryToEmptyMap 12 = .ok (.aload_n 1, 1) := dk_43 (dk_at dksJ1_addEntryToEmptyMap_0 12 rfl rfl)
theorem dJ1_addEntryToEmptyMap_13 : decode cJ1_addEntryToEmptyMap 13 = .ok (.aload_n 2, 1) := dk_44 (dk_at dksJ1_addEntryToEmptyMap_0 13 rfl rfl)
theorem dJ1_addEntryToEmptyMap_14 : decode cJ1_addEntryToEmptyMap 14 = .ok (.aconst_null, 1) := dk_1 (dk_at dksJ1_addEntryToEmptyMap_0 14 rfl rfl)
theorem dJ1_addEntryToEmptyMap_15 : decode cJ1_addEntryToEmptyMap 15 = .ok (.invokespecial 167, 3) := dk_183 0 167 (dk_at dksJ1_addEntryToEmptyMap_0 15 rfl rfl)
theorem dJ1_addEntryToEmptyMap_18 : decode cJ1_addEntryToEmptyMap 18 = .ok (.putfield 101, 3) := dk_181 0 101 (dk_at dksJ1_addEntryToEmptyMap_0 18 rfl rfl)
theorem dJ1_addEntryToEmptyMap_21 : decode cJ1_addEntryToEmptyMap 21 = .ok (.aload_n 0, 1) := dk_42 (dk_at dksJ1_addEntryToEmptyMap_0 21 rfl rfl)
theorem dJ1_addEntryToEmptyMap_22 : decode cJ1_addEntryToEmptyMap 22 = .ok (.iconst 1, 1) := dk_4 (dk_at dksJ1_addEntryToEmptyMap_0 22 rfl rfl)
theorem dJ1_addEntryToEmptyMap_23 : decode cJ1_addEntryToEmptyMap 23 = .ok (.putfield 7, 3) := dk_181 0 7 (dk_at dksJ1_addEntryToEmptyMap_1 0 rfl rfl)
theorem dJ1_addEntryToEmptyMap_26 : decode cJ1_addEntryToEmptyMap 26 = .ok (.aload_n 0, 1) := dk_42 (dk_at dksJ1_addEntryToEmptyMap_1 3 rfl rfl)
theorem dJ1_addEntryToEmptyMap_27 : decode cJ1_addEntryToEmptyMap 27 = .ok (.dup, 1) := dk_89 (dk_at dksJ1_addEntryToEmptyMap_1 4 rfl rfl)
theorem dJ1_addEntryToEmptyMap_28 : decode cJ1_addEntryToEmptyMap 28 = .ok (.getfield 13, 3) := dk_180 0 13 (dk_at dksJ1_addEntryToEmptyMap_1 5 rfl rfl)
theorem dJ1_addEntryToEmptyMap_31 : decode cJ1_addEntryToEmptyMap 31 = .ok (.iconst 1, 1) := dk_4 (dk_at dksJ1_addEntryToEmptyMap_1 8 rfl rfl)
theorem dJ1_addEntryToEmptyMap_32 : decode cJ1_addEntryToEmptyMap 32 = .ok (.iadd, 1) := dk_96 (dk_at dksJ1_addEntryToEmptyMap_1 9 rfl rfl)
theorem dJ1_addEntryToEmptyMap_33 : decode cJ1_addEntryToEmptyMap 33 = .ok (.putfield 13, 3) := dk_181 0 13 (dk_at dksJ1_addEntryToEmptyMap_1 10 rfl rfl)
theorem dJ1_addEntryToEmptyMap_36 : decode cJ1_addEntryToEmptyMap 36 = .ok (.return_, 1) := dk_177 (dk_at dksJ1_addEntryToEmptyMap_1 13 rfl rfl)
def dkwJ1_compare_1 : List UInt8 := [43, 44, 185, 0, 117, 3, 0, 172]
abbrev dktJ1_compare_1 : List UInt8 := dkwJ1_compare_1 ++ []
def dkwJ1_compare_0 : List UInt8 := [42, 180, 0, 16, 199, 0, 16, 43, 192, 0, 99, 44, 185, 0, 107, 2, 0, 167, 0, 14, 42, 180, 0, 16]
abbrev dktJ1_compare_0 : List UInt8 := dkwJ1_compare_0 ++ dktJ1_compare_1
theorem dksJ1_compare_0 : cJ1_compare.data.toList.drop 0 = dktJ1_compare_0 := by decide +kernel
theorem dksJ1_compare_1 : cJ1_compare.data.toList.drop 24 = dktJ1_compare_1 := dk_seg dksJ1_compare_0 24 rfl rfl
theorem dJ1_compare_0 : decode cJ1_compare 0 = .ok (.aload_n 0, 1) := dk_42 (dk_at dksJ1_compare_0 0 rfl rfl)
theorem dJ1_compare_1 : decode cJ1_compare 1 = .ok (.getfield 16, 3) := dk_180 0 16 (dk_at dksJ1_compare_0 1 rfl rfl)
theorem dJ1_compare_4 : decode cJ1_compare 4 = .ok (.ifnonnull 16, 3) := dk_199 0 16 (dk_at dksJ1_compare_0 4 rfl rfl)
theorem dJ1_compare_7 : decode cJ1_compare 7 = .ok (.aload_n 1, 1) := dk_43 (dk_at dksJ1_compare_0 7 rfl rfl)
theorem dJ1_compare_8 : decode cJ1_compare 8 = .ok (.checkcast 99, 3) := dk_192 0 99 (dk_at dksJ1_compare_0 8 rfl rfl)
theorem dJ1_compare_11 : decode cJ1_compare 11 = .ok (.aload_n 2, 1) := dk_44 (dk_at dksJ1_compare_0 11 rfl rfl)
theorem dJ1_compare_12 : decode cJ1_compare 12 = .ok (.invokeinterface 107 2, 5) := by decide +kernel
theorem dJ1_compare_17 : decode cJ1_compare 17 = .ok (.goto 14, 3) := dk_167 0 14 (dk_at dksJ1_compare_0 17 rfl rfl)
theorem dJ1_compare_20 : decode cJ1_compare 20 = .ok (.aload_n 0, 1) := dk_42 (dk_at dksJ1_compare_0 20 rfl rfl)
theorem dJ1_compare_21 : decode cJ1_compare 21 = .ok (.getfield 16, 3) := dk_180 0 16 (dk_at dksJ1_compare_0 21 rfl rfl)
theorem dJ1_compare_24 : decode cJ1_compare 24 = .ok (.aload_n 1, 1) := dk_43 (dk_at dksJ1_compare_1 0 rfl rfl)
theorem dJ1_compare_25 : decode cJ1_compare 25 = .ok (.aload_n 2, 1) := dk_44 (dk_at dksJ1_compare_1 1 rfl rfl)
theorem dJ1_compare_26 : decode cJ1_compare 26 = .ok (.invokeinterface 117 3, 5) := by decide +kernel
theorem dJ1_compare_31 : decode cJ1_compare 31 = .ok (.ireturn, 1) := dk_172 (dk_at dksJ1_compare_1 7 rfl rfl)
def dkwJ1_addEntry_2 : List UInt8 := [181, 0, 7, 42, 89, 180, 0, 13, 4, 96, 181, 0, 13, 177]
abbrev dktJ1_addEntry_2 : List UInt8 := dkwJ1_addEntry_2 ++ []
def dkwJ1_addEntry_1 : List UInt8 := [167, 0, 9, 45, 25, 5, 181, 0, 114, 42, 25, 5, 182, 0, 170, 42, 89, 180, 0, 7, 4, 96]
abbrev dktJ1_addEntry_1 : List UInt8 := dkwJ1_addEntry_1 ++ dktJ1_addEntry_2
def dkwJ1_addEntry_0 : List UInt8 := [187, 0, 59, 89, 43, 44, 45, 183, 0, 167, 58, 5, 21, 4, 153, 0, 12, 45, 25, 5, 181, 0, 111]
abbrev dktJ1_addEntry_0 : List UInt8 := dkwJ1_addEntry_0 ++ dktJ1_addEntry_1
theorem dksJ1_addEntry_0 : cJ1_addEntry.data.toList.drop 0 = dktJ1_addEntry_0 := by decide +kernel
theorem dksJ1_addEntry_1 : cJ1_addEntry.data.toList.drop 23 = dktJ1_addEntry_1 := dk_seg dksJ1_addEntry_0 23 rfl rfl
theorem dksJ1_addEntry_2 : cJ1_addEntry.data.toList.drop 45 = dktJ1_addEntry_2 := dk_seg dksJ1_addEntry_1 22 rfl rfl
theorem dJ1_addEntry_0 : decode cJ1_addEntry 0 = .ok (.new 59, 3) := dk_187 0 59 (dk_at dksJ1_addEntry_0 0 rfl rfl)
theorem dJ1_addEntry_3 : decode cJ1_addEntry 3 = .ok (.dup, 1) := dk_89 (dk_at dksJ1_addEntry_0 3 rfl rfl)
theorem dJ1_addEntry_4 : decode cJ1_addEntry 4 = .ok (.aload_n 1, 1) := dk_43 (dk_at dksJ1_addEntry_0 4 rfl rfl)
theorem dJ1_addEntry_5 : decode cJ1_addEntry 5 = .ok (.aload_n 2, 1) := dk_44 (dk_at dksJ1_addEntry_0 5 rfl rfl)
theorem dJ1_addEntry_6 : decode cJ1_addEntry 6 = .ok (.aload_n 3, 1) := dk_45 (dk_at dksJ1_addEntry_0 6 rfl rfl)
theorem dJ1_addEntry_7 : decode cJ1_addEntry 7 = .ok (.invokespecial 167, 3) := dk_183 0 167 (dk_at dksJ1_addEntry_0 7 rfl rfl)
theorem dJ1_addEntry_10 : decode cJ1_addEntry 10 = .ok (.astore 5, 2) := dk_58 5 (dk_at dksJ1_addEntry_0 10 rfl rfl)
theorem dJ1_addEntry_12 : decode cJ1_addEntry 12 = .ok (.iload 4, 2) := dk_21 4 (dk_at dksJ1_addEntry_0 12 rfl rfl)
theorem dJ1_addEntry_14 : decode cJ1_addEntry 14 = .ok (.ifCond .eq 12, 3) := dk_153 0 12 (dk_at dksJ1_addEntry_0 14 rfl rfl)
theorem dJ1_addEntry_17 : decode cJ1_addEntry 17 = .ok (.aload_n 3, 1) := dk_45 (dk_at dksJ1_addEntry_0 17 rfl rfl)
theorem dJ1_addEntry_18 : decode cJ1_addEntry 18 = .ok (.aload 5, 2) := dk_25 5 (dk_at dksJ1_addEntry_0 18 rfl rfl)
theorem dJ1_addEntry_20 : decode cJ1_addEntry 20 = .ok (.putfield 111, 3) := dk_181 0 111 (dk_at dksJ1_addEntry_0 20 rfl rfl)
theorem dJ1_addEntry_23 : decode cJ1_addEntry 23 = .ok (.goto 9, 3) := dk_167 0 9 (dk_at dksJ1_addEntry_1 0 rfl rfl)
theorem dJ1_addEntry_26 : decode cJ1_addEntry 26 = .ok (.aload_n 3, 1) := dk_45 (dk_at dksJ1_addEntry_1 3 rfl rfl)
theorem dJ1_addEntry_27 : decode cJ1_addEntry 27 = .ok (.aload 5, 2) := dk_25 5 (dk_at dksJ1_addEntry_1 4 rfl rfl)
theorem dJ1_addEntry_29 : decode cJ1_addEntry 29 = .ok (.putfield 114, 3) := dk_181 0 114 (dk_at dksJ1_addEntry_1 6 rfl rfl)
theorem dJ1_addEntry_32 : decode cJ1_addEntry 32 = .ok (.aload_n 0, 1) := dk_42 (dk_at dksJ1_addEntry_1 9 rfl rfl)
theorem dJ1_addEntry_33 : decode cJ1_addEntry 33 = .ok (.aload 5, 2) := dk_25 5 (dk_at dksJ1_addEntry_1 10 rfl rfl)
theorem dJ1_addEntry_35 : decode cJ1_addEntry 35 = .ok (.invokevirtual 170, 3) := dk_182 0 170 (dk_at dksJ1_addEntry_1 12 rfl rfl)
theorem dJ1_addEntry_38 : decode cJ1_addEntry 38 = .ok (.aload_n 0, 1) := dk_42 (dk_at dksJ1_addEntry_1 15 rfl rfl)
theorem dJ1_addEntry_39 : decode cJ1_addEntry 39 = .ok (.dup, 1) := dk_89 (dk_at dksJ1_addEntry_1 16 rfl rfl)
theorem dJ1_addEntry_40 : decode cJ1_addEntry 40 = .ok (.getfield 7, 3) := dk_180 0 7 (dk_at dksJ1_addEntry_1 17 rfl rfl)
theorem dJ1_addEntry_43 : decode cJ1_addEntry 43 = .ok (.iconst 1, 1) := dk_4 (dk_at dksJ1_addEntry_1 20 rfl rfl)
theorem dJ1_addEntry_44 : decode cJ1_addEntry 44 = .ok (.iadd, 1) := dk_96 (dk_at dksJ1_addEntry_1 21 rfl rfl)
theorem dJ1_addEntry_45 : decode cJ1_addEntry 45 = .ok (.putfield 7, 3) := dk_181 0 7 (dk_at dksJ1_addEntry_2 0 rfl rfl)
theorem dJ1_addEntry_48 : decode cJ1_addEntry 48 = .ok (.aload_n 0, 1) := dk_42 (dk_at dksJ1_addEntry_2 3 rfl rfl)
theorem dJ1_addEntry_49 : decode cJ1_addEntry 49 = .ok (.dup, 1) := dk_89 (dk_at dksJ1_addEntry_2 4 rfl rfl)
theorem dJ1_addEntry_50 : decode cJ1_addEntry 50 = .ok (.getfield 13, 3) := dk_180 0 13 (dk_at dksJ1_addEntry_2 5 rfl rfl)
theorem dJ1_addEntry_53 : decode cJ1_addEntry 53 = .ok (.iconst 1, 1) := dk_4 (dk_at dksJ1_addEntry_2 8 rfl rfl)
theorem dJ1_addEntry_54 : decode cJ1_addEntry 54 = .ok (.iadd, 1) := dk_96 (dk_at dksJ1_addEntry_2 9 rfl rfl)
theorem dJ1_addEntry_55 : decode cJ1_addEntry 55 = .ok (.putfield 13, 3) := dk_181 0 13 (dk_at dksJ1_addEntry_2 10 rfl rfl)
theorem dJ1_addEntry_58 : decode cJ1_addEntry 58 = .ok (.return_, 1) := dk_177 (dk_at dksJ1_addEntry_2 13 rfl rfl)
def dkwJ1_fixAfterInsertion_11 : List UInt8 := [42, 180, 0, 101, 4, 181, 1, 34, 177]
abbrev dktJ1_fixAfterInsertion_11 : List UInt8 := dkwJ1_fixAfterInsertion_11 ++ []
def dkwJ1_fixAfterInsertion_10 : List UInt8 := [184, 1, 38, 184, 1, 38, 3, 184, 1, 51, 42, 43, 184, 1, 38, 184, 1, 38, 182, 1, 55, 167, 255, 6]
abbrev dktJ1_fixAfterInsertion_10 : List UInt8 := dkwJ1_fixAfterInsertion_10 ++ dktJ1_fixAfterInsertion_11
def dkwJ1_fixAfterInsertion_9 : List UInt8 := [166, 0, 13, 43, 184, 1, 38, 76, 42, 43, 182, 1, 58, 43, 184, 1, 38, 4, 184, 1, 51, 43]
abbrev dktJ1_fixAfterInsertion_9 : List UInt8 := dkwJ1_fixAfterInsertion_9 ++ dktJ1_fixAfterInsertion_10
def dkwJ1_fixAfterInsertion_8 : List UInt8 := [184, 1, 51, 43, 184, 1, 38, 184, 1, 38, 76, 167, 0, 54, 43, 43, 184, 1, 38, 184, 1, 41]
abbrev dktJ1_fixAfterInsertion_8 : List UInt8 := dkwJ1_fixAfterInsertion_8 ++ dktJ1_fixAfterInsertion_9
def dkwJ1_fixAfterInsertion_7 : List UInt8 := [154, 0, 38, 43, 184, 1, 38, 4, 184, 1, 51, 44, 4, 184, 1, 51, 43, 184, 1, 38, 184, 1, 38, 3]
abbrev dktJ1_fixAfterInsertion_7 : List UInt8 := dkwJ1_fixAfterInsertion_7 ++ dktJ1_fixAfterInsertion_8
def dkwJ1_fixAfterInsertion_6 : List UInt8 := [184, 1, 38, 182, 1, 58, 167, 255, 113, 43, 184, 1, 38, 184, 1, 38, 184, 1, 41, 77, 44, 184, 1, 47]
abbrev dktJ1_fixAfterInsertion_6 : List UInt8 := dkwJ1_fixAfterInsertion_6 ++ dktJ1_fixAfterInsertion_7
def dkwJ1_fixAfterInsertion_5 : List UInt8 := [43, 184, 1, 38, 4, 184, 1, 51, 43, 184, 1, 38, 184, 1, 38, 3, 184, 1, 51, 42, 43, 184, 1, 38]
abbrev dktJ1_fixAfterInsertion_5 : List UInt8 := dkwJ1_fixAfterInsertion_5 ++ dktJ1_fixAfterInsertion_6
def dkwJ1_fixAfterInsertion_4 : List UInt8 := [167, 0, 54, 43, 43, 184, 1, 38, 184, 1, 44, 166, 0, 13, 43, 184, 1, 38, 76, 42, 43, 182, 1, 55]
abbrev dktJ1_fixAfterInsertion_4 : List UInt8 := dkwJ1_fixAfterInsertion_4 ++ dktJ1_fixAfterInsertion_5
def dkwJ1_fixAfterInsertion_3 : List UInt8 := [184, 1, 51, 43, 184, 1, 38, 184, 1, 38, 3, 184, 1, 51, 43, 184, 1, 38, 184, 1, 38, 76]
abbrev dktJ1_fixAfterInsertion_3 : List UInt8 := dkwJ1_fixAfterInsertion_3 ++ dktJ1_fixAfterInsertion_4
def dkwJ1_fixAfterInsertion_2 : List UInt8 := [184, 1, 38, 184, 1, 44, 77, 44, 184, 1, 47, 154, 0, 38, 43, 184, 1, 38, 4, 184, 1, 51, 44, 4]
abbrev dktJ1_fixAfterInsertion_2 : List UInt8 := dkwJ1_fixAfterInsertion_2 ++ dktJ1_fixAfterInsertion_3
def dkwJ1_fixAfterInsertion_1 : List UInt8 := [154, 0, 234, 43, 184, 1, 38, 43, 184, 1, 38, 184, 1, 38, 184, 1, 41, 166, 0, 110, 43, 184, 1, 38]
abbrev dktJ1_fixAfterInsertion_1 : List UInt8 := dkwJ1_fixAfterInsertion_1 ++ dktJ1_fixAfterInsertion_2
def dkwJ1_fixAfterInsertion_0 : List UInt8 := [43, 3, 181, 1, 34, 43, 198, 0, 252, 43, 42, 180, 0, 101, 165, 0, 244, 43, 180, 0, 124, 180, 1, 34]
abbrev dktJ1_fixAfterInsertion_0 : List UInt8 := dkwJ1_fixAfterInsertion_0 ++ dktJ1_fixAfterInsertion_1
theorem dksJ1_fixAfterInsertion_0 : cJ1_fixAfterInsertion.data.toList.drop 0 = dktJ1_fixAfterInsertion_0 := by decide +kernel
theorem dksJ1_fixAfterInsertion_1 : cJ1_fixAfterInsertion.data.toList.drop 24 = dktJ1_fixAfterInsertion_1 := dk_seg dksJ1_fixAfterInsertion_0 24 rfl rfl
theorem dksJ1_fixAfterInsertion_2 : cJ1_fixAfterInsertion.data.toList.drop 48 = dktJ1_fixAfterInsertion_2 := dk_seg dksJ1_fixAfterInsertion_1 24 rfl rfl
theorem dksJ1_fixAfterInsertion_3 : cJ1_fixAfterInsertion.data.toList.drop 72 = dktJ1_fixAfterInsertion_3 := dk_seg dksJ1_fixAfterInsertion_2 24 rfl rfl
theorem dksJ1_fixAfterInsertion_4 : cJ1_fixAfterInsertion.data.toList.drop 94 = dktJ1_fixAfterInsertion_4 := dk_seg dksJ1_fixAfterInsertion_3 22 rfl rfl
theorem dksJ1_fixAfterInsertion_5 : cJ1_fixAfterInsertion.data.toList.drop 118 = dktJ1_fixAfterInsertion_5 := dk_seg dksJ1_fixAfterInsertion_4 24 rfl rfl
theorem dksJ1_fixAfterInsertion_6 : cJ1_fixAfterInsertion.data.toList.drop 142 = dktJ1_fixAfterInsertion_6 := dk_seg dksJ1_fixAfterInsertion_5 24 rfl rfl
theorem dksJ1_fixAfterInsertion_7 : cJ1_fixAfterInsertion.data.toList.drop 166 = dktJ1_fixAfterInsertion_7 := dk_seg dksJ1_fixAfterInsertion_6 24 rfl rfl
theorem dksJ1_fixAfterInsertion_8 : cJ1_fixAfterInsertion.data.toList.drop 190 = dktJ1_fixAfterInsertion_8 := dk_seg dksJ1_fixAfterInsertion_7 24 rfl rfl
theorem dksJ1_fixAfterInsertion_9 : cJ1_fixAfterInsertion.data.toList.drop 212 = dktJ1_fixAfterInsertion_9 := dk_seg dksJ1_fixAfterInsertion_8 22 rfl rfl
theorem dksJ1_fixAfterInsertion_10 : cJ1_fixAfterInsertion.data.toList.drop 234 = dktJ1_fixAfterInsertion_10 := dk_seg dksJ1_fixAfterInsertion_9 22 rfl rfl
theorem dksJ1_fixAfterInsertion_11 : cJ1_fixAfterInsertion.data.toList.drop 258 = dktJ1_fixAfterInsertion_11 := dk_seg dksJ1_fixAfterInsertion_10 24 rfl rfl
theorem dJ1_fixAfterInsertion_0 : decode cJ1_fixAfterInsertion 0 = .ok (.aload_n 1, 1) := dk_43 (dk_at dksJ1_fixAfterInsertion_0 0 rfl rfl)
theorem dJ1_fixAfterInsertion_1 : decode cJ1_fixAfterInsertion 1 = .ok (.iconst 0, 1) := dk_3 (dk_at dksJ1_fixAfterInsertion_0 1 rfl rfl)
theorem dJ1_fixAfterInsertion_2 : decode cJ1_fixAfterInsertion 2 = .ok (.putfield 290, 3) := dk_181 1 34 (dk_at dksJ1_fixAfterInsertion_0 2 rfl rfl)
theorem dJ1_fixAfterInsertion_5 : decode cJ1_fixAfterInsertion 5 = .ok (.aload_n 1, 1) := dk_43 (dk_at dksJ1_fixAfterInsertion_0 5 rfl rfl)
theorem dJ1_fixAfterInsertion_6 : decode cJ1_fixAfterInsertion 6 = .ok (.ifnull 252, 3) := dk_198 0 252 (dk_at dksJ1_fixAfterInsertion_0 6 rfl rfl)
theorem dJ1_fixAfterInsertion_9 : decode cJ1_fixAfterInsertion 9 = .ok (.aload_n 1, 1) := dk_43 (dk_at dksJ1_fixAfterInsertion_0 9 rfl rfl)
theorem dJ1_fixAfterInsertion_10 : decode cJ1_fixAfterInsertion 10 = .ok (.aload_n 0, 1) := dk_42 (dk_at dksJ1_fixAfterInsertion_0 10 rfl rfl)
theorem dJ1_fixAfterInsertion_11 : decode cJ1_fixAfterInsertion 11 = .ok (.getfield 101, 3) := dk_180 0 101 (dk_at dksJ1_fixAfterInsertion_0 11 rfl rfl)
theorem dJ1_fixAfterInsertion_14 : decode cJ1_fixAfterInsertion 14 = .ok (.if_acmp .eq 244, 3) := dk_165 0 244 (dk_at dksJ1_fixAfterInsertion_0 14 rfl rfl)
theorem dJ1_fixAfterInsertion_17 : decode cJ1_fixAfterInsertion 17 = .ok (.aload_n 1, 1) := dk_43 (dk_at dksJ1_fixAfterInsertion_0 17 rfl rfl)
theorem dJ1_fixAfterInsertion_18 : decode cJ1_fixAfterInsertion 18 = .ok (.getfield 124, 3) := dk_180 0 124 (dk_at dksJ1_fixAfterInsertion_0 18 rfl rfl)
theorem dJ1_fixAfterInsertion_21 : decode cJ1_fixAfterInsertion 21 = .ok (.getfield 290, 3) := dk_180 1 34 (dk_at dksJ1_fixAfterInsertion_0 21 rfl rfl)
theorem dJ1_fixAfterInsertion_24 : decode cJ1_fixAfterInsertion 24 = .ok (.ifCond .ne 234, 3) := dk_154 0 234 (dk_at dksJ1_fixAfterInsertion_1 0 rfl rfl)
theorem dJ1_fixAfterInsertion_27 : decode cJ1_fixAfterInsertion 27 = .ok (.aload_n 1, 1) := dk_43 (dk_at dksJ1_fixAfterInsertion_1 3 rfl rfl)
theorem dJ1_fixAfterInsertion_28 : decode cJ1_fixAfterInsertion 28 = .ok (.invokestatic 294, 3) := dk_184 1 38 (dk_at dksJ1_fixAfterInsertion_1 4 rfl rfl)
theorem dJ1_fixAfterInsertion_31 : decode cJ1_fixAfterInsertion 31 = .ok (.aload_n 1, 1) := dk_43 (dk_at dksJ1_fixAfterInsertion_1 7 rfl rfl)
theorem dJ1_fixAfterInsertion_32 : decode cJ1_fixAfterInsertion 32 = .ok (.invokestatic 294, 3) := dk_184 1 38 (dk_at dksJ1_fixAfterInsertion_1 8 rfl rfl)
theorem dJ1_fixAfterInsertion_35 : decode cJ1_fixAfterInsertion 35 = .ok (.invokestatic 294, 3) := dk_184 1 38 (dk_at dksJ1_fixAfterInsertion_1 11 rfl rfl)
theorem dJ1_fixAfterInsertion_38 : decode cJ1_fixAfterInsertion 38 = .ok (.invokestatic 297, 3) := dk_184 1 41 (dk_at dksJ1_fixAfterInsertion_1 14 rfl rfl)
theorem dJ1_fixAfterInsertion_41 : decode cJ1_fixAfterInsertion 41 = .ok (.if_acmp .ne 110, 3) := dk_166 0 110 (dk_at dksJ1_fixAfterInsertion_1 17 rfl rfl)
theorem dJ1_fixAfterInsertion_44 : decode cJ1_fixAfterInsertion 44 = .ok (.aload_n 1, 1) := dk_43 (dk_at dksJ1_fixAfterInsertion_1 20 rfl rfl)
theorem dJ1_fixAfterInsertion_45 : decode cJ1_fixAfterInsertion 45 = .ok (.invokestatic 294, 3) := dk_184 1 38 (dk_at dksJ1_fixAfterInsertion_1 21 rfl rfl)
theorem dJ1_fixAfterInsertion_48 : decode cJ1_fixAfterInsertion 48 = .ok (.invokestatic 294, 3) := dk_184 1 38 (dk_at dksJ1_fixAfterInsertion_2 0 rfl rfl)
theorem dJ1_fixAfterInsertion_51 : decode cJ1_fixAfterInsertion 51 = .ok (.invokestatic 300, 3) := dk_184 1 44 (dk_at dksJ1_fixAfterInsertion_2 3 rfl rfl)
theorem dJ1_fixAfterInsertion_54 : decode cJ1_fixAfterInsertion 54 = .ok (.astore_n 2, 1) := dk_77 (dk_at dksJ1_fixAfterInsertion_2 6 rfl rfl)
theorem dJ1_fixAfterInsertion_55 : decode cJ1_fixAfterInsertion 55 = .ok (.aload_n 2, 1) := dk_44 (dk_at dksJ1_fixAfterInsertion_2 7 rfl rfl)
theorem dJ1_fixAfterInsertion_56 : decode cJ1_fixAfterInsertion 56 = .ok (.invokestatic 303, 3) := dk_184 1 47 (dk_at dksJ1_fixAfterInsertion_2 8 rfl rfl)
theorem dJ1_fixAfterInsertion_59 : decode cJ1_fixAfterInsertion 59 = .ok (.ifCond .ne 38, 3) := dk_154 0 38 (dk_at dksJ1_fixAfterInsertion_2 11 rfl rfl)
theorem dJ1_fixAfterInsertion_62 : decode cJ1_fixAfterInsertion 62 = .ok (.aload_n 1, 1) := dk_43 (dk_at dksJ1_fixAfterInsertion_2 14 rfl rfl)
theorem dJ1_fixAfterInsertion_63 : decode cJ1_fixAfterInsertion 63 = .ok (.invokestatic 294, 3) := dk_184 1 38 (dk_at dksJ1_fixAfterInsertion_2 15 rfl rfl)
theorem dJ1_fixAfterInsertion_66 : decode cJ1_fixAfterInsertion 66 = .ok (.iconst 1, 1) := dk_4 (dk_at dksJ1_fixAfterInsertion_2 18 rfl rfl)
theorem dJ1_fixAfterInsertion_67 : decode cJ1_fixAfterInsertion 67 = .ok (.invokestatic 307, 3) := dk_184 1 51 (dk_at dksJ1_fixAfterInsertion_2 19 rfl rfl)
theorem dJ1_fixAfterInsertion_70 : decode cJ1_fixAfterInsertion 70 = .ok (.aload_n 2, 1) := dk_44 (dk_at dksJ1_fixAfterInsertion_2 22 rfl rfl)
theorem dJ1_fixAfterInsertion_71 : decode cJ1_fixAfterInsertion 71 = .ok (.iconst 1, 1) := dk_4 (dk_at dksJ1_fixAfterInsertion_2 23 rfl rfl)
theorem dJ1_fixAfterInsertion_72 : decode cJ1_fixAfterInsertion 72 = .ok (.invokestatic 307, 3) := dk_184 1 51 (dk_at dksJ1_fixAfterInsertion_3 0 rfl rfl)
theorem dJ1_fixAfterInsertion_75 : decode cJ1_fixAfterInsertion 75 = .ok (.aload_n 1, 1) := dk_43 (dk_at dksJ1_fixAfterInsertion_3 3 rfl rfl)
theorem dJ1_fixAfterInsertion_76 : decode cJ1_fixAfterInsertion 76 = .ok (.invokestatic 294, 3) := dk_184 1 38 (dk_at dksJ1_fixAfterInsertion_3 4 rfl rfl)
theorem dJ1_fixAfterInsertion_79 : decode cJ1_fixAfterInsertion 79 = .ok (.invokestatic 294, 3) := dk_184 1 38 (dk_at dksJ1_fixAfterInsertion_3 7 rfl rfl)
theorem dJ1_fixAfterInsertion_82 : decode cJ1_fixAfterInsertion 82 = .ok (.iconst 0, 1) := dk_3 (dk_at dksJ1_fixAfterInsertion_3 10 rfl rfl)
theorem dJ1_fixAfterInsertion_83 : decode cJ1_fixAfterInsertion 83 = .ok (.invokestatic 307, 3) := dk_184 1 51 (dk_at dksJ1_fixAfterInsertion_3 11 rfl rfl)
theorem dJ1_fixAfterInsertion_86 : decode cJ1_fixAfterInsertion 86 = .ok (.aload_n 1, 1) := dk_43 (dk_at dksJ1_fixAfterInsertion_3 14 rfl rfl)
theorem dJ1_fixAfterInsertion_87 : decode cJ1_fixAfterInsertion 87 = .ok (.invokestatic 294, 3) := dk_184 1 38 (dk_at dksJ1_fixAfterInsertion_3 15 rfl rfl)
theorem dJ1_fixAfterInsertion_90 : decode cJ1_fixAfterInsertion 90 = .ok (.invokestatic 294, 3) := dk_184 1 38 (dk_at dksJ1_fixAfterInsertion_3 18 rfl rfl)
theorem dJ1_fixAfterInsertion_93 : decode cJ1_fixAfterInsertion 93 = .ok (.astore_n 1, 1) := dk_76 (dk_at dksJ1_fixAfterInsertion_3 21 rfl rfl)
theorem dJ1_fixAfterInsertion_94 : decode cJ1_fixAfterInsertion 94 = .ok (.goto 54, 3) := dk_167 0 54 (dk_at dksJ1_fixAfterInsertion_4 0 rfl rfl)
theorem dJ1_fixAfterInsertion_97 : decode cJ1_fixAfterInsertion 97 = .ok (.aload_n 1, 1) := dk_43 (dk_at dksJ1_fixAfterInsertion_4 3 rfl rfl)
theorem dJ1_fixAfterInsertion_98 : decode cJ1_fixAfterInsertion 98 = .ok (.aload_n 1, 1) := dk_43 (dk_at dksJ1_fixAfterInsertion_4 4 rfl rfl)
theorem dJ1_fixAfterInsertion_99 : decode cJ1_fixAfterInsertion 99 = .ok (.invokestatic 294, 3) := dk_184 1 38 (dk_at dksJ1_fixAfterInsertion_4 5 rfl rfl)
theorem dJ1_fixAfterInsertion_102 : decode cJ1_fixAfterInsertion 102 = .ok (.invokestatic 300, 3) := dk_184 1 44 (dk_at dksJ1_fixAfterInsertion_4 8 rfl rfl)
theorem dJ1_fixAfterInsertion_105 : decode cJ1_fixAfterInsertion 105 = .ok (.if_acmp .ne 13, 3) := dk_166 0 13 (dk_at dksJ1_fixAfterInsertion_4 11 rfl rfl)
theorem dJ1_fixAfterInsertion_108 : decode cJ1_fixAfterInsertion 108 = .ok (.aload_n 1, 1) := dk_43 (dk_at dksJ1_fixAfterInsertion_4 14 rfl rfl)
theorem dJ1_fixAfterInsertion_109 : decode cJ1_fixAfterInsertion 109 = .ok (.invokestatic 294, 3) := dk_184 1 38 (dk_at dksJ1_fixAfterInsertion_4 15 rfl rfl)
theorem dJ1_fixAfterInsertion_112 : decode cJ1_fixAfterInsertion 112 = .ok (.astore_n 1, 1) := dk_76 (dk_at dksJ1_fixAfterInsertion_4 18 rfl rfl)
theorem dJ1_fixAfterInsertion_113 : decode cJ1_fixAfterInsertion 113 = .ok (.aload_n 0, 1) := dk_42 (dk_at dksJ1_fixAfterInsertion_4 19 rfl rfl)
theorem dJ1_fixAfterInsertion_114 : decode cJ1_fixAfterInsertion 114 = .ok (.aload_n 1, 1) := dk_43 (dk_at dksJ1_fixAfterInsertion_4 20 rfl rfl)
theorem dJ1_fixAfterInsertion_115 : decode cJ1_fixAfterInsertion 115 = .ok (.invokevirtual 311, 3) := dk_182 1 55 (dk_at dksJ1_fixAfterInsertion_4 21 rfl rfl)
theorem dJ1_fixAfterInsertion_118 : decode cJ1_fixAfterInsertion 118 = .ok (.aload_n 1, 1) := dk_43 (dk_at dksJ1_fixAfterInsertion_5 0 rfl rfl)
theorem dJ1_fixAfterInsertion_119 : decode cJ1_fixAfterInsertion 119 = .ok (.invokestatic 294, 3) := dk_184 1 38 (dk_at dksJ1_fixAfterInsertion_5 1 rfl rfl)
theorem dJ1_fixAfterInsertion_122 : decode cJ1_fixAfterInsertion 122 = .ok (.iconst 1, 1) := dk_4 (dk_at dksJ1_fixAfterInsertion_5 4 rfl rfl)
theorem dJ1_fixAfterInsertion_123 : decode cJ1_fixAfterInsertion 123 = .ok (.invokestatic 307, 3) := dk_184 1 51 (dk_at dksJ1_fixAfterInsertion_5 5 rfl rfl)
theorem dJ1_fixAfterInsertion_126 : decode cJ1_fixAfterInsertion 126 = .ok (.aload_n 1, 1) := dk_43 (dk_at dksJ1_fixAfterInsertion_5 8 rfl rfl)
theorem dJ1_fixAfterInsertion_127 : decode cJ1_fixAfterInsertion 127 = .ok (.invokestatic 294, 3) := dk_184 1 38 (dk_at dksJ1_fixAfterInsertion_5 9 rfl rfl)
theorem dJ1_fixAfterInsertion_130 : decode cJ1_fixAfterInsertion 130 = .ok (.invokestatic 294, 3) := dk_184 1 38 (dk_at dksJ1_fixAfterInsertion_5 12 rfl rfl)
theorem dJ1_fixAfterInsertion_133 : decode cJ1_fixAfterInsertion 133 = .ok (.iconst 0, 1) := dk_3 (dk_at dksJ1_fixAfterInsertion_5 15 rfl rfl)
theorem dJ1_fixAfterInsertion_134 : decode cJ1_fixAfterInsertion 134 = .ok (.invokestatic 307, 3) := dk_184 1 51 (dk_at dksJ1_fixAfterInsertion_5 16 rfl rfl)
theorem dJ1_fixAfterInsertion_137 : decode cJ1_fixAfterInsertion 137 = .ok (.aload_n 0, 1) := dk_42 (dk_at dksJ1_fixAfterInsertion_5 19 rfl rfl)
theorem dJ1_fixAfterInsertion_138 : decode cJ1_fixAfterInsertion 138 = .ok (.aload_n 1, 1) := dk_43 (dk_at dksJ1_fixAfterInsertion_5 20 rfl rfl)
theorem dJ1_fixAfterInsertion_139 : decode cJ1_fixAfterInsertion 139 = .ok (.invokestatic 294, 3) := dk_184 1 38 (dk_at dksJ1_fixAfterInsertion_5 21 rfl rfl)
theorem dJ1_fixAfterInsertion_142 : decode cJ1_fixAfterInsertion 142 = .ok (.invokestatic 294, 3) := dk_184 1 38 (dk_at dksJ1_fixAfterInsertion_6 0 rfl rfl)
theorem dJ1_fixAfterInsertion_145 : decode cJ1_fixAfterInsertion 145 = .ok (.invokevirtual 314, 3) := dk_182 1 58 (dk_at dksJ1_fixAfterInsertion_6 3 rfl rfl)
theorem dJ1_fixAfterInsertion_148 : decode cJ1_fixAfterInsertion 148 = .ok (.goto (-143), 3) := dk_167 255 113 (dk_at dksJ1_fixAfterInsertion_6 6 rfl rfl)
theorem dJ1_fixAfterInsertion_151 : decode cJ1_fixAfterInsertion 151 = .ok (.aload_n 1, 1) := dk_43 (dk_at dksJ1_fixAfterInsertion_6 9 rfl rfl)
theorem dJ1_fixAfterInsertion_152 : decode cJ1_fixAfterInsertion 152 = .ok (.invokestatic 294, 3) := dk_184 1 38 (dk_at dksJ1_fixAfterInsertion_6 10 rfl rfl)
theorem dJ1_fixAfterInsertion_155 : decode cJ1_fixAfterInsertion 155 = .ok (.invokestatic 294, 3) := dk_184 1 38 (dk_at dksJ1_fixAfterInsertion_6 13 rfl rfl)
theorem dJ1_fixAfterInsertion_158 : decode cJ1_fixAfterInsertion 158 = .ok (.invokestatic 297, 3) := dk_184 1 41 (dk_at dksJ1_fixAfterInsertion_6 16 rfl rfl)
theorem dJ1_fixAfterInsertion_161 : decode cJ1_fixAfterInsertion 161 = .ok (.astore_n 2, 1) := dk_77 (dk_at dksJ1_fixAfterInsertion_6 19 rfl rfl)
theorem dJ1_fixAfterInsertion_162 : decode cJ1_fixAfterInsertion 162 = .ok (.aload_n 2, 1) := dk_44 (dk_at dksJ1_fixAfterInsertion_6 20 rfl rfl)
theorem dJ1_fixAfterInsertion_163 : decode cJ1_fixAfterInsertion 163 = .ok (.invokestatic 303, 3) := dk_184 1 47 (dk_at dksJ1_fixAfterInsertion_6 21 rfl rfl)
theorem dJ1_fixAfterInsertion_166 : decode cJ1_fixAfterInsertion 166 = .ok (.ifCond .ne 38, 3) := dk_154 0 38 (dk_at dksJ1_fixAfterInsertion_7 0 rfl rfl)
theorem dJ1_fixAfterInsertion_169 : decode cJ1_fixAfterInsertion 169 = .ok (.aload_n 1, 1) := dk_43 (dk_at dksJ1_fixAfterInsertion_7 3 rfl rfl)
theorem dJ1_fixAfterInsertion_170 : decode cJ1_fixAfterInsertion 170 = .ok (.invokestatic 294, 3) := dk_184 1 38 (dk_at dksJ1_fixAfterInsertion_7 4 rfl rfl)
theorem dJ1_fixAfterInsertion_173 : decode cJ1_fixAfterInsertion 173 = .ok (.iconst 1, 1) := dk_4 (dk_at dksJ1_fixAfterInsertion_7 7 rfl rfl)
theorem dJ1_fixAfterInsertion_174 : decode cJ1_fixAfterInsertion 174 = .ok (.invokestatic 307, 3) := dk_184 1 51 (dk_at dksJ1_fixAfterInsertion_7 8 rfl rfl)
theorem dJ1_fixAfterInsertion_177 : decode cJ1_fixAfterInsertion 177 = .ok (.aload_n 2, 1) := dk_44 (dk_at dksJ1_fixAfterInsertion_7 11 rfl rfl)
theorem dJ1_fixAfterInsertion_178 : decode cJ1_fixAfterInsertion 178 = .ok (.iconst 1, 1) := dk_4 (dk_at dksJ1_fixAfterInsertion_7 12 rfl rfl)
theorem dJ1_fixAfterInsertion_179 : decode cJ1_fixAfterInsertion 179 = .ok (.invokestatic 307, 3) := dk_184 1 51 (dk_at dksJ1_fixAfterInsertion_7 13 rfl rfl)
theorem dJ1_fixAfterInsertion_182 : decode cJ1_fixAfterInsertion 182 = .ok (.aload_n 1, 1) := dk_43 (dk_at dksJ1_fixAfterInsertion_7 16 rfl rfl)
theorem dJ1_fixAfterInsertion_183 : decode cJ1_fixAfterInsertion 183 = .ok (.invokestatic 294, 3) := dk_184 1 38 (dk_at dksJ1_fixAfterInsertion_7 17 rfl rfl)
theorem dJ1_fixAfterInsertion_186 : decode cJ1_fixAfterInsertion 186 = .ok (.invokestatic 294, 3) := dk_184 1 38 (dk_at dksJ1_fixAfterInsertion_7 20 rfl rfl)
theorem dJ1_fixAfterInsertion_189 : decode cJ1_fixAfterInsertion 189 = .ok (.iconst 0, 1) := dk_3 (dk_at dksJ1_fixAfterInsertion_7 23 rfl rfl)
theorem dJ1_fixAfterInsertion_190 : decode cJ1_fixAfterInsertion 190 = .ok (.invokestatic 307, 3) := dk_184 1 51 (dk_at dksJ1_fixAfterInsertion_8 0 rfl rfl)
theorem dJ1_fixAfterInsertion_193 : decode cJ1_fixAfterInsertion 193 = .ok (.aload_n 1, 1) := dk_43 (dk_at dksJ1_fixAfterInsertion_8 3 rfl rfl)
theorem dJ1_fixAfterInsertion_194 : decode cJ1_fixAfterInsertion 194 = .ok (.invokestatic 294, 3) := dk_184 1 38 (dk_at dksJ1_fixAfterInsertion_8 4 rfl rfl)
theorem dJ1_fixAfterInsertion_197 : decode cJ1_fixAfterInsertion 197 = .ok (.invokestatic 294, 3) := dk_184 1 38 (dk_at dksJ1_fixAfterInsertion_8 7 rfl rfl)
theorem dJ1_fixAfterInsertion_200 : decode cJ1_fixAfterInsertion 200 = .ok (.astore_n 1, 1) := dk_76 (dk_at dksJ1_fixAfterInsertion_8 10 rfl rfl)
theorem dJ1_fixAfterInsertion_201 : decode cJ1_fixAfterInsertion 201 = .ok (.goto 54, 3) := dk_167 0 54 (dk_at dksJ1_fixAfterInsertion_8 11 rfl rfl)
theorem dJ1_fixAfterInsertion_204 : decode cJ1_fixAfterInsertion 204 = .ok (.aload_n 1, 1) := dk_43 (dk_at dksJ1_fixAfterInsertion_8 14 rfl rfl)
theorem dJ1_fixAfterInsertion_205 : decode cJ1_fixAfterInsertion 205 = .ok (.aload_n 1, 1) := dk_43 (dk_at dksJ1_fixAfterInsertion_8 15 rfl rfl)
theorem dJ1_fixAfterInsertion_206 : decode cJ1_fixAfterInsertion 206 = .ok (.invokestatic 294, 3) := dk_184 1 38 (dk_at dksJ1_fixAfterInsertion_8 16 rfl rfl)
theorem dJ1_fixAfterInsertion_209 : decode cJ1_fixAfterInsertion 209 = .ok (.invokestatic 297, 3) := dk_184 1 41 (dk_at dksJ1_fixAfterInsertion_8 19 rfl rfl)
theorem dJ1_fixAfterInsertion_212 : decode cJ1_fixAfterInsertion 212 = .ok (.if_acmp .ne 13, 3) := dk_166 0 13 (dk_at dksJ1_fixAfterInsertion_9 0 rfl rfl)
theorem dJ1_fixAfterInsertion_215 : decode cJ1_fixAfterInsertion 215 = .ok (.aload_n 1, 1) := dk_43 (dk_at dksJ1_fixAfterInsertion_9 3 rfl rfl)
theorem dJ1_fixAfterInsertion_216 : decode cJ1_fixAfterInsertion 216 = .ok (.invokestatic 294, 3) := dk_184 1 38 (dk_at dksJ1_fixAfterInsertion_9 4 rfl rfl)
theorem dJ1_fixAfterInsertion_219 : decode cJ1_fixAfterInsertion 219 = .ok (.astore_n 1, 1) := dk_76 (dk_at dksJ1_fixAfterInsertion_9 7 rfl rfl)
theorem dJ1_fixAfterInsertion_220 : decode cJ1_fixAfterInsertion 220 = .ok (.aload_n 0, 1) := dk_42 (dk_at dksJ1_fixAfterInsertion_9 8 rfl rfl)
theorem dJ1_fixAfterInsertion_221 : decode cJ1_fixAfterInsertion 221 = .ok (.aload_n 1, 1) := dk_43 (dk_at dksJ1_fixAfterInsertion_9 9 rfl rfl)
theorem dJ1_fixAfterInsertion_222 : decode cJ1_fixAfterInsertion 222 = .ok (.invokevirtual 314, 3) := dk_182 1 58 (dk_at dksJ1_fixAfterInsertion_9 10 rfl rfl)
theorem dJ1_fixAfterInsertion_225 : decode cJ1_fixAfterInsertion 225 = .ok (.aload_n 1, 1) := dk_43 (dk_at dksJ1_fixAfterInsertion_9 13 rfl rfl)
theorem dJ1_fixAfterInsertion_226 : decode cJ1_fixAfterInsertion 226 = .ok (.invokestatic 294, 3) := dk_184 1 38 (dk_at dksJ1_fixAfterInsertion_9 14 rfl rfl)
theorem dJ1_fixAfterInsertion_229 : decode cJ1_fixAfterInsertion 229 = .ok (.iconst 1, 1) := dk_4 (dk_at dksJ1_fixAfterInsertion_9 17 rfl rfl)
theorem dJ1_fixAfterInsertion_230 : decode cJ1_fixAfterInsertion 230 = .ok (.invokestatic 307, 3) := dk_184 1 51 (dk_at dksJ1_fixAfterInsertion_9 18 rfl rfl)
theorem dJ1_fixAfterInsertion_233 : decode cJ1_fixAfterInsertion 233 = .ok (.aload_n 1, 1) := dk_43 (dk_at dksJ1_fixAfterInsertion_9 21 rfl rfl)
theorem dJ1_fixAfterInsertion_234 : decode cJ1_fixAfterInsertion 234 = .ok (.invokestatic 294, 3) := dk_184 1 38 (dk_at dksJ1_fixAfterInsertion_10 0 rfl rfl)
theorem dJ1_fixAfterInsertion_237 : decode cJ1_fixAfterInsertion 237 = .ok (.invokestatic 294, 3) := dk_184 1 38 (dk_at dksJ1_fixAfterInsertion_10 3 rfl rfl)
theorem dJ1_fixAfterInsertion_240 : decode cJ1_fixAfterInsertion 240 = .ok (.iconst 0, 1) := dk_3 (dk_at dksJ1_fixAfterInsertion_10 6 rfl rfl)
theorem dJ1_fixAfterInsertion_241 : decode cJ1_fixAfterInsertion 241 = .ok (.invokestatic 307, 3) := dk_184 1 51 (dk_at dksJ1_fixAfterInsertion_10 7 rfl rfl)
theorem dJ1_fixAfterInsertion_244 : decode cJ1_fixAfterInsertion 244 = .ok (.aload_n 0, 1) := dk_42 (dk_at dksJ1_fixAfterInsertion_10 10 rfl rfl)
theorem dJ1_fixAfterInsertion_245 : decode cJ1_fixAfterInsertion 245 = .ok (.aload_n 1, 1) := dk_43 (dk_at dksJ1_fixAfterInsertion_10 11 rfl rfl)
theorem dJ1_fixAfterInsertion_246 : decode cJ1_fixAfterInsertion 246 = .ok (.invokestatic 294, 3) := dk_184 1 38 (dk_at dksJ1_fixAfterInsertion_10 12 rfl rfl)
theorem dJ1_fixAfterInsertion_249 : decode cJ1_fixAfterInsertion 249 = .ok (.invokestatic 294, 3) := dk_184 1 38 (dk_at dksJ1_fixAfterInsertion_10 15 rfl rfl)
theorem dJ1_fixAfterInsertion_252 : decode cJ1_fixAfterInsertion 252 = .ok (.invokevirtual 311, 3) := dk_182 1 55 (dk_at dksJ1_fixAfterInsertion_10 18 rfl rfl)
theorem dJ1_fixAfterInsertion_255 : decode cJ1_fixAfterInsertion 255 = .ok (.goto (-250), 3) := dk_167 255 6 (dk_at dksJ1_fixAfterInsertion_10 21 rfl rfl)
theorem dJ1_fixAfterInsertion_258 : decode cJ1_fixAfterInsertion 258 = .ok (.aload_n 0, 1) := dk_42 (dk_at dksJ1_fixAfterInsertion_11 0 rfl rfl)
theorem dJ1_fixAfterInsertion_259 : decode cJ1_fixAfterInsertion 259 = .ok (.getfield 101, 3) := dk_180 0 101 (dk_at dksJ1_fixAfterInsertion_11 1 rfl rfl)
theorem dJ1_fixAfterInsertion_262 : decode cJ1_fixAfterInsertion 262 = .ok (.iconst 1, 1) := dk_4 (dk_at dksJ1_fixAfterInsertion_11 4 rfl rfl)
theorem dJ1_fixAfterInsertion_263 : decode cJ1_fixAfterInsertion 263 = .ok (.putfield 290, 3) := dk_181 1 34 (dk_at dksJ1_fixAfterInsertion_11 5 rfl rfl)
theorem dJ1_fixAfterInsertion_266 : decode cJ1_fixAfterInsertion 266 = .ok (.return_, 1) := dk_177 (dk_at dksJ1_fixAfterInsertion_11 8 rfl rfl)
def dkwJ1_parentOf_0 : List UInt8 := [42, 199, 0, 7, 1, 167, 0, 7, 42, 180, 0, 124, 176]
abbrev dktJ1_parentOf_0 : List UInt8 := dkwJ1_parentOf_0 ++ []
theorem dksJ1_parentOf_0 : cJ1_parentOf.data.toList.drop 0 = dktJ1_parentOf_0 := by decide +kernel
theorem dJ1_parentOf_0 : decode cJ1_parentOf 0 = .ok (.aload_n 0, 1) := dk_42 (dk_at dksJ1_parentOf_0 0 rfl rfl)
theorem dJ1_parentOf_1 : decode cJ1_parentOf 1 = .ok (.ifnonnull 7, 3) := dk_199 0 7 (dk_at dksJ1_parentOf_0 1 rfl rfl)
theorem dJ1_parentOf_4 : decode cJ1_parentOf 4 = .ok (.aconst_null, 1) := dk_1 (dk_at dksJ1_parentOf_0 4 rfl rfl)
theorem dJ1_parentOf_5 : decode cJ1_parentOf 5 = .ok (.goto 7, 3) := dk_167 0 7 (dk_at dksJ1_parentOf_0 5 rfl rfl)
theorem dJ1_parentOf_8 : decode cJ1_parentOf 8 = .ok (.aload_n 0, 1) := dk_42 (dk_at dksJ1_parentOf_0 8 rfl rfl)
theorem dJ1_parentOf_9 : decode cJ1_parentOf 9 = .ok (.getfield 124, 3) := dk_180 0 124 (dk_at dksJ1_parentOf_0 9 rfl rfl)
theorem dJ1_parentOf_12 : decode cJ1_parentOf 12 = .ok (.areturn, 1) := dk_176 (dk_at dksJ1_parentOf_0 12 rfl rfl)
def dkwJ1_leftOf_0 : List UInt8 := [42, 199, 0, 7, 1, 167, 0, 7, 42, 180, 0, 111, 176]
abbrev dktJ1_leftOf_0 : List UInt8 := dkwJ1_leftOf_0 ++ []
theorem dksJ1_leftOf_0 : cJ1_leftOf.data.toList.drop 0 = dktJ1_leftOf_0 := by decide +kernel
theorem dJ1_leftOf_0 : decode cJ1_leftOf 0 = .ok (.aload_n 0, 1) := dk_42 (dk_at dksJ1_leftOf_0 0 rfl rfl)
theorem dJ1_leftOf_1 : decode cJ1_leftOf 1 = .ok (.ifnonnull 7, 3) := dk_199 0 7 (dk_at dksJ1_leftOf_0 1 rfl rfl)
theorem dJ1_leftOf_4 : decode cJ1_leftOf 4 = .ok (.aconst_null, 1) := dk_1 (dk_at dksJ1_leftOf_0 4 rfl rfl)
theorem dJ1_leftOf_5 : decode cJ1_leftOf 5 = .ok (.goto 7, 3) := dk_167 0 7 (dk_at dksJ1_leftOf_0 5 rfl rfl)
theorem dJ1_leftOf_8 : decode cJ1_leftOf 8 = .ok (.aload_n 0, 1) := dk_42 (dk_at dksJ1_leftOf_0 8 rfl rfl)
theorem dJ1_leftOf_9 : decode cJ1_leftOf 9 = .ok (.getfield 111, 3) := dk_180 0 111 (dk_at dksJ1_leftOf_0 9 rfl rfl)
theorem dJ1_leftOf_12 : decode cJ1_leftOf 12 = .ok (.areturn, 1) := dk_176 (dk_at dksJ1_leftOf_0 12 rfl rfl)
def dkwJ1_rightOf_0 : List UInt8 := [42, 199, 0, 7, 1, 167, 0, 7, 42, 180, 0, 114, 176]
abbrev dktJ1_rightOf_0 : List UInt8 := dkwJ1_rightOf_0 ++ []
theorem dksJ1_rightOf_0 : cJ1_rightOf.data.toList.drop 0 = dktJ1_rightOf_0 := by decide +kernel
theorem dJ1_rightOf_0 : decode cJ1_rightOf 0 = .ok (.aload_n 0, 1) := dk_42 (dk_at dksJ1_rightOf_0 0 rfl rfl)
theorem dJ1_rightOf_1 : decode cJ1_rightOf 1 = .ok (.ifnonnull 7, 3) := dk_199 0 7 (dk_at dksJ1_rightOf_0 1 rfl rfl)
theorem dJ1_rightOf_4 : decode cJ1_rightOf 4 = .ok (.aconst_null, 1) := dk_1 (dk_at dksJ1_rightOf_0 4 rfl rfl)
theorem dJ1_rightOf_5 : decode cJ1_rightOf 5 = .ok (.goto 7, 3) := dk_167 0 7 (dk_at dksJ1_rightOf_0 5 rfl rfl)
theorem dJ1_rightOf_8 : decode cJ1_rightOf 8 = .ok (.aload_n 0, 1) := dk_42 (dk_at dksJ1_rightOf_0 8 rfl rfl)
theorem dJ1_rightOf_9 : decode cJ1_rightOf 9 = .ok (.getfield 114, 3) := dk_180 0 114 (dk_at dksJ1_rightOf_0 9 rfl rfl)
theorem dJ1_rightOf_12 : decode cJ1_rightOf 12 = .ok (.areturn, 1) := dk_176 (dk_at dksJ1_rightOf_0 12 rfl rfl)
def dkwJ1_colorOf_0 : List UInt8 := [42, 199, 0, 7, 4, 167, 0, 7, 42, 180, 1, 34, 172]
abbrev dktJ1_colorOf_0 : List UInt8 := dkwJ1_colorOf_0 ++ []
theorem dksJ1_colorOf_0 : cJ1_colorOf.data.toList.drop 0 = dktJ1_colorOf_0 := by decide +kernel
theorem dJ1_colorOf_0 : decode cJ1_colorOf 0 = .ok (.aload_n 0, 1) := dk_42 (dk_at dksJ1_colorOf_0 0 rfl rfl)
theorem dJ1_colorOf_1 : decode cJ1_colorOf 1 = .ok (.ifnonnull 7, 3) := dk_199 0 7 (dk_at dksJ1_colorOf_0 1 rfl rfl)
theorem dJ1_colorOf_4 : decode cJ1_colorOf 4 = .ok (.iconst 1, 1) := dk_4 (dk_at dksJ1_colorOf_0 4 rfl rfl)
theorem dJ1_colorOf_5 : decode cJ1_colorOf 5 = .ok (.goto 7, 3) := dk_167 0 7 (dk_at dksJ1_colorOf_0 5 rfl rfl)
theorem dJ1_colorOf_8 : decode cJ1_colorOf 8 = .ok (.aload_n 0, 1) := dk_42 (dk_at dksJ1_colorOf_0 8 rfl rfl)
theorem dJ1_colorOf_9 : decode cJ1_colorOf 9 = .ok (.getfield 290, 3) := dk_180 1 34 (dk_at dksJ1_colorOf_0 9 rfl rfl)
theorem dJ1_colorOf_12 : decode cJ1_colorOf 12 = .ok (.ireturn, 1) := dk_172 (dk_at dksJ1_colorOf_0 12 rfl rfl)
def dkwJ1_setColor_0 : List UInt8 := [42, 198, 0, 8, 42, 27, 181, 1, 34, 177]
abbrev dktJ1_setColor_0 : List UInt8 := dkwJ1_setColor_0 ++ []
theorem dksJ1_setColor_0 : cJ1_setColor.data.toList.drop 0 = dktJ1_setColor_0 := by decide +kernel
theorem dJ1_setColor_0 : decode cJ1_setColor 0 = .ok (.aload_n 0, 1) := dk_42 (dk_at dksJ1_setColor_0 0 rfl rfl)
theorem dJ1_setColor_1 : decode cJ1_setColor 1 = .ok (.ifnull 8, 3) := dk_198 0 8 (dk_at dksJ1_setColor_0 1 rfl rfl)
theorem dJ1_setColor_4 : decode cJ1_setColor 4 = .ok (.aload_n 0, 1) := dk_42 (dk_at dksJ1_setColor_0 4 rfl rfl)
theorem dJ1_setColor_5 : decode cJ1_setColor 5 = .ok (.iload_n 1, 1) := dk_27 (dk_at dksJ1_setColor_0 5 rfl rfl)
theorem dJ1_setColor_6 : decode cJ1_setColor 6 = .ok (.putfield 290, 3) := dk_181 1 34 (dk_at dksJ1_setColor_0 6 rfl rfl)
theorem dJ1_setColor_9 : decode cJ1_setColor 9 = .ok (.return_, 1) := dk_177 (dk_at dksJ1_setColor_0 9 rfl rfl)
def dkwJ1_rotateLeft_4 : List UInt8 := [177]
abbrev dktJ1_rotateLeft_4 : List UInt8 := dkwJ1_rotateLeft_4 ++ []
def dkwJ1_rotateLeft_3 : List UInt8 := [181, 0, 111, 167, 0, 11, 43, 180, 0, 124, 44, 181, 0, 114, 44, 43, 181, 0, 111, 43, 44, 181, 0, 124]
abbrev dktJ1_rotateLeft_3 : List UInt8 := dkwJ1_rotateLeft_3 ++ dktJ1_rotateLeft_4
def dkwJ1_rotateLeft_2 : List UInt8 := [44, 181, 0, 101, 167, 0, 33, 43, 180, 0, 124, 180, 0, 111, 43, 166, 0, 14, 43, 180, 0, 124, 44]
abbrev dktJ1_rotateLeft_2 : List UInt8 := dkwJ1_rotateLeft_2 ++ dktJ1_rotateLeft_3
def dkwJ1_rotateLeft_1 : List UInt8 := [44, 180, 0, 111, 43, 181, 0, 124, 44, 43, 180, 0, 124, 181, 0, 124, 43, 180, 0, 124, 199, 0, 11, 42]
abbrev dktJ1_rotateLeft_1 : List UInt8 := dkwJ1_rotateLeft_1 ++ dktJ1_rotateLeft_2
def dkwJ1_rotateLeft_0 : List UInt8 := [43, 198, 0, 94, 43, 180, 0, 114, 77, 43, 44, 180, 0, 111, 181, 0, 114, 44, 180, 0, 111, 198, 0, 11]
abbrev dktJ1_rotateLeft_0 : List UInt8 := dkwJ1_rotateLeft_0 ++ dktJ1_rotateLeft_1
theorem dksJ1_rotateLeft_0 : cJ1_rotateLeft.data.toList.drop 0 = dktJ1_rotateLeft_0 := by decide +kernel
theorem dksJ1_rotateLeft_1 : cJ1_rotateLeft.data.toList.drop 24 = dktJ1_rotateLeft_1 := dk_seg dksJ1_rotateLeft_0 24 rfl rfl
theorem dksJ1_rotateLeft_2 : cJ1_rotateLeft.data.toList.drop 48 = dktJ1_rotateLeft_2 := dk_seg dksJ1_rotateLeft_1 24 rfl rfl
theorem dksJ1_rotateLeft_3 : cJ1_rotateLeft.data.toList.drop 71 = dktJ1_rotateLeft_3 := dk_seg dksJ1_rotateLeft_2 23 rfl rfl
theorem dksJ1_rotateLeft_4 : cJ1_rotateLeft.data.toList.drop 95 = dktJ1_rotateLeft_4 := dk_seg dksJ1_rotateLeft_3 24 rfl rfl
theorem dJ1_rotateLeft_0 : decode cJ1_rotateLeft 0 = .ok (.aload_n 1, 1) := dk_43 (dk_at dksJ1_rotateLeft_0 0 rfl rfl)
theorem dJ1_rotateLeft_1 : decode cJ1_rotateLeft 1 = .ok (.ifnull 94, 3) := dk_198 0 94 (dk_at dksJ1_rotateLeft_0 1 rfl rfl)
theorem dJ1_rotateLeft_4 : decode cJ1_rotateLeft 4 = .ok (.aload_n 1, 1) := dk_43 (dk_at dksJ1_rotateLeft_0 4 rfl rfl)
theorem dJ1_rotateLeft_5 : decode cJ1_rotateLeft 5 = .ok (.getfield 114, 3) := dk_180 0 114 (dk_at dksJ1_rotateLeft_0 5 rfl rfl)
theorem dJ1_rotateLeft_8 : decode cJ1_rotateLeft 8 = .ok (.astore_n 2, 1) := dk_77 (dk_at dksJ1_rotateLeft_0 8 rfl rfl)
theorem dJ1_rotateLeft_9 : decode cJ1_rotateLeft 9 = .ok (.aload_n 1, 1) := dk_43 (dk_at dksJ1_rotateLeft_0 9 rfl rfl)
theorem dJ1_rotateLeft_10 : decode cJ1_rotateLeft 10 = .ok (.aload_n 2, 1) := dk_44 (dk_at dksJ1_rotateLeft_0 10 rfl rfl)
theorem dJ1_rotateLeft_11 : decode cJ1_rotateLeft 11 = .ok (.getfield 111, 3) := dk_180 0 111 (dk_at dksJ1_rotateLeft_0 11 rfl rfl)
theorem dJ1_rotateLeft_14 : decode cJ1_rotateLeft 14 = .ok (.putfield 114, 3) := dk_181 0 114 (dk_at dksJ1_rotateLeft_0 14 rfl rfl)
theorem dJ1_rotateLeft_17 : decode cJ1_rotateLeft 17 = .ok (.aload_n 2, 1) := dk_44 (dk_at dksJ1_rotateLeft_0 17 rfl rfl)
theorem dJ1_rotateLeft_18 : decode cJ1_rotateLeft 18 = .ok (.getfield 111, 3) := dk_180 0 111 (dk_at dksJ1_rotateLeft_0 18 rfl rfl)
theorem dJ1_rotateLeft_21 : decode cJ1_rotateLeft 21 = .ok (.ifnull 11, 3) := dk_198 0 11 (dk_at dksJ1_rotateLeft_0 21 rfl rfl)
theorem dJ1_rotateLeft_24 : decode cJ1_rotateLeft 24 = .ok (.aload_n 2, 1) := dk_44 (dk_at dksJ1_rotateLeft_1 0 rfl rfl)
theorem dJ1_rotateLeft_25 : decode cJ1_rotateLeft 25 = .ok (.getfield 111, 3) := dk_180 0 111 (dk_at dksJ1_rotateLeft_1 1 rfl rfl)
theorem dJ1_rotateLeft_28 : decode cJ1_rotateLeft 28 = .ok (.aload_n 1, 1) := dk_43 (dk_at dksJ1_rotateLeft_1 4 rfl rfl)
theorem dJ1_rotateLeft_29 : decode cJ1_rotateLeft 29 = .ok (.putfield 124, 3) := dk_181 0 124 (dk_at dksJ1_rotateLeft_1 5 rfl rfl)
theorem dJ1_rotateLeft_32 : decode cJ1_rotateLeft 32 = .ok (.aload_n 2, 1) := dk_44 (dk_at dksJ1_rotateLeft_1 8 rfl rfl)
theorem dJ1_rotateLeft_33 : decode cJ1_rotateLeft 33 = .ok (.aload_n 1, 1) := dk_43 (dk_at dksJ1_rotateLeft_1 9 rfl rfl)
theorem dJ1_rotateLeft_34 : decode cJ1_rotateLeft 34 = .ok (.getfield 124, 3) := dk_180 0 124 (dk_at dksJ1_rotateLeft_1 10 rfl rfl)
theorem dJ1_rotateLeft_37 : decode cJ1_rotateLeft 37 = .ok (.putfield 124, 3) := dk_181 0 124 (dk_at dksJ1_rotateLeft_1 13 rfl rfl)
theorem dJ1_rotateLeft_40 : decode cJ1_rotateLeft 40 = .ok (.aload_n 1, 1) := dk_43 (dk_at dksJ1_rotateLeft_1 16 rfl rfl)
theorem dJ1_rotateLeft_41 : decode cJ1_rotateLeft 41 = .ok (.getfield 124, 3) := dk_180 0 124 (dk_at dksJ1_rotateLeft_1 17 rfl rfl)
theorem dJ1_rotateLeft_44 : decode cJ1_rotateLeft 44 = .ok (.ifnonnull 11, 3) := dk_199 0 11 (dk_at dksJ1_rotateLeft_1 20 rfl rfl)
theorem dJ1_rotateLeft_47 : decode cJ1_rotateLeft 47 = .ok (.aload_n 0, 1) := dk_42 (dk_at dksJ1_rotateLeft_1 23 rfl rfl)
theorem dJ1_rotateLeft_48 : decode cJ1_rotateLeft 48 = .ok (.aload_n 2, 1) := dk_44 (dk_at dksJ1_rotateLeft_2 0 rfl rfl)
theorem dJ1_rotateLeft_49 : decode cJ1_rotateLeft 49 = .ok (.putfield 101, 3) := dk_181 0 101 (dk_at dksJ1_rotateLeft_2 1 rfl rfl)
theorem dJ1_rotateLeft_52 : decode cJ1_rotateLeft 52 = .ok (.goto 33, 3) := dk_167 0 33 (dk_at dksJ1_rotateLeft_2 4 rfl rfl)
theorem dJ1_rotateLeft_55 : decode cJ1_rotateLeft 55 = .ok (.aload_n 1, 1) := dk_43 (dk_at dksJ1_rotateLeft_2 7 rfl rfl)
theorem dJ1_rotateLeft_56 : decode cJ1_rotateLeft 56 = .ok (.getfield 124, 3) := dk_180 0 124 (dk_at dksJ1_rotateLeft_2 8 rfl rfl)
theorem dJ1_rotateLeft_59 : decode cJ1_rotateLeft 59 = .ok (.getfield 111, 3) := dk_180 0 111 (dk_at dksJ1_rotateLeft_2 11 rfl rfl)
theorem dJ1_rotateLeft_62 : decode cJ1_rotateLeft 62 = .ok (.aload_n 1, 1) := dk_43 (dk_at dksJ1_rotateLeft_2 14 rfl rfl)
theorem dJ1_rotateLeft_63 : decode cJ1_rotateLeft 63 = .ok (.if_acmp .ne 14, 3) := dk_166 0 14 (dk_at dksJ1_rotateLeft_2 15 rfl rfl)
theorem dJ1_rotateLeft_66 : decode cJ1_rotateLeft 66 = .ok (.aload_n 1, 1) := dk_43 (dk_at dksJ1_rotateLeft_2 18 rfl rfl)
theorem dJ1_rotateLeft_67 : decode cJ1_rotateLeft 67 = .ok (.getfield 124, 3) := dk_180 0 124 (dk_at dksJ1_rotateLeft_2 19 rfl rfl)
theorem dJ1_rotateLeft_70 : decode cJ1_rotateLeft 70 = .ok (.aload_n 2, 1) := dk_44 (dk_at dksJ1_rotateLeft_2 22 rfl rfl)
theorem dJ1_rotateLeft_71 : decode cJ1_rotateLeft 71 = .ok (.putfield 111, 3) := dk_181 0 111 (dk_at dksJ1_rotateLeft_3 0 rfl rfl)
theorem dJ1_rotateLeft_74 : decode cJ1_rotateLeft 74 = .ok (.goto 11, 3) := dk_167 0 11 (dk_at dksJ1_rotateLeft_3 3 rfl rfl)
theorem dJ1_rotateLeft_77 : decode cJ1_rotateLeft 77 = .ok (.aload_n 1, 1) := dk_43 (dk_at dksJ1_rotateLeft_3 6 rfl rfl)
theorem dJ1_rotateLeft_78 : decode cJ1_rotateLeft 78 = .ok (.getfield 124, 3) := dk_180 0 124 (dk_at dksJ1_rotateLeft_3 7 rfl rfl)
theorem dJ1_rotateLeft_81 : decode cJ1_rotateLeft 81 = .ok (.aload_n 2, 1) := dk_44 (dk_at dksJ1_rotateLeft_3 10 rfl rfl)
theorem dJ1_rotateLeft_82 : decode cJ1_rotateLeft 82 = .ok (.putfield 114, 3) := dk_181 0 114 (dk_at dksJ1_rotateLeft_3 11 rfl rfl)
theorem dJ1_rotateLeft_85 : decode cJ1_rotateLeft 85 = .ok (.aload_n 2, 1) := dk_44 (dk_at dksJ1_rotateLeft_3 14 rfl rfl)
theorem dJ1_rotateLeft_86 : decode cJ1_rotateLeft 86 = .ok (.aload_n 1, 1) := dk_43 (dk_at dksJ1_rotateLeft_3 15 rfl rfl)
theorem dJ1_rotateLeft_87 : decode cJ1_rotateLeft 87 = .ok (.putfield 111, 3) := dk_181 0 111 (dk_at dksJ1_rotateLeft_3 16 rfl rfl)
theorem dJ1_rotateLeft_90 : decode cJ1_rotateLeft 90 = .ok (.aload_n 1, 1) := dk_43 (dk_at dksJ1_rotateLeft_3 19 rfl rfl)
theorem dJ1_rotateLeft_91 : decode cJ1_rotateLeft 91 = .ok (.aload_n 2, 1) := dk_44 (dk_at dksJ1_rotateLeft_3 20 rfl rfl)
theorem dJ1_rotateLeft_92 : decode cJ1_rotateLeft 92 = .ok (.putfield 124, 3) := dk_181 0 124 (dk_at dksJ1_rotateLeft_3 21 rfl rfl)
theorem dJ1_rotateLeft_95 : decode cJ1_rotateLeft 95 = .ok (.return_, 1) := dk_177 (dk_at dksJ1_rotateLeft_4 0 rfl rfl)
def dkwJ1_rotateRight_4 : List UInt8 := [177]
abbrev dktJ1_rotateRight_4 : List UInt8 := dkwJ1_rotateRight_4 ++ []
def dkwJ1_rotateRight_3 : List UInt8 := [181, 0, 114, 167, 0, 11, 43, 180, 0, 124, 44, 181, 0, 111, 44, 43, 181, 0, 114, 43, 44, 181, 0, 124]
abbrev dktJ1_rotateRight_3 : List UInt8 := dkwJ1_rotateRight_3 ++ dktJ1_rotateRight_4
def dkwJ1_rotateRight_2 : List UInt8 := [44, 181, 0, 101, 167, 0, 33, 43, 180, 0, 124, 180, 0, 114, 43, 166, 0, 14, 43, 180, 0, 124, 44]
abbrev dktJ1_rotateRight_2 : List UInt8 := dkwJ1_rotateRight_2 ++ dktJ1_rotateRight_3
def dkwJ1_rotateRight_1 : List UInt8 := [44, 180, 0, 114, 43, 181, 0, 124, 44, 43, 180, 0, 124, 181, 0, 124, 43, 180, 0, 124, 199, 0, 11, 42]
abbrev dktJ1_rotateRight_1 : List UInt8 := dkwJ1_rotateRight_1 ++ dktJ1_rotateRight_2
def dkwJ1_rotateRight_0 : List UInt8 := [43, 198, 0, 94, 43, 180, 0, 111, 77, 43, 44, 180, 0, 114, 181, 0, 111, 44, 180, 0, 114, 198, 0, 11]
abbrev dktJ1_rotateRight_0 : List UInt8 := dkwJ1_rotateRight_0 ++ dktJ1_rotateRight_1
theorem dksJ1_rotateRight_0 : cJ1_rotateRight.data.toList.drop 0 = dktJ1_rotateRight_0 := by decide +kernel
theorem dksJ1_rotateRight_1 : cJ1_rotateRight.data.toList.drop 24 = dktJ1_rotateRight_1 := dk_seg dksJ1_rotateRight_0 24 rfl rfl
theorem dksJ1_rotateRight_2 : cJ1_rotateRight.data.toList.drop 48 = dktJ1_rotateRight_2 := dk_seg dksJ1_rotateRight_1 24 rfl rfl
theorem dksJ1_rotateRight_3 : cJ1_rotateRight.data.toList.drop 71 = dktJ1_rotateRight_3 := dk_seg dksJ1_rotateRight_2 23 rfl rfl
theorem dksJ1_rotateRight_4 : cJ1_rotateRight.data.toList.drop 95 = dktJ1_rotateRight_4 := dk_seg dksJ1_rotateRight_3 24 rfl rfl
theorem dJ1_rotateRight_0 : decode cJ1_rotateRight 0 = .ok (.aload_n 1, 1) := dk_43 (dk_at dksJ1_rotateRight_0 0 rfl rfl)
theorem dJ1_rotateRight_1 : decode cJ1_rotateRight 1 = .ok (.ifnull 94, 3) := dk_198 0 94 (dk_at dksJ1_rotateRight_0 1 rfl rfl)
theorem dJ1_rotateRight_4 : decode cJ1_rotateRight 4 = .ok (.aload_n 1, 1) := dk_43 (dk_at dksJ1_rotateRight_0 4 rfl rfl)
theorem dJ1_rotateRight_5 : decode cJ1_rotateRight 5 = .ok (.getfield 111, 3) := dk_180 0 111 (dk_at dksJ1_rotateRight_0 5 rfl rfl)
theorem dJ1_rotateRight_8 : decode cJ1_rotateRight 8 = .ok (.astore_n 2, 1) := dk_77 (dk_at dksJ1_rotateRight_0 8 rfl rfl)
theorem dJ1_rotateRight_9 : decode cJ1_rotateRight 9 = .ok (.aload_n 1, 1) := dk_43 (dk_at dksJ1_rotateRight_0 9 rfl rfl)
theorem dJ1_rotateRight_10 : decode cJ1_rotateRight 10 = .ok (.aload_n 2, 1) := dk_44 (dk_at dksJ1_rotateRight_0 10 rfl rfl)
theorem dJ1_rotateRight_11 : decode cJ1_rotateRight 11 = .ok (.getfield 114, 3) := dk_180 0 114 (dk_at dksJ1_rotateRight_0 11 rfl rfl)
theorem dJ1_rotateRight_14 : decode cJ1_rotateRight 14 = .ok (.putfield 111, 3) := dk_181 0 111 (dk_at dksJ1_rotateRight_0 14 rfl rfl)
theorem dJ1_rotateRight_17 : decode cJ1_rotateRight 17 = .ok (.aload_n 2, 1) := dk_44 (dk_at dksJ1_rotateRight_0 17 rfl rfl)
theorem dJ1_rotateRight_18 : decode cJ1_rotateRight 18 = .ok (.getfield 114, 3) := dk_180 0 114 (dk_at dksJ1_rotateRight_0 18 rfl rfl)
theorem dJ1_rotateRight_21 : decode cJ1_rotateRight 21 = .ok (.ifnull 11, 3) := dk_198 0 11 (dk_at dksJ1_rotateRight_0 21 rfl rfl)
theorem dJ1_rotateRight_24 : decode cJ1_rotateRight 24 = .ok (.aload_n 2, 1) := dk_44 (dk_at dksJ1_rotateRight_1 0 rfl rfl)
theorem dJ1_rotateRight_25 : decode cJ1_rotateRight 25 = .ok (.getfield 114, 3) := dk_180 0 114 (dk_at dksJ1_rotateRight_1 1 rfl rfl)
theorem dJ1_rotateRight_28 : decode cJ1_rotateRight 28 = .ok (.aload_n 1, 1) := dk_43 (dk_at dksJ1_rotateRight_1 4 rfl rfl)
theorem dJ1_rotateRight_29 : decode cJ1_rotateRight 29 = .ok (.putfield 124, 3) := dk_181 0 124 (dk_at dksJ1_rotateRight_1 5 rfl rfl)
theorem dJ1_rotateRight_32 : decode cJ1_rotateRight 32 = .ok (.aload_n 2, 1) := dk_44 (dk_at dksJ1_rotateRight_1 8 rfl rfl)
theorem dJ1_rotateRight_33 : decode cJ1_rotateRight 33 = .ok (.aload_n 1, 1) := dk_43 (dk_at dksJ1_rotateRight_1 9 rfl rfl)
theorem dJ1_rotateRight_34 : decode cJ1_rotateRight 34 = .ok (.getfield 124, 3) := dk_180 0 124 (dk_at dksJ1_rotateRight_1 10 rfl rfl)
theorem dJ1_rotateRight_37 : decode cJ1_rotateRight 37 = .ok (.putfield 124, 3) := dk_181 0 124 (dk_at dksJ1_rotateRight_1 13 rfl rfl)
theorem dJ1_rotateRight_40 : decode cJ1_rotateRight 40 = .ok (.aload_n 1, 1) := dk_43 (dk_at dksJ1_rotateRight_1 16 rfl rfl)
theorem dJ1_rotateRight_41 : decode cJ1_rotateRight 41 = .ok (.getfield 124, 3) := dk_180 0 124 (dk_at dksJ1_rotateRight_1 17 rfl rfl)
theorem dJ1_rotateRight_44 : decode cJ1_rotateRight 44 = .ok (.ifnonnull 11, 3) := dk_199 0 11 (dk_at dksJ1_rotateRight_1 20 rfl rfl)
theorem dJ1_rotateRight_47 : decode cJ1_rotateRight 47 = .ok (.aload_n 0, 1) := dk_42 (dk_at dksJ1_rotateRight_1 23 rfl rfl)
theorem dJ1_rotateRight_48 : decode cJ1_rotateRight 48 = .ok (.aload_n 2, 1) := dk_44 (dk_at dksJ1_rotateRight_2 0 rfl rfl)
theorem dJ1_rotateRight_49 : decode cJ1_rotateRight 49 = .ok (.putfield 101, 3) := dk_181 0 101 (dk_at dksJ1_rotateRight_2 1 rfl rfl)
theorem dJ1_rotateRight_52 : decode cJ1_rotateRight 52 = .ok (.goto 33, 3) := dk_167 0 33 (dk_at dksJ1_rotateRight_2 4 rfl rfl)
theorem dJ1_rotateRight_55 : decode cJ1_rotateRight 55 = .ok (.aload_n 1, 1) := dk_43 (dk_at dksJ1_rotateRight_2 7 rfl rfl)
theorem dJ1_rotateRight_56 : decode cJ1_rotateRight 56 = .ok (.getfield 124, 3) := dk_180 0 124 (dk_at dksJ1_rotateRight_2 8 rfl rfl)
theorem dJ1_rotateRight_59 : decode cJ1_rotateRight 59 = .ok (.getfield 114, 3) := dk_180 0 114 (dk_at dksJ1_rotateRight_2 11 rfl rfl)
theorem dJ1_rotateRight_62 : decode cJ1_rotateRight 62 = .ok (.aload_n 1, 1) := dk_43 (dk_at dksJ1_rotateRight_2 14 rfl rfl)
theorem dJ1_rotateRight_63 : decode cJ1_rotateRight 63 = .ok (.if_acmp .ne 14, 3) := dk_166 0 14 (dk_at dksJ1_rotateRight_2 15 rfl rfl)
theorem dJ1_rotateRight_66 : decode cJ1_rotateRight 66 = .ok (.aload_n 1, 1) := dk_43 (dk_at dksJ1_rotateRight_2 18 rfl rfl)
theorem dJ1_rotateRight_67 : decode cJ1_rotateRight 67 = .ok (.getfield 124, 3) := dk_180 0 124 (dk_at dksJ1_rotateRight_2 19 rfl rfl)
theorem dJ1_rotateRight_70 : decode cJ1_rotateRight 70 = .ok (.aload_n 2, 1) := dk_44 (dk_at dksJ1_rotateRight_2 22 rfl rfl)
theorem dJ1_rotateRight_71 : decode cJ1_rotateRight 71 = .ok (.putfield 114, 3) := dk_181 0 114 (dk_at dksJ1_rotateRight_3 0 rfl rfl)
theorem dJ1_rotateRight_74 : decode cJ1_rotateRight 74 = .ok (.goto 11, 3) := dk_167 0 11 (dk_at dksJ1_rotateRight_3 3 rfl rfl)
theorem dJ1_rotateRight_77 : decode cJ1_rotateRight 77 = .ok (.aload_n 1, 1) := dk_43 (dk_at dksJ1_rotateRight_3 6 rfl rfl)
theorem dJ1_rotateRight_78 : decode cJ1_rotateRight 78 = .ok (.getfield 124, 3) := dk_180 0 124 (dk_at dksJ1_rotateRight_3 7 rfl rfl)
theorem dJ1_rotateRight_81 : decode cJ1_rotateRight 81 = .ok (.aload_n 2, 1) := dk_44 (dk_at dksJ1_rotateRight_3 10 rfl rfl)
theorem dJ1_rotateRight_82 : decode cJ1_rotateRight 82 = .ok (.putfield 111, 3) := dk_181 0 111 (dk_at dksJ1_rotateRight_3 11 rfl rfl)
theorem dJ1_rotateRight_85 : decode cJ1_rotateRight 85 = .ok (.aload_n 2, 1) := dk_44 (dk_at dksJ1_rotateRight_3 14 rfl rfl)
theorem dJ1_rotateRight_86 : decode cJ1_rotateRight 86 = .ok (.aload_n 1, 1) := dk_43 (dk_at dksJ1_rotateRight_3 15 rfl rfl)
theorem dJ1_rotateRight_87 : decode cJ1_rotateRight 87 = .ok (.putfield 114, 3) := dk_181 0 114 (dk_at dksJ1_rotateRight_3 16 rfl rfl)
theorem dJ1_rotateRight_90 : decode cJ1_rotateRight 90 = .ok (.aload_n 1, 1) := dk_43 (dk_at dksJ1_rotateRight_3 19 rfl rfl)
theorem dJ1_rotateRight_91 : decode cJ1_rotateRight 91 = .ok (.aload_n 2, 1) := dk_44 (dk_at dksJ1_rotateRight_3 20 rfl rfl)
theorem dJ1_rotateRight_92 : decode cJ1_rotateRight 92 = .ok (.putfield 124, 3) := dk_181 0 124 (dk_at dksJ1_rotateRight_3 21 rfl rfl)
theorem dJ1_rotateRight_95 : decode cJ1_rotateRight 95 = .ok (.return_, 1) := dk_177 (dk_at dksJ1_rotateRight_4 0 rfl rfl)
def dkwJ1_remove_0 : List UInt8 := [42, 43, 182, 0, 50, 77, 44, 199, 0, 5, 1, 176, 44, 180, 0, 58, 78, 42, 44, 182, 0, 174, 45, 176]
abbrev dktJ1_remove_0 : List UInt8 := dkwJ1_remove_0 ++ []
theorem dksJ1_remove_0 : cJ1_remove.data.toList.drop 0 = dktJ1_remove_0 := by decide +kernel
theorem dJ1_remove_0 : decode cJ1_remove 0 = .ok (.aload_n 0, 1) := dk_42 (dk_at dksJ1_remove_0 0 rfl rfl)
theorem dJ1_remove_1 : decode cJ1_remove 1 = .ok (.aload_n 1, 1) := dk_43 (dk_at dksJ1_remove_0 1 rfl rfl)
theorem dJ1_remove_2 : decode cJ1_remove 2 = .ok (.invokevirtual 50, 3) := dk_182 0 50 (dk_at dksJ1_remove_0 2 rfl rfl)
theorem dJ1_remove_5 : decode cJ1_remove 5 = .ok (.astore_n 2, 1) := dk_77 (dk_at dksJ1_remove_0 5 rfl rfl)
theorem dJ1_remove_6 : decode cJ1_remove 6 = .ok (.aload_n 2, 1) := dk_44 (dk_at dksJ1_remove_0 6 rfl rfl)
theorem dJ1_remove_7 : decode cJ1_remove 7 = .ok (.ifnonnull 5, 3) := dk_199 0 5 (dk_at dksJ1_remove_0 7 rfl rfl)
theorem dJ1_remove_10 : decode cJ1_remove 10 = .ok (.aconst_null, 1) := dk_1 (dk_at dksJ1_remove_0 10 rfl rfl)
theorem dJ1_remove_11 : decode cJ1_remove 11 = .ok (.areturn, 1) := dk_176 (dk_at dksJ1_remove_0 11 rfl rfl)
theorem dJ1_remove_12 : decode cJ1_remove 12 = .ok (.aload_n 2, 1) := dk_44 (dk_at dksJ1_remove_0 12 rfl rfl)
theorem dJ1_remove_13 : decode cJ1_remove 13 = .ok (.getfield 58, 3) := dk_180 0 58 (dk_at dksJ1_remove_0 13 rfl rfl)
theorem dJ1_remove_16 : decode cJ1_remove 16 = .ok (.astore_n 3, 1) := dk_78 (dk_at dksJ1_remove_0 16 rfl rfl)
theorem dJ1_remove_17 : decode cJ1_remove 17 = .ok (.aload_n 0, 1) := dk_42 (dk_at dksJ1_remove_0 17 rfl rfl)
theorem dJ1_remove_18 : decode cJ1_remove 18 = .ok (.aload_n 2, 1) := dk_44 (dk_at dksJ1_remove_0 18 rfl rfl)
theorem dJ1_remove_19 : decode cJ1_remove 19 = .ok (.invokevirtual 174, 3) := dk_182 0 174 (dk_at dksJ1_remove_0 19 rfl rfl)
theorem dJ1_remove_22 : decode cJ1_remove 22 = .ok (.aload_n 3, 1) := dk_45 (dk_at dksJ1_remove_0 22 rfl rfl)
theorem dJ1_remove_23 : decode cJ1_remove 23 = .ok (.areturn, 1) := dk_176 (dk_at dksJ1_remove_0 23 rfl rfl)
def dkwJ1_deleteEntry_10 : List UInt8 := [180, 0, 124, 1, 181, 0, 114, 43, 1, 181, 0, 124, 177]
abbrev dktJ1_deleteEntry_10 : List UInt8 := dkwJ1_deleteEntry_10 ++ []
def dkwJ1_deleteEntry_9 : List UInt8 := [180, 0, 124, 1, 181, 0, 111, 167, 0, 22, 43, 43, 180, 0, 124, 180, 0, 114, 166, 0, 11, 43]
abbrev dktJ1_deleteEntry_9 : List UInt8 := dkwJ1_deleteEntry_9 ++ dktJ1_deleteEntry_10
def dkwJ1_deleteEntry_8 : List UInt8 := [182, 1, 61, 43, 180, 0, 124, 198, 0, 49, 43, 43, 180, 0, 124, 180, 0, 111, 166, 0, 14, 43]
abbrev dktJ1_deleteEntry_8 : List UInt8 := dkwJ1_deleteEntry_8 ++ dktJ1_deleteEntry_9
def dkwJ1_deleteEntry_7 : List UInt8 := [180, 0, 124, 199, 0, 11, 42, 1, 181, 0, 101, 167, 0, 69, 43, 180, 1, 34, 4, 160, 0, 8, 42, 43]
abbrev dktJ1_deleteEntry_7 : List UInt8 := dkwJ1_deleteEntry_7 ++ dktJ1_deleteEntry_8
def dkwJ1_deleteEntry_6 : List UInt8 := [181, 0, 114, 181, 0, 111, 43, 180, 1, 34, 4, 160, 0, 92, 42, 44, 182, 1, 61, 167, 0, 84, 43]
abbrev dktJ1_deleteEntry_6 : List UInt8 := dkwJ1_deleteEntry_6 ++ dktJ1_deleteEntry_7
def dkwJ1_deleteEntry_5 : List UInt8 := [181, 0, 111, 167, 0, 11, 43, 180, 0, 124, 44, 181, 0, 114, 43, 43, 43, 1, 90, 181, 0, 124, 90]
abbrev dktJ1_deleteEntry_5 : List UInt8 := dkwJ1_deleteEntry_5 ++ dktJ1_deleteEntry_6
def dkwJ1_deleteEntry_4 : List UInt8 := [44, 181, 0, 101, 167, 0, 33, 43, 43, 180, 0, 124, 180, 0, 111, 166, 0, 14, 43, 180, 0, 124, 44]
abbrev dktJ1_deleteEntry_4 : List UInt8 := dkwJ1_deleteEntry_4 ++ dktJ1_deleteEntry_5
def dkwJ1_deleteEntry_3 : List UInt8 := [180, 0, 114, 77, 44, 198, 0, 87, 44, 43, 180, 0, 124, 181, 0, 124, 43, 180, 0, 124, 199, 0, 11, 42]
abbrev dktJ1_deleteEntry_3 : List UInt8 := dkwJ1_deleteEntry_3 ++ dktJ1_deleteEntry_4
def dkwJ1_deleteEntry_2 : List UInt8 := [44, 180, 0, 58, 181, 0, 58, 44, 76, 43, 180, 0, 111, 198, 0, 10, 43, 180, 0, 111, 167, 0, 7, 43]
abbrev dktJ1_deleteEntry_2 : List UInt8 := dkwJ1_deleteEntry_2 ++ dktJ1_deleteEntry_3
def dkwJ1_deleteEntry_1 : List UInt8 := [198, 0, 33, 43, 180, 0, 114, 198, 0, 26, 43, 184, 0, 68, 77, 43, 44, 180, 0, 105, 181, 0, 105, 43]
abbrev dktJ1_deleteEntry_1 : List UInt8 := dkwJ1_deleteEntry_1 ++ dktJ1_deleteEntry_2
def dkwJ1_deleteEntry_0 : List UInt8 := [42, 89, 180, 0, 13, 4, 96, 181, 0, 13, 42, 89, 180, 0, 7, 4, 100, 181, 0, 7, 43, 180, 0, 111]
abbrev dktJ1_deleteEntry_0 : List UInt8 := dkwJ1_deleteEntry_0 ++ dktJ1_deleteEntry_1
theorem dksJ1_deleteEntry_0 : cJ1_deleteEntry.data.toList.drop 0 = dktJ1_deleteEntry_0 := by decide +kernel
theorem dksJ1_deleteEntry_1 : cJ1_deleteEntry.data.toList.drop 24 = dktJ1_deleteEntry_1 := dk_seg dksJ1_deleteEntry_0 24 rfl rfl
theorem dksJ1_deleteEntry_2 : cJ1_deleteEntry.data.toList.drop 48 = dktJ1_deleteEntry_2 := dk_seg dksJ1_deleteEntry_1 24 rfl rfl
theorem dksJ1_deleteEntry_3 : cJ1_deleteEntry.data.toList.drop 72 = dktJ1_deleteEntry_3 := dk_seg dksJ1_deleteEntry_2 24 rfl rfl
theorem dksJ1_deleteEntry_4 : cJ1_deleteEntry.data.toList.drop 96 = dktJ1_deleteEntry_4 := dk_seg dksJ1_deleteEntry_3 24 rfl rfl
theorem dksJ1_deleteEntry_5 : cJ1_deleteEntry.data.toList.drop 119 = dktJ1_deleteEntry_5 := dk_seg dksJ1_deleteEntry_4 23 rfl rfl
theorem dksJ1_deleteEntry_6 : cJ1_deleteEntry.data.toList.drop 142 = dktJ1_deleteEntry_6 := dk_seg dksJ1_deleteEntry_5 23 rfl rfl
theorem dksJ1_deleteEntry_7 : cJ1_deleteEntry.data.toList.drop 165 = dktJ1_deleteEntry_7 := dk_seg dksJ1_deleteEntry_6 23 rfl rfl
theorem dksJ1_deleteEntry_8 : cJ1_deleteEntry.data.toList.drop 189 = dktJ1_deleteEntry_8 := dk_seg dksJ1_deleteEntry_7 24 rfl rfl
theorem dksJ1_deleteEntry_9 : cJ1_deleteEntry.data.toList.drop 211 = dktJ1_deleteEntry_9 := dk_seg dksJ1_deleteEntry_8 22 rfl rfl
theorem dksJ1_deleteEntry_10 : cJ1_deleteEntry.data.toList.drop 233 = dktJ1_deleteEntry_10 := dk_seg dksJ1_deleteEntry_9 22 rfl rfl
theorem dJ1_deleteEntry_0 : decode cJ1_deleteEntry 0 = .ok (.aload_n 0, 1) := dk_42 (dk_at dksJ1_deleteEntry_0 0 rfl rfl)
theorem dJ1_deleteEntry_1 : decode cJ1_deleteEntry 1 = .ok (.dup, 1) := dk_89 (dk_at dksJ1_deleteEntry_0 1 rfl rfl)
theorem dJ1_deleteEntry_2 : decode cJ1_deleteEntry 2 = .ok (.getfield 13, 3) := dk_180 0 13 (dk_at dksJ1_deleteEntry_0 2 rfl rfl)
theorem dJ1_deleteEntry_5 : decode cJ1_deleteEntry 5 = .ok (.iconst 1, 1) := dk_4 (dk_at dksJ1_deleteEntry_0 5 rfl rfl)
theorem dJ1_deleteEntry_6 : decode cJ1_deleteEntry 6 = .ok (.iadd, 1) := dk_96 (dk_at dksJ1_deleteEntry_0 6 rfl rfl)
theorem dJ1_deleteEntry_7 : decode cJ1_deleteEntry 7 = .ok (.putfield 13, 3) := dk_181 0 13 (dk_at dksJ1_deleteEntry_0 7 rfl rfl)
theorem dJ1_deleteEntry_10 : decode cJ1_deleteEntry 10 = .ok (.aload_n 0, 1) := dk_42 (dk_at dksJ1_deleteEntry_0 10 rfl rfl)
theorem dJ1_deleteEntry_11 : decode cJ1_deleteEntry 11 = .ok (.dup, 1) := dk_89 (dk_at dksJ1_deleteEntry_0 11 rfl rfl)
theorem dJ1_deleteEntry_12 : decode cJ1_deleteEntry 12 = .ok (.getfield 7, 3) := dk_180 0 7 (dk_at dksJ1_deleteEntry_0 12 rfl rfl)
theorem dJ1_deleteEntry_15 : decode cJ1_deleteEntry 15 = .ok (.iconst 1, 1) := dk_4 (dk_at dksJ1_deleteEntry_0 15 rfl rfl)
theorem dJ1_deleteEntry_16 : decode cJ1_deleteEntry 16 = .ok (.isub, 1) := dk_100 (dk_at dksJ1_deleteEntry_0 16 rfl rfl)
theorem dJ1_deleteEntry_17 : decode cJ1_deleteEntry 17 = .ok (.putfield 7, 3) := dk_181 0 7 (dk_at dksJ1_deleteEntry_0 17 rfl rfl)
theorem dJ1_deleteEntry_20 : decode cJ1_deleteEntry 20 = .ok (.aload_n 1, 1) := dk_43 (dk_at dksJ1_deleteEntry_0 20 rfl rfl)
theorem dJ1_deleteEntry_21 : decode cJ1_deleteEntry 21 = .ok (.getfield 111, 3) := dk_180 0 111 (dk_at dksJ1_deleteEntry_0 21 rfl rfl)
theorem dJ1_deleteEntry_24 : decode cJ1_deleteEntry 24 = .ok (.ifnull 33, 3) := dk_198 0 33 (dk_at dksJ1_deleteEntry_1 0 rfl rfl)
theorem dJ1_deleteEntry_27 : decode cJ1_deleteEntry 27 = .ok (.aload_n 1, 1) := dk_43 (dk_at dksJ1_deleteEntry_1 3 rfl rfl)
theorem dJ1_deleteEntry_28 : decode cJ1_deleteEntry 28 = .ok (.getfield 114, 3) := dk_180 0 114 (dk_at dksJ1_deleteEntry_1 4 rfl rfl)
theorem dJ1_deleteEntry_31 : decode cJ1_deleteEntry 31 = .ok (.ifnull 26, 3) := dk_198 0 26 (dk_at dksJ1_deleteEntry_1 7 rfl rfl)
theorem dJ1_deleteEntry_34 : decode cJ1_deleteEntry 34 = .ok (.aload_n 1, 1) := dk_43 (dk_at dksJ1_deleteEntry_1 10 rfl rfl)
theorem dJ1_deleteEntry_35 : decode cJ1_deleteEntry 35 = .ok (.invokestatic 68, 3) := dk_184 0 68 (dk_at dksJ1_deleteEntry_1 11 rfl rfl)
theorem dJ1_deleteEntry_38 : decode cJ1_deleteEntry 38 = .ok (.astore_n 2, 1) := dk_77 (dk_at dksJ1_deleteEntry_1 14 rfl rfl)
theorem dJ1_deleteEntry_39 : decode cJ1_deleteEntry 39 = .ok (.aload_n 1, 1) := dk_43 (dk_at dksJ1_deleteEntry_1 15 rfl rfl)
theorem dJ1_deleteEntry_40 : decode cJ1_deleteEntry 40 = .ok (.aload_n 2, 1) := dk_44 (dk_at dksJ1_deleteEntry_1 16 rfl rfl)
theorem dJ1_deleteEntry_41 : decode cJ1_deleteEntry 41 = .ok (.getfield 105, 3) := dk_180 0 105 (dk_at dksJ1_deleteEntry_1 17 rfl rfl)
theorem dJ1_deleteEntry_44 : decode cJ1_deleteEntry 44 = .ok (.putfield 105, 3) := dk_181 0 105 (dk_at dksJ1_deleteEntry_1 20 rfl rfl)
theorem dJ1_deleteEntry_47 : decode cJ1_deleteEntry 47 = .ok (.aload_n 1, 1) := dk_43 (dk_at dksJ1_deleteEntry_1 23 rfl rfl)
theorem dJ1_deleteEntry_48 : decode cJ1_deleteEntry 48 = .ok (.aload_n 2, 1) := dk_44 (dk_at dksJ1_deleteEntry_2 0 rfl rfl)
theorem dJ1_deleteEntry_49 : decode cJ1_deleteEntry 49 = .ok (.getfield 58, 3) := dk_180 0 58 (dk_at dksJ1_deleteEntry_2 1 rfl rfl)
theorem dJ1_deleteEntry_52 : decode cJ1_deleteEntry 52 = .ok (.putfield 58, 3) := dk_181 0 58 (dk_at dksJ1_deleteEntry_2 4 rfl rfl)
theorem dJ1_deleteEntry_55 : decode cJ1_deleteEntry 55 = .ok (.aload_n 2, 1) := dk_44 (dk_at dksJ1_deleteEntry_2 7 rfl rfl)
theorem dJ1_deleteEntry_56 : decode cJ1_deleteEntry 56 = .ok (.astore_n 1, 1) := dk_76 (dk_at dksJ1_deleteEntry_2 8 rfl rfl)
theorem dJ1_deleteEntry_57 : decode cJ1_deleteEntry 57 = .ok (.aload_n 1, 1) := dk_43 (dk_at dksJ1_deleteEntry_2 9 rfl rfl)
theorem dJ1_deleteEntry_58 : decode cJ1_deleteEntry 58 = .ok (.getfield 111, 3) := dk_180 0 111 (dk_at dksJ1_deleteEntry_2 10 rfl rfl)
theorem dJ1_deleteEntry_61 : decode cJ1_deleteEntry 61 = .ok (.ifnull 10, 3) := dk_198 0 10 (dk_at dksJ1_deleteEntry_2 13 rfl rfl)
theorem dJ1_deleteEntry_64 : decode cJ1_deleteEntry 64 = .ok (.aload_n 1, 1) := dk_43 (dk_at dksJ1_deleteEntry_2 16 rfl rfl)
theorem dJ1_deleteEntry_65 : decode cJ1_deleteEntry 65 = .ok (.getfield 111, 3) := dk_180 0 111 (dk_at dksJ1_deleteEntry_2 17 rfl rfl)
theorem dJ1_deleteEntry_68 : decode cJ1_deleteEntry 68 = .ok (.goto 7, 3) := dk_167 0 7 (dk_at dksJ1_deleteEntry_2 20 rfl rfl)
theorem dJ1_deleteEntry_71 : decode cJ1_deleteEntry 71 = .ok (.aload_n 1, 1) := dk_43 (dk_at dksJ1_deleteEntry_2 23 rfl rfl)
theorem dJ1_deleteEntry_72 : decode cJ1_deleteEntry 72 = .ok (.getfield 114, 3) := dk_180 0 114 (dk_at dksJ1_deleteEntry_3 0 rfl rfl)
theorem dJ1_deleteEntry_75 : decode cJ1_deleteEntry 75 = .ok (.astore_n 2, 1) := dk_77 (dk_at dksJ1_deleteEntry_3 3 rfl rfl)
theorem dJ1_deleteEntry_76 : decode cJ1_deleteEntry 76 = .ok (.aload_n 2, 1) := dk_44 (dk_at dksJ1_deleteEntry_3 4 rfl rfl)
theorem dJ1_deleteEntry_77 : decode cJ1_deleteEntry 77 = .ok (.ifnull 87, 3) := dk_198 0 87 (dk_at dksJ1_deleteEntry_3 5 rfl rfl)
theorem dJ1_deleteEntry_80 : decode cJ1_deleteEntry 80 = .ok (.aload_n 2, 1) := dk_44 (dk_at dksJ1_deleteEntry_3 8 rfl rfl)
theorem dJ1_deleteEntry_81 : decode cJ1_deleteEntry 81 = .ok (.aload_n 1, 1) := dk_43 (dk_at dksJ1_deleteEntry_3 9 rfl rfl)
theorem dJ1_deleteEntry_82 : decode cJ1_deleteEntry 82 = .ok (.getfield 124, 3) := dk_180 0 124 (dk_at dksJ1_deleteEntry_3 10 rfl rfl)
theorem dJ1_deleteEntry_85 : decode cJ1_deleteEntry 85 = .ok (.putfield 124, 3) := dk_181 0 124 (dk_at dksJ1_deleteEntry_3 13 rfl rfl)
theorem dJ1_deleteEntry_88 : decode cJ1_deleteEntry 88 = .ok (.aload_n 1, 1) := dk_43 (dk_at dksJ1_deleteEntry_3 16 rfl rfl)
theorem dJ1_deleteEntry_89 : decode cJ1_deleteEntry 89 = .ok (.getfield 124, 3) := dk_180 0 124 (dk_at dksJ1_deleteEntry_3 17 rfl rfl)
theorem dJ1_deleteEntry_92 : decode cJ1_deleteEntry 92 = .ok (.ifnonnull 11, 3) := dk_199 0 11 (dk_at dksJ1_deleteEntry_3 20 rfl rfl)
theorem dJ1_deleteEntry_95 : decode cJ1_deleteEntry 95 = .ok (.aload_n 0, 1) := dk_42 (dk_at dksJ1_deleteEntry_3 23 rfl rfl)
theorem dJ1_deleteEntry_96 : decode cJ1_deleteEntry 96 = .ok (.aload_n 2, 1) := dk_44 (dk_at dksJ1_deleteEntry_4 0 rfl rfl)
theorem dJ1_deleteEntry_97 : decode cJ1_deleteEntry 97 = .ok (.putfield 101, 3) := dk_181 0 101 (dk_at dksJ1_deleteEntry_4 1 rfl rfl)
theorem dJ1_deleteEntry_100 : decode cJ1_deleteEntry 100 = .ok (.goto 33, 3) := dk_167 0 33 (dk_at dksJ1_deleteEntry_4 4 rfl rfl)
theorem dJ1_deleteEntry_103 : decode cJ1_deleteEntry 103 = .ok (.aload_n 1, 1) := dk_43 (dk_at dksJ1_deleteEntry_4 7 rfl rfl)
theorem dJ1_deleteEntry_104 : decode cJ1_deleteEntry 104 = .ok (.aload_n 1, 1) := dk_43 (dk_at dksJ1_deleteEntry_4 8 rfl rfl)
theorem dJ1_deleteEntry_105 : decode cJ1_deleteEntry 105 = .ok (.getfield 124, 3) := dk_180 0 124 (dk_at dksJ1_deleteEntry_4 9 rfl rfl)
theorem dJ1_deleteEntry_108 : decode cJ1_deleteEntry 108 = .ok (.getfield 111, 3) := dk_180 0 111 (dk_at dksJ1_deleteEntry_4 12 rfl rfl)
theorem dJ1_deleteEntry_111 : decode cJ1_deleteEntry 111 = .ok (.if_acmp .ne 14, 3) := dk_166 0 14 (dk_at dksJ1_deleteEntry_4 15 rfl rfl)
theorem dJ1_deleteEntry_114 : decode cJ1_deleteEntry 114 = .ok (.aload_n 1, 1) := dk_43 (dk_at dksJ1_deleteEntry_4 18 rfl rfl)
theorem dJ1_deleteEntry_115 : decode cJ1_deleteEntry 115 = .ok (.getfield 124, 3) := dk_180 0 124 (dk_at dksJ1_deleteEntry_4 19 rfl rfl)
theorem dJ1_deleteEntry_118 : decode cJ1_deleteEntry 118 = .ok (.aload_n 2, 1) := dk_44 (dk_at dksJ1_deleteEntry_4 22 rfl rfl)
theorem dJ1_deleteEntry_119 : decode cJ1_deleteEntry 119 = .ok (.putfield 111, 3) := dk_181 0 111 (dk_at dksJ1_deleteEntry_5 0 rfl rfl)
theorem dJ1_deleteEntry_122 : decode cJ1_deleteEntry 122 = .ok (.goto 11, 3) := dk_167 0 11 (dk_at dksJ1_deleteEntry_5 3 rfl rfl)
theorem dJ1_deleteEntry_125 : decode cJ1_deleteEntry 125 = .ok (.aload_n 1, 1) := dk_43 (dk_at dksJ1_deleteEntry_5 6 rfl rfl)
theorem dJ1_deleteEntry_126 : decode cJ1_deleteEntry 126 = .ok (.getfield 124, 3) := dk_180 0 124 (dk_at dksJ1_deleteEntry_5 7 rfl rfl)
theorem dJ1_deleteEntry_129 : decode cJ1_deleteEntry 129 = .ok (.aload_n 2, 1) := dk_44 (dk_at dksJ1_deleteEntry_5 10 rfl rfl)
theorem dJ1_deleteEntry_130 : decode cJ1_deleteEntry 130 = .ok (.putfield 114, 3) := dk_181 0 114 (dk_at dksJ1_deleteEntry_5 11 rfl rfl)
theorem dJ1_deleteEntry_133 : decode cJ1_deleteEntry 133 = .ok (.aload_n 1, 1) := dk_43 (dk_at dksJ1_deleteEntry_5 14 rfl rfl)
theorem dJ1_deleteEntry_134 : decode cJ1_deleteEntry 134 = .ok (.aload_n 1, 1) := dk_43 (dk_at dksJ1_deleteEntry_5 15 rfl rfl)
theorem dJ1_deleteEntry_135 : decode cJ1_deleteEntry 135 = .ok (.aload_n 1, 1) := dk_43 (dk_at dksJ1_deleteEntry_5 16 rfl rfl)
theorem dJ1_deleteEntry_136 : decode cJ1_deleteEntry 136 = .ok (.aconst_null, 1) := dk_1 (dk_at dksJ1_deleteEntry_5 17 rfl rfl)
theorem dJ1_deleteEntry_137 : decode cJ1_deleteEntry 137 = .ok (.dup_x1, 1) := dk_90 (dk_at dksJ1_deleteEntry_5 18 rfl rfl)
theorem dJ1_deleteEntry_138 : decode cJ1_deleteEntry 138 = .ok (.putfield 124, 3) := dk_181 0 124 (dk_at dksJ1_deleteEntry_5 19 rfl rfl)
theorem dJ1_deleteEntry_141 : decode cJ1_deleteEntry 141 = .ok (.dup_x1, 1) := dk_90 (dk_at dksJ1_deleteEntry_5 22 rfl rfl)
theorem dJ1_deleteEntry_142 : decode cJ1_deleteEntry 142 = .ok (.putfield 114, 3) := dk_181 0 114 (dk_at dksJ1_deleteEntry_6 0 rfl rfl)
theorem dJ1_deleteEntry_145 : decode cJ1_deleteEntry 145 = .ok (.putfield 111, 3) := dk_181 0 111 (dk_at dksJ1_deleteEntry_6 3 rfl rfl)
theorem dJ1_deleteEntry_148 : decode cJ1_deleteEntry 148 = .ok (.aload_n 1, 1) := dk_43 (dk_at dksJ1_deleteEntry_6 6 rfl rfl)
theorem dJ1_deleteEntry_149 : decode cJ1_deleteEntry 149 = .ok (.getfield 290, 3) := dk_180 1 34 (dk_at dksJ1_deleteEntry_6 7 rfl rfl)
theorem dJ1_deleteEntry_152 : decode cJ1_deleteEntry 152 = .ok (.iconst 1, 1) := dk_4 (dk_at dksJ1_deleteEntry_6 10 rfl rfl)
theorem dJ1_deleteEntry_153 : decode cJ1_deleteEntry 153 = .ok (.if_icmp .ne 92, 3) := dk_160 0 92 (dk_at dksJ1_deleteEntry_6 11 rfl rfl)
theorem dJ1_deleteEntry_156 : decode cJ1_deleteEntry 156 = .ok (.aload_n 0, 1) := dk_42 (dk_at dksJ1_deleteEntry_6 14 rfl rfl)
theorem dJ1_deleteEntry_157 : decode cJ1_deleteEntry 157 = .ok (.aload_n 2, 1) := dk_44 (dk_at dksJ1_deleteEntry_6 15 rfl rfl)
theorem dJ1_deleteEntry_158 : decode cJ1_deleteEntry 158 = .ok (.invokevirtual 317, 3) := dk_182 1 61 (dk_at dksJ1_deleteEntry_6 16 rfl rfl)
theorem dJ1_deleteEntry_161 : decode cJ1_deleteEntry 161 = .ok (.goto 84, 3) := dk_167 0 84 (dk_at dksJ1_deleteEntry_6 19 rfl rfl)
theorem dJ1_deleteEntry_164 : decode cJ1_deleteEntry 164 = .ok (.aload_n 1, 1) := dk_43 (dk_at dksJ1_deleteEntry_6 22 rfl rfl)
theorem dJ1_deleteEntry_165 : decode cJ1_deleteEntry 165 = .ok (.getfield 124, 3) := dk_180 0 124 (dk_at dksJ1_deleteEntry_7 0 rfl rfl)
theorem dJ1_deleteEntry_168 : decode cJ1_deleteEntry 168 = .ok (.ifnonnull 11, 3) := dk_199 0 11 (dk_at dksJ1_deleteEntry_7 3 rfl rfl)
theorem dJ1_deleteEntry_171 : decode cJ1_deleteEntry 171 = .ok (.aload_n 0, 1) := dk_42 (dk_at dksJ1_deleteEntry_7 6 rfl rfl)
theorem dJ1_deleteEntry_172 : decode cJ1_deleteEntry 172 = .ok (.aconst_null, 1) := dk_1 (dk_at dksJ1_deleteEntry_7 7 rfl rfl)
theorem dJ1_deleteEntry_173 : decode cJ1_deleteEntry 173 = .ok (.putfield 101, 3) := dk_181 0 101 (dk_at dksJ1_deleteEntry_7 8 rfl rfl)
theorem dJ1_deleteEntry_176 : decode cJ1_deleteEntry 176 = .ok (.goto 69, 3) := dk_167 0 69 (dk_at dksJ1_deleteEntry_7 11 rfl rfl)
theorem dJ1_deleteEntry_179 : decode cJ1_deleteEntry 179 = .ok (.aload_n 1, 1) := dk_43 (dk_at dksJ1_deleteEntry_7 14 rfl rfl)
theorem dJ1_deleteEntry_180 : decode cJ1_deleteEntry 180 = .ok (.getfield 290, 3) := dk_180 1 34 (dk_at dksJ1_deleteEntry_7 15 rfl rfl)
theorem dJ1_deleteEntry_183 : decode cJ1_deleteEntry 183 = .ok (.iconst 1, 1) := dk_4 (dk_at dksJ1_deleteEntry_7 18 rfl rfl)
theorem dJ1_deleteEntry_184 : decode cJ1_deleteEntry 184 = .ok (.if_icmp .ne 8, 3) := dk_160 0 8 (dk_at dksJ1_deleteEntry_7 19 rfl rfl)
theorem dJ1_deleteEntry_187 : decode cJ1_deleteEntry 187 = .ok (.aload_n 0, 1) := dk_42 (dk_at dksJ1_deleteEntry_7 22 rfl rfl)
theorem dJ1_deleteEntry_188 : decode cJ1_deleteEntry 188 = .ok (.aload_n 1, 1) := dk_43 (dk_at dksJ1_deleteEntry_7 23 rfl rfl)
theorem dJ1_deleteEntry_189 : decode cJ1_deleteEntry 189 = .ok (.invokevirtual 317, 3) := dk_182 1 61 (dk_at dksJ1_deleteEntry_8 0 rfl rfl)
theorem dJ1_deleteEntry_192 : decode cJ1_deleteEntry 192 = .ok (.aload_n 1, 1) := dk_43 (dk_at dksJ1_deleteEntry_8 3 rfl rfl)
theorem dJ1_deleteEntry_193 : decode cJ1_deleteEntry 193 = .ok (.getfield 124, 3) := dk_180 0 124 (dk_at dksJ1_deleteEntry_8 4 rfl rfl)
theorem dJ1_deleteEntry_196 : decode cJ1_deleteEntry 196 = .ok (.ifnull 49, 3) := dk_198 0 49 (dk_at dksJ1_deleteEntry_8 7 rfl rfl)
theorem dJ1_deleteEntry_199 : decode cJ1_deleteEntry 199 = .ok (.aload_n 1, 1) := dk_43 (dk_at dksJ1_deleteEntry_8 10 rfl rfl)
theorem dJ1_deleteEntry_200 : decode cJ1_deleteEntry 200 = .ok (.aload_n 1, 1) := dk_43 (dk_at dksJ1_deleteEntry_8 11 rfl rfl)
theorem dJ1_deleteEntry_201 : decode cJ1_deleteEntry 201 = .ok (.getfield 124, 3) := dk_180 0 124 (dk_at dksJ1_deleteEntry_8 12 rfl rfl)
theorem dJ1_deleteEntry_204 : decode cJ1_deleteEntry 204 = .ok (.getfield 111, 3) := dk_180 0 111 (dk_at dksJ1_deleteEntry_8 15 rfl rfl)
theorem dJ1_deleteEntry_207 : decode cJ1_deleteEntry 207 = .ok (.if_acmp .ne 14, 3) := dk_166 0 14 (dk_at dksJ1_deleteEntry_8 18 rfl rfl)
theorem dJ1_deleteEntry_210 : decode cJ1_deleteEntry 210 = .ok (.aload_n 1, 1) := dk_43 (dk_at dksJ1_deleteEntry_8 21 rfl rfl)
theorem dJ1_deleteEntry_211 : decode cJ1_deleteEntry 211 = .ok (.getfield 124, 3) := dk_180 0 124 (dk_at dksJ1_deleteEntry_9 0 rfl rfl)
theorem dJ1_deleteEntry_214 : decode cJ1_deleteEntry 214 = .ok (.aconst_null, 1) := dk_1 (dk_at dksJ1_deleteEntry_9 3 rfl rfl)
theorem dJ1_deleteEntry_215 : decode cJ1_deleteEntry 215 = .ok (.putfield 111, 3) := dk_181 0 111 (dk_at dksJ1_deleteEntry_9 4 rfl rfl)
theorem dJ1_deleteEntry_218 : decode cJ1_deleteEntry 218 = .ok (.goto 22, 3) := dk_167 0 22 (dk_at dksJ1_deleteEntry_9 7 rfl rfl)
theorem dJ1_deleteEntry_221 : decode cJ1_deleteEntry 221 = .ok (.aload_n 1, 1) := dk_43 (dk_at dksJ1_deleteEntry_9 10 rfl rfl)
theorem dJ1_deleteEntry_222 : decode cJ1_deleteEntry 222 = .ok (.aload_n 1, 1) := dk_43 (dk_at dksJ1_deleteEntry_9 11 rfl rfl)
theorem dJ1_deleteEntry_223 : decode cJ1_deleteEntry 223 = .ok (.getfield 124, 3) := dk_180 0 124 (dk_at dksJ1_deleteEntry_9 12 rfl rfl)
theorem dJ1_deleteEntry_226 : decode cJ1_deleteEntry 226 = .ok (.getfield 114, 3) := dk_180 0 114 (dk_at dksJ1_deleteEntry_9 15 rfl rfl)
theorem dJ1_deleteEntry_229 : decode cJ1_deleteEntry 229 = .ok (.if_acmp .ne 11, 3) := dk_166 0 11 (dk_at dksJ1_deleteEntry_9 18 rfl rfl)
theorem dJ1_deleteEntry_232 : decode cJ1_deleteEntry 232 = .ok (.aload_n 1, 1) := dk_43 (dk_at dksJ1_deleteEntry_9 21 rfl rfl)
theorem dJ1_deleteEntry_233 : decode cJ1_deleteEntry 233 = .ok (.getfield 124, 3) := dk_180 0 124 (dk_at dksJ1_deleteEntry_10 0 rfl rfl)
theorem dJ1_deleteEntry_236 : decode cJ1_deleteEntry 236 = .ok (.aconst_null, 1) := dk_1 (dk_at dksJ1_deleteEntry_10 3 rfl rfl)
theorem dJ1_deleteEntry_237 : decode cJ1_deleteEntry 237 = .ok (.putfield 114, 3) := dk_181 0 114 (dk_at dksJ1_deleteEntry_10 4 rfl rfl)
theorem dJ1_deleteEntry_240 : decode cJ1_deleteEntry 240 = .ok (.aload_n 1, 1) := dk_43 (dk_at dksJ1_deleteEntry_10 7 rfl rfl)
theorem dJ1_deleteEntry_241 : decode cJ1_deleteEntry 241 = .ok (.aconst_null, 1) := dk_1 (dk_at dksJ1_deleteEntry_10 8 rfl rfl)
theorem dJ1_deleteEntry_242 : decode cJ1_deleteEntry 242 = .ok (.putfield 124, 3) := dk_181 0 124 (dk_at dksJ1_deleteEntry_10 9 rfl rfl)
theorem dJ1_deleteEntry_245 : decode cJ1_deleteEntry 245 = .ok (.return_, 1) := dk_177 (dk_at dksJ1_deleteEntry_10 12 rfl rfl)
def dkwJ1_fixAfterDeletion_14 : List UInt8 := [182, 1, 58, 42, 180, 0, 101, 76, 167, 254, 170, 43, 4, 184, 1, 51, 177]
abbrev dktJ1_fixAfterDeletion_14 : List UInt8 := dkwJ1_fixAfterDeletion_14 ++ []
def dkwJ1_fixAfterDeletion_13 : List UInt8 := [184, 1, 51, 43, 184, 1, 38, 4, 184, 1, 51, 44, 184, 1, 41, 4, 184, 1, 51, 42, 43, 184, 1, 38]
abbrev dktJ1_fixAfterDeletion_13 : List UInt8 := dkwJ1_fixAfterDeletion_13 ++ dktJ1_fixAfterDeletion_14
def dkwJ1_fixAfterDeletion_12 : List UInt8 := [184, 1, 51, 42, 44, 182, 1, 55, 43, 184, 1, 38, 184, 1, 41, 77, 44, 43, 184, 1, 38, 184, 1, 47]
abbrev dktJ1_fixAfterDeletion_12 : List UInt8 := dkwJ1_fixAfterDeletion_12 ++ dktJ1_fixAfterDeletion_13
def dkwJ1_fixAfterDeletion_11 : List UInt8 := [167, 0, 80, 44, 184, 1, 41, 184, 1, 47, 4, 160, 0, 29, 44, 184, 1, 44, 4, 184, 1, 51, 44, 3]
abbrev dktJ1_fixAfterDeletion_11 : List UInt8 := dkwJ1_fixAfterDeletion_11 ++ dktJ1_fixAfterDeletion_12
def dkwJ1_fixAfterDeletion_10 : List UInt8 := [160, 0, 27, 44, 184, 1, 41, 184, 1, 47, 4, 160, 0, 16, 44, 3, 184, 1, 51, 43, 184, 1, 38, 76]
abbrev dktJ1_fixAfterDeletion_10 : List UInt8 := dkwJ1_fixAfterDeletion_10 ++ dktJ1_fixAfterDeletion_11
def dkwJ1_fixAfterDeletion_9 : List UInt8 := [42, 43, 184, 1, 38, 182, 1, 58, 43, 184, 1, 38, 184, 1, 41, 77, 44, 184, 1, 44, 184, 1, 47, 4]
abbrev dktJ1_fixAfterDeletion_9 : List UInt8 := dkwJ1_fixAfterDeletion_9 ++ dktJ1_fixAfterDeletion_10
def dkwJ1_fixAfterDeletion_8 : List UInt8 := [184, 1, 41, 77, 44, 184, 1, 47, 154, 0, 32, 44, 4, 184, 1, 51, 43, 184, 1, 38, 3, 184, 1, 51]
abbrev dktJ1_fixAfterDeletion_8 : List UInt8 := dkwJ1_fixAfterDeletion_8 ++ dktJ1_fixAfterDeletion_9
def dkwJ1_fixAfterDeletion_7 : List UInt8 := [4, 184, 1, 51, 42, 43, 184, 1, 38, 182, 1, 55, 42, 180, 0, 101, 76, 167, 255, 73, 43, 184, 1, 38]
abbrev dktJ1_fixAfterDeletion_7 : List UInt8 := dkwJ1_fixAfterDeletion_7 ++ dktJ1_fixAfterDeletion_8
def dkwJ1_fixAfterDeletion_6 : List UInt8 := [77, 44, 43, 184, 1, 38, 184, 1, 47, 184, 1, 51, 43, 184, 1, 38, 4, 184, 1, 51, 44, 184, 1, 44]
abbrev dktJ1_fixAfterDeletion_6 : List UInt8 := dkwJ1_fixAfterDeletion_6 ++ dktJ1_fixAfterDeletion_7
def dkwJ1_fixAfterDeletion_5 : List UInt8 := [184, 1, 41, 4, 184, 1, 51, 44, 3, 184, 1, 51, 42, 44, 182, 1, 58, 43, 184, 1, 38, 184, 1, 44]
abbrev dktJ1_fixAfterDeletion_5 : List UInt8 := dkwJ1_fixAfterDeletion_5 ++ dktJ1_fixAfterDeletion_6
def dkwJ1_fixAfterDeletion_4 : List UInt8 := [184, 1, 51, 43, 184, 1, 38, 76, 167, 0, 80, 44, 184, 1, 44, 184, 1, 47, 4, 160, 0, 29, 44]
abbrev dktJ1_fixAfterDeletion_4 : List UInt8 := dkwJ1_fixAfterDeletion_4 ++ dktJ1_fixAfterDeletion_5
def dkwJ1_fixAfterDeletion_3 : List UInt8 := [184, 1, 41, 184, 1, 47, 4, 160, 0, 27, 44, 184, 1, 44, 184, 1, 47, 4, 160, 0, 16, 44, 3]
abbrev dktJ1_fixAfterDeletion_3 : List UInt8 := dkwJ1_fixAfterDeletion_3 ++ dktJ1_fixAfterDeletion_4
def dkwJ1_fixAfterDeletion_2 : List UInt8 := [184, 1, 38, 3, 184, 1, 51, 42, 43, 184, 1, 38, 182, 1, 55, 43, 184, 1, 38, 184, 1, 44, 77, 44]
abbrev dktJ1_fixAfterDeletion_2 : List UInt8 := dkwJ1_fixAfterDeletion_2 ++ dktJ1_fixAfterDeletion_3
def dkwJ1_fixAfterDeletion_1 : List UInt8 := [166, 0, 162, 43, 184, 1, 38, 184, 1, 44, 77, 44, 184, 1, 47, 154, 0, 32, 44, 4, 184, 1, 51, 43]
abbrev dktJ1_fixAfterDeletion_1 : List UInt8 := dkwJ1_fixAfterDeletion_1 ++ dktJ1_fixAfterDeletion_2
def dkwJ1_fixAfterDeletion_0 : List UInt8 := [43, 42, 180, 0, 101, 165, 1, 84, 43, 184, 1, 47, 4, 160, 1, 76, 43, 43, 184, 1, 38, 184, 1, 41]
abbrev dktJ1_fixAfterDeletion_0 : List UInt8 := dkwJ1_fixAfterDeletion_0 ++ dktJ1_fixAfterDeletion_1
theorem dksJ1_fixAfterDeletion_0 : cJ1_fixAfterDeletion.data.toList.drop 0 = dktJ1_fixAfterDeletion_0 := by decide +kernel
theorem dksJ1_fixAfterDeletion_1 : cJ1_fixAfterDeletion.data.toList.drop 24 = dktJ1_fixAfterDeletion_1 := dk_seg dksJ1_fixAfterDeletion_0 24 rfl rfl
theorem dksJ1_fixAfterDeletion_2 : cJ1_fixAfterDeletion.data.toList.drop 48 = dktJ1_fixAfterDeletion_2 := dk_seg dksJ1_fixAfterDeletion_1 24 rfl rfl
theorem dksJ1_fixAfterDeletion_3 : cJ1_fixAfterDeletion.data.toList.drop 72 = dktJ1_fixAfterDeletion_3 := dk_seg dksJ1_fixAfterDeletion_2 24 rfl rfl
theorem dksJ1_fixAfterDeletion_4 : cJ1_fixAfterDeletion.data.toList.drop 95 = dktJ1_fixAfterDeletion_4 := dk_seg dksJ1_fixAfterDeletion_3 23 rfl rfl
theorem dksJ1_fixAfterDeletion_5 : cJ1_fixAfterDeletion.data.toList.drop 118 = dktJ1_fixAfterDeletion_5 := dk_seg dksJ1_fixAfterDeletion_4 23 rfl rfl
theorem dksJ1_fixAfterDeletion_6 : cJ1_fixAfterDeletion.data.toList.drop 142 = dktJ1_fixAfterDeletion_6 := dk_seg dksJ1_fixAfterDeletion_5 24 rfl rfl
theorem dksJ1_fixAfterDeletion_7 : cJ1_fixAfterDeletion.data.toList.drop 166 = dktJ1_fixAfterDeletion_7 := dk_seg dksJ1_fixAfterDeletion_6 24 rfl rfl
theorem dksJ1_fixAfterDeletion_8 : cJ1_fixAfterDeletion.data.toList.drop 190 = dktJ1_fixAfterDeletion_8 := dk_seg dksJ1_fixAfterDeletion_7 24 rfl rfl
theorem dksJ1_fixAfterDeletion_9 : cJ1_fixAfterDeletion.data.toList.drop 214 = dktJ1_fixAfterDeletion_9 := dk_seg dksJ1_fixAfterDeletion_8 24 rfl rfl
theorem dksJ1_fixAfterDeletion_10 : cJ1_fixAfterDeletion.data.toList.drop 238 = dktJ1_fixAfterDeletion_10 := dk_seg dksJ1_fixAfterDeletion_9 24 rfl rfl
theorem dksJ1_fixAfterDeletion_11 : cJ1_fixAfterDeletion.data.toList.drop 262 = dktJ1_fixAfterDeletion_11 := dk_seg dksJ1_fixAfterDeletion_10 24 rfl rfl
theorem dksJ1_fixAfterDeletion_12 : cJ1_fixAfterDeletion.data.toList.drop 286 = dktJ1_fixAfterDeletion_12 := dk_seg dksJ1_fixAfterDeletion_11 24 rfl rfl
theorem dksJ1_fixAfterDeletion_13 : cJ1_fixAfterDeletion.data.toList.drop 310 = dktJ1_fixAfterDeletion_13 := dk_seg dksJ1_fixAfterDeletion_12 24 rfl rfl
theorem dksJ1_fixAfterDeletion_14 : cJ1_fixAfterDeletion.data.toList.drop 334 = dktJ1_fixAfterDeletion_14 := dk_seg dksJ1_fixAfterDeletion_13 24 rfl rfl
theorem dJ1_fixAfterDeletion_0 : decode cJ1_fixAfterDeletion 0 = .ok (.aload_n 1, 1) := dk_43 (dk_at dksJ1_fixAfterDeletion_0 0 rfl rfl)
theorem dJ1_fixAfterDeletion_1 : decode cJ1_fixAfterDeletion 1 = .ok (.aload_n 0, 1) := dk_42 (dk_at dksJ1_fixAfterDeletion_0 1 rfl rfl)
theorem dJ1_fixAfterDeletion_2 : decode cJ1_fixAfterDeletion 2 = .ok (.getfield 101, 3) := dk_180 0 101 (dk_at dksJ1_fixAfterDeletion_0 2 rfl rfl)
theorem dJ1_fixAfterDeletion_5 : decode cJ1_fixAfterDeletion 5 = .ok (.if_acmp .eq 340, 3) := dk_165 1 84 (dk_at dksJ1_fixAfterDeletion_0 5 rfl rfl)
theorem dJ1_fixAfterDeletion_8 : decode cJ1_fixAfterDeletion 8 = .ok (.aload_n 1, 1) := dk_43 (dk_at dksJ1_fixAfterDeletion_0 8 rfl rfl)
theorem dJ1_fixAfterDeletion_9 : decode cJ1_fixAfterDeletion 9 = .ok (.invokestatic 303, 3) := dk_184 1 47 (dk_at dksJ1_fixAfterDeletion_0 9 rfl rfl)
theorem dJ1_fixAfterDeletion_12 : decode cJ1_fixAfterDeletion 12 = .ok (.iconst 1, 1) := dk_4 (dk_at dksJ1_fixAfterDeletion_0 12 rfl rfl)
theorem dJ1_fixAfterDeletion_13 : decode cJ1_fixAfterDeletion 13 = .ok (.if_icmp .ne 332, 3) := dk_160 1 76 (dk_at dksJ1_fixAfterDeletion_0 13 rfl rfl)
theorem dJ1_fixAfterDeletion_16 : decode cJ1_fixAfterDeletion 16 = .ok (.aload_n 1, 1) := dk_43 (dk_at dksJ1_fixAfterDeletion_0 16 rfl rfl)
theorem dJ1_fixAfterDeletion_17 : decode cJ1_fixAfterDeletion 17 = .ok (.aload_n 1, 1) := dk_43 (dk_at dksJ1_fixAfterDeletion_0 17 rfl rfl)
theorem dJ1_fixAfterDeletion_18 : decode cJ1_fixAfterDeletion 18 = .ok (.invokestatic 294, 3) := dk_184 1 38 (dk_at dksJ1_fixAfterDeletion_0 18 rfl rfl)
theorem dJ1_fixAfterDeletion_21 : decode cJ1_fixAfterDeletion 21 = .ok (.invokestatic 297, 3) := dk_184 1 41 (dk_at dksJ1_fixAfterDeletion_0 21 rfl rfl)
theorem dJ1_fixAfterDeletion_24 : decode cJ1_fixAfterDeletion 24 = .ok (.if_acmp .ne 162, 3) := dk_166 0 162 (dk_at dksJ1_fixAfterDeletion_1 0 rfl rfl)
theorem dJ1_fixAfterDeletion_27 : decode cJ1_fixAfterDeletion 27 = .ok (.aload_n 1, 1) := dk_43 (dk_at dksJ1_fixAfterDeletion_1 3 rfl rfl)
theorem dJ1_fixAfterDeletion_28 : decode cJ1_fixAfterDeletion 28 = .ok (.invokestatic 294, 3) := dk_184 1 38 (dk_at dksJ1_fixAfterDeletion_1 4 rfl rfl)
theorem dJ1_fixAfterDeletion_31 : decode cJ1_fixAfterDeletion 31 = .ok (.invokestatic 300, 3) := dk_184 1 44 (dk_at dksJ1_fixAfterDeletion_1 7 rfl rfl)
theorem dJ1_fixAfterDeletion_34 : decode cJ1_fixAfterDeletion 34 = .ok (.astore_n 2, 1) := dk_77 (dk_at dksJ1_fixAfterDeletion_1 10 rfl rfl)
theorem dJ1_fixAfterDeletion_35 : decode cJ1_fixAfterDeletion 35 = .ok (.aload_n 2, 1) := dk_44 (dk_at dksJ1_fixAfterDeletion_1 11 rfl rfl)
theorem dJ1_fixAfterDeletion_36 : decode cJ1_fixAfterDeletion 36 = .ok (.invokestatic 303, 3) := dk_184 1 47 (dk_at dksJ1_fixAfterDeletion_1 12 rfl rfl)
theorem dJ1_fixAfterDeletion_39 : decode cJ1_fixAfterDeletion 39 = .ok (.ifCond .ne 32, 3) := dk_154 0 32 (dk_at dksJ1_fixAfterDeletion_1 15 rfl rfl)
theorem dJ1_fixAfterDeletion_42 : decode cJ1_fixAfterDeletion 42 = .ok (.aload_n 2, 1) := dk_44 (dk_at dksJ1_fixAfterDeletion_1 18 rfl rfl)
theorem dJ1_fixAfterDeletion_43 : decode cJ1_fixAfterDeletion 43 = .ok (.iconst 1, 1) := dk_4 (dk_at dksJ1_fixAfterDeletion_1 19 rfl rfl)
theorem dJ1_fixAfterDeletion_44 : decode cJ1_fixAfterDeletion 44 = .ok (.invokestatic 307, 3) := dk_184 1 51 (dk_at dksJ1_fixAfterDeletion_1 20 rfl rfl)
theorem dJ1_fixAfterDeletion_47 : decode cJ1_fixAfterDeletion 47 = .ok (.aload_n 1, 1) := dk_43 (dk_at dksJ1_fixAfterDeletion_1 23 rfl rfl)
theorem dJ1_fixAfterDeletion_48 : decode cJ1_fixAfterDeletion 48 = .ok (.invokestatic 294, 3) := dk_184 1 38 (dk_at dksJ1_fixAfterDeletion_2 0 rfl rfl)
theorem dJ1_fixAfterDeletion_51 : decode cJ1_fixAfterDeletion 51 = .ok (.iconst 0, 1) := dk_3 (dk_at dksJ1_fixAfterDeletion_2 3 rfl rfl)
theorem dJ1_fixAfterDeletion_52 : decode cJ1_fixAfterDeletion 52 = .ok (.invokestatic 307, 3) := dk_184 1 51 (dk_at dksJ1_fixAfterDeletion_2 4 rfl rfl)
theorem dJ1_fixAfterDeletion_55 : decode cJ1_fixAfterDeletion 55 = .ok (.aload_n 0, 1) := dk_42 (dk_at dksJ1_fixAfterDeletion_2 7 rfl rfl)
theorem dJ1_fixAfterDeletion_56 : decode cJ1_fixAfterDeletion 56 = .ok (.aload_n 1, 1) := dk_43 (dk_at dksJ1_fixAfterDeletion_2 8 rfl rfl)
theorem dJ1_fixAfterDeletion_57 : decode cJ1_fixAfterDeletion 57 = .ok (.invokestatic 294, 3) := dk_184 1 38 (dk_at dksJ1_fixAfterDeletion_2 9 rfl rfl)
theorem dJ1_fixAfterDeletion_60 : decode cJ1_fixAfterDeletion 60 = .ok (.invokevirtual 311, 3) := dk_182 1 55 (dk_at dksJ1_fixAfterDeletion_2 12 rfl rfl)
theorem dJ1_fixAfterDeletion_63 : decode cJ1_fixAfterDeletion 63 = .ok (.aload_n 1, 1) := dk_43 (dk_at dksJ1_fixAfterDeletion_2 15 rfl rfl)
theorem dJ1_fixAfterDeletion_64 : decode cJ1_fixAfterDeletion 64 = .ok (.invokestatic 294, 3) := dk_184 1 38 (dk_at dksJ1_fixAfterDeletion_2 16 rfl rfl)
theorem dJ1_fixAfterDeletion_67 : decode cJ1_fixAfterDeletion 67 = .ok (.invokestatic 300, 3) := dk_184 1 44 (dk_at dksJ1_fixAfterDeletion_2 19 rfl rfl)
theorem dJ1_fixAfterDeletion_70 : decode cJ1_fixAfterDeletion 70 = .ok (.astore_n 2, 1) := dk_77 (dk_at dksJ1_fixAfterDeletion_2 22 rfl rfl)
theorem dJ1_fixAfterDeletion_71 : decode cJ1_fixAfterDeletion 71 = .ok (.aload_n 2, 1) := dk_44 (dk_at dksJ1_fixAfterDeletion_2 23 rfl rfl)
theorem dJ1_fixAfterDeletion_72 : decode cJ1_fixAfterDeletion 72 = .ok (.invokestatic 297, 3) := dk_184 1 41 (dk_at dksJ1_fixAfterDeletion_3 0 rfl rfl)
theorem dJ1_fixAfterDeletion_75 : decode cJ1_fixAfterDeletion 75 = .ok (.invokestatic 303, 3) := dk_184 1 47 (dk_at dksJ1_fixAfterDeletion_3 3 rfl rfl)
theorem dJ1_fixAfterDeletion_78 : decode cJ1_fixAfterDeletion 78 = .ok (.iconst 1, 1) := dk_4 (dk_at dksJ1_fixAfterDeletion_3 6 rfl rfl)
theorem dJ1_fixAfterDeletion_79 : decode cJ1_fixAfterDeletion 79 = .ok (.if_icmp .ne 27, 3) := dk_160 0 27 (dk_at dksJ1_fixAfterDeletion_3 7 rfl rfl)
theorem dJ1_fixAfterDeletion_82 : decode cJ1_fixAfterDeletion 82 = .ok (.aload_n 2, 1) := dk_44 (dk_at dksJ1_fixAfterDeletion_3 10 rfl rfl)
theorem dJ1_fixAfterDeletion_83 : decode cJ1_fixAfterDeletion 83 = .ok (.invokestatic 300, 3) := dk_184 1 44 (dk_at dksJ1_fixAfterDeletion_3 11 rfl rfl)
theorem dJ1_fixAfterDeletion_86 : decode cJ1_fixAfterDeletion 86 = .ok (.invokestatic 303, 3) := dk_184 1 47 (dk_at dksJ1_fixAfterDeletion_3 14 rfl rfl)
theorem dJ1_fixAfterDeletion_89 : decode cJ1_fixAfterDeletion 89 = .ok (.iconst 1, 1) := dk_4 (dk_at dksJ1_fixAfterDeletion_3 17 rfl rfl)
theorem dJ1_fixAfterDeletion_90 : decode cJ1_fixAfterDeletion 90 = .ok (.if_icmp .ne 16, 3) := dk_160 0 16 (dk_at dksJ1_fixAfterDeletion_3 18 rfl rfl)
theorem dJ1_fixAfterDeletion_93 : decode cJ1_fixAfterDeletion 93 = .ok (.aload_n 2, 1) := dk_44 (dk_at dksJ1_fixAfterDeletion_3 21 rfl rfl)
theorem dJ1_fixAfterDeletion_94 : decode cJ1_fixAfterDeletion 94 = .ok (.iconst 0, 1) := dk_3 (dk_at dksJ1_fixAfterDeletion_3 22 rfl rfl)
theorem dJ1_fixAfterDeletion_95 : decode cJ1_fixAfterDeletion 95 = .ok (.invokestatic 307, 3) := dk_184 1 51 (dk_at dksJ1_fixAfterDeletion_4 0 rfl rfl)
theorem dJ1_fixAfterDeletion_98 : decode cJ1_fixAfterDeletion 98 = .ok (.aload_n 1, 1) := dk_43 (dk_at dksJ1_fixAfterDeletion_4 3 rfl rfl)
theorem dJ1_fixAfterDeletion_99 : decode cJ1_fixAfterDeletion 99 = .ok (.invokestatic 294, 3) := dk_184 1 38 (dk_at dksJ1_fixAfterDeletion_4 4 rfl rfl)
theorem dJ1_fixAfterDeletion_102 : decode cJ1_fixAfterDeletion 102 = .ok (.astore_n 1, 1) := dk_76 (dk_at dksJ1_fixAfterDeletion_4 7 rfl rfl)
theorem dJ1_fixAfterDeletion_103 : decode cJ1_fixAfterDeletion 103 = .ok (.goto 80, 3) := dk_167 0 80 (dk_at dksJ1_fixAfterDeletion_4 8 rfl rfl)
theorem dJ1_fixAfterDeletion_106 : decode cJ1_fixAfterDeletion 106 = .ok (.aload_n 2, 1) := dk_44 (dk_at dksJ1_fixAfterDeletion_4 11 rfl rfl)
theorem dJ1_fixAfterDeletion_107 : decode cJ1_fixAfterDeletion 107 = .ok (.invokestatic 300, 3) := dk_184 1 44 (dk_at dksJ1_fixAfterDeletion_4 12 rfl rfl)
theorem dJ1_fixAfterDeletion_110 : decode cJ1_fixAfterDeletion 110 = .ok (.invokestatic 303, 3) := dk_184 1 47 (dk_at dksJ1_fixAfterDeletion_4 15 rfl rfl)
theorem dJ1_fixAfterDeletion_113 : decode cJ1_fixAfterDeletion 113 = .ok (.iconst 1, 1) := dk_4 (dk_at dksJ1_fixAfterDeletion_4 18 rfl rfl)
theorem dJ1_fixAfterDeletion_114 : decode cJ1_fixAfterDeletion 114 = .ok (.if_icmp .ne 29, 3) := dk_160 0 29 (dk_at dksJ1_fixAfterDeletion_4 19 rfl rfl)
theorem dJ1_fixAfterDeletion_117 : decode cJ1_fixAfterDeletion 117 = .ok (.aload_n 2, 1) := dk_44 (dk_at dksJ1_fixAfterDeletion_4 22 rfl rfl)
theorem dJ1_fixAfterDeletion_118 : decode cJ1_fixAfterDeletion 118 = .ok (.invokestatic 297, 3) := dk_184 1 41 (dk_at dksJ1_fixAfterDeletion_5 0 rfl rfl)
theorem dJ1_fixAfterDeletion_121 : decode cJ1_fixAfterDeletion 121 = .ok (.iconst 1, 1) := dk_4 (dk_at dksJ1_fixAfterDeletion_5 3 rfl rfl)
theorem dJ1_fixAfterDeletion_122 : decode cJ1_fixAfterDeletion 122 = .ok (.invokestatic 307, 3) := dk_184 1 51 (dk_at dksJ1_fixAfterDeletion_5 4 rfl rfl)
theorem dJ1_fixAfterDeletion_125 : decode cJ1_fixAfterDeletion 125 = .ok (.aload_n 2, 1) := dk_44 (dk_at dksJ1_fixAfterDeletion_5 7 rfl rfl)
theorem dJ1_fixAfterDeletion_126 : decode cJ1_fixAfterDeletion 126 = .ok (.iconst 0, 1) := dk_3 (dk_at dksJ1_fixAfterDeletion_5 8 rfl rfl)
theorem dJ1_fixAfterDeletion_127 : decode cJ1_fixAfterDeletion 127 = .ok (.invokestatic 307, 3) := dk_184 1 51 (dk_at dksJ1_fixAfterDeletion_5 9 rfl rfl)
theorem dJ1_fixAfterDeletion_130 : decode cJ1_fixAfterDeletion 130 = .ok (.aload_n 0, 1) := dk_42 (dk_at dksJ1_fixAfterDeletion_5 12 rfl rfl)
theorem dJ1_fixAfterDeletion_131 : decode cJ1_fixAfterDeletion 131 = .ok (.aload_n 2, 1) := dk_44 (dk_at dksJ1_fixAfterDeletion_5 13 rfl rfl)
theorem dJ1_fixAfterDeletion_132 : decode cJ1_fixAfterDeletion 132 = .ok (.invokevirtual 314, 3) := dk_182 1 58 (dk_at dksJ1_fixAfterDeletion_5 14 rfl rfl)
theorem dJ1_fixAfterDeletion_135 : decode cJ1_fixAfterDeletion 135 = .ok (.aload_n 1, 1) := dk_43 (dk_at dksJ1_fixAfterDeletion_5 17 rfl rfl)
theorem dJ1_fixAfterDeletion_136 : decode cJ1_fixAfterDeletion 136 = .ok (.invokestatic 294, 3) := dk_184 1 38 (dk_at dksJ1_fixAfterDeletion_5 18 rfl rfl)
theorem dJ1_fixAfterDeletion_139 : decode cJ1_fixAfterDeletion 139 = .ok (.invokestatic 300, 3) := dk_184 1 44 (dk_at dksJ1_fixAfterDeletion_5 21 rfl rfl)
theorem dJ1_fixAfterDeletion_142 : decode cJ1_fixAfterDeletion 142 = .ok (.astore_n 2, 1) := dk_77 (dk_at dksJ1_fixAfterDeletion_6 0 rfl rfl)
theorem dJ1_fixAfterDeletion_143 : decode cJ1_fixAfterDeletion 143 = .ok (.aload_n 2, 1) := dk_44 (dk_at dksJ1_fixAfterDeletion_6 1 rfl rfl)
theorem dJ1_fixAfterDeletion_144 : decode cJ1_fixAfterDeletion 144 = .ok (.aload_n 1, 1) := dk_43 (dk_at dksJ1_fixAfterDeletion_6 2 rfl rfl)
theorem dJ1_fixAfterDeletion_145 : decode cJ1_fixAfterDeletion 145 = .ok (.invokestatic 294, 3) := dk_184 1 38 (dk_at dksJ1_fixAfterDeletion_6 3 rfl rfl)
theorem dJ1_fixAfterDeletion_148 : decode cJ1_fixAfterDeletion 148 = .ok (.invokestatic 303, 3) := dk_184 1 47 (dk_at dksJ1_fixAfterDeletion_6 6 rfl rfl)
theorem dJ1_fixAfterDeletion_151 : decode cJ1_fixAfterDeletion 151 = .ok (.invokestatic 307, 3) := dk_184 1 51 (dk_at dksJ1_fixAfterDeletion_6 9 rfl rfl)
theorem dJ1_fixAfterDeletion_154 : decode cJ1_fixAfterDeletion 154 = .ok (.aload_n 1, 1) := dk_43 (dk_at dksJ1_fixAfterDeletion_6 12 rfl rfl)
theorem dJ1_fixAfterDeletion_155 : decode cJ1_fixAfterDeletion 155 = .ok (.invokestatic 294, 3) := dk_184 1 38 (dk_at dksJ1_fixAfterDeletion_6 13 rfl rfl)
theorem dJ1_fixAfterDeletion_158 : decode cJ1_fixAfterDeletion 158 = .ok (.iconst 1, 1) := dk_4 (dk_at dksJ1_fixAfterDeletion_6 16 rfl rfl)
theorem dJ1_fixAfterDeletion_159 : decode cJ1_fixAfterDeletion 159 = .ok (.invokestatic 307, 3) := dk_184 1 51 (dk_at dksJ1_fixAfterDeletion_6 17 rfl rfl)
theorem dJ1_fixAfterDeletion_162 : decode cJ1_fixAfterDeletion 162 = .ok (.aload_n 2, 1) := dk_44 (dk_at dksJ1_fixAfterDeletion_6 20 rfl rfl)
theorem dJ1_fixAfterDeletion_163 : decode cJ1_fixAfterDeletion 163 = .ok (.invokestatic 300, 3) := dk_184 1 44 (dk_at dksJ1_fixAfterDeletion_6 21 rfl rfl)
theorem dJ1_fixAfterDeletion_166 : decode cJ1_fixAfterDeletion 166 = .ok (.iconst 1, 1) := dk_4 (dk_at dksJ1_fixAfterDeletion_7 0 rfl rfl)
theorem dJ1_fixAfterDeletion_167 : decode cJ1_fixAfterDeletion 167 = .ok (.invokestatic 307, 3) := dk_184 1 51 (dk_at dksJ1_fixAfterDeletion_7 1 rfl rfl)
theorem dJ1_fixAfterDeletion_170 : decode cJ1_fixAfterDeletion 170 = .ok (.aload_n 0, 1) := dk_42 (dk_at dksJ1_fixAfterDeletion_7 4 rfl rfl)
theorem dJ1_fixAfterDeletion_171 : decode cJ1_fixAfterDeletion 171 = .ok (.aload_n 1, 1) := dk_43 (dk_at dksJ1_fixAfterDeletion_7 5 rfl rfl)
theorem dJ1_fixAfterDeletion_172 : decode cJ1_fixAfterDeletion 172 = .ok (.invokestatic 294, 3) := dk_184 1 38 (dk_at dksJ1_fixAfterDeletion_7 6 rfl rfl)
theorem dJ1_fixAfterDeletion_175 : decode cJ1_fixAfterDeletion 175 = .ok (.invokevirtual 311, 3) := dk_182 1 55 (dk_at dksJ1_fixAfterDeletion_7 9 rfl rfl)
theorem dJ1_fixAfterDeletion_178 : decode cJ1_fixAfterDeletion 178 = .ok (.aload_n 0, 1) := dk_42 (dk_at dksJ1_fixAfterDeletion_7 12 rfl rfl)
theorem dJ1_fixAfterDeletion_179 : decode cJ1_fixAfterDeletion 179 = .ok (.getfield 101, 3) := dk_180 0 101 (dk_at dksJ1_fixAfterDeletion_7 13 rfl rfl)
theorem dJ1_fixAfterDeletion_182 : decode cJ1_fixAfterDeletion 182 = .ok (.astore_n 1, 1) := dk_76 (dk_at dksJ1_fixAfterDeletion_7 16 rfl rfl)
theorem dJ1_fixAfterDeletion_183 : decode cJ1_fixAfterDeletion 183 = .ok (.goto (-183), 3) := dk_167 255 73 (dk_at dksJ1_fixAfterDeletion_7 17 rfl rfl)
theorem dJ1_fixAfterDeletion_186 : decode cJ1_fixAfterDeletion 186 = .ok (.aload_n 1, 1) := dk_43 (dk_at dksJ1_fixAfterDeletion_7 20 rfl rfl)
theorem dJ1_fixAfterDeletion_187 : decode cJ1_fixAfterDeletion 187 = .ok (.invokestatic 294, 3) := dk_184 1 38 (dk_at dksJ1_fixAfterDeletion_7 21 rfl rfl)
theorem dJ1_fixAfterDeletion_190 : decode cJ1_fixAfterDeletion 190 = .ok (.invokestatic 297, 3) := dk_184 1 41 (dk_at dksJ1_fixAfterDeletion_8 0 rfl rfl)
theorem dJ1_fixAfterDeletion_193 : decode cJ1_fixAfterDeletion 193 = .ok (.astore_n 2, 1) := dk_77 (dk_at dksJ1_fixAfterDeletion_8 3 rfl rfl)
theorem dJ1_fixAfterDeletion_194 : decode cJ1_fixAfterDeletion 194 = .ok (.aload_n 2, 1) := dk_44 (dk_at dksJ1_fixAfterDeletion_8 4 rfl rfl)
theorem dJ1_fixAfterDeletion_195 : decode cJ1_fixAfterDeletion 195 = .ok (.invokestatic 303, 3) := dk_184 1 47 (dk_at dksJ1_fixAfterDeletion_8 5 rfl rfl)
theorem dJ1_fixAfterDeletion_198 : decode cJ1_fixAfterDeletion 198 = .ok (.ifCond .ne 32, 3) := dk_154 0 32 (dk_at dksJ1_fixAfterDeletion_8 8 rfl rfl)
theorem dJ1_fixAfterDeletion_201 : decode cJ1_fixAfterDeletion 201 = .ok (.aload_n 2, 1) := dk_44 (dk_at dksJ1_fixAfterDeletion_8 11 rfl rfl)
theorem dJ1_fixAfterDeletion_202 : decode cJ1_fixAfterDeletion 202 = .ok (.iconst 1, 1) := dk_4 (dk_at dksJ1_fixAfterDeletion_8 12 rfl rfl)
theorem dJ1_fixAfterDeletion_203 : decode cJ1_fixAfterDeletion 203 = .ok (.invokestatic 307, 3) := dk_184 1 51 (dk_at dksJ1_fixAfterDeletion_8 13 rfl rfl)
theorem dJ1_fixAfterDeletion_206 : decode cJ1_fixAfterDeletion 206 = .ok (.aload_n 1, 1) := dk_43 (dk_at dksJ1_fixAfterDeletion_8 16 rfl rfl)
theorem dJ1_fixAfterDeletion_207 : decode cJ1_fixAfterDeletion 207 = .ok (.invokestatic 294, 3) := dk_184 1 38 (dk_at dksJ1_fixAfterDeletion_8 17 rfl rfl)
theorem dJ1_fixAfterDeletion_210 : decode cJ1_fixAfterDeletion 210 = .ok (.iconst 0, 1) := dk_3 (dk_at dksJ1_fixAfterDeletion_8 20 rfl rfl)
theorem dJ1_fixAfterDeletion_211 : decode cJ1_fixAfterDeletion 211 = .ok (.invokestatic 307, 3) := dk_184 1 51 (dk_at dksJ1_fixAfterDeletion_8 21 rfl rfl)
theorem dJ1_fixAfterDeletion_214 : decode cJ1_fixAfterDeletion 214 = .ok (.aload_n 0, 1) := dk_42 (dk_at dksJ1_fixAfterDeletion_9 0 rfl rfl)
theorem dJ1_fixAfterDeletion_215 : decode cJ1_fixAfterDeletion 215 = .ok (.aload_n 1, 1) := dk_43 (dk_at dksJ1_fixAfterDeletion_9 1 rfl rfl)
theorem dJ1_fixAfterDeletion_216 : decode cJ1_fixAfterDeletion 216 = .ok (.invokestatic 294, 3) := dk_184 1 38 (dk_at dksJ1_fixAfterDeletion_9 2 rfl rfl)
theorem dJ1_fixAfterDeletion_219 : decode cJ1_fixAfterDeletion 219 = .ok (.invokevirtual 314, 3) := dk_182 1 58 (dk_at dksJ1_fixAfterDeletion_9 5 rfl rfl)
theorem dJ1_fixAfterDeletion_222 : decode cJ1_fixAfterDeletion 222 = .ok (.aload_n 1, 1) := dk_43 (dk_at dksJ1_fixAfterDeletion_9 8 rfl rfl)
theorem dJ1_fixAfterDeletion_223 : decode cJ1_fixAfterDeletion 223 = .ok (.invokestatic 294, 3) := dk_184 1 38 (dk_at dksJ1_fixAfterDeletion_9 9 rfl rfl)
theorem dJ1_fixAfterDeletion_226 : decode cJ1_fixAfterDeletion 226 = .ok (.invokestatic 297, 3) := dk_184 1 41 (dk_at dksJ1_fixAfterDeletion_9 12 rfl rfl)
theorem dJ1_fixAfterDeletion_229 : decode cJ1_fixAfterDeletion 229 = .ok (.astore_n 2, 1) := dk_77 (dk_at dksJ1_fixAfterDeletion_9 15 rfl rfl)
theorem dJ1_fixAfterDeletion_230 : decode cJ1_fixAfterDeletion 230 = .ok (.aload_n 2, 1) := dk_44 (dk_at dksJ1_fixAfterDeletion_9 16 rfl rfl)
theorem dJ1_fixAfterDeletion_231 : decode cJ1_fixAfterDeletion 231 = .ok (.invokestatic 300, 3) := dk_184 1 44 (dk_at dksJ1_fixAfterDeletion_9 17 rfl rfl)
theorem dJ1_fixAfterDeletion_234 : decode cJ1_fixAfterDeletion 234 = .ok (.invokestatic 303, 3) := dk_184 1 47 (dk_at dksJ1_fixAfterDeletion_9 20 rfl rfl)
theorem dJ1_fixAfterDeletion_237 : decode cJ1_fixAfterDeletion 237 = .ok (.iconst 1, 1) := dk_4 (dk_at dksJ1_fixAfterDeletion_9 23 rfl rfl)
theorem dJ1_fixAfterDeletion_238 : decode cJ1_fixAfterDeletion 238 = .ok (.if_icmp .ne 27, 3) := dk_160 0 27 (dk_at dksJ1_fixAfterDeletion_10 0 rfl rfl)
theorem dJ1_fixAfterDeletion_241 : decode cJ1_fixAfterDeletion 241 = .ok (.aload_n 2, 1) := dk_44 (dk_at dksJ1_fixAfterDeletion_10 3 rfl rfl)
theorem dJ1_fixAfterDeletion_242 : decode cJ1_fixAfterDeletion 242 = .ok (.invokestatic 297, 3) := dk_184 1 41 (dk_at dksJ1_fixAfterDeletion_10 4 rfl rfl)
theorem dJ1_fixAfterDeletion_245 : decode cJ1_fixAfterDeletion 245 = .ok (.invokestatic 303, 3) := dk_184 1 47 (dk_at dksJ1_fixAfterDeletion_10 7 rfl rfl)
theorem dJ1_fixAfterDeletion_248 : decode cJ1_fixAfterDeletion 248 = .ok (.iconst 1, 1) := dk_4 (dk_at dksJ1_fixAfterDeletion_10 10 rfl rfl)
theorem dJ1_fixAfterDeletion_249 : decode cJ1_fixAfterDeletion 249 = .ok (.if_icmp .ne 16, 3) := dk_160 0 16 (dk_at dksJ1_fixAfterDeletion_10 11 rfl rfl)
theorem dJ1_fixAfterDeletion_252 : decode cJ1_fixAfterDeletion 252 = .ok (.aload_n 2, 1) := dk_44 (dk_at dksJ1_fixAfterDeletion_10 14 rfl rfl)
theorem dJ1_fixAfterDeletion_253 : decode cJ1_fixAfterDeletion 253 = .ok (.iconst 0, 1) := dk_3 (dk_at dksJ1_fixAfterDeletion_10 15 rfl rfl)
theorem dJ1_fixAfterDeletion_254 : decode cJ1_fixAfterDeletion 254 = .ok (.invokestatic 307, 3) := dk_184 1 51 (dk_at dksJ1_fixAfterDeletion_10 16 rfl rfl)
theorem dJ1_fixAfterDeletion_257 : decode cJ1_fixAfterDeletion 257 = .ok (.aload_n 1, 1) := dk_43 (dk_at dksJ1_fixAfterDeletion_10 19 rfl rfl)
theorem dJ1_fixAfterDeletion_258 : decode cJ1_fixAfterDeletion 258 = .ok (.invokestatic 294, 3) := dk_184 1 38 (dk_at dksJ1_fixAfterDeletion_10 20 rfl rfl)
theorem dJ1_fixAfterDeletion_261 : decode cJ1_fixAfterDeletion 261 = .ok (.astore_n 1, 1) := dk_76 (dk_at dksJ1_fixAfterDeletion_10 23 rfl rfl)
theorem dJ1_fixAfterDeletion_262 : decode cJ1_fixAfterDeletion 262 = .ok (.goto 80, 3) := dk_167 0 80 (dk_at dksJ1_fixAfterDeletion_11 0 rfl rfl)
theorem dJ1_fixAfterDeletion_265 : decode cJ1_fixAfterDeletion 265 = .ok (.aload_n 2, 1) := dk_44 (dk_at dksJ1_fixAfterDeletion_11 3 rfl rfl)
theorem dJ1_fixAfterDeletion_266 : decode cJ1_fixAfterDeletion 266 = .ok (.invokestatic 297, 3) := dk_184 1 41 (dk_at dksJ1_fixAfterDeletion_11 4 rfl rfl)
theorem dJ1_fixAfterDeletion_269 : decode cJ1_fixAfterDeletion 269 = .ok (.invokestatic 303, 3) := dk_184 1 47 (dk_at dksJ1_fixAfterDeletion_11 7 rfl rfl)
theorem dJ1_fixAfterDeletion_272 : decode cJ1_fixAfterDeletion 272 = .ok (.iconst 1, 1) := dk_4 (dk_at dksJ1_fixAfterDeletion_11 10 rfl rfl)
theorem dJ1_fixAfterDeletion_273 : decode cJ1_fixAfterDeletion 273 = .ok (.if_icmp .ne 29, 3) := dk_160 0 29 (dk_at dksJ1_fixAfterDeletion_11 11 rfl rfl)
theorem dJ1_fixAfterDeletion_276 : decode cJ1_fixAfterDeletion 276 = .ok (.aload_n 2, 1) := dk_44 (dk_at dksJ1_fixAfterDeletion_11 14 rfl rfl)
theorem dJ1_fixAfterDeletion_277 : decode cJ1_fixAfterDeletion 277 = .ok (.invokestatic 300, 3) := dk_184 1 44 (dk_at dksJ1_fixAfterDeletion_11 15 rfl rfl)
theorem dJ1_fixAfterDeletion_280 : decode cJ1_fixAfterDeletion 280 = .ok (.iconst 1, 1) := dk_4 (dk_at dksJ1_fixAfterDeletion_11 18 rfl rfl)
theorem dJ1_fixAfterDeletion_281 : decode cJ1_fixAfterDeletion 281 = .ok (.invokestatic 307, 3) := dk_184 1 51 (dk_at dksJ1_fixAfterDeletion_11 19 rfl rfl)
theorem dJ1_fixAfterDeletion_284 : decode cJ1_fixAfterDeletion 284 = .ok (.aload_n 2, 1) := dk_44 (dk_at dksJ1_fixAfterDeletion_11 22 rfl rfl)
theorem dJ1_fixAfterDeletion_285 : decode cJ1_fixAfterDeletion 285 = .ok (.iconst 0, 1) := dk_3 (dk_at dksJ1_fixAfterDeletion_11 23 rfl rfl)
theorem dJ1_fixAfterDeletion_286 : decode cJ1_fixAfterDeletion 286 = .ok (.invokestatic 307, 3) := dk_184 1 51 (dk_at dksJ1_fixAfterDeletion_12 0 rfl rfl)
theorem dJ1_fixAfterDeletion_289 : decode cJ1_fixAfterDeletion 289 = .ok (.aload_n 0, 1) := dk_42 (dk_at dksJ1_fixAfterDeletion_12 3 rfl rfl)
theorem dJ1_fixAfterDeletion_290 : decode cJ1_fixAfterDeletion 290 = .ok (.aload_n 2, 1) := dk_44 (dk_at dksJ1_fixAfterDeletion_12 4 rfl rfl)
theorem dJ1_fixAfterDeletion_291 : decode cJ1_fixAfterDeletion 291 = .ok (.invokevirtual 311, 3) := dk_182 1 55 (dk_at dksJ1_fixAfterDeletion_12 5 rfl rfl)
theorem dJ1_fixAfterDeletion_294 : decode cJ1_fixAfterDeletion 294 = .ok (.aload_n 1, 1) := dk_43 (dk_at dksJ1_fixAfterDeletion_12 8 rfl rfl)
theorem dJ1_fixAfterDeletion_295 : decode cJ1_fixAfterDeletion 295 = .ok (.invokestatic 294, 3) := dk_184 1 38 (dk_at dksJ1_fixAfterDeletion_12 9 rfl rfl)
theorem dJ1_fixAfterDeletion_298 : decode cJ1_fixAfterDeletion 298 = .ok (.invokestatic 297, 3) := dk_184 1 41 (dk_at dksJ1_fixAfterDeletion_12 12 rfl rfl)
theorem dJ1_fixAfterDeletion_301 : decode cJ1_fixAfterDeletion 301 = .ok (.astore_n 2, 1) := dk_77 (dk_at dksJ1_fixAfterDeletion_12 15 rfl rfl)
theorem dJ1_fixAfterDeletion_302 : decode cJ1_fixAfterDeletion 302 = .ok (.aload_n 2, 1) := dk_44 (dk_at dksJ1_fixAfterDeletion_12 16 rfl rfl)
theorem dJ1_fixAfterDeletion_303 : decode cJ1_fixAfterDeletion 303 = .ok (.aload_n 1, 1) := dk_43 (dk_at dksJ1_fixAfterDeletion_12 17 rfl rfl)
theorem dJ1_fixAfterDeletion_304 : decode cJ1_fixAfterDeletion 304 = .ok (.invokestatic 294, 3) := dk_184 1 38 (dk_at dksJ1_fixAfterDeletion_12 18 rfl rfl)
theorem dJ1_fixAfterDeletion_307 : decode cJ1_fixAfterDeletion 307 = .ok (.invokestatic 303, 3) := dk_184 1 47 (dk_at dksJ1_fixAfterDeletion_12 21 rfl rfl)
theorem dJ1_fixAfterDeletion_310 : decode cJ1_fixAfterDeletion 310 = .ok (.invokestatic 307, 3) := dk_184 1 51 (dk_at dksJ1_fixAfterDeletion_13 0 rfl rfl)
theorem dJ1_fixAfterDeletion_313 : decode cJ1_fixAfterDeletion 313 = .ok (.aload_n 1, 1) := dk_43 (dk_at dksJ1_fixAfterDeletion_13 3 rfl rfl)
theorem dJ1_fixAfterDeletion_314 : decode cJ1_fixAfterDeletion 314 = .ok (.invokestatic 294, 3) := dk_184 1 38 (dk_at dksJ1_fixAfterDeletion_13 4 rfl rfl)
theorem dJ1_fixAfterDeletion_317 : decode cJ1_fixAfterDeletion 317 = .ok (.iconst 1, 1) := dk_4 (dk_at dksJ1_fixAfterDeletion_13 7 rfl rfl)
theorem dJ1_fixAfterDeletion_318 : decode cJ1_fixAfterDeletion 318 = .ok (.invokestatic 307, 3) := dk_184 1 51 (dk_at dksJ1_fixAfterDeletion_13 8 rfl rfl)
theorem dJ1_fixAfterDeletion_321 : decode cJ1_fixAfterDeletion 321 = .ok (.aload_n 2, 1) := dk_44 (dk_at dksJ1_fixAfterDeletion_13 11 rfl rfl)
theorem dJ1_fixAfterDeletion_322 : decode cJ1_fixAfterDeletion 322 = .ok (.invokestatic 297, 3) := dk_184 1 41 (dk_at dksJ1_fixAfterDeletion_13 12 rfl rfl)
theorem dJ1_fixAfterDeletion_325 : decode cJ1_fixAfterDeletion 325 = .ok (.iconst 1, 1) := dk_4 (dk_at dksJ1_fixAfterDeletion_13 15 rfl rfl)
theorem dJ1_fixAfterDeletion_326 : decode cJ1_fixAfterDeletion 326 = .ok (.invokestatic 307, 3) := dk_184 1 51 (dk_at dksJ1_fixAfterDeletion_13 16 rfl rfl)
theorem dJ1_fixAfterDeletion_329 : decode cJ1_fixAfterDeletion 329 = .ok (.aload_n 0, 1) := dk_42 (dk_at dksJ1_fixAfterDeletion_13 19 rfl rfl)
theorem dJ1_fixAfterDeletion_330 : decode cJ1_fixAfterDeletion 330 = .ok (.aload_n 1, 1) := dk_43 (dk_at dksJ1_fixAfterDeletion_13 20 rfl rfl)
theorem dJ1_fixAfterDeletion_331 : decode cJ1_fixAfterDeletion 331 = .ok (.invokestatic 294, 3) := dk_184 1 38 (dk_at dksJ1_fixAfterDeletion_13 21 rfl rfl)
theorem dJ1_fixAfterDeletion_334 : decode cJ1_fixAfterDeletion 334 = .ok (.invokevirtual 314, 3) := dk_182 1 58 (dk_at dksJ1_fixAfterDeletion_14 0 rfl rfl)
theorem dJ1_fixAfterDeletion_337 : decode cJ1_fixAfterDeletion 337 = .ok (.aload_n 0, 1) := dk_42 (dk_at dksJ1_fixAfterDeletion_14 3 rfl rfl)
theorem dJ1_fixAfterDeletion_338 : decode cJ1_fixAfterDeletion 338 = .ok (.getfield 101, 3) := dk_180 0 101 (dk_at dksJ1_fixAfterDeletion_14 4 rfl rfl)
theorem dJ1_fixAfterDeletion_341 : decode cJ1_fixAfterDeletion 341 = .ok (.astore_n 1, 1) := dk_76 (dk_at dksJ1_fixAfterDeletion_14 7 rfl rfl)
theorem dJ1_fixAfterDeletion_342 : decode cJ1_fixAfterDeletion 342 = .ok (.goto (-342), 3) := dk_167 254 170 (dk_at dksJ1_fixAfterDeletion_14 8 rfl rfl)
theorem dJ1_fixAfterDeletion_345 : decode cJ1_fixAfterDeletion 345 = .ok (.aload_n 1, 1) := dk_43 (dk_at dksJ1_fixAfterDeletion_14 11 rfl rfl)
theorem dJ1_fixAfterDeletion_346 : decode cJ1_fixAfterDeletion 346 = .ok (.iconst 1, 1) := dk_4 (dk_at dksJ1_fixAfterDeletion_14 12 rfl rfl)
theorem dJ1_fixAfterDeletion_347 : decode cJ1_fixAfterDeletion 347 = .ok (.invokestatic 307, 3) := dk_184 1 51 (dk_at dksJ1_fixAfterDeletion_14 13 rfl rfl)
theorem dJ1_fixAfterDeletion_350 : decode cJ1_fixAfterDeletion 350 = .ok (.return_, 1) := dk_177 (dk_at dksJ1_fixAfterDeletion_14 16 rfl rfl)
theorem dJ2_init_0 : decode cJ2_init 0 = .ok (.aload_n 0, 1) := by decide +kernel
theorem dJ2_init_1 : decode cJ2_init 1 = .ok (.invokespecial 1, 3) := by decide +kernel
theorem dJ2_init_4 : decode cJ2_init 4 = .ok (.return_, 1) := by decide +kernel
def dkwJ2_isEmpty_0 : List UInt8 := [42, 182, 0, 7, 154, 0, 7, 4, 167, 0, 4, 3, 172]
abbrev dktJ2_isEmpty_0 : List UInt8 := dkwJ2_isEmpty_0 ++ []
theorem dksJ2_isEmpty_0 : cJ2_isEmpty.data.toList.drop 0 = dktJ2_isEmpty_0 := by decide +kernel
theorem dJ2_isEmpty_0 : decode cJ2_isEmpty 0 = .ok (.aload_n 0, 1) := dk_42 (dk_at dksJ2_isEmpty_0 0 rfl rfl)
theorem dJ2_isEmpty_1 : decode cJ2_isEmpty 1 = .ok (.invokevirtual 7, 3) := dk_182 0 7 (dk_at dksJ2_isEmpty_0 1 rfl rfl)
theorem dJ2_isEmpty_4 : decode cJ2_isEmpty 4 = .ok (.ifCond .ne 7, 3) := dk_154 0 7 (dk_at dksJ2_isEmpty_0 4 rfl rfl)
theorem dJ2_isEmpty_7 : decode cJ2_isEmpty 7 = .ok (.iconst 1, 1) := dk_4 (dk_at dksJ2_isEmpty_0 7 rfl rfl)
theorem dJ2_isEmpty_8 : decode cJ2_isEmpty 8 = .ok (.goto 4, 3) := dk_167 0 4 (dk_at dksJ2_isEmpty_0 8 rfl rfl)
theorem dJ2_isEmpty_11 : decode cJ2_isEmpty 11 = .ok (.iconst 0, 1) := dk_3 (dk_at dksJ2_isEmpty_0 11 rfl rfl)
theorem dJ2_isEmpty_12 : decode cJ2_isEmpty 12 = .ok (.ireturn, 1) := dk_172 (dk_at dksJ2_isEmpty_0 12 rfl rfl)
theorem dJ3_init_0 : decode cJ3_init 0 = .ok (.aload_n 0, 1) := by decide +kernel
theorem dJ3_init_1 : decode cJ3_init 1 = .ok (.invokespecial 1, 3) := by decide +kernel
theorem dJ3_init_4 : decode cJ3_init 4 = .ok (.return_, 1) := by decide +kernel
def dkwJ3_addAll_2 : List UInt8 := [185, 0, 48, 1, 0, 58, 4, 42, 25, 4, 182, 0, 51, 153, 0, 5, 4, 61, 167, 255, 228, 28, 172]
abbrev dktJ3_addAll_2 : List UInt8 := dkwJ3_addAll_2 ++ []
def dkwJ3_addAll_1 : List UInt8 := [191, 3, 61, 43, 185, 0, 36, 1, 0, 78, 45, 185, 0, 42, 1, 0, 153, 0, 25, 45]
abbrev dktJ3_addAll_1 : List UInt8 := dkwJ3_addAll_1 ++ dktJ3_addAll_2
def dkwJ3_addAll_0 : List UInt8 := [43, 199, 0, 11, 187, 0, 30, 89, 183, 0, 32, 191, 43, 42, 166, 0, 11, 187, 0, 33, 89, 183, 0, 35]
abbrev dktJ3_addAll_0 : List UInt8 := dkwJ3_addAll_0 ++ dktJ3_addAll_1
theorem dksJ3_addAll_0 : cJ3_addAll.data.toList.drop 0 = dktJ3_addAll_0 := by decide +kernel
theorem dksJ3_addAll_1 : cJ3_addAll.data.toList.drop 24 = dktJ3_addAll_1 := dk_seg dksJ3_addAll_0 24 rfl rfl
theorem dksJ3_addAll_2 : cJ3_addAll.data.toList.drop 44 = dktJ3_addAll_2 := dk_seg dksJ3_addAll_1 20 rfl rfl
theorem dJ3_addAll_0 : decode cJ3_addAll 0 = .ok (.aload_n 1, 1) := dk_43 (dk_at dksJ3_addAll_0 0 rfl rfl)
theorem dJ3_addAll_1 : decode cJ3_addAll 1 = .ok (.ifnonnull 11, 3) := dk_199 0 11 (dk_at dksJ3_addAll_0 1 rfl rfl)
theorem dJ3_addAll_4 : decode cJ3_addAll 4 = .ok (.new 30, 3) := dk_187 0 30 (dk_at dksJ3_addAll_0 4 rfl rfl)
theorem dJ3_addAll_7 : decode cJ3_addAll 7 = .ok (.dup, 1) := dk_89 (dk_at dksJ3_addAll_0 7 rfl rfl)
theorem dJ3_addAll_8 : decode cJ3_addAll 8 = .ok (.invokespecial 32, 3) := dk_183 0 32 (dk_at dksJ3_addAll_0 8 rfl rfl)
theorem dJ3_addAll_11 : decode cJ3_addAll 11 = .ok (.athrow, 1) := dk_191 (dk_at dksJ3_addAll_0 11 rfl rfl)
theorem dJ3_addAll_12 : decode cJ3_addAll 12 = .ok (.aload_n 1, 1) := dk_43 (dk_at dksJ3_addAll_0 12 rfl rfl)
theorem dJ3_addAll_13 : decode cJ3_addAll 13 = .ok (.aload_n 0, 1) := dk_42 (dk_at dksJ3_addAll_0 13 rfl rfl)
theorem dJ3_addAll_14 : decode cJ3_addAll 14 = .ok (.if_acmp .ne 11, 3) := dk_166 0 11 (dk_at dksJ3_addAll_0 14 rfl rfl)
theorem dJ3_addAll_17 : decode cJ3_addAll 17 = .ok (.new 33, 3) := dk_187 0 33 (dk_at dksJ3_addAll_0 17 rfl rfl)
theorem dJ3_addAll_20 : decode cJ3_addAll 20 = .ok (.dup, 1) := dk_89 (dk_at dksJ3_addAll_0 20 rfl rfl)
theorem dJ3_addAll_21 : decode cJ3_addAll 21 = .ok (.invokespecial 35, 3) := dk_183 0 35 (dk_at dksJ3_addAll_0 21 rfl rfl)
theorem dJ3_addAll_24 : decode cJ3_addAll 24 = .ok (.athrow, 1) := dk_191 (dk_at dksJ3_addAll_1 0 rfl rfl)
theorem dJ3_addAll_25 : decode cJ3_addAll 25 = .ok (.iconst 0, 1) := dk_3 (dk_at dksJ3_addAll_1 1 rfl rfl)
theorem dJ3_addAll_26 : decode cJ3_addAll 26 = .ok (.istore_n 2, 1) := dk_61 (dk_at dksJ3_addAll_1 2 rfl rfl)
theorem dJ3_addAll_27 : decode cJ3_addAll 27 = .ok (.aload_n 1, 1) := dk_43 (dk_at dksJ3_addAll_1 3 rfl rfl)
theorem dJ3_addAll_28 : decode cJ3_addAll 28 = .ok (.invokeinterface 36 1, 5) := by decide +kernel
theorem dJ3_addAll_33 : decode cJ3_addAll 33 = .ok (.astore_n 3, 1) := dk_78 (dk_at dksJ3_addAll_1 9 rfl rfl)
theorem dJ3_addAll_34 : decode cJ3_addAll 34 = .ok (.aload_n 3, 1) := dk_45 (dk_at dksJ3_addAll_1 10 rfl rfl)
theorem dJ3_addAll_35 : decode cJ3_addAll 35 = .ok (.invokeinterface 42 1, 5) := by decide +kernel
theorem dJ3_addAll_40 : decode cJ3_addAll 40 = .ok (.ifCond .eq 25, 3) := dk_153 0 25 (dk_at dksJ3_addAll_1 16 rfl rfl)
theorem dJ3_addAll_43 : decode cJ3_addAll 43 = .ok (.aload_n 3, 1) := dk_45 (dk_at dksJ3_addAll_1 19 rfl rfl)
theorem dJ3_addAll_44 : decode cJ3_addAll 44 = .ok (.invokeinterface 48 1, 5) := by decide +kernel
theorem dJ3_addAll_49 : decode cJ3_addAll 49 = .ok (.astore 4, 2) := dk_58 4 (dk_at dksJ3_addAll_2 5 rfl rfl)
theorem dJ3_addAll_51 : decode cJ3_addAll 51 = .ok (.aload_n 0, 1) := dk_42 (dk_at dksJ3_addAll_2 7 rfl rfl)
theorem dJ3_addAll_52 : decode cJ3_addAll 52 = .ok (.aload 4, 2) := dk_25 4 (dk_at dksJ3_addAll_2 8 rfl rfl)
theorem dJ3_addAll_54 : decode cJ3_addAll 54 = .ok (.invokevirtual 51, 3) := dk_182 0 51 (dk_at dksJ3_addAll_2 10 rfl rfl)
theorem dJ3_addAll_57 : decode cJ3_addAll 57 = .ok (.ifCond .eq 5, 3) := dk_153 0 5 (dk_at dksJ3_addAll_2 13 rfl rfl)
theorem dJ3_addAll_60 : decode cJ3_addAll 60 = .ok (.iconst 1, 1) := dk_4 (dk_at dksJ3_addAll_2 16 rfl rfl)
theorem dJ3_addAll_61 : decode cJ3_addAll 61 = .ok (.istore_n 2, 1) := dk_61 (dk_at dksJ3_addAll_2 17 rfl rfl)
theorem dJ3_addAll_62 : decode cJ3_addAll 62 = .ok (.goto (-28), 3) := dk_167 255 228 (dk_at dksJ3_addAll_2 18 rfl rfl)
theorem dJ3_addAll_65 : decode cJ3_addAll 65 = .ok (.iload_n 2, 1) := dk_28 (dk_at dksJ3_addAll_2 21 rfl rfl)
theorem dJ3_addAll_66 : decode cJ3_addAll 66 = .ok (.ireturn, 1) := dk_172 (dk_at dksJ3_addAll_2 22 rfl rfl)
def dkwJ4_init_0 : List UInt8 := [42, 16, 11, 43, 183, 0, 3, 177]
abbrev dktJ4_init_0 : List UInt8 := dkwJ4_init_0 ++ []
theorem dksJ4_init_0 : cJ4_init.data.toList.drop 0 = dktJ4_init_0 := by decide +kernel
theorem dJ4_init_0 : decode cJ4_init 0 = .ok (.aload_n 0, 1) := dk_42 (dk_at dksJ4_init_0 0 rfl rfl)
theorem dJ4_init_1 : decode cJ4_init 1 = .ok (.bipush 11, 2) := dk_16 11 (dk_at dksJ4_init_0 1 rfl rfl)
theorem dJ4_init_3 : decode cJ4_init 3 = .ok (.aload_n 1, 1) := dk_43 (dk_at dksJ4_init_0 3 rfl rfl)
theorem dJ4_init_4 : decode cJ4_init 4 = .ok (.invokespecial 3, 3) := dk_183 0 3 (dk_at dksJ4_init_0 4 rfl rfl)
theorem dJ4_init_7 : decode cJ4_init 7 = .ok (.return_, 1) := dk_177 (dk_at dksJ4_init_0 7 rfl rfl)
def dkwJ4_init_2_1 : List UInt8 := [181, 0, 17, 42, 44, 181, 0, 21, 177]
abbrev dktJ4_init_2_1 : List UInt8 := dkwJ4_init_2_1 ++ []
def dkwJ4_init_2_0 : List UInt8 := [42, 183, 0, 7, 27, 4, 162, 0, 11, 187, 0, 12, 89, 183, 0, 14, 191, 42, 27, 189, 0, 15]
abbrev dktJ4_init_2_0 : List UInt8 := dkwJ4_init_2_0 ++ dktJ4_init_2_1
theorem dksJ4_init_2_0 : cJ4_init_2.data.toList.drop 0 = dktJ4_init_2_0 := by decide +kernel
theorem dksJ4_init_2_1 : cJ4_init_2.data.toList.drop 22 = dktJ4_init_2_1 := dk_seg dksJ4_init_2_0 22 rfl rfl
theorem dJ4_init_2_0 : decode cJ4_init_2 0 = .ok (.aload_n 0, 1) := dk_42 (dk_at dksJ4_init_2_0 0 rfl rfl)
theorem dJ4_init_2_1 : decode cJ4_init_2 1 = .ok (.invokespecial 7, 3) := dk_183 0 7 (dk_at dksJ4_init_2_0 1 rfl rfl)
theorem dJ4_init_2_4 : decode cJ4_init_2 4 = .ok (.iload_n 1, 1) := dk_27 (dk_at dksJ4_init_2_0 4 rfl rfl)
theorem dJ4_init_2_5 : decode cJ4_init_2 5 = .ok (.iconst 1, 1) := dk_4 (dk_at dksJ4_init_2_0 5 rfl rfl)
theorem dJ4_init_2_6 : decode cJ4_init_2 6 = .ok (.if_icmp .ge 11, 3) := dk_162 0 11 (dk_at dksJ4_init_2_0 6 rfl rfl)
theorem dJ4_init_2_9 : decode cJ4_init_2 9 = .ok (.new 12, 3) := dk_187 0 12 (dk_at dksJ4_init_2_0 9 rfl rfl)
theorem dJ4_init_2_12 : decode cJ4_init_2 12 = .ok (.dup, 1) := dk_89 (dk_at dksJ4_init_2_0 12 rfl rfl)
theorem dJ4_init_2_13 : decode cJ4_init_2 13 = .ok (.invokespecial 14, 3) := dk_183 0 14 (dk_at dksJ4_init_2_0 13 rfl rfl)
theorem dJ4_init_2_16 : decode cJ4_init_2 16 = .ok (.athrow, 1) := dk_191 (dk_at dksJ4_init_2_0 16 rfl rfl)
theorem dJ4_init_2_17 : decode cJ4_init_2 17 = .ok (.aload_n 0, 1) := dk_42 (dk_at dksJ4_init_2_0 17 rfl rfl)
theorem dJ4_init_2_18 : decode cJ4_init_2 18 = .ok (.iload_n 1, 1) := dk_27 (dk_at dksJ4_init_2_0 18 rfl rfl)
theorem dJ4_init_2_19 : decode cJ4_init_2 19 = .ok (.anewarray 15, 3) := dk_189 0 15 (dk_at dksJ4_init_2_0 19 rfl rfl)
theorem dJ4_init_2_22 : decode cJ4_init_2 22 = .ok (.putfield 17, 3) := dk_181 0 17 (dk_at dksJ4_init_2_1 0 rfl rfl)
theorem dJ4_init_2_25 : decode cJ4_init_2 25 = .ok (.aload_n 0, 1) := dk_42 (dk_at dksJ4_init_2_1 3 rfl rfl)
theorem dJ4_init_2_26 : decode cJ4_init_2 26 = .ok (.aload_n 2, 1) := dk_44 (dk_at dksJ4_init_2_1 4 rfl rfl)
theorem dJ4_init_2_27 : decode cJ4_init_2 27 = .ok (.putfield 21, 3) := dk_181 0 21 (dk_at dksJ4_init_2_1 5 rfl rfl)
theorem dJ4_init_2_30 : decode cJ4_init_2 30 = .ok (.return_, 1) := dk_177 (dk_at dksJ4_init_2_1 8 rfl rfl)
def dkwJ4_peek_0 : List UInt8 := [42, 180, 0, 17, 3, 50, 176]
abbrev dktJ4_peek_0 : List UInt8 := dkwJ4_peek_0 ++ []
theorem dksJ4_peek_0 : cJ4_peek.data.toList.drop 0 = dktJ4_peek_0 := by decide +kernel
theorem dJ4_peek_0 : decode cJ4_peek 0 = .ok (.aload_n 0, 1) := dk_42 (dk_at dksJ4_peek_0 0 rfl rfl)
theorem dJ4_peek_1 : decode cJ4_peek 1 = .ok (.getfield 17, 3) := dk_180 0 17 (dk_at dksJ4_peek_0 1 rfl rfl)
theorem dJ4_peek_4 : decode cJ4_peek 4 = .ok (.iconst 0, 1) := dk_3 (dk_at dksJ4_peek_0 4 rfl rfl)
theorem dJ4_peek_5 : decode cJ4_peek 5 = .ok (.aaload, 1) := dk_50 (dk_at dksJ4_peek_0 5 rfl rfl)
theorem dJ4_peek_6 : decode cJ4_peek 6 = .ok (.areturn, 1) := dk_176 (dk_at dksJ4_peek_0 6 rfl rfl)
def dkwJ4_iterator_0 : List UInt8 := [187, 0, 121, 89, 42, 183, 0, 123, 176]
abbrev dktJ4_iterator_0 : List UInt8 := dkwJ4_iterator_0 ++ []
theorem dksJ4_iterator_0 : cJ4_iterator.data.toList.drop 0 = dktJ4_iterator_0 := by decide +kernel
theorem dJ4_iterator_0 : decode cJ4_iterator 0 = .ok (.new 121, 3) := dk_187 0 121 (dk_at dksJ4_iterator_0 0 rfl rfl)
theorem dJ4_iterator_3 : decode cJ4_iterator 3 = .ok (.dup, 1) := dk_89 (dk_at dksJ4_iterator_0 3 rfl rfl)
theorem dJ4_iterator_4 : decode cJ4_iterator 4 = .ok (.aload_n 0, 1) := dk_42 (dk_at dksJ4_iterator_0 4 rfl rfl)
theorem dJ4_iterator_5 : decode cJ4_iterator 5 = .ok (.invokespecial 123, 3) := dk_183 0 123 (dk_at dksJ4_iterator_0 5 rfl rfl)
theorem dJ4_iterator_8 : decode cJ4_iterator 8 = .ok (.areturn, 1) := dk_176 (dk_at dksJ4_iterator_0 8 rfl rfl)
def dkwJ4_add_0 : List UInt8 := [42, 43, 182, 0, 89, 172]
abbrev dktJ4_add_0 : List UInt8 := dkwJ4_add_0 ++ []
theorem dksJ4_add_0 : cJ4_add.data.toList.drop 0 = dktJ4_add_0 := by decide +kernel
theorem dJ4_add_0 : decode cJ4_add 0 = .ok (.aload_n 0, 1) := dk_42 (dk_at dksJ4_add_0 0 rfl rfl)
theorem dJ4_add_1 : decode cJ4_add 1 = .ok (.aload_n 1, 1) := dk_43 (dk_at dksJ4_add_0 1 rfl rfl)
theorem dJ4_add_2 : decode cJ4_add 2 = .ok (.invokevirtual 89, 3) := dk_182 0 89 (dk_at dksJ4_add_0 2 rfl rfl)
theorem dJ4_add_5 : decode cJ4_add 5 = .ok (.ireturn, 1) := dk_172 (dk_at dksJ4_add_0 5 rfl rfl)
def dkwJ4_offer_2 : List UInt8 := [182, 0, 100, 42, 28, 4, 96, 181, 0, 58, 4, 172]
abbrev dktJ4_offer_2 : List UInt8 := dkwJ4_offer_2 ++ []
def dkwJ4_offer_1 : List UInt8 := [180, 0, 58, 61, 28, 42, 180, 0, 17, 190, 161, 0, 10, 42, 28, 4, 96, 182, 0, 96, 42, 28, 43]
abbrev dktJ4_offer_1 : List UInt8 := dkwJ4_offer_1 ++ dktJ4_offer_2
def dkwJ4_offer_0 : List UInt8 := [43, 199, 0, 11, 187, 0, 74, 89, 183, 0, 76, 191, 42, 89, 180, 0, 93, 4, 96, 181, 0, 93, 42]
abbrev dktJ4_offer_0 : List UInt8 := dkwJ4_offer_0 ++ dktJ4_offer_1
theorem dksJ4_offer_0 : cJ4_offer.data.toList.drop 0 = dktJ4_offer_0 := by decide +kernel
theorem dksJ4_offer_1 : cJ4_offer.data.toList.drop 23 = dktJ4_offer_1 := dk_seg dksJ4_offer_0 23 rfl rfl
theorem dksJ4_offer_2 : cJ4_offer.data.toList.drop 46 = dktJ4_offer_2 := dk_seg dksJ4_offer_1 23 rfl rfl
theorem dJ4_offer_0 : decode cJ4_offer 0 = .ok (.aload_n 1, 1) := dk_43 (dk_at dksJ4_offer_0 0 rfl rfl)
theorem dJ4_offer_1 : decode cJ4_offer 1 = .ok (.ifnonnull 11, 3) := dk_199 0 11 (dk_at dksJ4_offer_0 1 rfl rfl)
theorem dJ4_offer_4 : decode cJ4_offer 4 = .ok (.new 74, 3) := dk_187 0 74 (dk_at dksJ4_offer_0 4 rfl rfl)
theorem dJ4_offer_7 : decode cJ4_offer 7 = .ok (.dup, 1) := dk_89 (dk_at dksJ4_offer_0 7 rfl rfl)
theorem dJ4_offer_8 : decode cJ4_offer 8 = .ok (.invokespecial 76, 3) := dk_183 0 76 (dk_at dksJ4_offer_0 8 rfl rfl)
theorem dJ4_offer_11 : decode cJ4_offer 11 = .ok (.athrow, 1) := dk_191 (dk_at dksJ4_offer_0 11 rfl rfl)
theorem dJ4_offer_12 : decode cJ4_offer 12 = .ok (.aload_n 0, 1) := dk_42 (dk_at dksJ4_offer_0 12 rfl rfl)
theorem dJ4_offer_13 : decode cJ4_offer 13 = .ok (.dup, 1) := dk_89 (dk_at dksJ4_offer_0 13 rfl rfl)
theorem dJ4_offer_14 : decode cJ4_offer 14 = .ok (.getfield 93, 3) := dk_180 0 93 (dk_at dksJ4_offer_0 14 rfl rfl)
theorem dJ4_offer_17 : decode cJ4_offer 17 = .ok (.iconst 1, 1) := dk_4 (dk_at dksJ4_offer_0 17 rfl rfl)
theorem dJ4_offer_18 : decode cJ4_offer 18 = .ok (.iadd, 1) := dk_96 (dk_at dksJ4_offer_0 18 rfl rfl)
theorem dJ4_offer_19 : decode cJ4_offer 19 = .ok (.putfield 93, 3) := dk_181 0 93 (dk_at dksJ4_offer_0 19 rfl rfl)
theorem dJ4_offer_22 : decode cJ4_offer 22 = .ok (.aload_n 0, 1) := dk_42 (dk_at dksJ4_offer_0 22 rfl rfl)
theorem dJ4_offer_23 : decode cJ4_offer 23 = .ok (.getfield 58, 3) := dk_180 0 58 (dk_at dksJ4_offer_1 0 rfl rfl)
theorem dJ4_offer_26 : decode cJ4_offer 26 = .ok (.istore_n 2, 1) := dk_61 (dk_at dksJ4_offer_1 3 rfl rfl)
theorem dJ4_offer_27 : decode cJ4_offer 27 = .ok (.iload_n 2, 1) := dk_28 (dk_at dksJ4_offer_1 4 rfl rfl)
theorem dJ4_offer_28 : decode cJ4_offer 28 = .ok (.aload_n 0, 1) := dk_42 (dk_at dksJ4_offer_1 5 rfl rfl)
theorem dJ4_offer_29 : decode cJ4_offer 29 = .ok (.getfield 17, 3) := dk_180 0 17 (dk_at dksJ4_offer_1 6 rfl rfl)
theorem dJ4_offer_32 : decode cJ4_offer 32 = .ok (.arraylength, 1) := dk_190 (dk_at dksJ4_offer_1 9 rfl rfl)
theorem dJ4_offer_33 : decode cJ4_offer 33 = .ok (.if_icmp .lt 10, 3) := dk_161 0 10 (dk_at dksJ4_offer_1 10 rfl rfl)
theorem dJ4_offer_36 : decode cJ4_offer 36 = .ok (.aload_n 0, 1) := dk_42 (dk_at dksJ4_offer_1 13 rfl rfl)
theorem dJ4_offer_37 : decode cJ4_offer 37 = .ok (.iload_n 2, 1) := dk_28 (dk_at dksJ4_offer_1 14 rfl rfl)
theorem dJ4_offer_38 : decode cJ4_offer 38 = .ok (.iconst 1, 1) := dk_4 (dk_at dksJ4_offer_1 15 rfl rfl)
theorem dJ4_offer_39 : decode cJ4_offer 39 = .ok (.iadd, 1) := dk_96 (dk_at dksJ4_offer_1 16 rfl rfl)
theorem dJ4_offer_40 : decode cJ4_offer 40 = .ok (.invokevirtual 96, 3) := dk_182 0 96 (dk_at dksJ4_offer_1 17 rfl rfl)
theorem dJ4_offer_43 : decode cJ4_offer 43 = .ok (.aload_n 0, 1) := dk_42 (dk_at dksJ4_offer_1 20 rfl rfl)
theorem dJ4_offer_44 : decode cJ4_offer 44 = .ok (.iload_n 2, 1) := dk_28 (dk_at dksJ4_offer_1 21 rfl rfl)
theorem dJ4_offer_45 : decode cJ4_offer 45 = .ok (.aload_n 1, 1) := dk_43 (dk_at dksJ4_offer_1 22 rfl rfl)
theorem dJ4_offer_46 : decode cJ4_offer 46 = .ok (.invokevirtual 100, 3) := dk_182 0 100 (dk_at dksJ4_offer_2 0 rfl rfl)
theorem dJ4_offer_49 : decode cJ4_offer 49 = .ok (.aload_n 0, 1) := dk_42 (dk_at dksJ4_offer_2 3 rfl rfl)
theorem dJ4_offer_50 : decode cJ4_offer 50 = .ok (.iload_n 2, 1) := dk_28 (dk_at dksJ4_offer_2 4 rfl rfl)
theorem dJ4_offer_51 : decode cJ4_offer 51 = .ok (.iconst 1, 1) := dk_4 (dk_at dksJ4_offer_2 5 rfl rfl)
theorem dJ4_offer_52 : decode cJ4_offer 52 = .ok (.iadd, 1) := dk_96 (dk_at dksJ4_offer_2 6 rfl rfl)
theorem dJ4_offer_53 : decode cJ4_offer 53 = .ok (.putfield 58, 3) := dk_181 0 58 (dk_at dksJ4_offer_2 7 rfl rfl)
theorem dJ4_offer_56 : decode cJ4_offer 56 = .ok (.iconst 1, 1) := dk_4 (dk_at dksJ4_offer_2 10 rfl rfl)
theorem dJ4_offer_57 : decode cJ4_offer 57 = .ok (.ireturn, 1) := dk_172 (dk_at dksJ4_offer_2 11 rfl rfl)
def dkwJ4_grow_1 : List UInt8 := [122, 184, 0, 80, 62, 42, 42, 180, 0, 17, 29, 184, 0, 86, 181, 0, 17, 177]
abbrev dktJ4_grow_1 : List UInt8 := dkwJ4_grow_1 ++ []
def dkwJ4_grow_0 : List UInt8 := [42, 180, 0, 17, 190, 61, 28, 27, 28, 100, 28, 16, 64, 162, 0, 9, 28, 5, 96, 167, 0, 6, 28, 4]
abbrev dktJ4_grow_0 : List UInt8 := dkwJ4_grow_0 ++ dktJ4_grow_1
theorem dksJ4_grow_0 : cJ4_grow.data.toList.drop 0 = dktJ4_grow_0 := by decide +kernel
theorem dksJ4_grow_1 : cJ4_grow.data.toList.drop 24 = dktJ4_grow_1 := dk_seg dksJ4_grow_0 24 rfl rfl
theorem dJ4_grow_0 : decode cJ4_grow 0 = .ok (.aload_n 0, 1) := dk_42 (dk_at dksJ4_grow_0 0 rfl rfl)
theorem dJ4_grow_1 : decode cJ4_grow 1 = .ok (.getfield 17, 3) := dk_180 0 17 (dk_at dksJ4_grow_0 1 rfl rfl)
theorem dJ4_grow_4 : decode cJ4_grow 4 = .ok (.arraylength, 1) := dk_190 (dk_at dksJ4_grow_0 4 rfl rfl)
theorem dJ4_grow_5 : decode cJ4_grow 5 = .ok (.istore_n 2, 1) := dk_61 (dk_at dksJ4_grow_0 5 rfl rfl)
theorem dJ4_grow_6 : decode cJ4_grow 6 = .ok (.iload_n 2, 1) := dk_28 (dk_at dksJ4_grow_0 6 rfl rfl)
theorem dJ4_grow_7 : decode cJ4_grow 7 = .ok (.iload_n 1, 1) := dk_27 (dk_at dksJ4_grow_0 7 rfl rfl)
theorem dJ4_grow_8 : decode cJ4_grow 8 = .ok (.iload_n 2, 1) := dk_28 (dk_at dksJ4_grow_0 8 rfl rfl)
theorem dJ4_grow_9 : decode cJ4_grow 9 = .ok (.isub, 1) := dk_100 (dk_at dksJ4_grow_0 9 rfl rfl)
theorem dJ4_grow_10 : decode cJ4_grow 10 = .ok (.iload_n 2, 1) := dk_28 (dk_at dksJ4_grow_0 10 rfl rfl)
theorem dJ4_grow_11 : decode cJ4_grow 11 = .ok (.bipush 64, 2) := dk_16 64 (dk_at dksJ4_grow_0 11 rfl rfl)
theorem dJ4_grow_13 : decode cJ4_grow 13 = .ok (.if_icmp .ge 9, 3) := dk_162 0 9 (dk_at dksJ4_grow_0 13 rfl rfl)
theorem dJ4_grow_16 : decode cJ4_grow 16 = .ok (.iload_n 2, 1) := dk_28 (dk_at dksJ4_grow_0 16 rfl rfl)
theorem dJ4_grow_17 : decode cJ4_grow 17 = .ok (.iconst 2, 1) := dk_5 (dk_at dksJ4_grow_0 17 rfl rfl)
theorem dJ4_grow_18 : decode cJ4_grow 18 = .ok (.iadd, 1) := dk_96 (dk_at dksJ4_grow_0 18 rfl rfl)
theorem dJ4_grow_19 : decode cJ4_grow 19 = .ok (.goto 6, 3) := dk_167 0 6 (dk_at dksJ4_grow_0 19 rfl rfl)
theorem dJ4_grow_22 : decode cJ4_grow 22 = .ok (.iload_n 2, 1) := dk_28 (dk_at dksJ4_grow_0 22 rfl rfl)
theorem dJ4_grow_23 : decode cJ4_grow 23 = .ok (.iconst 1, 1) := dk_4 (dk_at dksJ4_grow_0 23 rfl rfl)
theorem dJ4_grow_24 : decode cJ4_grow 24 = .ok (.ishr, 1) := dk_122 (dk_at dksJ4_grow_1 0 rfl rfl)
theorem dJ4_grow_25 : decode cJ4_grow 25 = .ok (.invokestatic 80, 3) := dk_184 0 80 (dk_at dksJ4_grow_1 1 rfl rfl)
theorem dJ4_grow_28 : decode cJ4_grow 28 = .ok (.istore_n 3, 1) := dk_62 (dk_at dksJ4_grow_1 4 rfl rfl)
theorem dJ4_grow_29 : decode cJ4_grow 29 = .ok (.aload_n 0, 1) := dk_42 (dk_at dksJ4_grow_1 5 rfl rfl)
theorem dJ4_grow_30 : decode cJ4_grow 30 = .ok (.aload_n 0, 1) := dk_42 (dk_at dksJ4_grow_1 6 rfl rfl)
theorem dJ4_grow_31 : decode cJ4_grow 31 = .ok (.getfield 17, 3) := dk_180 0 17 (dk_at dksJ4_grow_1 7 rfl rfl)
theorem dJ4_grow_34 : decode cJ4_grow 34 = .ok (.iload_n 3, 1) := dk_29 (dk_at dksJ4_grow_1 10 rfl rfl)
theorem dJ4_grow_35 : decode cJ4_grow 35 = .ok (.invokestatic 86, 3) := dk_184 0 86 (dk_at dksJ4_grow_1 11 rfl rfl)
theorem dJ4_grow_38 : decode cJ4_grow 38 = .ok (.putfield 17, 3) := dk_181 0 17 (dk_at dksJ4_grow_1 14 rfl rfl)
theorem dJ4_grow_41 : decode cJ4_grow 41 = .ok (.return_, 1) := dk_177 (dk_at dksJ4_grow_1 17 rfl rfl)
def dkwJ4_siftUp_1 : List UInt8 := [44, 42, 180, 0, 17, 184, 0, 140, 177]
abbrev dktJ4_siftUp_1 : List UInt8 := dkwJ4_siftUp_1 ++ []
def dkwJ4_siftUp_0 : List UInt8 := [42, 180, 0, 21, 198, 0, 19, 27, 44, 42, 180, 0, 17, 42, 180, 0, 21, 184, 0, 136, 167, 0, 12, 27]
abbrev dktJ4_siftUp_0 : List UInt8 := dkwJ4_siftUp_0 ++ dktJ4_siftUp_1
theorem dksJ4_siftUp_0 : cJ4_siftUp.data.toList.drop 0 = dktJ4_siftUp_0 := by decide +kernel
theorem dksJ4_siftUp_1 : cJ4_siftUp.data.toList.drop 24 = dktJ4_siftUp_1 := dk_seg dksJ4_siftUp_0 24 rfl rfl
theorem dJ4_siftUp_0 : decode cJ4_siftUp 0 = .ok (.aload_n 0, 1) := dk_42 (dk_at dksJ4_siftUp_0 0 rfl rfl)
theorem dJ4_siftUp_1 : decode cJ4_siftUp 1 = .ok (.getfield 21, 3) := dk_180 0 21 (dk_at dksJ4_siftUp_0 1 rfl rfl)
theorem dJ4_siftUp_4 : decode cJ4_siftUp 4 = .ok (.ifnull 19, 3) := dk_198 0 19 (dk_at dksJ4_siftUp_0 4 rfl rfl)
theorem dJ4_siftUp_7 : decode cJ4_siftUp 7 = .ok (.iload_n 1, 1) := dk_27 (dk_at dksJ4_siftUp_0 7 rfl rfl)
theorem dJ4_siftUp_8 : decode cJ4_siftUp 8 = .ok (.aload_n 2, 1) := dk_44 (dk_at dksJ4_siftUp_0 8 rfl rfl)
theorem dJ4_siftUp_9 : decode cJ4_siftUp 9 = .ok (.aload_n 0, 1) := dk_42 (dk_at dksJ4_siftUp_0 9 rfl rfl)
theorem dJ4_siftUp_10 : decode cJ4_siftUp 10 = .ok (.getfield 17, 3) := dk_180 0 17 (dk_at dksJ4_siftUp_0 10 rfl rfl)
theorem dJ4_siftUp_13 : decode cJ4_siftUp 13 = .ok (.aload_n 0, 1) := dk_42 (dk_at dksJ4_siftUp_0 13 rfl rfl)
theorem dJ4_siftUp_14 : decode cJ4_siftUp 14 = .ok (.getfield 21, 3) := dk_180 0 21 (dk_at dksJ4_siftUp_0 14 rfl rfl)
theorem dJ4_siftUp_17 : decode cJ4_siftUp 17 = .ok (.invokestatic 136, 3) := dk_184 0 136 (dk_at dksJ4_siftUp_0 17 rfl rfl)
theorem dJ4_siftUp_20 : decode cJ4_siftUp 20 = .ok (.goto 12, 3) := dk_167 0 12 (dk_at dksJ4_siftUp_0 20 rfl rfl)
theorem dJ4_siftUp_23 : decode cJ4_siftUp 23 = .ok (.iload_n 1, 1) := dk_27 (dk_at dksJ4_siftUp_0 23 rfl rfl)
theorem dJ4_siftUp_24 : decode cJ4_siftUp 24 = .ok (.aload_n 2, 1) := dk_44 (dk_at dksJ4_siftUp_1 0 rfl rfl)
theorem dJ4_siftUp_25 : decode cJ4_siftUp 25 = .ok (.aload_n 0, 1) := dk_42 (dk_at dksJ4_siftUp_1 1 rfl rfl)
theorem dJ4_siftUp_26 : decode cJ4_siftUp 26 = .ok (.getfield 17, 3) := dk_180 0 17 (dk_at dksJ4_siftUp_1 2 rfl rfl)
theorem dJ4_siftUp_29 : decode cJ4_siftUp 29 = .ok (.invokestatic 140, 3) := dk_184 0 140 (dk_at dksJ4_siftUp_1 5 rfl rfl)
theorem dJ4_siftUp_32 : decode cJ4_siftUp 32 = .ok (.return_, 1) := dk_177 (dk_at dksJ4_siftUp_1 8 rfl rfl)
def dkwJ4_siftUpUsingComparator_2 : List UInt8 := [43, 83, 177]
abbrev dktJ4_siftUpUsingComparator_2 : List UInt8 := dkwJ4_siftUpUsingComparator_2 ++ []
def dkwJ4_siftUpUsingComparator_1 : List UInt8 := [185, 0, 149, 3, 0, 155, 0, 6, 167, 0, 14, 44, 26, 25, 5, 83, 21, 4, 59, 167, 255, 216, 44, 26]
abbrev dktJ4_siftUpUsingComparator_1 : List UInt8 := dkwJ4_siftUpUsingComparator_1 ++ dktJ4_siftUpUsingComparator_2
def dkwJ4_siftUpUsingComparator_0 : List UInt8 := [26, 158, 0, 42, 26, 4, 100, 4, 124, 54, 4, 44, 21, 4, 50, 58, 5, 45, 43, 25, 5]
abbrev dktJ4_siftUpUsingComparator_0 : List UInt8 := dkwJ4_siftUpUsingComparator_0 ++ dktJ4_siftUpUsingComparator_1
theorem dksJ4_siftUpUsingComparator_0 : cJ4_siftUpUsingComparator.data.toList.drop 0 = dktJ4_siftUpUsingComparator_0 := by decide +kernel
theorem dksJ4_siftUpUsingComparator_1 : cJ4_siftUpUsingComparator.data.toList.drop 21 = dktJ4_siftUpUsingComparator_1 := dk_seg dksJ4_siftUpUsingComparator_0 21 rfl rfl
theorem dksJ4_siftUpUsingComparator_2 : cJ4_siftUpUsingComparator.data.toList.drop 45 = dktJ4_siftUpUsingComparator_2 := dk_seg dksJ4_siftUpUsingComparator_1 24 rfl rfl
theorem dJ4_siftUpUsingComparator_0 : decode cJ4_siftUpUsingComparator 0 = .ok (.iload_n 0, 1) := dk_26 (dk_at dksJ4_siftUpUsingComparator_0 0 rfl rfl)
theorem dJ4_siftUpUsingComparator_1 : decode cJ4_siftUpUsingComparator 1 = .ok (.ifCond .le 42, 3) := dk_158 0 42 (dk_at dksJ4_siftUpUsingComparator_0 1 rfl rfl)
theorem dJ4_siftUpUsingComparator_4 : decode cJ4_siftUpUsingComparator 4 = .ok (.iload_n 0, 1) := dk_26 (dk_at dksJ4_siftUpUsingComparator_0 4 rfl rfl)
theorem dJ4_siftUpUsingComparator_5 : decode cJ4_siftUpUsingComparator 5 = .ok (.iconst 1, 1) := dk_4 (dk_at dksJ4_siftUpUsingComparator_0 5 rfl rfl)
theorem dJ4_siftUpUsingComparator_6 : decode cJ4_siftUpUsingComparator 6 = .ok (.isub, 1) := dk_100 (dk_at dksJ4_siftUpUsingComparator_0 6 rfl rfl)
theorem dJ4_siftUpUsingComparator_7 : decode cJ4_siftUpUsingComparator 7 = .ok (.iconst 1, 1) := dk_4 (dk_at dksJ4_siftUpUsingComparator_0 7 rfl rfl)
theorem dJ4_siftUpUsingComparator_8 : decode cJ4_siftUpUsingComparator 8 = .ok (.iushr, 1) := dk_124 (dk_at dksJ4_siftUpUsingComparator_0 8 rfl rfl)
theorem dJ4_siftUpUsingComparator_9 : decode cJ4_siftUpUsingComparator 9 = .ok (.istore 4, 2) := dk_54 4 (dk_at dksJ4_siftUpUsingComparator_0 9 rfl rfl)
theorem dJ4_siftUpUsingComparator_11 : decode cJ4_siftUpUsingComparator 11 = .ok (.aload_n 2, 1) := dk_44 (dk_at dksJ4_siftUpUsingComparator_0 11 rfl rfl)
theorem dJ4_siftUpUsingComparator_12 : decode cJ4_siftUpUsingComparator 12 = .ok (.iload 4, 2) := dk_21 4 (dk_at dksJ4_siftUpUsingComparator_0 12 rfl rfl)
theorem dJ4_siftUpUsingComparator_14 : decode cJ4_siftUpUsingComparator 14 = .ok (.aaload, 1) := dk_50 (dk_at dksJ4_siftUpUsingComparator_0 14 rfl rfl)
theorem dJ4_siftUpUsingComparator_15 : decode cJ4_siftUpUsingComparator 15 = .ok (.astore 5, 2) := dk_58 5 (dk_at dksJ4_siftUpUsingComparator_0 15 rfl rfl)
theorem dJ4_siftUpUsingComparator_17 : decode cJ4_siftUpUsingComparator 17 = .ok (.aload_n 3, 1) := dk_45 (dk_at dksJ4_siftUpUsingComparator_0 17 rfl rfl)
theorem dJ4_siftUpUsingComparator_18 : decode cJ4_siftUpUsingComparator 18 = .ok (.aload_n 1, 1) := dk_43 (dk_at dksJ4_siftUpUsingComparator_0 18 rfl rfl)
theorem dJ4_siftUpUsingComparator_19 : decode cJ4_siftUpUsingComparator 19 = .ok (.aload 5, 2) := dk_25 5 (dk_at dksJ4_siftUpUsingComparator_0 19 rfl rfl)
theorem dJ4_siftUpUsingComparator_21 : decode cJ4_siftUpUsingComparator 21 = .ok (.invokeinterface 149 3, 5) := by decide +kernel
theorem dJ4_siftUpUsingComparator_26 : decode cJ4_siftUpUsingComparator 26 = .ok (.ifCond .lt 6, 3) := dk_155 0 6 (dk_at dksJ4_siftUpUsingComparator_1 5 rfl rfl)
theorem dJ4_siftUpUsingComparator_29 : decode cJ4_siftUpUsingComparator 29 = .ok (.goto 14, 3) := dk_167 0 14 (dk_at dksJ4_siftUpUsingComparator_1 8 rfl rfl)
theorem dJ4_siftUpUsingComparator_32 : decode cJ4_siftUpUsingComparator 32 = .ok (.aload_n 2, 1) := dk_44 (dk_at dksJ4_siftUpUsingComparator_1 11 rfl rfl)
theorem dJ4_siftUpUsingComparator_33 : decode cJ4_siftUpUsingComparator 33 = .ok (.iload_n 0, 1) := dk_26 (dk_at dksJ4_siftUpUsingComparator_1 12 rfl rfl)
theorem dJ4_siftUpUsingComparator_34 : decode cJ4_siftUpUsingComparator 34 = .ok (.aload 5, 2) := dk_25 5 (dk_at dksJ4_siftUpUsingComparator_1 13 rfl rfl)
theorem dJ4_siftUpUsingComparator_36 : decode cJ4_siftUpUsingComparator 36 = .ok (.aastore, 1) := dk_83 (dk_at dksJ4_siftUpUsingComparator_1 15 rfl rfl)
theorem dJ4_siftUpUsingComparator_37 : decode cJ4_siftUpUsingComparator 37 = .ok (.iload 4, 2) := dk_21 4 (dk_at dksJ4_siftUpUsingComparator_1 16 rfl rfl)
theorem dJ4_siftUpUsingComparator_39 : decode cJ4_siftUpUsingComparator 39 = .ok (.istore_n 0, 1) := dk_59 (dk_at dksJ4_siftUpUsingComparator_1 18 rfl rfl)
theorem dJ4_siftUpUsingComparator_40 : decode cJ4_siftUpUsingComparator 40 = .ok (.goto (-40), 3) := dk_167 255 216 (dk_at dksJ4_siftUpUsingComparator_1 19 rfl rfl)
theorem dJ4_siftUpUsingComparator_43 : decode cJ4_siftUpUsingComparator 43 = .ok (.aload_n 2, 1) := dk_44 (dk_at dksJ4_siftUpUsingComparator_1 22 rfl rfl)
theorem dJ4_siftUpUsingComparator_44 : decode cJ4_siftUpUsingComparator 44 = .ok (.iload_n 0, 1) := dk_26 (dk_at dksJ4_siftUpUsingComparator_1 23 rfl rfl)
theorem dJ4_siftUpUsingComparator_45 : decode cJ4_siftUpUsingComparator 45 = .ok (.aload_n 1, 1) := dk_43 (dk_at dksJ4_siftUpUsingComparator_2 0 rfl rfl)
theorem dJ4_siftUpUsingComparator_46 : decode cJ4_siftUpUsingComparator 46 = .ok (.aastore, 1) := dk_83 (dk_at dksJ4_siftUpUsingComparator_2 1 rfl rfl)
theorem dJ4_siftUpUsingComparator_47 : decode cJ4_siftUpUsingComparator 47 = .ok (.return_, 1) := dk_177 (dk_at dksJ4_siftUpUsingComparator_2 2 rfl rfl)
def dkwJ4_siftUpComparable_2 : List UInt8 := [44, 26, 45, 83, 177]
abbrev dktJ4_siftUpComparable_2 : List UInt8 := dkwJ4_siftUpComparable_2 ++ []
def dkwJ4_siftUpComparable_1 : List UInt8 := [25, 5, 185, 0, 146, 2, 0, 155, 0, 6, 167, 0, 14, 44, 26, 25, 5, 83, 21, 4, 59, 167, 255, 217]
abbrev dktJ4_siftUpComparable_1 : List UInt8 := dkwJ4_siftUpComparable_1 ++ dktJ4_siftUpComparable_2
def dkwJ4_siftUpComparable_0 : List UInt8 := [43, 192, 0, 144, 78, 26, 158, 0, 41, 26, 4, 100, 4, 124, 54, 4, 44, 21, 4, 50, 58, 5, 45]
abbrev dktJ4_siftUpComparable_0 : List UInt8 := dkwJ4_siftUpComparable_0 ++ dktJ4_siftUpComparable_1
theorem dksJ4_siftUpComparable_0 : cJ4_siftUpComparable.data.toList.drop 0 = dktJ4_siftUpComparable_0 := by decide +kernel
theorem dksJ4_siftUpComparable_1 : cJ4_siftUpComparable.data.toList.drop 23 = dktJ4_siftUpComparable_1 := dk_seg dksJ4_siftUpComparable_0 23 rfl rfl
theorem dksJ4_siftUpComparable_2 : cJ4_siftUpComparable.data.toList.drop 47 = dktJ4_siftUpComparable_2 := dk_seg dksJ4_siftUpComparable_1 24 rfl rfl
theorem dJ4_siftUpComparable_0 : decode cJ4_siftUpComparable 0 = .ok (.aload_n 1, 1) := dk_43 (dk_at dksJ4_siftUpComparable_0 0 rfl rfl)
theorem dJ4_siftUpComparable_1 : decode cJ4_siftUpComparable 1 = .ok (.checkcast 144, 3) := dk_192 0 144 (dk_at dksJ4_siftUpComparable_0 1 rfl rfl)
theorem dJ4_siftUpComparable_4 : decode cJ4_siftUpComparable 4 = .ok (.astore_n 3, 1) := dk_78 (dk_at dksJ4_siftUpComparable_0 4 rfl rfl)
theorem dJ4_siftUpComparable_5 : decode cJ4_siftUpComparable 5 = .ok (.iload_n 0, 1) := dk_26 (dk_at dksJ4_siftUpComparable_0 5 rfl rfl)
theorem dJ4_siftUpComparable_6 : decode cJ4_siftUpComparable 6 = .ok (.ifCond .le 41, 3) := dk_158 0 41 (dk_at dksJ4_siftUpComparable_0 6 rfl rfl)
theorem dJ4_siftUpComparable_9 : decode cJ4_siftUpComparable 9 = .ok (.iload_n 0, 1) := dk_26 (dk_at dksJ4_siftUpComparable_0 9 rfl rfl)
theorem dJ4_siftUpComparable_10 : decode cJ4_siftUpComparable 10 = .ok (.iconst 1, 1) := dk_4 (dk_at dksJ4_siftUpComparable_0 10 rfl rfl)
theorem dJ4_siftUpComparable_11 : decode cJ4_siftUpComparable 11 = .ok (.isub, 1) := dk_100 (dk_at dksJ4_siftUpComparable_0 11 rfl rfl)
theorem dJ4_siftUpComparable_12 : decode cJ4_siftUpComparable 12 = .ok (.iconst 1, 1) := dk_4 (dk_at dksJ4_siftUpComparable_0 12 rfl rfl)
theorem dJ4_siftUpComparable_13 : decode cJ4_siftUpComparable 13 = .ok (.iushr, 1) := dk_124 (dk_at dksJ4_siftUpComparable_0 13 rfl rfl)
theorem dJ4_siftUpComparable_14 : decode cJ4_siftUpComparable 14 = .ok (.istore 4, 2) := dk_54 4 (dk_at dksJ4_siftUpComparable_0 14 rfl rfl)
theorem dJ4_siftUpComparable_16 : decode cJ4_siftUpComparable 16 = .ok (.aload_n 2, 1) := dk_44 (dk_at dksJ4_siftUpComparable_0 16 rfl rfl)
theorem dJ4_siftUpComparable_17 : decode cJ4_siftUpComparable 17 = .ok (.iload 4, 2) := dk_21 4 (dk_at dksJ4_siftUpComparable_0 17 rfl rfl)
theorem dJ4_siftUpComparable_19 : decode cJ4_siftUpComparable 19 = .ok (.aaload, 1) := dk_50 (dk_at dksJ4_siftUpComparable_0 19 rfl rfl)
theorem dJ4_siftUpComparable_20 : decode cJ4_siftUpComparable 20 = .ok (.astore 5, 2) := dk_58 5 (dk_at dksJ4_siftUpComparable_0 20 rfl rfl)
theorem dJ4_siftUpComparable_22 : decode cJ4_siftUpComparable 22 = .ok (.aload_n 3, 1) := dk_45 (dk_at dksJ4_siftUpComparable_0 22 rfl rfl)
theorem dJ4_siftUpComparable_23 : decode cJ4_siftUpComparable 23 = .ok (.aload 5, 2) := dk_25 5 (dk_at dksJ4_siftUpComparable_1 0 rfl rfl)
theorem dJ4_siftUpComparable_25 : decode cJ4_siftUpComparable 25 = .ok (.invokeinterface 146 2, 5) := by decide +kernel
theorem dJ4_siftUpComparable_30 : decode cJ4_siftUpComparable 30 = .ok (.ifCond .lt 6, 3) := dk_155 0 6 (dk_at dksJ4_siftUpComparable_1 7 rfl rfl)
theorem dJ4_siftUpComparable_33 : decode cJ4_siftUpComparable 33 = .ok (.goto 14, 3) := dk_167 0 14 (dk_at dksJ4_siftUpComparable_1 10 rfl rfl)
theorem dJ4_siftUpComparable_36 : decode cJ4_siftUpComparable 36 = .ok (.aload_n 2, 1) := dk_44 (dk_at dksJ4_siftUpComparable_1 13 rfl rfl)
theorem dJ4_siftUpComparable_37 : decode cJ4_siftUpComparable 37 = .ok (.iload_n 0, 1) := dk_26 (dk_at dksJ4_siftUpComparable_1 14 rfl rfl)
theorem dJ4_siftUpComparable_38 : decode cJ4_siftUpComparable 38 = .ok (.aload 5, 2) := dk_25 5 (dk_at dksJ4_siftUpComparable_1 15 rfl rfl)
theorem dJ4_siftUpComparable_40 : decode cJ4_siftUpComparable 40 = .ok (.aastore, 1) := dk_83 (dk_at dksJ4_siftUpComparable_1 17 rfl rfl)
theorem dJ4_siftUpComparable_41 : decode cJ4_siftUpComparable 41 = .ok (.iload 4, 2) := dk_21 4 (dk_at dksJ4_siftUpComparable_1 18 rfl rfl)
theorem dJ4_siftUpComparable_43 : decode cJ4_siftUpComparable 43 = .ok (.istore_n 0, 1) := dk_59 (dk_at dksJ4_siftUpComparable_1 20 rfl rfl)
theorem dJ4_siftUpComparable_44 : decode cJ4_siftUpComparable 44 = .ok (.goto (-39), 3) := dk_167 255 217 (dk_at dksJ4_siftUpComparable_1 21 rfl rfl)
theorem dJ4_siftUpComparable_47 : decode cJ4_siftUpComparable 47 = .ok (.aload_n 2, 1) := dk_44 (dk_at dksJ4_siftUpComparable_2 0 rfl rfl)
theorem dJ4_siftUpComparable_48 : decode cJ4_siftUpComparable 48 = .ok (.iload_n 0, 1) := dk_26 (dk_at dksJ4_siftUpComparable_2 1 rfl rfl)
theorem dJ4_siftUpComparable_49 : decode cJ4_siftUpComparable 49 = .ok (.aload_n 3, 1) := dk_45 (dk_at dksJ4_siftUpComparable_2 2 rfl rfl)
theorem dJ4_siftUpComparable_50 : decode cJ4_siftUpComparable 50 = .ok (.aastore, 1) := dk_83 (dk_at dksJ4_siftUpComparable_2 3 rfl rfl)
theorem dJ4_siftUpComparable_51 : decode cJ4_siftUpComparable 51 = .ok (.return_, 1) := dk_177 (dk_at dksJ4_siftUpComparable_2 4 rfl rfl)
def dkwJ4_remove_0 : List UInt8 := [42, 43, 182, 0, 107, 61, 28, 2, 160, 0, 5, 3, 172, 42, 28, 182, 0, 111, 87, 4, 172]
abbrev dktJ4_remove_0 : List UInt8 := dkwJ4_remove_0 ++ []
theorem dksJ4_remove_0 : cJ4_remove.data.toList.drop 0 = dktJ4_remove_0 := by decide +kernel
theorem dJ4_remove_0 : decode cJ4_remove 0 = .ok (.aload_n 0, 1) := dk_42 (dk_at dksJ4_remove_0 0 rfl rfl)
theorem dJ4_remove_1 : decode cJ4_remove 1 = .ok (.aload_n 1, 1) := dk_43 (dk_at dksJ4_remove_0 1 rfl rfl)
theorem dJ4_remove_2 : decode cJ4_remove 2 = .ok (.invokevirtual 107, 3) := dk_182 0 107 (dk_at dksJ4_remove_0 2 rfl rfl)
theorem dJ4_remove_5 : decode cJ4_remove 5 = .ok (.istore_n 2, 1) := dk_61 (dk_at dksJ4_remove_0 5 rfl rfl)
theorem dJ4_remove_6 : decode cJ4_remove 6 = .ok (.iload_n 2, 1) := dk_28 (dk_at dksJ4_remove_0 6 rfl rfl)
theorem dJ4_remove_7 : decode cJ4_remove 7 = .ok (.iconst (-1), 1) := dk_2 (dk_at dksJ4_remove_0 7 rfl rfl)
theorem dJ4_remove_8 : decode cJ4_remove 8 = .ok (.if_icmp .ne 5, 3) := dk_160 0 5 (dk_at dksJ4_remove_0 8 rfl rfl)
theorem dJ4_remove_11 : decode cJ4_remove 11 = .ok (.iconst 0, 1) := dk_3 (dk_at dksJ4_remove_0 11 rfl rfl)
theorem dJ4_remove_12 : decode cJ4_remove 12 = .ok (.ireturn, 1) := dk_172 (dk_at dksJ4_remove_0 12 rfl rfl)
theorem dJ4_remove_13 : decode cJ4_remove 13 = .ok (.aload_n 0, 1) := dk_42 (dk_at dksJ4_remove_0 13 rfl rfl)
theorem dJ4_remove_14 : decode cJ4_remove 14 = .ok (.iload_n 2, 1) := dk_28 (dk_at dksJ4_remove_0 14 rfl rfl)
theorem dJ4_remove_15 : decode cJ4_remove 15 = .ok (.invokevirtual 111, 3) := dk_182 0 111 (dk_at dksJ4_remove_0 15 rfl rfl)
theorem dJ4_remove_18 : decode cJ4_remove 18 = .ok (.pop, 1) := dk_87 (dk_at dksJ4_remove_0 18 rfl rfl)
theorem dJ4_remove_19 : decode cJ4_remove 19 = .ok (.iconst 1, 1) := dk_4 (dk_at dksJ4_remove_0 19 rfl rfl)
theorem dJ4_remove_20 : decode cJ4_remove 20 = .ok (.ireturn, 1) := dk_172 (dk_at dksJ4_remove_0 20 rfl rfl)
def dkwJ4_indexOf_1 : List UInt8 := [44, 29, 50, 182, 0, 104, 153, 0, 5, 29, 172, 132, 3, 1, 167, 255, 235, 2, 172]
abbrev dktJ4_indexOf_1 : List UInt8 := dkwJ4_indexOf_1 ++ []
def dkwJ4_indexOf_0 : List UInt8 := [43, 198, 0, 40, 42, 180, 0, 17, 77, 3, 62, 42, 180, 0, 58, 54, 4, 29, 21, 4, 162, 0, 21, 43]
abbrev dktJ4_indexOf_0 : List UInt8 := dkwJ4_indexOf_0 ++ dktJ4_indexOf_1
theorem dksJ4_indexOf_0 : cJ4_indexOf.data.toList.drop 0 = dktJ4_indexOf_0 := by decide +kernel
theorem dksJ4_indexOf_1 : cJ4_indexOf.data.toList.drop 24 = dktJ4_indexOf_1 := dk_seg dksJ4_indexOf_0 24 rfl rfl
theorem dJ4_indexOf_0 : decode cJ4_indexOf 0 = .ok (.aload_n 1, 1) := dk_43 (dk_at dksJ4_indexOf_0 0 rfl rfl)
theorem dJ4_indexOf_1 : decode cJ4_indexOf 1 = .ok (.ifnull 40, 3) := dk_198 0 40 (dk_at dksJ4_indexOf_0 1 rfl rfl)
theorem dJ4_indexOf_4 : decode cJ4_indexOf 4 = .ok (.aload_n 0, 1) := dk_42 (dk_at dksJ4_indexOf_0 4 rfl rfl)
theorem dJ4_indexOf_5 : decode cJ4_indexOf 5 = .ok (.getfield 17, 3) := dk_180 0 17 (dk_at dksJ4_indexOf_0 5 rfl rfl)
theorem dJ4_indexOf_8 : decode cJ4_indexOf 8 = .ok (.astore_n 2, 1) := dk_77 (dk_at dksJ4_indexOf_0 8 rfl rfl)
theorem dJ4_indexOf_9 : decode cJ4_indexOf 9 = .ok (.iconst 0, 1) := dk_3 (dk_at dksJ4_indexOf_0 9 rfl rfl)
theorem dJ4_indexOf_10 : decode cJ4_indexOf 10 = .ok (.istore_n 3, 1) := dk_62 (dk_at dksJ4_indexOf_0 10 rfl rfl)
theorem dJ4_indexOf_11 : decode cJ4_indexOf 11 = .ok (.aload_n 0, 1) := dk_42 (dk_at dksJ4_indexOf_0 11 rfl rfl)
theorem dJ4_indexOf_12 : decode cJ4_indexOf 12 = .ok (.getfield 58, 3) := dk_180 0 58 (dk_at dksJ4_indexOf_0 12 rfl rfl)
theorem dJ4_indexOf_15 : decode cJ4_indexOf 15 = .ok (.istore 4, 2) := dk_54 4 (dk_at dksJ4_indexOf_0 15 rfl rfl)
theorem dJ4_indexOf_17 : decode cJ4_indexOf 17 = .ok (.iload_n 3, 1) := dk_29 (dk_at dksJ4_indexOf_0 17 rfl rfl)
theorem dJ4_indexOf_18 : decode cJ4_indexOf 18 = .ok (.iload 4, 2) := dk_21 4 (dk_at dksJ4_indexOf_0 18 rfl rfl)
theorem dJ4_indexOf_20 : decode cJ4_indexOf 20 = .ok (.if_icmp .ge 21, 3) := dk_162 0 21 (dk_at dksJ4_indexOf_0 20 rfl rfl)
theorem dJ4_indexOf_23 : decode cJ4_indexOf 23 = .ok (.aload_n 1, 1) := dk_43 (dk_at dksJ4_indexOf_0 23 rfl rfl)
theorem dJ4_indexOf_24 : decode cJ4_indexOf 24 = .ok (.aload_n 2, 1) := dk_44 (dk_at dksJ4_indexOf_1 0 rfl rfl)
theorem dJ4_indexOf_25 : decode cJ4_indexOf 25 = .ok (.iload_n 3, 1) := dk_29 (dk_at dksJ4_indexOf_1 1 rfl rfl)
theorem dJ4_indexOf_26 : decode cJ4_indexOf 26 = .ok (.aaload, 1) := dk_50 (dk_at dksJ4_indexOf_1 2 rfl rfl)
theorem dJ4_indexOf_27 : decode cJ4_indexOf 27 = .ok (.invokevirtual 104, 3) := dk_182 0 104 (dk_at dksJ4_indexOf_1 3 rfl rfl)
theorem dJ4_indexOf_30 : decode cJ4_indexOf 30 = .ok (.ifCond .eq 5, 3) := dk_153 0 5 (dk_at dksJ4_indexOf_1 6 rfl rfl)
theorem dJ4_indexOf_33 : decode cJ4_indexOf 33 = .ok (.iload_n 3, 1) := dk_29 (dk_at dksJ4_indexOf_1 9 rfl rfl)
theorem dJ4_indexOf_34 : decode cJ4_indexOf 34 = .ok (.ireturn, 1) := dk_172 (dk_at dksJ4_indexOf_1 10 rfl rfl)
theorem dJ4_indexOf_35 : decode cJ4_indexOf 35 = .ok (.iinc 3 1, 3) := dk_132 3 1 (dk_at dksJ4_indexOf_1 11 rfl rfl)
theorem dJ4_indexOf_38 : decode cJ4_indexOf 38 = .ok (.goto (-21), 3) := dk_167 255 235 (dk_at dksJ4_indexOf_1 14 rfl rfl)
theorem dJ4_indexOf_41 : decode cJ4_indexOf 41 = .ok (.iconst (-1), 1) := dk_2 (dk_at dksJ4_indexOf_1 17 rfl rfl)
theorem dJ4_indexOf_42 : decode cJ4_indexOf 42 = .ok (.ireturn, 1) := dk_172 (dk_at dksJ4_indexOf_1 18 rfl rfl)
def dkwJ4_removeAt_3 : List UInt8 := [27, 50, 25, 4, 165, 0, 6, 25, 4, 176, 1, 176]
abbrev dktJ4_removeAt_3 : List UInt8 := dkwJ4_removeAt_3 ++ []
def dkwJ4_removeAt_2 : List UInt8 := [83, 42, 27, 25, 4, 182, 0, 133, 44, 27, 50, 25, 4, 166, 0, 21, 42, 27, 25, 4, 182, 0, 100, 44]
abbrev dktJ4_removeAt_2 : List UInt8 := dkwJ4_removeAt_2 ++ dktJ4_removeAt_3
def dkwJ4_removeAt_1 : List UInt8 := [181, 0, 58, 62, 29, 27, 160, 0, 10, 44, 27, 1, 83, 167, 0, 45, 44, 29, 50, 58, 4, 44, 29, 1]
abbrev dktJ4_removeAt_1 : List UInt8 := dkwJ4_removeAt_1 ++ dktJ4_removeAt_2
def dkwJ4_removeAt_0 : List UInt8 := [42, 180, 0, 17, 77, 42, 89, 180, 0, 93, 4, 96, 181, 0, 93, 42, 89, 180, 0, 58, 4, 100, 90]
abbrev dktJ4_removeAt_0 : List UInt8 := dkwJ4_removeAt_0 ++ dktJ4_removeAt_1
theorem dksJ4_removeAt_0 : cJ4_removeAt.data.toList.drop 0 = dktJ4_removeAt_0 := by decide +kernel
theorem dksJ4_removeAt_1 : cJ4_removeAt.data.toList.drop 23 = dktJ4_removeAt_1 := dk_seg dksJ4_removeAt_0 23 rfl rfl
theorem dksJ4_removeAt_2 : cJ4_removeAt.data.toList.drop 47 = dktJ4_removeAt_2 := dk_seg dksJ4_removeAt_1 24 rfl rfl
theorem dksJ4_removeAt_3 : cJ4_removeAt.data.toList.drop 71 = dktJ4_removeAt_3 := dk_seg dksJ4_removeAt_2 24 rfl rfl
theorem dJ4_removeAt_0 : decode cJ4_removeAt 0 = .ok (.aload_n 0, 1) := dk_42 (dk_at dksJ4_removeAt_0 0 rfl rfl)
theorem dJ4_removeAt_1 : decode cJ4_removeAt 1 = .ok (.getfield 17, 3) := dk_180 0 17 (dk_at dksJ4_removeAt_0 1 rfl rfl)
theorem dJ4_removeAt_4 : decode cJ4_removeAt 4 = .ok (.astore_n 2, 1) := dk_77 (dk_at dksJ4_removeAt_0 4 rfl rfl)
theorem dJ4_removeAt_5 : decode cJ4_removeAt 5 = .ok (.aload_n 0, 1) := dk_42 (dk_at dksJ4_removeAt_0 5 rfl rfl)
theorem dJ4_removeAt_6 : decode cJ4_removeAt 6 = .ok (.dup, 1) := dk_89 (dk_at dksJ4_removeAt_0 6 rfl rfl)
theorem dJ4_removeAt_7 : decode cJ4_removeAt 7 = .ok (.getfield 93, 3) := dk_180 0 93 (dk_at dksJ4_removeAt_0 7 rfl rfl)
theorem dJ4_removeAt_10 : decode cJ4_removeAt 10 = .ok (.iconst 1, 1) := dk_4 (dk_at dksJ4_removeAt_0 10 rfl rfl)
theorem dJ4_removeAt_11 : decode cJ4_removeAt 11 = .ok (.iadd, 1) := dk_96 (dk_at dksJ4_removeAt_0 11 rfl rfl)
theorem dJ4_removeAt_12 : decode cJ4_removeAt 12 = .ok (.putfield 93, 3) := dk_181 0 93 (dk_at dksJ4_removeAt_0 12 rfl rfl)
theorem dJ4_removeAt_15 : decode cJ4_removeAt 15 = .ok (.aload_n 0, 1) := dk_42 (dk_at dksJ4_removeAt_0 15 rfl rfl)
theorem dJ4_removeAt_16 : decode cJ4_removeAt 16 = .ok (.dup, 1) := dk_89 (dk_at dksJ4_removeAt_0 16 rfl rfl)
theorem dJ4_removeAt_17 : decode cJ4_removeAt 17 = .ok (.getfield 58, 3) := dk_180 0 58 (dk_at dksJ4_removeAt_0 17 rfl rfl)
theorem dJ4_removeAt_20 : decode cJ4_removeAt 20 = .ok (.iconst 1, 1) := dk_4 (dk_at dksJ4_removeAt_0 20 rfl rfl)
theorem dJ4_removeAt_21 : decode cJ4_removeAt 21 = .ok (.isub, 1) := dk_100 (dk_at dksJ4_removeAt_0 21 rfl rfl)
theorem dJ4_removeAt_22 : decode cJ4_removeAt 22 = .ok (.dup_x1, 1) := dk_90 (dk_at dksJ4_removeAt_0 22 rfl rfl)
theorem dJ4_removeAt_23 : decode cJ4_removeAt 23 = .ok (.putfield 58, 3) := dk_181 0 58 (dk_at dksJ4_removeAt_1 0 rfl rfl)
theorem dJ4_removeAt_26 : decode cJ4_removeAt 26 = .ok (.istore_n 3, 1) := dk_62 (dk_at dksJ4_removeAt_1 3 rfl rfl)
theorem dJ4_removeAt_27 : decode cJ4_removeAt 27 = .ok (.iload_n 3, 1) := dk_29 (dk_at dksJ4_removeAt_1 4 rfl rfl)
theorem dJ4_removeAt_28 : decode cJ4_removeAt 28 = .ok (.iload_n 1, 1) := dk_27 (dk_at dksJ4_removeAt_1 5 rfl rfl)
theorem dJ4_removeAt_29 : decode cJ4_removeAt 29 = .ok (.if_icmp .ne 10, 3) := dk_160 0 10 (dk_at dksJ4_removeAt_1 6 rfl rfl)
theorem dJ4_removeAt_32 : decode cJ4_removeAt 32 = .ok (.aload_n 2, 1) := dk_44 (dk_at dksJ4_removeAt_1 9 rfl rfl)
theorem dJ4_removeAt_33 : decode cJ4_removeAt 33 = .ok (.iload_n 1, 1) := dk_27 (dk_at dksJ4_removeAt_1 10 rfl rfl)
theorem dJ4_removeAt_34 : decode cJ4_removeAt 34 = .ok (.aconst_null, 1) := dk_1 (dk_at dksJ4_removeAt_1 11 rfl rfl)
theorem dJ4_removeAt_35 : decode cJ4_removeAt 35 = .ok (.aastore, 1) := dk_83 (dk_at dksJ4_removeAt_1 12 rfl rfl)
theorem dJ4_removeAt_36 : decode cJ4_removeAt 36 = .ok (.goto 45, 3) := dk_167 0 45 (dk_at dksJ4_removeAt_1 13 rfl rfl)
theorem dJ4_removeAt_39 : decode cJ4_removeAt 39 = .ok (.aload_n 2, 1) := dk_44 (dk_at dksJ4_removeAt_1 16 rfl rfl)
theorem dJ4_removeAt_40 : decode cJ4_removeAt 40 = .ok (.iload_n 3, 1) := dk_29 (dk_at dksJ4_removeAt_1 17 rfl rfl)
theorem dJ4_removeAt_41 : decode cJ4_removeAt 41 = .ok (.aaload, 1) := dk_50 (dk_at dksJ4_removeAt_1 18 rfl rfl)
theorem dJ4_removeAt_42 : decode cJ4_removeAt 42 = .ok (.astore 4, 2) := dk_58 4 (dk_at dksJ4_removeAt_1 19 rfl rfl)
theorem dJ4_removeAt_44 : decode cJ4_removeAt 44 = .ok (.aload_n 2, 1) := dk_44 (dk_at dksJ4_removeAt_1 21 rfl rfl)
theorem dJ4_removeAt_45 : decode cJ4_removeAt 45 = .ok (.iload_n 3, 1) := dk_29 (dk_at dksJ4_removeAt_1 22 rfl rfl)
theorem dJ4_removeAt_46 : decode cJ4_removeAt 46 = .ok (.aconst_null, 1) := dk_1 (dk_at dksJ4_removeAt_1 23 rfl rfl)
theorem dJ4_removeAt_47 : decode cJ4_removeAt 47 = .ok (.aastore, 1) := dk_83 (dk_at dksJ4_removeAt_2 0 rfl rfl)
theorem dJ4_removeAt_48 : decode cJ4_removeAt 48 = .ok (.aload_n 0, 1) := dk_42 (dk_at dksJ4_removeAt_2 1 rfl rfl)
theorem dJ4_removeAt_49 : decode cJ4_removeAt 49 = .ok (.iload_n 1, 1) := dk_27 (dk_at dksJ4_removeAt_2 2 rfl rfl)
theorem dJ4_removeAt_50 : decode cJ4_removeAt 50 = .ok (.aload 4, 2) := dk_25 4 (dk_at dksJ4_removeAt_2 3 rfl rfl)
theorem dJ4_removeAt_52 : decode cJ4_removeAt 52 = .ok (.invokevirtual 133, 3) := dk_182 0 133 (dk_at dksJ4_removeAt_2 5 rfl rfl)
theorem dJ4_removeAt_55 : decode cJ4_removeAt 55 = .ok (.aload_n 2, 1) := dk_44 (dk_at dksJ4_removeAt_2 8 rfl rfl)
theorem dJ4_removeAt_56 : decode cJ4_removeAt 56 = .ok (.iload_n 1, 1) := dk_27 (dk_at dksJ4_removeAt_2 9 rfl rfl)
theorem dJ4_removeAt_57 : decode cJ4_removeAt 57 = .ok (.aaload, 1) := dk_50 (dk_at dksJ4_removeAt_2 10 rfl rfl)
theorem dJ4_removeAt_58 : decode cJ4_removeAt 58 = .ok (.aload 4, 2) := dk_25 4 (dk_at dksJ4_removeAt_2 11 rfl rfl)
theorem dJ4_removeAt_60 : decode cJ4_removeAt 60 = .ok (.if_acmp .ne 21, 3) := dk_166 0 21 (dk_at dksJ4_removeAt_2 13 rfl rfl)
theorem dJ4_removeAt_63 : decode cJ4_removeAt 63 = .ok (.aload_n 0, 1) := dk_42 (dk_at dksJ4_removeAt_2 16 rfl rfl)
theorem dJ4_removeAt_64 : decode cJ4_removeAt 64 = .ok (.iload_n 1, 1) := dk_27 (dk_at dksJ4_removeAt_2 17 rfl rfl)
theorem dJ4_removeAt_65 : decode cJ4_removeAt 65 = .ok (.aload 4, 2) := dk_25 4 (dk_at dksJ4_removeAt_2 18 rfl rfl)
theorem dJ4_removeAt_67 : decode cJ4_removeAt 67 = .ok (.invokevirtual 100, 3) := dk_182 0 100 (dk_at dksJ4_removeAt_2 20 rfl rfl)
theorem dJ4_removeAt_70 : decode cJ4_removeAt 70 = .ok (.aload_n 2, 1) := dk_44 (dk_at dksJ4_removeAt_2 23 rfl rfl)
theorem dJ4_removeAt_71 : decode cJ4_removeAt 71 = .ok (.iload_n 1, 1) := dk_27 (dk_at dksJ4_removeAt_3 0 rfl rfl)
theorem dJ4_removeAt_72 : decode cJ4_removeAt 72 = .ok (.aaload, 1) := dk_50 (dk_at dksJ4_removeAt_3 1 rfl rfl)
theorem dJ4_removeAt_73 : decode cJ4_removeAt 73 = .ok (.aload 4, 2) := dk_25 4 (dk_at dksJ4_removeAt_3 2 rfl rfl)
theorem dJ4_removeAt_75 : decode cJ4_removeAt 75 = .ok (.if_acmp .eq 6, 3) := dk_165 0 6 (dk_at dksJ4_removeAt_3 4 rfl rfl)
theorem dJ4_removeAt_78 : decode cJ4_removeAt 78 = .ok (.aload 4, 2) := dk_25 4 (dk_at dksJ4_removeAt_3 7 rfl rfl)
theorem dJ4_removeAt_80 : decode cJ4_removeAt 80 = .ok (.areturn, 1) := dk_176 (dk_at dksJ4_removeAt_3 9 rfl rfl)
theorem dJ4_removeAt_81 : decode cJ4_removeAt 81 = .ok (.aconst_null, 1) := dk_1 (dk_at dksJ4_removeAt_3 10 rfl rfl)
theorem dJ4_removeAt_82 : decode cJ4_removeAt 82 = .ok (.areturn, 1) := dk_176 (dk_at dksJ4_removeAt_3 11 rfl rfl)
def dkwJ4_siftDown_1 : List UInt8 := [167, 0, 16, 27, 44, 42, 180, 0, 17, 42, 180, 0, 58, 184, 0, 125, 177]
abbrev dktJ4_siftDown_1 : List UInt8 := dkwJ4_siftDown_1 ++ []
def dkwJ4_siftDown_0 : List UInt8 := [42, 180, 0, 21, 198, 0, 23, 27, 44, 42, 180, 0, 17, 42, 180, 0, 58, 42, 180, 0, 21, 184, 0, 129]
abbrev dktJ4_siftDown_0 : List UInt8 := dkwJ4_siftDown_0 ++ dktJ4_siftDown_1
theorem dksJ4_siftDown_0 : cJ4_siftDown.data.toList.drop 0 = dktJ4_siftDown_0 := by decide +kernel
theorem dksJ4_siftDown_1 : cJ4_siftDown.data.toList.drop 24 = dktJ4_siftDown_1 := dk_seg dksJ4_siftDown_0 24 rfl rfl
theorem dJ4_siftDown_0 : decode cJ4_siftDown 0 = .ok (.aload_n 0, 1) := dk_42 (dk_at dksJ4_siftDown_0 0 rfl rfl)
theorem dJ4_siftDown_1 : decode cJ4_siftDown 1 = .ok (.getfield 21, 3) := dk_180 0 21 (dk_at dksJ4_siftDown_0 1 rfl rfl)
theorem dJ4_siftDown_4 : decode cJ4_siftDown 4 = .ok (.ifnull 23, 3) := dk_198 0 23 (dk_at dksJ4_siftDown_0 4 rfl rfl)
theorem dJ4_siftDown_7 : decode cJ4_siftDown 7 = .ok (.iload_n 1, 1) := dk_27 (dk_at dksJ4_siftDown_0 7 rfl rfl)
theorem dJ4_siftDown_8 : decode cJ4_siftDown 8 = .ok (.aload_n 2, 1) := dk_44 (dk_at dksJ4_siftDown_0 8 rfl rfl)
theorem dJ4_siftDown_9 : decode cJ4_siftDown 9 = .ok (.aload_n 0, 1) := dk_42 (dk_at dksJ4_siftDown_0 9 rfl rfl)
theorem dJ4_siftDown_10 : decode cJ4_siftDown 10 = .ok (.getfield 17, 3) := dk_180 0 17 (dk_at dksJ4_siftDown_0 10 rfl rfl)
theorem dJ4_siftDown_13 : decode cJ4_siftDown 13 = .ok (.aload_n 0, 1) := dk_42 (dk_at dksJ4_siftDown_0 13 rfl rfl)
theorem dJ4_siftDown_14 : decode cJ4_siftDown 14 = .ok (.getfield 58, 3) := dk_180 0 58 (dk_at dksJ4_siftDown_0 14 rfl rfl)
theorem dJ4_siftDown_17 : decode cJ4_siftDown 17 = .ok (.aload_n 0, 1) := dk_42 (dk_at dksJ4_siftDown_0 17 rfl rfl)
theorem dJ4_siftDown_18 : decode cJ4_siftDown 18 = .ok (.getfield 21, 3) := dk_180 0 21 (dk_at dksJ4_siftDown_0 18 rfl rfl)
theorem dJ4_siftDown_21 : decode cJ4_siftDown 21 = .ok (.invokestatic 129, 3) := dk_184 0 129 (dk_at dksJ4_siftDown_0 21 rfl rfl)
theorem dJ4_siftDown_24 : decode cJ4_siftDown 24 = .ok (.goto 16, 3) := dk_167 0 16 (dk_at dksJ4_siftDown_1 0 rfl rfl)
theorem dJ4_siftDown_27 : decode cJ4_siftDown 27 = .ok (.iload_n 1, 1) := dk_27 (dk_at dksJ4_siftDown_1 3 rfl rfl)
theorem dJ4_siftDown_28 : decode cJ4_siftDown 28 = .ok (.aload_n 2, 1) := dk_44 (dk_at dksJ4_siftDown_1 4 rfl rfl)
theorem dJ4_siftDown_29 : decode cJ4_siftDown 29 = .ok (.aload_n 0, 1) := dk_42 (dk_at dksJ4_siftDown_1 5 rfl rfl)
theorem dJ4_siftDown_30 : decode cJ4_siftDown 30 = .ok (.getfield 17, 3) := dk_180 0 17 (dk_at dksJ4_siftDown_1 6 rfl rfl)
theorem dJ4_siftDown_33 : decode cJ4_siftDown 33 = .ok (.aload_n 0, 1) := dk_42 (dk_at dksJ4_siftDown_1 9 rfl rfl)
theorem dJ4_siftDown_34 : decode cJ4_siftDown 34 = .ok (.getfield 58, 3) := dk_180 0 58 (dk_at dksJ4_siftDown_1 10 rfl rfl)
theorem dJ4_siftDown_37 : decode cJ4_siftDown 37 = .ok (.invokestatic 125, 3) := dk_184 0 125 (dk_at dksJ4_siftDown_1 13 rfl rfl)
theorem dJ4_siftDown_40 : decode cJ4_siftDown 40 = .ok (.return_, 1) := dk_177 (dk_at dksJ4_siftDown_1 16 rfl rfl)
def dkwJ4_siftDownUsingComparator_4 : List UInt8 := [43, 83, 177]
abbrev dktJ4_siftDownUsingComparator_4 : List UInt8 := dkwJ4_siftDownUsingComparator_4 ++ []
def dkwJ4_siftDownUsingComparator_3 : List UInt8 := [185, 0, 149, 3, 0, 157, 0, 6, 167, 0, 14, 44, 26, 25, 7, 83, 21, 6, 59, 167, 255, 176, 44, 26]
abbrev dktJ4_siftDownUsingComparator_3 : List UInt8 := dkwJ4_siftDownUsingComparator_3 ++ dktJ4_siftDownUsingComparator_4
def dkwJ4_siftDownUsingComparator_2 : List UInt8 := [185, 0, 149, 3, 0, 158, 0, 12, 44, 21, 8, 89, 54, 6, 50, 58, 7, 25, 4, 43, 25, 7]
abbrev dktJ4_siftDownUsingComparator_2 : List UInt8 := dkwJ4_siftDownUsingComparator_2 ++ dktJ4_siftDownUsingComparator_3
def dkwJ4_siftDownUsingComparator_1 : List UInt8 := [21, 6, 4, 96, 54, 8, 21, 8, 29, 162, 0, 28, 25, 4, 25, 7, 44, 21, 8, 50]
abbrev dktJ4_siftDownUsingComparator_1 : List UInt8 := dkwJ4_siftDownUsingComparator_1 ++ dktJ4_siftDownUsingComparator_2
def dkwJ4_siftDownUsingComparator_0 : List UInt8 := [29, 4, 124, 54, 5, 26, 21, 5, 162, 0, 80, 26, 4, 120, 4, 96, 54, 6, 44, 21, 6, 50, 58, 7]
abbrev dktJ4_siftDownUsingComparator_0 : List UInt8 := dkwJ4_siftDownUsingComparator_0 ++ dktJ4_siftDownUsingComparator_1
theorem dksJ4_siftDownUsingComparator_0 : cJ4_siftDownUsingComparator.data.toList.drop 0 = dktJ4_siftDownUsingComparator_0 := by decide +kernel
theorem dksJ4_siftDownUsingComparator_1 : cJ4_siftDownUsingComparator.data.toList.drop 24 = dktJ4_siftDownUsingComparator_1 := dk_seg dksJ4_siftDownUsingComparator_0 24 rfl rfl
theorem dksJ4_siftDownUsingComparator_2 : cJ4_siftDownUsingComparator.data.toList.drop 44 = dktJ4_siftDownUsingComparator_2 := dk_seg dksJ4_siftDownUsingComparator_1 20 rfl rfl
theorem dksJ4_siftDownUsingComparator_3 : cJ4_siftDownUsingComparator.data.toList.drop 66 = dktJ4_siftDownUsingComparator_3 := dk_seg dksJ4_siftDownUsingComparator_2 22 rfl rfl
theorem dksJ4_siftDownUsingComparator_4 : cJ4_siftDownUsingComparator.data.toList.drop 90 = dktJ4_siftDownUsingComparator_4 := dk_seg dksJ4_siftDownUsingComparator_3 24 rfl rfl
theorem dJ4_siftDownUsingComparator_0 : decode cJ4_siftDownUsingComparator 0 = .ok (.iload_n 3, 1) := dk_29 (dk_at dksJ4_siftDownUsingComparator_0 0 rfl rfl)
theorem dJ4_siftDownUsingComparator_1 : decode cJ4_siftDownUsingComparator 1 = .ok (.iconst 1, 1) := dk_4 (dk_at dksJ4_siftDownUsingComparator_0 1 rfl rfl)
theorem dJ4_siftDownUsingComparator_2 : decode cJ4_siftDownUsingComparator 2 = .ok (.iushr, 1) := dk_124 (dk_at dksJ4_siftDownUsingComparator_0 2 rfl rfl)
theorem dJ4_siftDownUsingComparator_3 : decode cJ4_siftDownUsingComparator 3 = .ok (.istore 5, 2) := dk_54 5 (dk_at dksJ4_siftDownUsingComparator_0 3 rfl rfl)
theorem dJ4_siftDownUsingComparator_5 : decode cJ4_siftDownUsingComparator 5 = .ok (.iload_n 0, 1) := dk_26 (dk_at dksJ4_siftDownUsingComparator_0 5 rfl rfl)
theorem dJ4_siftDownUsingComparator_6 : decode cJ4_siftDownUsingComparator 6 = .ok (.iload 5, 2) := dk_21 5 (dk_at dksJ4_siftDownUsingComparator_0 6 rfl rfl)
theorem dJ4_siftDownUsingComparator_8 : decode cJ4_siftDownUsingComparator 8 = .ok (.if_icmp .ge 80, 3) := dk_162 0 80 (dk_at dksJ4_siftDownUsingComparator_0 8 rfl rfl)
theorem dJ4_siftDownUsingComparator_11 : decode cJ4_siftDownUsingComparator 11 = .ok (.iload_n 0, 1) := dk_26 (dk_at dksJ4_siftDownUsingComparator_0 11 rfl rfl)
theorem dJ4_siftDownUsingComparator_12 : decode cJ4_siftDownUsingComparator 12 = .ok (.iconst 1, 1) := dk_4 (dk_at dksJ4_siftDownUsingComparator_0 12 rfl rfl)
theorem dJ4_siftDownUsingComparator_13 : decode cJ4_siftDownUsingComparator 13 = .ok (.ishl, 1) := dk_120 (dk_at dksJ4_siftDownUsingComparator_0 13 rfl rfl)
theorem dJ4_siftDownUsingComparator_14 : decode cJ4_siftDownUsingComparator 14 = .ok (.iconst 1, 1) := dk_4 (dk_at dksJ4_siftDownUsingComparator_0 14 rfl rfl)
theorem dJ4_siftDownUsingComparator_15 : decode cJ4_siftDownUsingComparator 15 = .ok (.iadd, 1) := dk_96 (dk_at dksJ4_siftDownUsingComparator_0 15 rfl rfl)
theorem dJ4_siftDownUsingComparator_16 : decode cJ4_siftDownUsingComparator 16 = .ok (.istore 6, 2) := dk_54 6 (dk_at dksJ4_siftDownUsingComparator_0 16 rfl rfl)
theorem dJ4_siftDownUsingComparator_18 : decode cJ4_siftDownUsingComparator 18 = .ok (.aload_n 2, 1) := dk_44 (dk_at dksJ4_siftDownUsingComparator_0 18 rfl rfl)
theorem dJ4_siftDownUsingComparator_19 : decode cJ4_siftDownUsingComparator 19 = .ok (.iload 6, 2) := dk_21 6 (dk_at dksJ4_siftDownUsingComparator_0 19 rfl rfl)
theorem dJ4_siftDownUsingComparator_21 : decode cJ4_siftDownUsingComparator 21 = .ok (.aaload, 1) := dk_50 (dk_at dksJ4_siftDownUsingComparator_0 21 rfl rfl)
theorem dJ4_siftDownUsingComparator_22 : decode cJ4_siftDownUsingComparator 22 = .ok (.astore 7, 2) := dk_58 7 (dk_at dksJ4_siftDownUsingComparator_0 22 rfl rfl)
theorem dJ4_siftDownUsingComparator_24 : decode cJ4_siftDownUsingComparator 24 = .ok (.iload 6, 2) := dk_21 6 (dk_at dksJ4_siftDownUsingComparator_1 0 rfl rfl)
theorem dJ4_siftDownUsingComparator_26 : decode cJ4_siftDownUsingComparator 26 = .ok (.iconst 1, 1) := dk_4 (dk_at dksJ4_siftDownUsingComparator_1 2 rfl rfl)
theorem dJ4_siftDownUsingComparator_27 : decode cJ4_siftDownUsingComparator 27 = .ok (.iadd, 1) := dk_96 (dk_at dksJ4_siftDownUsingComparator_1 3 rfl rfl)
theorem dJ4_siftDownUsingComparator_28 : decode cJ4_siftDownUsingComparator 28 = .ok (.istore 8, 2) := dk_54 8 (dk_at dksJ4_siftDownUsingComparator_1 4 rfl rfl)
theorem dJ4_siftDownUsingComparator_30 : decode cJ4_siftDownUsingComparator 30 = .ok (.iload 8, 2) := dk_21 8 (dk_at dksJ4_siftDownUsingComparator_1 6 rfl rfl)
theorem dJ4_siftDownUsingComparator_32 : decode cJ4_siftDownUsingComparator 32 = .ok (.iload_n 3, 1) := dk_29 (dk_at dksJ4_siftDownUsingComparator_1 8 rfl rfl)
theorem dJ4_siftDownUsingComparator_33 : decode cJ4_siftDownUsingComparator 33 = .ok (.if_icmp .ge 28, 3) := dk_162 0 28 (dk_at dksJ4_siftDownUsingComparator_1 9 rfl rfl)
theorem dJ4_siftDownUsingComparator_36 : decode cJ4_siftDownUsingComparator 36 = .ok (.aload 4, 2) := dk_25 4 (dk_at dksJ4_siftDownUsingComparator_1 12 rfl rfl)
theorem dJ4_siftDownUsingComparator_38 : decode cJ4_siftDownUsingComparator 38 = .ok (.aload 7, 2) := dk_25 7 (dk_at dksJ4_siftDownUsingComparator_1 14 rfl rfl)
theorem dJ4_siftDownUsingComparator_40 : decode cJ4_siftDownUsingComparator 40 = .ok (.aload_n 2, 1) := dk_44 (dk_at dksJ4_siftDownUsingComparator_1 16 rfl rfl)
theorem dJ4_siftDownUsingComparator_41 : decode cJ4_siftDownUsingComparator 41 = .ok (.iload 8, 2) := dk_21 8 (dk_at dksJ4_siftDownUsingComparator_1 17 rfl rfl)
theorem dJ4_siftDownUsingComparator_43 : decode cJ4_siftDownUsingComparator 43 = .ok (.aaload, 1) := dk_50 (dk_at dksJ4_siftDownUsingComparator_1 19 rfl rfl)
theorem dJ4_siftDownUsingComparator_44 : decode cJ4_siftDownUsingComparator 44 = .ok (.invokeinterface 149 3, 5) := by decide +kernel
theorem dJ4_siftDownUsingComparator_49 : decode cJ4_siftDownUsingComparator 49 = .ok (.ifCond .le 12, 3) := dk_158 0 12 (dk_at dksJ4_siftDownUsingComparator_2 5 rfl rfl)
theorem dJ4_siftDownUsingComparator_52 : decode cJ4_siftDownUsingComparator 52 = .ok (.aload_n 2, 1) := dk_44 (dk_at dksJ4_siftDownUsingComparator_2 8 rfl rfl)
theorem dJ4_siftDownUsingComparator_53 : decode cJ4_siftDownUsingComparator 53 = .ok (.iload 8, 2) := dk_21 8 (dk_at dksJ4_siftDownUsingComparator_2 9 rfl rfl)
theorem dJ4_siftDownUsingComparator_55 : decode cJ4_siftDownUsingComparator 55 = .ok (.dup, 1) := dk_89 (dk_at dksJ4_siftDownUsingComparator_2 11 rfl rfl)
theorem dJ4_siftDownUsingComparator_56 : decode cJ4_siftDownUsingComparator 56 = .ok (.istore 6, 2) := dk_54 6 (dk_at dksJ4_siftDownUsingComparator_2 12 rfl rfl)
theorem dJ4_siftDownUsingComparator_58 : decode cJ4_siftDownUsingComparator 58 = .ok (.aaload, 1) := dk_50 (dk_at dksJ4_siftDownUsingComparator_2 14 rfl rfl)
theorem dJ4_siftDownUsingComparator_59 : decode cJ4_siftDownUsingComparator 59 = .ok (.astore 7, 2) := dk_58 7 (dk_at dksJ4_siftDownUsingComparator_2 15 rfl rfl)
theorem dJ4_siftDownUsingComparator_61 : decode cJ4_siftDownUsingComparator 61 = .ok (.aload 4, 2) := dk_25 4 (dk_at dksJ4_siftDownUsingComparator_2 17 rfl rfl)
theorem dJ4_siftDownUsingComparator_63 : decode cJ4_siftDownUsingComparator 63 = .ok (.aload_n 1, 1) := dk_43 (dk_at dksJ4_siftDownUsingComparator_2 19 rfl rfl)
theorem dJ4_siftDownUsingComparator_64 : decode cJ4_siftDownUsingComparator 64 = .ok (.aload 7, 2) := dk_25 7 (dk_at dksJ4_siftDownUsingComparator_2 20 rfl rfl)
theorem dJ4_siftDownUsingComparator_66 : decode cJ4_siftDownUsingComparator 66 = .ok (.invokeinterface 149 3, 5) := by decide +kernel
theorem dJ4_siftDownUsingComparator_71 : decode cJ4_siftDownUsingComparator 71 = .ok (.ifCond .gt 6, 3) := dk_157 0 6 (dk_at dksJ4_siftDownUsingComparator_3 5 rfl rfl)
theorem dJ4_siftDownUsingComparator_74 : decode cJ4_siftDownUsingComparator 74 = .ok (.goto 14, 3) := dk_167 0 14 (dk_at dksJ4_siftDownUsingComparator_3 8 rfl rfl)
theorem dJ4_siftDownUsingComparator_77 : decode cJ4_siftDownUsingComparator 77 = .ok (.aload_n 2, 1) := dk_44 (dk_at dksJ4_siftDownUsingComparator_3 11 rfl rfl)
theorem dJ4_siftDownUsingComparator_78 : decode cJ4_siftDownUsingComparator 78 = .ok (.iload_n 0, 1) := dk_26 (dk_at dksJ4_siftDownUsingComparator_3 12 rfl rfl)
theorem dJ4_siftDownUsingComparator_79 : decode cJ4_siftDownUsingComparator 79 = .ok (.aload 7, 2) := dk_25 7 (dk_at dksJ4_siftDownUsingComparator_3 13 rfl rfl)
theorem dJ4_siftDownUsingComparator_81 : decode cJ4_siftDownUsingComparator 81 = .ok (.aastore, 1) := dk_83 (dk_at dksJ4_siftDownUsingComparator_3 15 rfl rfl)
theorem dJ4_siftDownUsingComparator_82 : decode cJ4_siftDownUsingComparator 82 = .ok (.iload 6, 2) := dk_21 6 (dk_at dksJ4_siftDownUsingComparator_3 16 rfl rfl)
theorem dJ4_siftDownUsingComparator_84 : decode cJ4_siftDownUsingComparator 84 = .ok (.istore_n 0, 1) := dk_59 (dk_at dksJ4_siftDownUsingComparator_3 18 rfl rfl)
theorem dJ4_siftDownUsingComparator_85 : decode cJ4_siftDownUsingComparator 85 = .ok (.goto (-80), 3) := dk_167 255 176 (dk_at dksJ4_siftDownUsingComparator_3 19 rfl rfl)
theorem dJ4_siftDownUsingComparator_88 : decode cJ4_siftDownUsingComparator 88 = .ok (.aload_n 2, 1) := dk_44 (dk_at dksJ4_siftDownUsingComparator_3 22 rfl rfl)
theorem dJ4_siftDownUsingComparator_89 : decode cJ4_siftDownUsingComparator 89 = .ok (.iload_n 0, 1) := dk_26 (dk_at dksJ4_siftDownUsingComparator_3 23 rfl rfl)
theorem dJ4_siftDownUsingComparator_90 : decode cJ4_siftDownUsingComparator 90 = .ok (.aload_n 1, 1) := dk_43 (dk_at dksJ4_siftDownUsingComparator_4 0 rfl rfl)
theorem dJ4_siftDownUsingComparator_91 : decode cJ4_siftDownUsingComparator 91 = .ok (.aastore, 1) := dk_83 (dk_at dksJ4_siftDownUsingComparator_4 1 rfl rfl)
theorem dJ4_siftDownUsingComparator_92 : decode cJ4_siftDownUsingComparator 92 = .ok (.return_, 1) := dk_177 (dk_at dksJ4_siftDownUsingComparator_4 2 rfl rfl)
def dkwJ4_siftDownComparable_4 : List UInt8 := [25, 4, 83, 177]
abbrev dktJ4_siftDownComparable_4 : List UInt8 := dkwJ4_siftDownComparable_4 ++ []
def dkwJ4_siftDownComparable_3 : List UInt8 := [185, 0, 146, 2, 0, 157, 0, 6, 167, 0, 14, 44, 26, 25, 7, 83, 21, 6, 59, 167, 255, 176, 44, 26]
abbrev dktJ4_siftDownComparable_3 : List UInt8 := dkwJ4_siftDownComparable_3 ++ dktJ4_siftDownComparable_4
def dkwJ4_siftDownComparable_2 : List UInt8 := [21, 8, 50, 185, 0, 146, 2, 0, 158, 0, 12, 44, 21, 8, 89, 54, 6, 50, 58, 7, 25, 4, 25, 7]
abbrev dktJ4_siftDownComparable_2 : List UInt8 := dkwJ4_siftDownComparable_2 ++ dktJ4_siftDownComparable_3
def dkwJ4_siftDownComparable_1 : List UInt8 := [44, 21, 6, 50, 58, 7, 21, 6, 4, 96, 54, 8, 21, 8, 29, 162, 0, 29, 25, 7, 192, 0, 144, 44]
abbrev dktJ4_siftDownComparable_1 : List UInt8 := dkwJ4_siftDownComparable_1 ++ dktJ4_siftDownComparable_2
def dkwJ4_siftDownComparable_0 : List UInt8 := [43, 192, 0, 144, 58, 4, 29, 4, 124, 54, 5, 26, 21, 5, 162, 0, 80, 26, 4, 120, 4, 96, 54, 6]
abbrev dktJ4_siftDownComparable_0 : List UInt8 := dkwJ4_siftDownComparable_0 ++ dktJ4_siftDownComparable_1
theorem dksJ4_siftDownComparable_0 : cJ4_siftDownComparable.data.toList.drop 0 = dktJ4_siftDownComparable_0 := by decide +kernel
theorem dksJ4_siftDownComparable_1 : cJ4_siftDownComparable.data.toList.drop 24 = dktJ4_siftDownComparable_1 := dk_seg dksJ4_siftDownComparable_0 24 rfl rfl
theorem dksJ4_siftDownComparable_2 : cJ4_siftDownComparable.data.toList.drop 48 = dktJ4_siftDownComparable_2 := dk_seg dksJ4_siftDownComparable_1 24 rfl rfl
theorem dksJ4_siftDownComparable_3 : cJ4_siftDownComparable.data.toList.drop 72 = dktJ4_siftDownComparable_3 := dk_seg dksJ4_siftDownComparable_2 24 rfl rfl
theorem dksJ4_siftDownComparable_4 : cJ4_siftDownComparable.data.toList.drop 96 = dktJ4_siftDownComparable_4 := dk_seg dksJ4_siftDownComparable_3 24 rfl rfl
theorem dJ4_siftDownComparable_0 : decode cJ4_siftDownComparable 0 = .ok (.aload_n 1, 1) := dk_43 (dk_at dksJ4_siftDownComparable_0 0 rfl rfl)
theorem dJ4_siftDownComparable_1 : decode cJ4_siftDownComparable 1 = .ok (.checkcast 144, 3) := dk_192 0 144 (dk_at dksJ4_siftDownComparable_0 1 rfl rfl)
theorem dJ4_siftDownComparable_4 : decode cJ4_siftDownComparable 4 = .ok (.astore 4, 2) := dk_58 4 (dk_at dksJ4_siftDownComparable_0 4 rfl rfl)
theorem dJ4_siftDownComparable_6 : decode cJ4_siftDownComparable 6 = .ok (.iload_n 3, 1) := dk_29 (dk_at dksJ4_siftDownComparable_0 6 rfl rfl)
theorem dJ4_siftDownComparable_7 : decode cJ4_siftDownComparable 7 = .ok (.iconst 1, 1) := dk_4 (dk_at dksJ4_siftDownComparable_0 7 rfl rfl)
theorem dJ4_siftDownComparable_8 : decode cJ4_siftDownComparable 8 = .ok (.iushr, 1) := dk_124 (dk_at dksJ4_siftDownComparable_0 8 rfl rfl)
theorem dJ4_siftDownComparable_9 : decode cJ4_siftDownComparable 9 = .ok (.istore 5, 2) := dk_54 5 (dk_at dksJ4_siftDownComparable_0 9 rfl rfl)
theorem dJ4_siftDownComparable_11 : decode cJ4_siftDownComparable 11 = .ok (.iload_n 0, 1) := dk_26 (dk_at dksJ4_siftDownComparable_0 11 rfl rfl)
theorem dJ4_siftDownComparable_12 : decode cJ4_siftDownComparable 12 = .ok (.iload 5, 2) := dk_21 5 (dk_at dksJ4_siftDownComparable_0 12 rfl rfl)
theorem dJ4_siftDownComparable_14 : decode cJ4_siftDownComparable 14 = .ok (.if_icmp .ge 80, 3) := dk_162 0 80 (dk_at dksJ4_siftDownComparable_0 14 rfl rfl)
theorem dJ4_siftDownComparable_17 : decode cJ4_siftDownComparable 17 = .ok (.iload_n 0, 1) := dk_26 (dk_at dksJ4_siftDownComparable_0 17 rfl rfl)
theorem dJ4_siftDownComparable_18 : decode cJ4_siftDownComparable 18 = .ok (.iconst 1, 1) := dk_4 (dk_at dksJ4_siftDownComparable_0 18 rfl rfl)
theorem dJ4_siftDownComparable_19 : decode cJ4_siftDownComparable 19 = .ok (.ishl, 1) := dk_120 (dk_at dksJ4_siftDownComparable_0 19 rfl rfl)
theorem dJ4_siftDownComparable_20 : decode cJ4_siftDownComparable 20 = .ok (.iconst 1, 1) := dk_4 (dk_at dksJ4_siftDownComparable_0 20 rfl rfl)
theorem dJ4_siftDownComparable_21 : decode cJ4_siftDownComparable 21 = .ok (.iadd, 1) := dk_96 (dk_at dksJ4_siftDownComparable_0 21 rfl rfl)
theorem dJ4_siftDownComparable_22 : decode cJ4_siftDownComparable 22 = .ok (.istore 6, 2) := dk_54 6 (dk_at dksJ4_siftDownComparable_0 22 rfl rfl)
theorem dJ4_siftDownComparable_24 : decode cJ4_siftDownComparable 24 = .ok (.aload_n 2, 1) := dk_44 (dk_at dksJ4_siftDownComparable_1 0 rfl rfl)
theorem dJ4_siftDownComparable_25 : decode cJ4_siftDownComparable 25 = .ok (.iload 6, 2) := dk_21 6 (dk_at dksJ4_siftDownComparable_1 1 rfl rfl)
theorem dJ4_siftDownComparable_27 : decode cJ4_siftDownComparable 27 = .ok (.aaload, 1) := dk_50 (dk_at dksJ4_siftDownComparable_1 3 rfl rfl)
theorem dJ4_siftDownComparable_28 : decode cJ4_siftDownComparable 28 = .ok (.astore 7, 2) := dk_58 7 (dk_at dksJ4_siftDownComparable_1 4 rfl rfl)
theorem dJ4_siftDownComparable_30 : decode cJ4_siftDownComparable 30 = .ok (.iload 6, 2) := dk_21 6 (dk_at dksJ4_siftDownComparable_1 6 rfl rfl)
theorem dJ4_siftDownComparable_32 : decode cJ4_siftDownComparable 32 = .ok (.iconst 1, 1) := dk_4 (dk_at dksJ4_siftDownComparable_1 8 rfl rfl)
theorem dJ4_siftDownComparable_33 : decode cJ4_siftDownComparable 33 = .ok (.iadd, 1) := dk_96 (dk_at dksJ4_siftDownComparable_1 9 rfl rfl)
theorem dJ4_siftDownComparable_34 : decode cJ4_siftDownComparable 34 = .ok (.istore 8, 2) := dk_54 8 (dk_at dksJ4_siftDownComparable_1 10 rfl rfl)
theorem dJ4_siftDownComparable_36 : decode cJ4_siftDownComparable 36 = .ok (.iload 8, 2) := dk_21 8 (dk_at dksJ4_siftDownComparable_1 12 rfl rfl)
theorem dJ4_siftDownComparable_38 : decode cJ4_siftDownComparable 38 = .ok (.iload_n 3, 1) := dk_29 (dk_at dksJ4_siftDownComparable_1 14 rfl rfl)
theorem dJ4_siftDownComparable_39 : decode cJ4_siftDownComparable 39 = .ok (.if_icmp .ge 29, 3) := dk_162 0 29 (dk_at dksJ4_siftDownComparable_1 15 rfl rfl)
theorem dJ4_siftDownComparable_42 : decode cJ4_siftDownComparable 42 = .ok (.aload 7, 2) := dk_25 7 (dk_at dksJ4_siftDownComparable_1 18 rfl rfl)
theorem dJ4_siftDownComparable_44 : decode cJ4_siftDownComparable 44 = .ok (.checkcast 144, 3) := dk_192 0 144 (dk_at dksJ4_siftDownComparable_1 20 rfl rfl)
theorem dJ4_siftDownComparable_47 : decode cJ4_siftDownComparable 47 = .ok (.aload_n 2, 1) := dk_44 (dk_at dksJ4_siftDownComparable_1 23 rfl rfl)
theorem dJ4_siftDownComparable_48 : decode cJ4_siftDownComparable 48 = .ok (.iload 8, 2) := dk_21 8 (dk_at dksJ4_siftDownComparable_2 0 rfl rfl)
theorem dJ4_siftDownComparable_50 : decode cJ4_siftDownComparable 50 = .ok (.aaload, 1) := dk_50 (dk_at dksJ4_siftDownComparable_2 2 rfl rfl)
theorem dJ4_siftDownComparable_51 : decode cJ4_siftDownComparable 51 = .ok (.invokeinterface 146 2, 5) := by decide +kernel
theorem dJ4_siftDownComparable_56 : decode cJ4_siftDownComparable 56 = .ok (.ifCond .le 12, 3) := dk_158 0 12 (dk_at dksJ4_siftDownComparable_2 8 rfl rfl)
theorem dJ4_siftDownComparable_59 : decode cJ4_siftDownComparable 59 = .ok (.aload_n 2, 1) := dk_44 (dk_at dksJ4_siftDownComparable_2 11 rfl rfl)
theorem dJ4_siftDownComparable_60 : decode cJ4_siftDownComparable 60 = .ok (.iload 8, 2) := dk_21 8 (dk_at dksJ4_siftDownComparable_2 12 rfl rfl)
theorem dJ4_siftDownComparable_62 : decode cJ4_siftDownComparable 62 = .ok (.dup, 1) := dk_89 (dk_at dksJ4_siftDownComparable_2 14 rfl rfl)
theorem dJ4_siftDownComparable_63 : decode cJ4_siftDownComparable 63 = .ok (.istore 6, 2) := dk_54 6 (dk_at dksJ4_siftDownComparable_2 15 rfl rfl)
theorem dJ4_siftDownComparable_65 : decode cJ4_siftDownComparable 65 = .ok (.aaload, 1) := dk_50 (dk_at dksJ4_siftDownComparable_2 17 rfl rfl)
theorem dJ4_siftDownComparable_66 : decode cJ4_siftDownComparable 66 = .ok (.astore 7, 2) := dk_58 7 (dk_at dksJ4_siftDownComparable_2 18 rfl rfl)
theorem dJ4_siftDownComparable_68 : decode cJ4_siftDownComparable 68 = .ok (.aload 4, 2) := dk_25 4 (dk_at dksJ4_siftDownComparable_2 20 rfl rfl)
theorem dJ4_siftDownComparable_70 : decode cJ4_siftDownComparable 70 = .ok (.aload 7, 2) := dk_25 7 (dk_at dksJ4_siftDownComparable_2 22 rfl rfl)
theorem dJ4_siftDownComparable_72 : decode cJ4_siftDownComparable 72 = .ok (.invokeinterface 146 2, 5) := by decide +kernel
theorem dJ4_siftDownComparable_77 : decode cJ4_siftDownComparable 77 = .ok (.ifCond .gt 6, 3) := dk_157 0 6 (dk_at dksJ4_siftDownComparable_3 5 rfl rfl)
theorem dJ4_siftDownComparable_80 : decode cJ4_siftDownComparable 80 = .ok (.goto 14, 3) := dk_167 0 14 (dk_at dksJ4_siftDownComparable_3 8 rfl rfl)
theorem dJ4_siftDownComparable_83 : decode cJ4_siftDownComparable 83 = .ok (.aload_n 2, 1) := dk_44 (dk_at dksJ4_siftDownComparable_3 11 rfl rfl)
theorem dJ4_siftDownComparable_84 : decode cJ4_siftDownComparable 84 = .ok (.iload_n 0, 1) := dk_26 (dk_at dksJ4_siftDownComparable_3 12 rfl rfl)
theorem dJ4_siftDownComparable_85 : decode cJ4_siftDownComparable 85 = .ok (.aload 7, 2) := dk_25 7 (dk_at dksJ4_siftDownComparable_3 13 rfl rfl)
theorem dJ4_siftDownComparable_87 : decode cJ4_siftDownComparable 87 = .ok (.aastore, 1) := dk_83 (dk_at dksJ4_siftDownComparable_3 15 rfl rfl)
theorem dJ4_siftDownComparable_88 : decode cJ4_siftDownComparable 88 = .ok (.iload 6, 2) := dk_21 6 (dk_at dksJ4_siftDownComparable_3 16 rfl rfl)
theorem dJ4_siftDownComparable_90 : decode cJ4_siftDownComparable 90 = .ok (.istore_n 0, 1) := dk_59 (dk_at dksJ4_siftDownComparable_3 18 rfl rfl)
theorem dJ4_siftDownComparable_91 : decode cJ4_siftDownComparable 91 = .ok (.goto (-80), 3) := dk_167 255 176 (dk_at dksJ4_siftDownComparable_3 19 rfl rfl)
theorem dJ4_siftDownComparable_94 : decode cJ4_siftDownComparable 94 = .ok (.aload_n 2, 1) := dk_44 (dk_at dksJ4_siftDownComparable_3 22 rfl rfl)
theorem dJ4_siftDownComparable_95 : decode cJ4_siftDownComparable 95 = .ok (.iload_n 0, 1) := dk_26 (dk_at dksJ4_siftDownComparable_3 23 rfl rfl)
theorem dJ4_siftDownComparable_96 : decode cJ4_siftDownComparable 96 = .ok (.aload 4, 2) := dk_25 4 (dk_at dksJ4_siftDownComparable_4 0 rfl rfl)
theorem dJ4_siftDownComparable_98 : decode cJ4_siftDownComparable 98 = .ok (.aastore, 1) := dk_83 (dk_at dksJ4_siftDownComparable_4 2 rfl rfl)
theorem dJ4_siftDownComparable_99 : decode cJ4_siftDownComparable 99 = .ok (.return_, 1) := dk_177 (dk_at dksJ4_siftDownComparable_4 3 rfl rfl)
theorem dJ4_size_0 : decode cJ4_size 0 = .ok (.aload_n 0, 1) := by decide +kernel
theorem dJ4_size_1 : decode cJ4_size 1 = .ok (.getfield 58, 3) := by decide +kernel
theorem dJ4_size_4 : decode cJ4_size 4 = .ok (.ireturn, 1) := by decide +kernel
def dkwJ4_poll_3 : List UInt8 := [43, 29, 25, 5, 184, 0, 129, 44, 176]
abbrev dktJ4_poll_3 : List UInt8 := dkwJ4_poll_3 ++ []
def dkwJ4_poll_2 : List UInt8 := [42, 180, 0, 21, 89, 58, 5, 199, 0, 14, 3, 25, 4, 43, 29, 184, 0, 125, 167, 0, 13, 3, 25, 4]
abbrev dktJ4_poll_2 : List UInt8 := dkwJ4_poll_2 ++ dktJ4_poll_3
def dkwJ4_poll_1 : List UInt8 := [42, 89, 180, 0, 58, 4, 100, 90, 181, 0, 58, 89, 62, 50, 58, 4, 43, 29, 1, 83, 29, 158, 0, 34]
abbrev dktJ4_poll_1 : List UInt8 := dkwJ4_poll_1 ++ dktJ4_poll_2
def dkwJ4_poll_0 : List UInt8 := [42, 180, 0, 17, 89, 76, 3, 50, 89, 77, 198, 0, 69, 42, 89, 180, 0, 93, 4, 96, 181, 0, 93, 43]
abbrev dktJ4_poll_0 : List UInt8 := dkwJ4_poll_0 ++ dktJ4_poll_1
theorem dksJ4_poll_0 : cJ4_poll.data.toList.drop 0 = dktJ4_poll_0 := by decide +kernel
theorem dksJ4_poll_1 : cJ4_poll.data.toList.drop 24 = dktJ4_poll_1 := dk_seg dksJ4_poll_0 24 rfl rfl
theorem dksJ4_poll_2 : cJ4_poll.data.toList.drop 48 = dktJ4_poll_2 := dk_seg dksJ4_poll_1 24 rfl rfl
theorem dksJ4_poll_3 : cJ4_poll.data.toList.drop 72 = dktJ4_poll_3 := dk_seg dksJ4_poll_2 24 rfl rfl
theorem dJ4_poll_0 : decode cJ4_poll 0 = .ok (.aload_n 0, 1) := dk_42 (dk_at dksJ4_poll_0 0 rfl rfl)
theorem dJ4_poll_1 : decode cJ4_poll 1 = .ok (.getfield 17, 3) := dk_180 0 17 (dk_at dksJ4_poll_0 1 rfl rfl)
theorem dJ4_poll_4 : decode cJ4_poll 4 = .ok (.dup, 1) := dk_89 (dk_at dksJ4_poll_0 4 rfl rfl)
theorem dJ4_poll_5 : decode cJ4_poll 5 = .ok (.astore_n 1, 1) := dk_76 (dk_at dksJ4_poll_0 5 rfl rfl)
theorem dJ4_poll_6 : decode cJ4_poll 6 = .ok (.iconst 0, 1) := dk_3 (dk_at dksJ4_poll_0 6 rfl rfl)
theorem dJ4_poll_7 : decode cJ4_poll 7 = .ok (.aaload, 1) := dk_50 (dk_at dksJ4_poll_0 7 rfl rfl)
theorem dJ4_poll_8 : decode cJ4_poll 8 = .ok (.dup, 1) := dk_89 (dk_at dksJ4_poll_0 8 rfl rfl)
theorem dJ4_poll_9 : decode cJ4_poll 9 = .ok (.astore_n 2, 1) := dk_77 (dk_at dksJ4_poll_0 9 rfl rfl)
theorem dJ4_poll_10 : decode cJ4_poll 10 = .ok (.ifnull 69, 3) := dk_198 0 69 (dk_at dksJ4_poll_0 10 rfl rfl)
theorem dJ4_poll_13 : decode cJ4_poll 13 = .ok (.aload_n 0, 1) := dk_42 (dk_at dksJ4_poll_0 13 rfl rfl)
theorem dJ4_poll_14 : decode cJ4_poll 14 = .ok (.dup, 1) := dk_89 (dk_at dksJ4_poll_0 14 rfl rfl)
theorem dJ4_poll_15 : decode cJ4_poll 15 = .ok (.getfield 93, 3) := dk_180 0 93 (dk_at dksJ4_poll_0 15 rfl rfl)
theorem dJ4_poll_18 : decode cJ4_poll 18 = .ok (.iconst 1, 1) := dk_4 (dk_at dksJ4_poll_0 18 rfl rfl)
theorem dJ4_poll_19 : decode cJ4_poll 19 = .ok (.iadd, 1) := dk_96 (dk_at dksJ4_poll_0 19 rfl rfl)
theorem dJ4_poll_20 : decode cJ4_poll 20 = .ok (.putfield 93, 3) := dk_181 0 93 (dk_at dksJ4_poll_0 20 rfl rfl)
theorem dJ4_poll_23 : decode cJ4_poll 23 = .ok (.aload_n 1, 1) := dk_43 (dk_at dksJ4_poll_0 23 rfl rfl)
theorem dJ4_poll_24 : decode cJ4_poll 24 = .ok (.aload_n 0, 1) := dk_42 (dk_at dksJ4_poll_1 0 rfl rfl)
theorem dJ4_poll_25 : decode cJ4_poll 25 = .ok (.dup, 1) := dk_89 (dk_at dksJ4_poll_1 1 rfl rfl)
theorem dJ4_poll_26 : decode cJ4_poll 26 = .ok (.getfield 58, 3) := dk_180 0 58 (dk_at dksJ4_poll_1 2 rfl rfl)
theorem dJ4_poll_29 : decode cJ4_poll 29 = .ok (.iconst 1, 1) := dk_4 (dk_at dksJ4_poll_1 5 rfl rfl)
theorem dJ4_poll_30 : decode cJ4_poll 30 = .ok (.isub, 1) := dk_100 (dk_at dksJ4_poll_1 6 rfl rfl)
theorem dJ4_poll_31 : decode cJ4_poll 31 = .ok (.dup_x1, 1) := dk_90 (dk_at dksJ4_poll_1 7 rfl rfl)
theorem dJ4_poll_32 : decode cJ4_poll 32 = .ok (.putfield 58, 3) := dk_181 0 58 (dk_at dksJ4_poll_1 8 rfl rfl)
theorem dJ4_poll_35 : decode cJ4_poll 35 = .ok (.dup, 1) := dk_89 (dk_at dksJ4_poll_1 11 rfl rfl)
theorem dJ4_poll_36 : decode cJ4_poll 36 = .ok (.istore_n 3, 1) := dk_62 (dk_at dksJ4_poll_1 12 rfl rfl)
theorem dJ4_poll_37 : decode cJ4_poll 37 = .ok (.aaload, 1) := dk_50 (dk_at dksJ4_poll_1 13 rfl rfl)
theorem dJ4_poll_38 : decode cJ4_poll 38 = .ok (.astore 4, 2) := dk_58 4 (dk_at dksJ4_poll_1 14 rfl rfl)
theorem dJ4_poll_40 : decode cJ4_poll 40 = .ok (.aload_n 1, 1) := dk_43 (dk_at dksJ4_poll_1 16 rfl rfl)
theorem dJ4_poll_41 : decode cJ4_poll 41 = .ok (.iload_n 3, 1) := dk_29 (dk_at dksJ4_poll_1 17 rfl rfl)
theorem dJ4_poll_42 : decode cJ4_poll 42 = .ok (.aconst_null, 1) := dk_1 (dk_at dksJ4_poll_1 18 rfl rfl)
theorem dJ4_poll_43 : decode cJ4_poll 43 = .ok (.aastore, 1) := dk_83 (dk_at dksJ4_poll_1 19 rfl rfl)
theorem dJ4_poll_44 : decode cJ4_poll 44 = .ok (.iload_n 3, 1) := dk_29 (dk_at dksJ4_poll_1 20 rfl rfl)
theorem dJ4_poll_45 : decode cJ4_poll 45 = .ok (.ifCond .le 34, 3) := dk_158 0 34 (dk_at dksJ4_poll_1 21 rfl rfl)
theorem dJ4_poll_48 : decode cJ4_poll 48 = .ok (.aload_n 0, 1) := dk_42 (dk_at dksJ4_poll_2 0 rfl rfl)
theorem dJ4_poll_49 : decode cJ4_poll 49 = .ok (.getfield 21, 3) := dk_180 0 21 (dk_at dksJ4_poll_2 1 rfl rfl)
theorem dJ4_poll_52 : decode cJ4_poll 52 = .ok (.dup, 1) := dk_89 (dk_at dksJ4_poll_2 4 rfl rfl)
theorem dJ4_poll_53 : decode cJ4_poll 53 = .ok (.astore 5, 2) := dk_58 5 (dk_at dksJ4_poll_2 5 rfl rfl)
theorem dJ4_poll_55 : decode cJ4_poll 55 = .ok (.ifnonnull 14, 3) := dk_199 0 14 (dk_at dksJ4_poll_2 7 rfl rfl)
theorem dJ4_poll_58 : decode cJ4_poll 58 = .ok (.iconst 0, 1) := dk_3 (dk_at dksJ4_poll_2 10 rfl rfl)
theorem dJ4_poll_59 : decode cJ4_poll 59 = .ok (.aload 4, 2) := dk_25 4 (dk_at dksJ4_poll_2 11 rfl rfl)
theorem dJ4_poll_61 : decode cJ4_poll 61 = .ok (.aload_n 1, 1) := dk_43 (dk_at dksJ4_poll_2 13 rfl rfl)
theorem dJ4_poll_62 : decode cJ4_poll 62 = .ok (.iload_n 3, 1) := dk_29 (dk_at dksJ4_poll_2 14 rfl rfl)
theorem dJ4_poll_63 : decode cJ4_poll 63 = .ok (.invokestatic 125, 3) := dk_184 0 125 (dk_at dksJ4_poll_2 15 rfl rfl)
theorem dJ4_poll_66 : decode cJ4_poll 66 = .ok (.goto 13, 3) := dk_167 0 13 (dk_at dksJ4_poll_2 18 rfl rfl)
theorem dJ4_poll_69 : decode cJ4_poll 69 = .ok (.iconst 0, 1) := dk_3 (dk_at dksJ4_poll_2 21 rfl rfl)
theorem dJ4_poll_70 : decode cJ4_poll 70 = .ok (.aload 4, 2) := dk_25 4 (dk_at dksJ4_poll_2 22 rfl rfl)
theorem dJ4_poll_72 : decode cJ4_poll 72 = .ok (.aload_n 1, 1) := dk_43 (dk_at dksJ4_poll_3 0 rfl rfl)
theorem dJ4_poll_73 : decode cJ4_poll 73 = .ok (.iload_n 3, 1) := dk_29 (dk_at dksJ4_poll_3 1 rfl rfl)
theorem dJ4_poll_74 : decode cJ4_poll 74 = .ok (.aload 5, 2) := dk_25 5 (dk_at dksJ4_poll_3 2 rfl rfl)
theorem dJ4_poll_76 : decode cJ4_poll 76 = .ok (.invokestatic 129, 3) := dk_184 0 129 (dk_at dksJ4_poll_3 4 rfl rfl)
theorem dJ4_poll_79 : decode cJ4_poll 79 = .ok (.aload_n 2, 1) := dk_44 (dk_at dksJ4_poll_3 7 rfl rfl)
theorem dJ4_poll_80 : decode cJ4_poll 80 = .ok (.areturn, 1) := dk_176 (dk_at dksJ4_poll_3 8 rfl rfl)
theorem dJ20_init_0 : decode cJ20_init 0 = .ok (.aload_n 0, 1) := by decide +kernel
theorem dJ20_init_1 : decode cJ20_init 1 = .ok (.invokespecial 1, 3) := by decide +kernel
theorem dJ20_init_4 : decode cJ20_init 4 = .ok (.return_, 1) := by decide +kernel
def dkwJ21_init_0 : List UInt8 := [42, 43, 181, 0, 1, 42, 183, 0, 7, 177]
abbrev dktJ21_init_0 : List UInt8 := dkwJ21_init_0 ++ []
theorem dksJ21_init_0 : cJ21_init.data.toList.drop 0 = dktJ21_init_0 := by decide +kernel
theorem dJ21_init_0 : decode cJ21_init 0 = .ok (.aload_n 0, 1) := dk_42 (dk_at dksJ21_init_0 0 rfl rfl)
theorem dJ21_init_1 : decode cJ21_init 1 = .ok (.aload_n 1, 1) := dk_43 (dk_at dksJ21_init_0 1 rfl rfl)
theorem dJ21_init_2 : decode cJ21_init 2 = .ok (.putfield 1, 3) := dk_181 0 1 (dk_at dksJ21_init_0 2 rfl rfl)
theorem dJ21_init_5 : decode cJ21_init 5 = .ok (.aload_n 0, 1) := dk_42 (dk_at dksJ21_init_0 5 rfl rfl)
theorem dJ21_init_6 : decode cJ21_init 6 = .ok (.invokespecial 7, 3) := dk_183 0 7 (dk_at dksJ21_init_0 6 rfl rfl)
theorem dJ21_init_9 : decode cJ21_init 9 = .ok (.return_, 1) := dk_177 (dk_at dksJ21_init_0 9 rfl rfl)
def dkwJ21_iterator_0 : List UInt8 := [187, 0, 13, 89, 42, 180, 0, 1, 42, 180, 0, 1, 182, 0, 15, 183, 0, 21, 176]
abbrev dktJ21_iterator_0 : List UInt8 := dkwJ21_iterator_0 ++ []
theorem dksJ21_iterator_0 : cJ21_iterator.data.toList.drop 0 = dktJ21_iterator_0 := by decide +kernel
theorem dJ21_iterator_0 : decode cJ21_iterator 0 = .ok (.new 13, 3) := dk_187 0 13 (dk_at dksJ21_iterator_0 0 rfl rfl)
theorem dJ21_iterator_3 : decode cJ21_iterator 3 = .ok (.dup, 1) := dk_89 (dk_at dksJ21_iterator_0 3 rfl rfl)
theorem dJ21_iterator_4 : decode cJ21_iterator 4 = .ok (.aload_n 0, 1) := dk_42 (dk_at dksJ21_iterator_0 4 rfl rfl)
theorem dJ21_iterator_5 : decode cJ21_iterator 5 = .ok (.getfield 1, 3) := dk_180 0 1 (dk_at dksJ21_iterator_0 5 rfl rfl)
theorem dJ21_iterator_8 : decode cJ21_iterator 8 = .ok (.aload_n 0, 1) := dk_42 (dk_at dksJ21_iterator_0 8 rfl rfl)
theorem dJ21_iterator_9 : decode cJ21_iterator 9 = .ok (.getfield 1, 3) := dk_180 0 1 (dk_at dksJ21_iterator_0 9 rfl rfl)
theorem dJ21_iterator_12 : decode cJ21_iterator 12 = .ok (.invokevirtual 15, 3) := dk_182 0 15 (dk_at dksJ21_iterator_0 12 rfl rfl)
theorem dJ21_iterator_15 : decode cJ21_iterator 15 = .ok (.invokespecial 21, 3) := dk_183 0 21 (dk_at dksJ21_iterator_0 15 rfl rfl)
theorem dJ21_iterator_18 : decode cJ21_iterator 18 = .ok (.areturn, 1) := dk_176 (dk_at dksJ21_iterator_0 18 rfl rfl)
def dkwJ21_size_0 : List UInt8 := [42, 180, 0, 1, 182, 0, 48, 172]
abbrev dktJ21_size_0 : List UInt8 := dkwJ21_size_0 ++ []
theorem dksJ21_size_0 : cJ21_size.data.toList.drop 0 = dktJ21_size_0 := by decide +kernel
theorem dJ21_size_0 : decode cJ21_size 0 = .ok (.aload_n 0, 1) := dk_42 (dk_at dksJ21_size_0 0 rfl rfl)
theorem dJ21_size_1 : decode cJ21_size 1 = .ok (.getfield 1, 3) := dk_180 0 1 (dk_at dksJ21_size_0 1 rfl rfl)
theorem dJ21_size_4 : decode cJ21_size 4 = .ok (.invokevirtual 48, 3) := dk_182 0 48 (dk_at dksJ21_size_0 4 rfl rfl)
theorem dJ21_size_7 : decode cJ21_size 7 = .ok (.ireturn, 1) := dk_172 (dk_at dksJ21_size_0 7 rfl rfl)
def dkwJ22_init_1 : List UInt8 := [181, 0, 26, 177]
abbrev dktJ22_init_1 : List UInt8 := dkwJ22_init_1 ++ []
def dkwJ22_init_0 : List UInt8 := [42, 43, 181, 0, 1, 42, 183, 0, 7, 42, 43, 180, 0, 13, 181, 0, 19, 42, 1, 181, 0, 22, 42, 44]
abbrev dktJ22_init_0 : List UInt8 := dkwJ22_init_0 ++ dktJ22_init_1
theorem dksJ22_init_0 : cJ22_init.data.toList.drop 0 = dktJ22_init_0 := by decide +kernel
theorem dksJ22_init_1 : cJ22_init.data.toList.drop 24 = dktJ22_init_1 := dk_seg dksJ22_init_0 24 rfl rfl
theorem dJ22_init_0 : decode cJ22_init 0 = .ok (.aload_n 0, 1) := dk_42 (dk_at dksJ22_init_0 0 rfl rfl)
theorem dJ22_init_1 : decode cJ22_init 1 = .ok (.aload_n 1, 1) := dk_43 (dk_at dksJ22_init_0 1 rfl rfl)
theorem dJ22_init_2 : decode cJ22_init 2 = .ok (.putfield 1, 3) := dk_181 0 1 (dk_at dksJ22_init_0 2 rfl rfl)
theorem dJ22_init_5 : decode cJ22_init 5 = .ok (.aload_n 0, 1) := dk_42 (dk_at dksJ22_init_0 5 rfl rfl)
theorem dJ22_init_6 : decode cJ22_init 6 = .ok (.invokespecial 7, 3) := dk_183 0 7 (dk_at dksJ22_init_0 6 rfl rfl)
theorem dJ22_init_9 : decode cJ22_init 9 = .ok (.aload_n 0, 1) := dk_42 (dk_at dksJ22_init_0 9 rfl rfl)
theorem dJ22_init_10 : decode cJ22_init 10 = .ok (.aload_n 1, 1) := dk_43 (dk_at dksJ22_init_0 10 rfl rfl)
theorem dJ22_init_11 : decode cJ22_init 11 = .ok (.getfield 13, 3) := dk_180 0 13 (dk_at dksJ22_init_0 11 rfl rfl)
theorem dJ22_init_14 : decode cJ22_init 14 = .ok (.putfield 19, 3) := dk_181 0 19 (dk_at dksJ22_init_0 14 rfl rfl)
theorem dJ22_init_17 : decode cJ22_init 17 = .ok (.aload_n 0, 1) := dk_42 (dk_at dksJ22_init_0 17 rfl rfl)
theorem dJ22_init_18 : decode cJ22_init 18 = .ok (.aconst_null, 1) := dk_1 (dk_at dksJ22_init_0 18 rfl rfl)
theorem dJ22_init_19 : decode cJ22_init 19 = .ok (.putfield 22, 3) := dk_181 0 22 (dk_at dksJ22_init_0 19 rfl rfl)
theorem dJ22_init_22 : decode cJ22_init 22 = .ok (.aload_n 0, 1) := dk_42 (dk_at dksJ22_init_0 22 rfl rfl)
theorem dJ22_init_23 : decode cJ22_init 23 = .ok (.aload_n 2, 1) := dk_44 (dk_at dksJ22_init_0 23 rfl rfl)
theorem dJ22_init_24 : decode cJ22_init 24 = .ok (.putfield 26, 3) := dk_181 0 26 (dk_at dksJ22_init_1 0 rfl rfl)
theorem dJ22_init_27 : decode cJ22_init 27 = .ok (.return_, 1) := dk_177 (dk_at dksJ22_init_1 3 rfl rfl)
def dkwJ22_nextEntry_2 : List UInt8 := [43, 181, 0, 22, 43, 176]
abbrev dktJ22_nextEntry_2 : List UInt8 := dkwJ22_nextEntry_2 ++ []
def dkwJ22_nextEntry_1 : List UInt8 := [42, 180, 0, 19, 159, 0, 11, 187, 0, 32, 89, 183, 0, 34, 191, 42, 43, 184, 0, 35, 181, 0, 26, 42]
abbrev dktJ22_nextEntry_1 : List UInt8 := dkwJ22_nextEntry_1 ++ dktJ22_nextEntry_2
def dkwJ22_nextEntry_0 : List UInt8 := [42, 180, 0, 26, 76, 43, 199, 0, 11, 187, 0, 29, 89, 183, 0, 31, 191, 42, 180, 0, 1, 180, 0, 13]
abbrev dktJ22_nextEntry_0 : List UInt8 := dkwJ22_nextEntry_0 ++ dktJ22_nextEntry_1
theorem dksJ22_nextEntry_0 : cJ22_nextEntry.data.toList.drop 0 = dktJ22_nextEntry_0 := by decide +kernel
theorem dksJ22_nextEntry_1 : cJ22_nextEntry.data.toList.drop 24 = dktJ22_nextEntry_1 := dk_seg dksJ22_nextEntry_0 24 rfl rfl
theorem dksJ22_nextEntry_2 : cJ22_nextEntry.data.toList.drop 48 = dktJ22_nextEntry_2 := dk_seg dksJ22_nextEntry_1 24 rfl rfl
theorem dJ22_nextEntry_0 : decode cJ22_nextEntry 0 = .ok (.aload_n 0, 1) := dk_42 (dk_at dksJ22_nextEntry_0 0 rfl rfl)
theorem dJ22_nextEntry_1 : decode cJ22_nextEntry 1 = .ok (.getfield 26, 3) := dk_180 0 26 (dk_at dksJ22_nextEntry_0 1 rfl rfl)
theorem dJ22_nextEntry_4 : decode cJ22_nextEntry 4 = .ok (.astore_n 1, 1) := dk_76 (dk_at dksJ22_nextEntry_0 4 rfl rfl)
theorem dJ22_nextEntry_5 : decode cJ22_nextEntry 5 = .ok (.aload_n 1, 1) := dk_43 (dk_at dksJ22_nextEntry_0 5 rfl rfl)
theorem dJ22_nextEntry_6 : decode cJ22_nextEntry 6 = .ok (.ifnonnull 11, 3) := dk_199 0 11 (dk_at dksJ22_nextEntry_0 6 rfl rfl)
theorem dJ22_nextEntry_9 : decode cJ22_nextEntry 9 = .ok (.new 29, 3) := dk_187 0 29 (dk_at dksJ22_nextEntry_0 9 rfl rfl)
theorem dJ22_nextEntry_12 : decode cJ22_nextEntry 12 = .ok (.dup, 1) := dk_89 (dk_at dksJ22_nextEntry_0 12 rfl rfl)
theorem dJ22_nextEntry_13 : decode cJ22_nextEntry 13 = .ok (.invokespecial 31, 3) := dk_183 0 31 (dk_at dksJ22_nextEntry_0 13 rfl rfl)
theorem dJ22_nextEntry_16 : decode cJ22_nextEntry 16 = .ok (.athrow, 1) := dk_191 (dk_at dksJ22_nextEntry_0 16 rfl rfl)
theorem dJ22_nextEntry_17 : decode cJ22_nextEntry 17 = .ok (.aload_n 0, 1) := dk_42 (dk_at dksJ22_nextEntry_0 17 rfl rfl)
theorem dJ22_nextEntry_18 : decode cJ22_nextEntry 18 = .ok (.getfield 1, 3) := dk_180 0 1 (dk_at dksJ22_nextEntry_0 18 rfl rfl)
theorem dJ22_nextEntry_21 : decode cJ22_nextEntry 21 = .ok (.getfield 13, 3) := dk_180 0 13 (dk_at dksJ22_nextEntry_0 21 rfl rfl)
theorem dJ22_nextEntry_24 : decode cJ22_nextEntry 24 = .ok (.aload_n 0, 1) := dk_42 (dk_at dksJ22_nextEntry_1 0 rfl rfl)
theorem dJ22_nextEntry_25 : decode cJ22_nextEntry 25 = .ok (.getfield 19, 3) := dk_180 0 19 (dk_at dksJ22_nextEntry_1 1 rfl rfl)
theorem dJ22_nextEntry_28 : decode cJ22_nextEntry 28 = .ok (.if_icmp .eq 11, 3) := dk_159 0 11 (dk_at dksJ22_nextEntry_1 4 rfl rfl)
theorem dJ22_nextEntry_31 : decode cJ22_nextEntry 31 = .ok (.new 32, 3) := dk_187 0 32 (dk_at dksJ22_nextEntry_1 7 rfl rfl)
theorem dJ22_nextEntry_34 : decode cJ22_nextEntry 34 = .ok (.dup, 1) := dk_89 (dk_at dksJ22_nextEntry_1 10 rfl rfl)
theorem dJ22_nextEntry_35 : decode cJ22_nextEntry 35 = .ok (.invokespecial 34, 3) := dk_183 0 34 (dk_at dksJ22_nextEntry_1 11 rfl rfl)
theorem dJ22_nextEntry_38 : decode cJ22_nextEntry 38 = .ok (.athrow, 1) := dk_191 (dk_at dksJ22_nextEntry_1 14 rfl rfl)
theorem dJ22_nextEntry_39 : decode cJ22_nextEntry 39 = .ok (.aload_n 0, 1) := dk_42 (dk_at dksJ22_nextEntry_1 15 rfl rfl)
theorem dJ22_nextEntry_40 : decode cJ22_nextEntry 40 = .ok (.aload_n 1, 1) := dk_43 (dk_at dksJ22_nextEntry_1 16 rfl rfl)
theorem dJ22_nextEntry_41 : decode cJ22_nextEntry 41 = .ok (.invokestatic 35, 3) := dk_184 0 35 (dk_at dksJ22_nextEntry_1 17 rfl rfl)
theorem dJ22_nextEntry_44 : decode cJ22_nextEntry 44 = .ok (.putfield 26, 3) := dk_181 0 26 (dk_at dksJ22_nextEntry_1 20 rfl rfl)
theorem dJ22_nextEntry_47 : decode cJ22_nextEntry 47 = .ok (.aload_n 0, 1) := dk_42 (dk_at dksJ22_nextEntry_1 23 rfl rfl)
theorem dJ22_nextEntry_48 : decode cJ22_nextEntry 48 = .ok (.aload_n 1, 1) := dk_43 (dk_at dksJ22_nextEntry_2 0 rfl rfl)
theorem dJ22_nextEntry_49 : decode cJ22_nextEntry 49 = .ok (.putfield 22, 3) := dk_181 0 22 (dk_at dksJ22_nextEntry_2 1 rfl rfl)
theorem dJ22_nextEntry_52 : decode cJ22_nextEntry 52 = .ok (.aload_n 1, 1) := dk_43 (dk_at dksJ22_nextEntry_2 4 rfl rfl)
theorem dJ22_nextEntry_53 : decode cJ22_nextEntry 53 = .ok (.areturn, 1) := dk_176 (dk_at dksJ22_nextEntry_2 5 rfl rfl)
def dkwJ22_hasNext_0 : List UInt8 := [42, 180, 0, 26, 198, 0, 7, 4, 167, 0, 4, 3, 172]
abbrev dktJ22_hasNext_0 : List UInt8 := dkwJ22_hasNext_0 ++ []
theorem dksJ22_hasNext_0 : cJ22_hasNext.data.toList.drop 0 = dktJ22_hasNext_0 := by decide +kernel
theorem dJ22_hasNext_0 : decode cJ22_hasNext 0 = .ok (.aload_n 0, 1) := dk_42 (dk_at dksJ22_hasNext_0 0 rfl rfl)
theorem dJ22_hasNext_1 : decode cJ22_hasNext 1 = .ok (.getfield 26, 3) := dk_180 0 26 (dk_at dksJ22_hasNext_0 1 rfl rfl)
theorem dJ22_hasNext_4 : decode cJ22_hasNext 4 = .ok (.ifnull 7, 3) := dk_198 0 7 (dk_at dksJ22_hasNext_0 4 rfl rfl)
theorem dJ22_hasNext_7 : decode cJ22_hasNext 7 = .ok (.iconst 1, 1) := dk_4 (dk_at dksJ22_hasNext_0 7 rfl rfl)
theorem dJ22_hasNext_8 : decode cJ22_hasNext 8 = .ok (.goto 4, 3) := dk_167 0 4 (dk_at dksJ22_hasNext_0 8 rfl rfl)
theorem dJ22_hasNext_11 : decode cJ22_hasNext 11 = .ok (.iconst 0, 1) := dk_3 (dk_at dksJ22_hasNext_0 11 rfl rfl)
theorem dJ22_hasNext_12 : decode cJ22_hasNext 12 = .ok (.ireturn, 1) := dk_172 (dk_at dksJ22_hasNext_0 12 rfl rfl)
def dkwJ23_init_0 : List UInt8 := [42, 43, 44, 183, 0, 1, 177]
abbrev dktJ23_init_0 : List UInt8 := dkwJ23_init_0 ++ []
theorem dksJ23_init_0 : cJ23_init.data.toList.drop 0 = dktJ23_init_0 := by decide +kernel
theorem dJ23_init_0 : decode cJ23_init 0 = .ok (.aload_n 0, 1) := dk_42 (dk_at dksJ23_init_0 0 rfl rfl)
theorem dJ23_init_1 : decode cJ23_init 1 = .ok (.aload_n 1, 1) := dk_43 (dk_at dksJ23_init_0 1 rfl rfl)
theorem dJ23_init_2 : decode cJ23_init 2 = .ok (.aload_n 2, 1) := dk_44 (dk_at dksJ23_init_0 2 rfl rfl)
theorem dJ23_init_3 : decode cJ23_init 3 = .ok (.invokespecial 1, 3) := dk_183 0 1 (dk_at dksJ23_init_0 3 rfl rfl)
theorem dJ23_init_6 : decode cJ23_init 6 = .ok (.return_, 1) := dk_177 (dk_at dksJ23_init_0 6 rfl rfl)
theorem dJ23_next_0 : decode cJ23_next 0 = .ok (.aload_n 0, 1) := by decide +kernel
theorem dJ23_next_1 : decode cJ23_next 1 = .ok (.invokevirtual 13, 3) := by decide +kernel
theorem dJ23_next_4 : decode cJ23_next 4 = .ok (.areturn, 1) := by decide +kernel
theorem dJ23_next_2_0 : decode cJ23_next_2 0 = .ok (.aload_n 0, 1) := by decide +kernel
theorem dJ23_next_2_1 : decode cJ23_next_2 1 = .ok (.invokevirtual 7, 3) := by decide +kernel
theorem dJ23_next_2_4 : decode cJ23_next_2 4 = .ok (.areturn, 1) := by decide +kernel
def dkwJ24_init_0 : List UInt8 := [42, 43, 44, 183, 0, 1, 177]
abbrev dktJ24_init_0 : List UInt8 := dkwJ24_init_0 ++ []
theorem dksJ24_init_0 : cJ24_init.data.toList.drop 0 = dktJ24_init_0 := by decide +kernel
theorem dJ24_init_0 : decode cJ24_init 0 = .ok (.aload_n 0, 1) := dk_42 (dk_at dksJ24_init_0 0 rfl rfl)
theorem dJ24_init_1 : decode cJ24_init 1 = .ok (.aload_n 1, 1) := dk_43 (dk_at dksJ24_init_0 1 rfl rfl)
theorem dJ24_init_2 : decode cJ24_init 2 = .ok (.aload_n 2, 1) := dk_44 (dk_at dksJ24_init_0 2 rfl rfl)
theorem dJ24_init_3 : decode cJ24_init 3 = .ok (.invokespecial 1, 3) := dk_183 0 1 (dk_at dksJ24_init_0 3 rfl rfl)
theorem dJ24_init_6 : decode cJ24_init 6 = .ok (.return_, 1) := dk_177 (dk_at dksJ24_init_0 6 rfl rfl)
def dkwJ24_next_0 : List UInt8 := [42, 182, 0, 7, 180, 0, 13, 176]
abbrev dktJ24_next_0 : List UInt8 := dkwJ24_next_0 ++ []
theorem dksJ24_next_0 : cJ24_next.data.toList.drop 0 = dktJ24_next_0 := by decide +kernel
theorem dJ24_next_0 : decode cJ24_next 0 = .ok (.aload_n 0, 1) := dk_42 (dk_at dksJ24_next_0 0 rfl rfl)
theorem dJ24_next_1 : decode cJ24_next 1 = .ok (.invokevirtual 7, 3) := dk_182 0 7 (dk_at dksJ24_next_0 1 rfl rfl)
theorem dJ24_next_4 : decode cJ24_next 4 = .ok (.getfield 13, 3) := dk_180 0 13 (dk_at dksJ24_next_0 4 rfl rfl)
theorem dJ24_next_7 : decode cJ24_next 7 = .ok (.areturn, 1) := dk_176 (dk_at dksJ24_next_0 7 rfl rfl)
def dkwJ25_iterator_1 : List UInt8 := [180, 0, 7, 192, 0, 19, 182, 0, 21, 176]
abbrev dktJ25_iterator_1 : List UInt8 := dkwJ25_iterator_1 ++ []
def dkwJ25_iterator_0 : List UInt8 := [42, 180, 0, 7, 193, 0, 13, 153, 0, 14, 42, 180, 0, 7, 192, 0, 13, 182, 0, 15, 176, 42]
abbrev dktJ25_iterator_0 : List UInt8 := dkwJ25_iterator_0 ++ dktJ25_iterator_1
theorem dksJ25_iterator_0 : cJ25_iterator.data.toList.drop 0 = dktJ25_iterator_0 := by decide +kernel
theorem dksJ25_iterator_1 : cJ25_iterator.data.toList.drop 22 = dktJ25_iterator_1 := dk_seg dksJ25_iterator_0 22 rfl rfl
theorem dJ25_iterator_0 : decode cJ25_iterator 0 = .ok (.aload_n 0, 1) := dk_42 (dk_at dksJ25_iterator_0 0 rfl rfl)
theorem dJ25_iterator_1 : decode cJ25_iterator 1 = .ok (.getfield 7, 3) := dk_180 0 7 (dk_at dksJ25_iterator_0 1 rfl rfl)
theorem dJ25_iterator_4 : decode cJ25_iterator 4 = .ok (.instanceof 13, 3) := dk_193 0 13 (dk_at dksJ25_iterator_0 4 rfl rfl)
theorem dJ25_iterator_7 : decode cJ25_iterator 7 = .ok (.ifCond .eq 14, 3) := dk_153 0 14 (dk_at dksJ25_iterator_0 7 rfl rfl)
theorem dJ25_iterator_10 : decode cJ25_iterator 10 = .ok (.aload_n 0, 1) := dk_42 (dk_at dksJ25_iterator_0 10 rfl rfl)
theorem dJ25_iterator_11 : decode cJ25_iterator 11 = .ok (.getfield 7, 3) := dk_180 0 7 (dk_at dksJ25_iterator_0 11 rfl rfl)
theorem dJ25_iterator_14 : decode cJ25_iterator 14 = .ok (.checkcast 13, 3) := dk_192 0 13 (dk_at dksJ25_iterator_0 14 rfl rfl)
theorem dJ25_iterator_17 : decode cJ25_iterator 17 = .ok (.invokevirtual 15, 3) := dk_182 0 15 (dk_at dksJ25_iterator_0 17 rfl rfl)
theorem dJ25_iterator_20 : decode cJ25_iterator 20 = .ok (.areturn, 1) := dk_176 (dk_at dksJ25_iterator_0 20 rfl rfl)
theorem dJ25_iterator_21 : decode cJ25_iterator 21 = .ok (.aload_n 0, 1) := dk_42 (dk_at dksJ25_iterator_0 21 rfl rfl)
theorem dJ25_iterator_22 : decode cJ25_iterator 22 = .ok (.getfield 7, 3) := dk_180 0 7 (dk_at dksJ25_iterator_1 0 rfl rfl)
theorem dJ25_iterator_25 : decode cJ25_iterator 25 = .ok (.checkcast 19, 3) := dk_192 0 19 (dk_at dksJ25_iterator_1 3 rfl rfl)
theorem dJ25_iterator_28 : decode cJ25_iterator 28 = .ok (.invokevirtual 21, 3) := dk_182 0 21 (dk_at dksJ25_iterator_1 6 rfl rfl)
theorem dJ25_iterator_31 : decode cJ25_iterator 31 = .ok (.areturn, 1) := dk_176 (dk_at dksJ25_iterator_1 9 rfl rfl)
def dkwJ25_init_0 : List UInt8 := [42, 183, 0, 1, 42, 43, 181, 0, 7, 177]
abbrev dktJ25_init_0 : List UInt8 := dkwJ25_init_0 ++ []
theorem dksJ25_init_0 : cJ25_init.data.toList.drop 0 = dktJ25_init_0 := by decide +kernel
theorem dJ25_init_0 : decode cJ25_init 0 = .ok (.aload_n 0, 1) := dk_42 (dk_at dksJ25_init_0 0 rfl rfl)
theorem dJ25_init_1 : decode cJ25_init 1 = .ok (.invokespecial 1, 3) := dk_183 0 1 (dk_at dksJ25_init_0 1 rfl rfl)
theorem dJ25_init_4 : decode cJ25_init 4 = .ok (.aload_n 0, 1) := dk_42 (dk_at dksJ25_init_0 4 rfl rfl)
theorem dJ25_init_5 : decode cJ25_init 5 = .ok (.aload_n 1, 1) := dk_43 (dk_at dksJ25_init_0 5 rfl rfl)
theorem dJ25_init_6 : decode cJ25_init 6 = .ok (.putfield 7, 3) := dk_181 0 7 (dk_at dksJ25_init_0 6 rfl rfl)
theorem dJ25_init_9 : decode cJ25_init 9 = .ok (.return_, 1) := dk_177 (dk_at dksJ25_init_0 9 rfl rfl)
def dkwJ25_size_0 : List UInt8 := [42, 180, 0, 7, 185, 0, 26, 1, 0, 172]
abbrev dktJ25_size_0 : List UInt8 := dkwJ25_size_0 ++ []
theorem dksJ25_size_0 : cJ25_size.data.toList.drop 0 = dktJ25_size_0 := by decide +kernel
theorem dJ25_size_0 : decode cJ25_size 0 = .ok (.aload_n 0, 1) := dk_42 (dk_at dksJ25_size_0 0 rfl rfl)
theorem dJ25_size_1 : decode cJ25_size 1 = .ok (.getfield 7, 3) := dk_180 0 7 (dk_at dksJ25_size_0 1 rfl rfl)
theorem dJ25_size_4 : decode cJ25_size 4 = .ok (.invokeinterface 26 1, 5) := by decide +kernel
theorem dJ25_size_9 : decode cJ25_size 9 = .ok (.ireturn, 1) := dk_172 (dk_at dksJ25_size_0 9 rfl rfl)
theorem dJ29_getKey_0 : decode cJ29_getKey 0 = .ok (.aload_n 0, 1) := by decide +kernel
theorem dJ29_getKey_1 : decode cJ29_getKey 1 = .ok (.getfield 15, 3) := by decide +kernel
theorem dJ29_getKey_4 : decode cJ29_getKey 4 = .ok (.areturn, 1) := by decide +kernel
theorem dJ29_getValue_0 : decode cJ29_getValue 0 = .ok (.aload_n 0, 1) := by decide +kernel
theorem dJ29_getValue_1 : decode cJ29_getValue 1 = .ok (.getfield 19, 3) := by decide +kernel
theorem dJ29_getValue_4 : decode cJ29_getValue 4 = .ok (.areturn, 1) := by decide +kernel
def dkwJ29_init_1 : List UInt8 := [177]
abbrev dktJ29_init_1 : List UInt8 := dkwJ29_init_1 ++ []
def dkwJ29_init_0 : List UInt8 := [42, 183, 0, 3, 42, 4, 181, 0, 9, 42, 43, 181, 0, 15, 42, 44, 181, 0, 19, 42, 45, 181, 0, 22]
abbrev dktJ29_init_0 : List UInt8 := dkwJ29_init_0 ++ dktJ29_init_1
theorem dksJ29_init_0 : cJ29_init.data.toList.drop 0 = dktJ29_init_0 := by decide +kernel
theorem dksJ29_init_1 : cJ29_init.data.toList.drop 24 = dktJ29_init_1 := dk_seg dksJ29_init_0 24 rfl rfl
theorem dJ29_init_0 : decode cJ29_init 0 = .ok (.aload_n 0, 1) := dk_42 (dk_at dksJ29_init_0 0 rfl rfl)
theorem dJ29_init_1 : decode cJ29_init 1 = .ok (.invokespecial 3, 3) := dk_183 0 3 (dk_at dksJ29_init_0 1 rfl rfl)
theorem dJ29_init_4 : decode cJ29_init 4 = .ok (.aload_n 0, 1) := dk_42 (dk_at dksJ29_init_0 4 rfl rfl)
theorem dJ29_init_5 : decode cJ29_init 5 = .ok (.iconst 1, 1) := dk_4 (dk_at dksJ29_init_0 5 rfl rfl)
theorem dJ29_init_6 : decode cJ29_init 6 = .ok (.putfield 9, 3) := dk_181 0 9 (dk_at dksJ29_init_0 6 rfl rfl)
theorem dJ29_init_9 : decode cJ29_init 9 = .ok (.aload_n 0, 1) := dk_42 (dk_at dksJ29_init_0 9 rfl rfl)
theorem dJ29_init_10 : decode cJ29_init 10 = .ok (.aload_n 1, 1) := dk_43 (dk_at dksJ29_init_0 10 rfl rfl)
theorem dJ29_init_11 : decode cJ29_init 11 = .ok (.putfield 15, 3) := dk_181 0 15 (dk_at dksJ29_init_0 11 rfl rfl)
theorem dJ29_init_14 : decode cJ29_init 14 = .ok (.aload_n 0, 1) := dk_42 (dk_at dksJ29_init_0 14 rfl rfl)
theorem dJ29_init_15 : decode cJ29_init 15 = .ok (.aload_n 2, 1) := dk_44 (dk_at dksJ29_init_0 15 rfl rfl)
theorem dJ29_init_16 : decode cJ29_init 16 = .ok (.putfield 19, 3) := dk_181 0 19 (dk_at dksJ29_init_0 16 rfl rfl)
theorem dJ29_init_19 : decode cJ29_init 19 = .ok (.aload_n 0, 1) := dk_42 (dk_at dksJ29_init_0 19 rfl rfl)
theorem dJ29_init_20 : decode cJ29_init 20 = .ok (.aload_n 3, 1) := dk_45 (dk_at dksJ29_init_0 20 rfl rfl)
theorem dJ29_init_21 : decode cJ29_init 21 = .ok (.putfield 22, 3) := dk_181 0 22 (dk_at dksJ29_init_0 21 rfl rfl)
theorem dJ29_init_24 : decode cJ29_init 24 = .ok (.return_, 1) := dk_177 (dk_at dksJ29_init_1 0 rfl rfl)
def dkwJ34_next_2 : List UInt8 := [183, 0, 43, 191, 42, 27, 4, 96, 181, 0, 25, 44, 42, 27, 90, 181, 0, 13, 50, 176]
abbrev dktJ34_next_2 : List UInt8 := dkwJ34_next_2 ++ []
def dkwJ34_next_1 : List UInt8 := [183, 0, 36, 191, 42, 180, 0, 1, 180, 0, 37, 77, 27, 44, 190, 161, 0, 11, 187, 0, 41, 89]
abbrev dktJ34_next_1 : List UInt8 := dkwJ34_next_1 ++ dktJ34_next_2
def dkwJ34_next_0 : List UInt8 := [42, 182, 0, 31, 42, 180, 0, 25, 60, 27, 42, 180, 0, 1, 180, 0, 28, 161, 0, 11, 187, 0, 34, 89]
abbrev dktJ34_next_0 : List UInt8 := dkwJ34_next_0 ++ dktJ34_next_1
theorem dksJ34_next_0 : cJ34_next.data.toList.drop 0 = dktJ34_next_0 := by decide +kernel
theorem dksJ34_next_1 : cJ34_next.data.toList.drop 24 = dktJ34_next_1 := dk_seg dksJ34_next_0 24 rfl rfl
theorem dksJ34_next_2 : cJ34_next.data.toList.drop 46 = dktJ34_next_2 := dk_seg dksJ34_next_1 22 rfl rfl
theorem dJ34_next_0 : decode cJ34_next 0 = .ok (.aload_n 0, 1) := dk_42 (dk_at dksJ34_next_0 0 rfl rfl)
theorem dJ34_next_1 : decode cJ34_next 1 = .ok (.invokevirtual 31, 3) := dk_182 0 31 (dk_at dksJ34_next_0 1 rfl rfl)
theorem dJ34_next_4 : decode cJ34_next 4 = .ok (.aload_n 0, 1) := dk_42 (dk_at dksJ34_next_0 4 rfl rfl)
theorem dJ34_next_5 : decode cJ34_next 5 = .ok (.getfield 25, 3) := dk_180 0 25 (dk_at dksJ34_next_0 5 rfl rfl)
theorem dJ34_next_8 : decode cJ34_next 8 = .ok (.istore_n 1, 1) := dk_60 (dk_at dksJ34_next_0 8 rfl rfl)
theorem dJ34_next_9 : decode cJ34_next 9 = .ok (.iload_n 1, 1) := dk_27 (dk_at dksJ34_next_0 9 rfl rfl)
theorem dJ34_next_10 : decode cJ34_next 10 = .ok (.aload_n 0, 1) := dk_42 (dk_at dksJ34_next_0 10 rfl rfl)
theorem dJ34_next_11 : decode cJ34_next 11 = .ok (.getfield 1, 3) := dk_180 0 1 (dk_at dksJ34_next_0 11 rfl rfl)
theorem dJ34_next_14 : decode cJ34_next 14 = .ok (.getfield 28, 3) := dk_180 0 28 (dk_at dksJ34_next_0 14 rfl rfl)
theorem dJ34_next_17 : decode cJ34_next 17 = .ok (.if_icmp .lt 11, 3) := dk_161 0 11 (dk_at dksJ34_next_0 17 rfl rfl)
theorem dJ34_next_20 : decode cJ34_next 20 = .ok (.new 34, 3) := dk_187 0 34 (dk_at dksJ34_next_0 20 rfl rfl)
theorem dJ34_next_23 : decode cJ34_next 23 = .ok (.dup, 1) := dk_89 (dk_at dksJ34_next_0 23 rfl rfl)
theorem dJ34_next_24 : decode cJ34_next 24 = .ok (.invokespecial 36, 3) := dk_183 0 36 (dk_at dksJ34_next_1 0 rfl rfl)
theorem dJ34_next_27 : decode cJ34_next 27 = .ok (.athrow, 1) := dk_191 (dk_at dksJ34_next_1 3 rfl rfl)
theorem dJ34_next_28 : decode cJ34_next 28 = .ok (.aload_n 0, 1) := dk_42 (dk_at dksJ34_next_1 4 rfl rfl)
theorem dJ34_next_29 : decode cJ34_next 29 = .ok (.getfield 1, 3) := dk_180 0 1 (dk_at dksJ34_next_1 5 rfl rfl)
theorem dJ34_next_32 : decode cJ34_next 32 = .ok (.getfield 37, 3) := dk_180 0 37 (dk_at dksJ34_next_1 8 rfl rfl)
theorem dJ34_next_35 : decode cJ34_next 35 = .ok (.astore_n 2, 1) := dk_77 (dk_at dksJ34_next_1 11 rfl rfl)
theorem dJ34_next_36 : decode cJ34_next 36 = .ok (.iload_n 1, 1) := dk_27 (dk_at dksJ34_next_1 12 rfl rfl)
theorem dJ34_next_37 : decode cJ34_next 37 = .ok (.aload_n 2, 1) := dk_44 (dk_at dksJ34_next_1 13 rfl rfl)
theorem dJ34_next_38 : decode cJ34_next 38 = .ok (.arraylength, 1) := dk_190 (dk_at dksJ34_next_1 14 rfl rfl)
theorem dJ34_next_39 : decode cJ34_next 39 = .ok (.if_icmp .lt 11, 3) := dk_161 0 11 (dk_at dksJ34_next_1 15 rfl rfl)
theorem dJ34_next_42 : decode cJ34_next 42 = .ok (.new 41, 3) := dk_187 0 41 (dk_at dksJ34_next_1 18 rfl rfl)
theorem dJ34_next_45 : decode cJ34_next 45 = .ok (.dup, 1) := dk_89 (dk_at dksJ34_next_1 21 rfl rfl)
theorem dJ34_next_46 : decode cJ34_next 46 = .ok (.invokespecial 43, 3) := dk_183 0 43 (dk_at dksJ34_next_2 0 rfl rfl)
theorem dJ34_next_49 : decode cJ34_next 49 = .ok (.athrow, 1) := dk_191 (dk_at dksJ34_next_2 3 rfl rfl)
theorem dJ34_next_50 : decode cJ34_next 50 = .ok (.aload_n 0, 1) := dk_42 (dk_at dksJ34_next_2 4 rfl rfl)
theorem dJ34_next_51 : decode cJ34_next 51 = .ok (.iload_n 1, 1) := dk_27 (dk_at dksJ34_next_2 5 rfl rfl)
theorem dJ34_next_52 : decode cJ34_next 52 = .ok (.iconst 1, 1) := dk_4 (dk_at dksJ34_next_2 6 rfl rfl)
theorem dJ34_next_53 : decode cJ34_next 53 = .ok (.iadd, 1) := dk_96 (dk_at dksJ34_next_2 7 rfl rfl)
theorem dJ34_next_54 : decode cJ34_next 54 = .ok (.putfield 25, 3) := dk_181 0 25 (dk_at dksJ34_next_2 8 rfl rfl)
theorem dJ34_next_57 : decode cJ34_next 57 = .ok (.aload_n 2, 1) := dk_44 (dk_at dksJ34_next_2 11 rfl rfl)
theorem dJ34_next_58 : decode cJ34_next 58 = .ok (.aload_n 0, 1) := dk_42 (dk_at dksJ34_next_2 12 rfl rfl)
theorem dJ34_next_59 : decode cJ34_next 59 = .ok (.iload_n 1, 1) := dk_27 (dk_at dksJ34_next_2 13 rfl rfl)
theorem dJ34_next_60 : decode cJ34_next 60 = .ok (.dup_x1, 1) := dk_90 (dk_at dksJ34_next_2 14 rfl rfl)
theorem dJ34_next_61 : decode cJ34_next 61 = .ok (.putfield 13, 3) := dk_181 0 13 (dk_at dksJ34_next_2 15 rfl rfl)
theorem dJ34_next_64 : decode cJ34_next 64 = .ok (.aaload, 1) := dk_50 (dk_at dksJ34_next_2 18 rfl rfl)
theorem dJ34_next_65 : decode cJ34_next 65 = .ok (.areturn, 1) := dk_176 (dk_at dksJ34_next_2 19 rfl rfl)
def dkwJ34_checkForComodification_0 : List UInt8 := [42, 180, 0, 1, 180, 0, 17, 42, 180, 0, 22, 159, 0, 11, 187, 0, 41, 89, 183, 0, 43, 191, 177]
abbrev dktJ34_checkForComodification_0 : List UInt8 := dkwJ34_checkForComodification_0 ++ []
theorem dksJ34_checkForComodification_0 : cJ34_checkForComodification.data.toList.drop 0 = dktJ34_checkForComodification_0 := by decide +kernel
theorem dJ34_checkForComodification_0 : decode cJ34_checkForComodification 0 = .ok (.aload_n 0, 1) := dk_42 (dk_at dksJ34_checkForComodification_0 0 rfl rfl)
theorem dJ34_checkForComodification_1 : decode cJ34_checkForComodification 1 = .ok (.getfield 1, 3) := dk_180 0 1 (dk_at dksJ34_checkForComodification_0 1 rfl rfl)
theorem dJ34_checkForComodification_4 : decode cJ34_checkForComodification 4 = .ok (.getfield 17, 3) := dk_180 0 17 (dk_at dksJ34_checkForComodification_0 4 rfl rfl)
theorem dJ34_checkForComodification_7 : decode cJ34_checkForComodification 7 = .ok (.aload_n 0, 1) := dk_42 (dk_at dksJ34_checkForComodification_0 7 rfl rfl)
theorem dJ34_checkForComodification_8 : decode cJ34_checkForComodification 8 = .ok (.getfield 22, 3) := dk_180 0 22 (dk_at dksJ34_checkForComodification_0 8 rfl rfl)
theorem dJ34_checkForComodification_11 : decode cJ34_checkForComodification 11 = .ok (.if_icmp .eq 11, 3) := dk_159 0 11 (dk_at dksJ34_checkForComodification_0 11 rfl rfl)
theorem dJ34_checkForComodification_14 : decode cJ34_checkForComodification 14 = .ok (.new 41, 3) := dk_187 0 41 (dk_at dksJ34_checkForComodification_0 14 rfl rfl)
theorem dJ34_checkForComodification_17 : decode cJ34_checkForComodification 17 = .ok (.dup, 1) := dk_89 (dk_at dksJ34_checkForComodification_0 17 rfl rfl)
theorem dJ34_checkForComodification_18 : decode cJ34_checkForComodification 18 = .ok (.invokespecial 43, 3) := dk_183 0 43 (dk_at dksJ34_checkForComodification_0 18 rfl rfl)
theorem dJ34_checkForComodification_21 : decode cJ34_checkForComodification 21 = .ok (.athrow, 1) := dk_191 (dk_at dksJ34_checkForComodification_0 21 rfl rfl)
theorem dJ34_checkForComodification_22 : decode cJ34_checkForComodification 22 = .ok (.return_, 1) := dk_177 (dk_at dksJ34_checkForComodification_0 22 rfl rfl)
def dkwJ34_hasNext_0 : List UInt8 := [42, 180, 0, 25, 42, 180, 0, 1, 180, 0, 28, 159, 0, 7, 4, 167, 0, 4, 3, 172]
abbrev dktJ34_hasNext_0 : List UInt8 := dkwJ34_hasNext_0 ++ []
theorem dksJ34_hasNext_0 : cJ34_hasNext.data.toList.drop 0 = dktJ34_hasNext_0 := by decide +kernel
theorem dJ34_hasNext_0 : decode cJ34_hasNext 0 = .ok (.aload_n 0, 1) := dk_42 (dk_at dksJ34_hasNext_0 0 rfl rfl)
theorem dJ34_hasNext_1 : decode cJ34_hasNext 1 = .ok (.getfield 25, 3) := dk_180 0 25 (dk_at dksJ34_hasNext_0 1 rfl rfl)
theorem dJ34_hasNext_4 : decode cJ34_hasNext 4 = .ok (.aload_n 0, 1) := dk_42 (dk_at dksJ34_hasNext_0 4 rfl rfl)
theorem dJ34_hasNext_5 : decode cJ34_hasNext 5 = .ok (.getfield 1, 3) := dk_180 0 1 (dk_at dksJ34_hasNext_0 5 rfl rfl)
theorem dJ34_hasNext_8 : decode cJ34_hasNext 8 = .ok (.getfield 28, 3) := dk_180 0 28 (dk_at dksJ34_hasNext_0 8 rfl rfl)
theorem dJ34_hasNext_11 : decode cJ34_hasNext 11 = .ok (.if_icmp .eq 7, 3) := dk_159 0 7 (dk_at dksJ34_hasNext_0 11 rfl rfl)
theorem dJ34_hasNext_14 : decode cJ34_hasNext 14 = .ok (.iconst 1, 1) := dk_4 (dk_at dksJ34_hasNext_0 14 rfl rfl)
theorem dJ34_hasNext_15 : decode cJ34_hasNext 15 = .ok (.goto 4, 3) := dk_167 0 4 (dk_at dksJ34_hasNext_0 15 rfl rfl)
theorem dJ34_hasNext_18 : decode cJ34_hasNext 18 = .ok (.iconst 0, 1) := dk_3 (dk_at dksJ34_hasNext_0 18 rfl rfl)
theorem dJ34_hasNext_19 : decode cJ34_hasNext 19 = .ok (.ireturn, 1) := dk_172 (dk_at dksJ34_hasNext_0 19 rfl rfl)
def dkwJ34_init_1 : List UInt8 := [181, 0, 22, 177]
abbrev dktJ34_init_1 : List UInt8 := dkwJ34_init_1 ++ []
def dkwJ34_init_0 : List UInt8 := [42, 43, 181, 0, 1, 42, 183, 0, 7, 42, 2, 181, 0, 13, 42, 42, 180, 0, 1, 180, 0, 17]
abbrev dktJ34_init_0 : List UInt8 := dkwJ34_init_0 ++ dktJ34_init_1
theorem dksJ34_init_0 : cJ34_init.data.toList.drop 0 = dktJ34_init_0 := by decide +kernel
theorem dksJ34_init_1 : cJ34_init.data.toList.drop 22 = dktJ34_init_1 := dk_seg dksJ34_init_0 22 rfl rfl
theorem dJ34_init_0 : decode cJ34_init 0 = .ok (.aload_n 0, 1) := dk_42 (dk_at dksJ34_init_0 0 rfl rfl)
theorem dJ34_init_1 : decode cJ34_init 1 = .ok (.aload_n 1, 1) := dk_43 (dk_at dksJ34_init_0 1 rfl rfl)
theorem dJ34_init_2 : decode cJ34_init 2 = .ok (.putfield 1, 3) := dk_181 0 1 (dk_at dksJ34_init_0 2 rfl rfl)
theorem dJ34_init_5 : decode cJ34_init 5 = .ok (.aload_n 0, 1) := dk_42 (dk_at dksJ34_init_0 5 rfl rfl)
theorem dJ34_init_6 : decode cJ34_init 6 = .ok (.invokespecial 7, 3) := dk_183 0 7 (dk_at dksJ34_init_0 6 rfl rfl)
theorem dJ34_init_9 : decode cJ34_init 9 = .ok (.aload_n 0, 1) := dk_42 (dk_at dksJ34_init_0 9 rfl rfl)
theorem dJ34_init_10 : decode cJ34_init 10 = .ok (.iconst (-1), 1) := dk_2 (dk_at dksJ34_init_0 10 rfl rfl)
theorem dJ34_init_11 : decode cJ34_init 11 = .ok (.putfield 13, 3) := dk_181 0 13 (dk_at dksJ34_init_0 11 rfl rfl)
theorem dJ34_init_14 : decode cJ34_init 14 = .ok (.aload_n 0, 1) := dk_42 (dk_at dksJ34_init_0 14 rfl rfl)
theorem dJ34_init_15 : decode cJ34_init 15 = .ok (.aload_n 0, 1) := dk_42 (dk_at dksJ34_init_0 15 rfl rfl)
theorem dJ34_init_16 : decode cJ34_init 16 = .ok (.getfield 1, 3) := dk_180 0 1 (dk_at dksJ34_init_0 16 rfl rfl)
theorem dJ34_init_19 : decode cJ34_init 19 = .ok (.getfield 17, 3) := dk_180 0 17 (dk_at dksJ34_init_0 19 rfl rfl)
theorem dJ34_init_22 : decode cJ34_init 22 = .ok (.putfield 22, 3) := dk_181 0 22 (dk_at dksJ34_init_1 0 rfl rfl)
theorem dJ34_init_25 : decode cJ34_init 25 = .ok (.return_, 1) := dk_177 (dk_at dksJ34_init_1 3 rfl rfl)
def dkwJ35_next_4 : List UInt8 := [180, 0, 52, 176, 187, 0, 56, 89, 183, 0, 58, 191]
abbrev dktJ35_next_4 : List UInt8 := dkwJ35_next_4 ++ []
def dkwJ35_next_3 : List UInt8 := [181, 0, 13, 42, 42, 180, 0, 31, 182, 0, 48, 181, 0, 52, 42, 180, 0, 52, 198, 0, 8, 42]
abbrev dktJ35_next_3 : List UInt8 := dkwJ35_next_3 ++ dktJ35_next_4
def dkwJ35_next_2 : List UInt8 := [180, 0, 25, 90, 4, 96, 181, 0, 25, 90, 181, 0, 13, 50, 176, 42, 180, 0, 31, 198, 0, 31, 42, 2]
abbrev dktJ35_next_2 : List UInt8 := dkwJ35_next_2 ++ dktJ35_next_3
def dkwJ35_next_1 : List UInt8 := [180, 0, 25, 42, 180, 0, 1, 180, 0, 28, 162, 0, 28, 42, 180, 0, 1, 180, 0, 44, 42, 42, 89]
abbrev dktJ35_next_1 : List UInt8 := dkwJ35_next_1 ++ dktJ35_next_2
def dkwJ35_next_0 : List UInt8 := [42, 180, 0, 22, 42, 180, 0, 1, 180, 0, 17, 159, 0, 11, 187, 0, 41, 89, 183, 0, 43, 191, 42]
abbrev dktJ35_next_0 : List UInt8 := dkwJ35_next_0 ++ dktJ35_next_1
theorem dksJ35_next_0 : cJ35_next.data.toList.drop 0 = dktJ35_next_0 := by decide +kernel
theorem dksJ35_next_1 : cJ35_next.data.toList.drop 23 = dktJ35_next_1 := dk_seg dksJ35_next_0 23 rfl rfl
theorem dksJ35_next_2 : cJ35_next.data.toList.drop 46 = dktJ35_next_2 := dk_seg dksJ35_next_1 23 rfl rfl
theorem dksJ35_next_3 : cJ35_next.data.toList.drop 70 = dktJ35_next_3 := dk_seg dksJ35_next_2 24 rfl rfl
theorem dksJ35_next_4 : cJ35_next.data.toList.drop 92 = dktJ35_next_4 := dk_seg dksJ35_next_3 22 rfl rfl
theorem dJ35_next_0 : decode cJ35_next 0 = .ok (.aload_n 0, 1) := dk_42 (dk_at dksJ35_next_0 0 rfl rfl)
theorem dJ35_next_1 : decode cJ35_next 1 = .ok (.getfield 22, 3) := dk_180 0 22 (dk_at dksJ35_next_0 1 rfl rfl)
theorem dJ35_next_4 : decode cJ35_next 4 = .ok (.aload_n 0, 1) := dk_42 (dk_at dksJ35_next_0 4 rfl rfl)
theorem dJ35_next_5 : decode cJ35_next 5 = .ok (.getfield 1, 3) := dk_180 0 1 (dk_at dksJ35_next_0 5 rfl rfl)
theorem dJ35_next_8 : decode cJ35_next 8 = .ok (.getfield 17, 3) := dk_180 0 17 (dk_at dksJ35_next_0 8 rfl rfl)
theorem dJ35_next_11 : decode cJ35_next 11 = .ok (.if_icmp .eq 11, 3) := dk_159 0 11 (dk_at dksJ35_next_0 11 rfl rfl)
theorem dJ35_next_14 : decode cJ35_next 14 = .ok (.new 41, 3) := dk_187 0 41 (dk_at dksJ35_next_0 14 rfl rfl)
theorem dJ35_next_17 : decode cJ35_next 17 = .ok (.dup, 1) := dk_89 (dk_at dksJ35_next_0 17 rfl rfl)
theorem dJ35_next_18 : decode cJ35_next 18 = .ok (.invokespecial 43, 3) := dk_183 0 43 (dk_at dksJ35_next_0 18 rfl rfl)
theorem dJ35_next_21 : decode cJ35_next 21 = .ok (.athrow, 1) := dk_191 (dk_at dksJ35_next_0 21 rfl rfl)
theorem dJ35_next_22 : decode cJ35_next 22 = .ok (.aload_n 0, 1) := dk_42 (dk_at dksJ35_next_0 22 rfl rfl)
theorem dJ35_next_23 : decode cJ35_next 23 = .ok (.getfield 25, 3) := dk_180 0 25 (dk_at dksJ35_next_1 0 rfl rfl)
theorem dJ35_next_26 : decode cJ35_next 26 = .ok (.aload_n 0, 1) := dk_42 (dk_at dksJ35_next_1 3 rfl rfl)
theorem dJ35_next_27 : decode cJ35_next 27 = .ok (.getfield 1, 3) := dk_180 0 1 (dk_at dksJ35_next_1 4 rfl rfl)
theorem dJ35_next_30 : decode cJ35_next 30 = .ok (.getfield 28, 3) := dk_180 0 28 (dk_at dksJ35_next_1 7 rfl rfl)
theorem dJ35_next_33 : decode cJ35_next 33 = .ok (.if_icmp .ge 28, 3) := dk_162 0 28 (dk_at dksJ35_next_1 10 rfl rfl)
theorem dJ35_next_36 : decode cJ35_next 36 = .ok (.aload_n 0, 1) := dk_42 (dk_at dksJ35_next_1 13 rfl rfl)
theorem dJ35_next_37 : decode cJ35_next 37 = .ok (.getfield 1, 3) := dk_180 0 1 (dk_at dksJ35_next_1 14 rfl rfl)
theorem dJ35_next_40 : decode cJ35_next 40 = .ok (.getfield 44, 3) := dk_180 0 44 (dk_at dksJ35_next_1 17 rfl rfl)
theorem dJ35_next_43 : decode cJ35_next 43 = .ok (.aload_n 0, 1) := dk_42 (dk_at dksJ35_next_1 20 rfl rfl)
theorem dJ35_next_44 : decode cJ35_next 44 = .ok (.aload_n 0, 1) := dk_42 (dk_at dksJ35_next_1 21 rfl rfl)
theorem dJ35_next_45 : decode cJ35_next 45 = .ok (.dup, 1) := dk_89 (dk_at dksJ35_next_1 22 rfl rfl)
theorem dJ35_next_46 : decode cJ35_next 46 = .ok (.getfield 25, 3) := dk_180 0 25 (dk_at dksJ35_next_2 0 rfl rfl)
theorem dJ35_next_49 : decode cJ35_next 49 = .ok (.dup_x1, 1) := dk_90 (dk_at dksJ35_next_2 3 rfl rfl)
theorem dJ35_next_50 : decode cJ35_next 50 = .ok (.iconst 1, 1) := dk_4 (dk_at dksJ35_next_2 4 rfl rfl)
theorem dJ35_next_51 : decode cJ35_next 51 = .ok (.iadd, 1) := dk_96 (dk_at dksJ35_next_2 5 rfl rfl)
theorem dJ35_next_52 : decode cJ35_next 52 = .ok (.putfield 25, 3) := dk_181 0 25 (dk_at dksJ35_next_2 6 rfl rfl)
theorem dJ35_next_55 : decode cJ35_next 55 = .ok (.dup_x1, 1) := dk_90 (dk_at dksJ35_next_2 9 rfl rfl)
theorem dJ35_next_56 : decode cJ35_next 56 = .ok (.putfield 13, 3) := dk_181 0 13 (dk_at dksJ35_next_2 10 rfl rfl)
theorem dJ35_next_59 : decode cJ35_next 59 = .ok (.aaload, 1) := dk_50 (dk_at dksJ35_next_2 13 rfl rfl)
theorem dJ35_next_60 : decode cJ35_next 60 = .ok (.areturn, 1) := dk_176 (dk_at dksJ35_next_2 14 rfl rfl)
theorem dJ35_next_61 : decode cJ35_next 61 = .ok (.aload_n 0, 1) := dk_42 (dk_at dksJ35_next_2 15 rfl rfl)
theorem dJ35_next_62 : decode cJ35_next 62 = .ok (.getfield 31, 3) := dk_180 0 31 (dk_at dksJ35_next_2 16 rfl rfl)
theorem dJ35_next_65 : decode cJ35_next 65 = .ok (.ifnull 31, 3) := dk_198 0 31 (dk_at dksJ35_next_2 19 rfl rfl)
theorem dJ35_next_68 : decode cJ35_next 68 = .ok (.aload_n 0, 1) := dk_42 (dk_at dksJ35_next_2 22 rfl rfl)
theorem dJ35_next_69 : decode cJ35_next 69 = .ok (.iconst (-1), 1) := dk_2 (dk_at dksJ35_next_2 23 rfl rfl)
theorem dJ35_next_70 : decode cJ35_next 70 = .ok (.putfield 13, 3) := dk_181 0 13 (dk_at dksJ35_next_3 0 rfl rfl)
theorem dJ35_next_73 : decode cJ35_next 73 = .ok (.aload_n 0, 1) := dk_42 (dk_at dksJ35_next_3 3 rfl rfl)
theorem dJ35_next_74 : decode cJ35_next 74 = .ok (.aload_n 0, 1) := dk_42 (dk_at dksJ35_next_3 4 rfl rfl)
theorem dJ35_next_75 : decode cJ35_next 75 = .ok (.getfield 31, 3) := dk_180 0 31 (dk_at dksJ35_next_3 5 rfl rfl)
theorem dJ35_next_78 : decode cJ35_next 78 = .ok (.invokevirtual 48, 3) := dk_182 0 48 (dk_at dksJ35_next_3 8 rfl rfl)
theorem dJ35_next_81 : decode cJ35_next 81 = .ok (.putfield 52, 3) := dk_181 0 52 (dk_at dksJ35_next_3 11 rfl rfl)
theorem dJ35_next_84 : decode cJ35_next 84 = .ok (.aload_n 0, 1) := dk_42 (dk_at dksJ35_next_3 14 rfl rfl)
theorem dJ35_next_85 : decode cJ35_next 85 = .ok (.getfield 52, 3) := dk_180 0 52 (dk_at dksJ35_next_3 15 rfl rfl)
theorem dJ35_next_88 : decode cJ35_next 88 = .ok (.ifnull 8, 3) := dk_198 0 8 (dk_at dksJ35_next_3 18 rfl rfl)
theorem dJ35_next_91 : decode cJ35_next 91 = .ok (.aload_n 0, 1) := dk_42 (dk_at dksJ35_next_3 21 rfl rfl)
theorem dJ35_next_92 : decode cJ35_next 92 = .ok (.getfield 52, 3) := dk_180 0 52 (dk_at dksJ35_next_4 0 rfl rfl)
theorem dJ35_next_95 : decode cJ35_next 95 = .ok (.areturn, 1) := dk_176 (dk_at dksJ35_next_4 3 rfl rfl)
theorem dJ35_next_96 : decode cJ35_next 96 = .ok (.new 56, 3) := dk_187 0 56 (dk_at dksJ35_next_4 4 rfl rfl)
theorem dJ35_next_99 : decode cJ35_next 99 = .ok (.dup, 1) := dk_89 (dk_at dksJ35_next_4 7 rfl rfl)
theorem dJ35_next_100 : decode cJ35_next 100 = .ok (.invokespecial 58, 3) := dk_183 0 58 (dk_at dksJ35_next_4 8 rfl rfl)
theorem dJ35_next_103 : decode cJ35_next 103 = .ok (.athrow, 1) := dk_191 (dk_at dksJ35_next_4 11 rfl rfl)
def dkwJ35_hasNext_1 : List UInt8 := [180, 0, 31, 182, 0, 35, 154, 0, 7, 4, 167, 0, 4, 3, 172]
abbrev dktJ35_hasNext_1 : List UInt8 := dkwJ35_hasNext_1 ++ []
def dkwJ35_hasNext_0 : List UInt8 := [42, 180, 0, 25, 42, 180, 0, 1, 180, 0, 28, 161, 0, 20, 42, 180, 0, 31, 198, 0, 17, 42]
abbrev dktJ35_hasNext_0 : List UInt8 := dkwJ35_hasNext_0 ++ dktJ35_hasNext_1
theorem dksJ35_hasNext_0 : cJ35_hasNext.data.toList.drop 0 = dktJ35_hasNext_0 := by decide +kernel
theorem dksJ35_hasNext_1 : cJ35_hasNext.data.toList.drop 22 = dktJ35_hasNext_1 := dk_seg dksJ35_hasNext_0 22 rfl rfl
theorem dJ35_hasNext_0 : decode cJ35_hasNext 0 = .ok (.aload_n 0, 1) := dk_42 (dk_at dksJ35_hasNext_0 0 rfl rfl)
theorem dJ35_hasNext_1 : decode cJ35_hasNext 1 = .ok (.getfield 25, 3) := dk_180 0 25 (dk_at dksJ35_hasNext_0 1 rfl rfl)
theorem dJ35_hasNext_4 : decode cJ35_hasNext 4 = .ok (.aload_n 0, 1) := dk_42 (dk_at dksJ35_hasNext_0 4 rfl rfl)
theorem dJ35_hasNext_5 : decode cJ35_hasNext 5 = .ok (.getfield 1, 3) := dk_180 0 1 (dk_at dksJ35_hasNext_0 5 rfl rfl)
theorem dJ35_hasNext_8 : decode cJ35_hasNext 8 = .ok (.getfield 28, 3) := dk_180 0 28 (dk_at dksJ35_hasNext_0 8 rfl rfl)
theorem dJ35_hasNext_11 : decode cJ35_hasNext 11 = .ok (.if_icmp .lt 20, 3) := dk_161 0 20 (dk_at dksJ35_hasNext_0 11 rfl rfl)
theorem dJ35_hasNext_14 : decode cJ35_hasNext 14 = .ok (.aload_n 0, 1) := dk_42 (dk_at dksJ35_hasNext_0 14 rfl rfl)
theorem dJ35_hasNext_15 : decode cJ35_hasNext 15 = .ok (.getfield 31, 3) := dk_180 0 31 (dk_at dksJ35_hasNext_0 15 rfl rfl)
theorem dJ35_hasNext_18 : decode cJ35_hasNext 18 = .ok (.ifnull 17, 3) := dk_198 0 17 (dk_at dksJ35_hasNext_0 18 rfl rfl)
theorem dJ35_hasNext_21 : decode cJ35_hasNext 21 = .ok (.aload_n 0, 1) := dk_42 (dk_at dksJ35_hasNext_0 21 rfl rfl)
theorem dJ35_hasNext_22 : decode cJ35_hasNext 22 = .ok (.getfield 31, 3) := dk_180 0 31 (dk_at dksJ35_hasNext_1 0 rfl rfl)
theorem dJ35_hasNext_25 : decode cJ35_hasNext 25 = .ok (.invokevirtual 35, 3) := dk_182 0 35 (dk_at dksJ35_hasNext_1 3 rfl rfl)
theorem dJ35_hasNext_28 : decode cJ35_hasNext 28 = .ok (.ifCond .ne 7, 3) := dk_154 0 7 (dk_at dksJ35_hasNext_1 6 rfl rfl)
theorem dJ35_hasNext_31 : decode cJ35_hasNext 31 = .ok (.iconst 1, 1) := dk_4 (dk_at dksJ35_hasNext_1 9 rfl rfl)
theorem dJ35_hasNext_32 : decode cJ35_hasNext 32 = .ok (.goto 4, 3) := dk_167 0 4 (dk_at dksJ35_hasNext_1 10 rfl rfl)
theorem dJ35_hasNext_35 : decode cJ35_hasNext 35 = .ok (.iconst 0, 1) := dk_3 (dk_at dksJ35_hasNext_1 13 rfl rfl)
theorem dJ35_hasNext_36 : decode cJ35_hasNext 36 = .ok (.ireturn, 1) := dk_172 (dk_at dksJ35_hasNext_1 14 rfl rfl)
def dkwJ35_init_1 : List UInt8 := [181, 0, 22, 177]
abbrev dktJ35_init_1 : List UInt8 := dkwJ35_init_1 ++ []
def dkwJ35_init_0 : List UInt8 := [42, 43, 181, 0, 1, 42, 183, 0, 7, 42, 2, 181, 0, 13, 42, 42, 180, 0, 1, 180, 0, 17]
abbrev dktJ35_init_0 : List UInt8 := dkwJ35_init_0 ++ dktJ35_init_1
theorem dksJ35_init_0 : cJ35_init.data.toList.drop 0 = dktJ35_init_0 := by decide +kernel
theorem dksJ35_init_1 : cJ35_init.data.toList.drop 22 = dktJ35_init_1 := dk_seg dksJ35_init_0 22 rfl rfl
theorem dJ35_init_0 : decode cJ35_init 0 = .ok (.aload_n 0, 1) := dk_42 (dk_at dksJ35_init_0 0 rfl rfl)
theorem dJ35_init_1 : decode cJ35_init 1 = .ok (.aload_n 1, 1) := dk_43 (dk_at dksJ35_init_0 1 rfl rfl)
theorem dJ35_init_2 : decode cJ35_init 2 = .ok (.putfield 1, 3) := dk_181 0 1 (dk_at dksJ35_init_0 2 rfl rfl)
theorem dJ35_init_5 : decode cJ35_init 5 = .ok (.aload_n 0, 1) := dk_42 (dk_at dksJ35_init_0 5 rfl rfl)
theorem dJ35_init_6 : decode cJ35_init 6 = .ok (.invokespecial 7, 3) := dk_183 0 7 (dk_at dksJ35_init_0 6 rfl rfl)
theorem dJ35_init_9 : decode cJ35_init 9 = .ok (.aload_n 0, 1) := dk_42 (dk_at dksJ35_init_0 9 rfl rfl)
theorem dJ35_init_10 : decode cJ35_init 10 = .ok (.iconst (-1), 1) := dk_2 (dk_at dksJ35_init_0 10 rfl rfl)
theorem dJ35_init_11 : decode cJ35_init 11 = .ok (.putfield 13, 3) := dk_181 0 13 (dk_at dksJ35_init_0 11 rfl rfl)
theorem dJ35_init_14 : decode cJ35_init 14 = .ok (.aload_n 0, 1) := dk_42 (dk_at dksJ35_init_0 14 rfl rfl)
theorem dJ35_init_15 : decode cJ35_init 15 = .ok (.aload_n 0, 1) := dk_42 (dk_at dksJ35_init_0 15 rfl rfl)
theorem dJ35_init_16 : decode cJ35_init 16 = .ok (.getfield 1, 3) := dk_180 0 1 (dk_at dksJ35_init_0 16 rfl rfl)
theorem dJ35_init_19 : decode cJ35_init 19 = .ok (.getfield 17, 3) := dk_180 0 17 (dk_at dksJ35_init_0 19 rfl rfl)
theorem dJ35_init_22 : decode cJ35_init 22 = .ok (.putfield 22, 3) := dk_181 0 22 (dk_at dksJ35_init_1 0 rfl rfl)
theorem dJ35_init_25 : decode cJ35_init 25 = .ok (.return_, 1) := dk_177 (dk_at dksJ35_init_1 3 rfl rfl)
def dkwJ38_iterator_0 : List UInt8 := [42, 180, 0, 7, 185, 0, 34, 1, 0, 185, 0, 40, 1, 0, 176]
abbrev dktJ38_iterator_0 : List UInt8 := dkwJ38_iterator_0 ++ []
theorem dksJ38_iterator_0 : cJ38_iterator.data.toList.drop 0 = dktJ38_iterator_0 := by decide +kernel
theorem dJ38_iterator_0 : decode cJ38_iterator 0 = .ok (.aload_n 0, 1) := dk_42 (dk_at dksJ38_iterator_0 0 rfl rfl)
theorem dJ38_iterator_1 : decode cJ38_iterator 1 = .ok (.getfield 7, 3) := dk_180 0 7 (dk_at dksJ38_iterator_0 1 rfl rfl)
theorem dJ38_iterator_4 : decode cJ38_iterator 4 = .ok (.invokeinterface 34 1, 5) := by decide +kernel
theorem dJ38_iterator_9 : decode cJ38_iterator 9 = .ok (.invokeinterface 40 1, 5) := by decide +kernel
theorem dJ38_iterator_14 : decode cJ38_iterator 14 = .ok (.areturn, 1) := dk_176 (dk_at dksJ38_iterator_0 14 rfl rfl)
def dkwJ38_init_0 : List UInt8 := [42, 187, 0, 13, 89, 183, 0, 15, 183, 0, 16, 177]
abbrev dktJ38_init_0 : List UInt8 := dkwJ38_init_0 ++ []
theorem dksJ38_init_0 : cJ38_init.data.toList.drop 0 = dktJ38_init_0 := by decide +kernel
theorem dJ38_init_0 : decode cJ38_init 0 = .ok (.aload_n 0, 1) := dk_42 (dk_at dksJ38_init_0 0 rfl rfl)
theorem dJ38_init_1 : decode cJ38_init 1 = .ok (.new 13, 3) := dk_187 0 13 (dk_at dksJ38_init_0 1 rfl rfl)
theorem dJ38_init_4 : decode cJ38_init 4 = .ok (.dup, 1) := dk_89 (dk_at dksJ38_init_0 4 rfl rfl)
theorem dJ38_init_5 : decode cJ38_init 5 = .ok (.invokespecial 15, 3) := dk_183 0 15 (dk_at dksJ38_init_0 5 rfl rfl)
theorem dJ38_init_8 : decode cJ38_init 8 = .ok (.invokespecial 16, 3) := dk_183 0 16 (dk_at dksJ38_init_0 8 rfl rfl)
theorem dJ38_init_11 : decode cJ38_init 11 = .ok (.return_, 1) := dk_177 (dk_at dksJ38_init_0 11 rfl rfl)
def dkwJ38_init_2_0 : List UInt8 := [42, 183, 0, 1, 42, 43, 181, 0, 7, 177]
abbrev dktJ38_init_2_0 : List UInt8 := dkwJ38_init_2_0 ++ []
theorem dksJ38_init_2_0 : cJ38_init_2.data.toList.drop 0 = dktJ38_init_2_0 := by decide +kernel
theorem dJ38_init_2_0 : decode cJ38_init_2 0 = .ok (.aload_n 0, 1) := dk_42 (dk_at dksJ38_init_2_0 0 rfl rfl)
theorem dJ38_init_2_1 : decode cJ38_init_2 1 = .ok (.invokespecial 1, 3) := dk_183 0 1 (dk_at dksJ38_init_2_0 1 rfl rfl)
theorem dJ38_init_2_4 : decode cJ38_init_2 4 = .ok (.aload_n 0, 1) := dk_42 (dk_at dksJ38_init_2_0 4 rfl rfl)
theorem dJ38_init_2_5 : decode cJ38_init_2 5 = .ok (.aload_n 1, 1) := dk_43 (dk_at dksJ38_init_2_0 5 rfl rfl)
theorem dJ38_init_2_6 : decode cJ38_init_2 6 = .ok (.putfield 7, 3) := dk_181 0 7 (dk_at dksJ38_init_2_0 6 rfl rfl)
theorem dJ38_init_2_9 : decode cJ38_init_2 9 = .ok (.return_, 1) := dk_177 (dk_at dksJ38_init_2_0 9 rfl rfl)
def dkwJ38_add_0 : List UInt8 := [42, 180, 0, 7, 43, 178, 0, 65, 185, 0, 69, 3, 0, 199, 0, 7, 4, 167, 0, 4, 3, 172]
abbrev dktJ38_add_0 : List UInt8 := dkwJ38_add_0 ++ []
theorem dksJ38_add_0 : cJ38_add.data.toList.drop 0 = dktJ38_add_0 := by decide +kernel
theorem dJ38_add_0 : decode cJ38_add 0 = .ok (.aload_n 0, 1) := dk_42 (dk_at dksJ38_add_0 0 rfl rfl)
theorem dJ38_add_1 : decode cJ38_add 1 = .ok (.getfield 7, 3) := dk_180 0 7 (dk_at dksJ38_add_0 1 rfl rfl)
theorem dJ38_add_4 : decode cJ38_add 4 = .ok (.aload_n 1, 1) := dk_43 (dk_at dksJ38_add_0 4 rfl rfl)
theorem dJ38_add_5 : decode cJ38_add 5 = .ok (.getstatic 65, 3) := dk_178 0 65 (dk_at dksJ38_add_0 5 rfl rfl)
theorem dJ38_add_8 : decode cJ38_add 8 = .ok (.invokeinterface 69 3, 5) := by decide +kernel
theorem dJ38_add_13 : decode cJ38_add 13 = .ok (.ifnonnull 7, 3) := dk_199 0 7 (dk_at dksJ38_add_0 13 rfl rfl)
theorem dJ38_add_16 : decode cJ38_add 16 = .ok (.iconst 1, 1) := dk_4 (dk_at dksJ38_add_0 16 rfl rfl)
theorem dJ38_add_17 : decode cJ38_add 17 = .ok (.goto 4, 3) := dk_167 0 4 (dk_at dksJ38_add_0 17 rfl rfl)
theorem dJ38_add_20 : decode cJ38_add 20 = .ok (.iconst 0, 1) := dk_3 (dk_at dksJ38_add_0 20 rfl rfl)
theorem dJ38_add_21 : decode cJ38_add 21 = .ok (.ireturn, 1) := dk_172 (dk_at dksJ38_add_0 21 rfl rfl)
def dkwJ38_size_0 : List UInt8 := [42, 180, 0, 7, 185, 0, 53, 1, 0, 172]
abbrev dktJ38_size_0 : List UInt8 := dkwJ38_size_0 ++ []
theorem dksJ38_size_0 : cJ38_size.data.toList.drop 0 = dktJ38_size_0 := by decide +kernel
theorem dJ38_size_0 : decode cJ38_size 0 = .ok (.aload_n 0, 1) := dk_42 (dk_at dksJ38_size_0 0 rfl rfl)
theorem dJ38_size_1 : decode cJ38_size 1 = .ok (.getfield 7, 3) := dk_180 0 7 (dk_at dksJ38_size_0 1 rfl rfl)
theorem dJ38_size_4 : decode cJ38_size 4 = .ok (.invokeinterface 53 1, 5) := by decide +kernel
theorem dJ38_size_9 : decode cJ38_size 9 = .ok (.ireturn, 1) := dk_172 (dk_at dksJ38_size_0 9 rfl rfl)
