set_option maxRecDepth 100000
theorem dJ0_init_0 : decode cJ0_init 0 = .ok (.aload_n 0, 1) := by decide +kernel
theorem dJ0_init_1 : decode cJ0_init 1 = .ok (.invokespecial 1, 3) := by decide +kernel
theorem dJ0_init_4 : decode cJ0_init 4 = .ok (.return_, 1) := by decide +kernel
def dkwJ1_init_0 : List UInt8 := [42, 183, 0, 43, 42, 18, 92, 181, 0, 81, 177]
abbrev dktJ1_init_0 : List UInt8 := dkwJ1_init_0 ++ []
theorem dksJ1_init_0 : cJ1_init.data.toList.drop 0 = dktJ1_init_0 := by decide +kernel
theorem dJ1_init_0 : decode cJ1_init 0 = .ok (.aload_n 0, 1) := dk_42 (dk_at dksJ1_init_0 0 rfl rfl)
theorem dJ1_init_1 : decode cJ1_init 1 = .ok (.invokespecial 43, 3) := dk_183 0 43 (dk_at dksJ1_init_0 1 rfl rfl)
theorem dJ1_init_4 : decode cJ1_init 4 = .ok (.aload_n 0, 1) := dk_42 (dk_at dksJ1_init_0 4 rfl rfl)
theorem dJ1_init_5 : decode cJ1_init 5 = .ok (.ldc 92, 2) := dk_18 92 (dk_at dksJ1_init_0 5 rfl rfl)
theorem dJ1_init_7 : decode cJ1_init 7 = .ok (.putfield 81, 3) := dk_181 0 81 (dk_at dksJ1_init_0 7 rfl rfl)
theorem dJ1_init_10 : decode cJ1_init 10 = .ok (.return_, 1) := dk_177 (dk_at dksJ1_init_0 10 rfl rfl)
def dkwJ1_keySet_1 : List UInt8 := [176]
abbrev dktJ1_keySet_1 : List UInt8 := dkwJ1_keySet_1 ++ []
def dkwJ1_keySet_0 : List UInt8 := [42, 180, 0, 239, 76, 43, 199, 0, 17, 187, 0, 243, 89, 42, 183, 0, 245, 76, 42, 43, 181, 0, 239, 43]
abbrev dktJ1_keySet_0 : List UInt8 := dkwJ1_keySet_0 ++ dktJ1_keySet_1
theorem dksJ1_keySet_0 : cJ1_keySet.data.toList.drop 0 = dktJ1_keySet_0 := by decide +kernel
theorem dksJ1_keySet_1 : cJ1_keySet.data.toList.drop 24 = dktJ1_keySet_1 := dk_seg dksJ1_keySet_0 24 rfl rfl
theorem dJ1_keySet_0 : decode cJ1_keySet 0 = .ok (.aload_n 0, 1) := dk_42 (dk_at dksJ1_keySet_0 0 rfl rfl)
theorem dJ1_keySet_1 : decode cJ1_keySet 1 = .ok (.getfield 239, 3) := dk_180 0 239 (dk_at dksJ1_keySet_0 1 rfl rfl)
theorem dJ1_keySet_4 : decode cJ1_keySet 4 = .ok (.astore_n 1, 1) := dk_76 (dk_at dksJ1_keySet_0 4 rfl rfl)
theorem dJ1_keySet_5 : decode cJ1_keySet 5 = .ok (.aload_n 1, 1) := dk_43 (dk_at dksJ1_keySet_0 5 rfl rfl)
theorem dJ1_keySet_6 : decode cJ1_keySet 6 = .ok (.ifnonnull 17, 3) := dk_199 0 17 (dk_at dksJ1_keySet_0 6 rfl rfl)
theorem dJ1_keySet_9 : decode cJ1_keySet 9 = .ok (.new 243, 3) := dk_187 0 243 (dk_at dksJ1_keySet_0 9 rfl rfl)
theorem dJ1_keySet_12 : decode cJ1_keySet 12 = .ok (.dup, 1) := dk_89 (dk_at dksJ1_keySet_0 12 rfl rfl)
theorem dJ1_keySet_13 : decode cJ1_keySet 13 = .ok (.aload_n 0, 1) := dk_42 (dk_at dksJ1_keySet_0 13 rfl rfl)
theorem dJ1_keySet_14 : decode cJ1_keySet 14 = .ok (.invokespecial 245, 3) := dk_183 0 245 (dk_at dksJ1_keySet_0 14 rfl rfl)
theorem dJ1_keySet_17 : decode cJ1_keySet 17 = .ok (.astore_n 1, 1) := dk_76 (dk_at dksJ1_keySet_0 17 rfl rfl)
theorem dJ1_keySet_18 : decode cJ1_keySet 18 = .ok (.aload_n 0, 1) := dk_42 (dk_at dksJ1_keySet_0 18 rfl rfl)
theorem dJ1_keySet_19 : decode cJ1_keySet 19 = .ok (.aload_n 1, 1) := dk_43 (dk_at dksJ1_keySet_0 19 rfl rfl)
theorem dJ1_keySet_20 : decode cJ1_keySet 20 = .ok (.putfield 239, 3) := dk_181 0 239 (dk_at dksJ1_keySet_0 20 rfl rfl)
theorem dJ1_keySet_23 : decode cJ1_keySet 23 = .ok (.aload_n 1, 1) := dk_43 (dk_at dksJ1_keySet_0 23 rfl rfl)
theorem dJ1_keySet_24 : decode cJ1_keySet 24 = .ok (.areturn, 1) := dk_176 (dk_at dksJ1_keySet_1 0 rfl rfl)
theorem dJ1_size_0 : decode cJ1_size 0 = .ok (.aload_n 0, 1) := by decide +kernel
theorem dJ1_size_1 : decode cJ1_size 1 = .ok (.getfield 156, 3) := by decide +kernel
theorem dJ1_size_4 : decode cJ1_size 4 = .ok (.ireturn, 1) := by decide +kernel
def dkwJ1_containsKey_0 : List UInt8 := [42, 43, 182, 0, 158, 198, 0, 7, 4, 167, 0, 4, 3, 172]
abbrev dktJ1_containsKey_0 : List UInt8 := dkwJ1_containsKey_0 ++ []
theorem dksJ1_containsKey_0 : cJ1_containsKey.data.toList.drop 0 = dktJ1_containsKey_0 := by decide +kernel
theorem dJ1_containsKey_0 : decode cJ1_containsKey 0 = .ok (.aload_n 0, 1) := dk_42 (dk_at dksJ1_containsKey_0 0 rfl rfl)
theorem dJ1_containsKey_1 : decode cJ1_containsKey 1 = .ok (.aload_n 1, 1) := dk_43 (dk_at dksJ1_containsKey_0 1 rfl rfl)
theorem dJ1_containsKey_2 : decode cJ1_containsKey 2 = .ok (.invokevirtual 158, 3) := dk_182 0 158 (dk_at dksJ1_containsKey_0 2 rfl rfl)
theorem dJ1_containsKey_5 : decode cJ1_containsKey 5 = .ok (.ifnull 7, 3) := dk_198 0 7 (dk_at dksJ1_containsKey_0 5 rfl rfl)
theorem dJ1_containsKey_8 : decode cJ1_containsKey 8 = .ok (.iconst 1, 1) := dk_4 (dk_at dksJ1_containsKey_0 8 rfl rfl)
theorem dJ1_containsKey_9 : decode cJ1_containsKey 9 = .ok (.goto 4, 3) := dk_167 0 4 (dk_at dksJ1_containsKey_0 9 rfl rfl)
theorem dJ1_containsKey_12 : decode cJ1_containsKey 12 = .ok (.iconst 0, 1) := dk_3 (dk_at dksJ1_containsKey_0 12 rfl rfl)
theorem dJ1_containsKey_13 : decode cJ1_containsKey 13 = .ok (.ireturn, 1) := dk_172 (dk_at dksJ1_containsKey_0 13 rfl rfl)
def dkwJ1_getNode_6 : List UInt8 := [89, 58, 4, 199, 255, 210, 1, 176]
abbrev dktJ1_getNode_6 : List UInt8 := dkwJ1_getNode_6 ++ []
def dkwJ1_getNode_5 : List UInt8 := [165, 0, 16, 43, 198, 0, 15, 43, 25, 7, 182, 0, 173, 153, 0, 6, 25, 4, 176, 25, 4, 180, 0, 177]
abbrev dktJ1_getNode_5 : List UInt8 := dkwJ1_getNode_5 ++ dktJ1_getNode_6
def dkwJ1_getNode_4 : List UInt8 := [43, 182, 0, 182, 176, 25, 4, 180, 0, 168, 21, 6, 160, 0, 31, 25, 4, 180, 0, 170, 89, 58, 7, 43]
abbrev dktJ1_getNode_4 : List UInt8 := dkwJ1_getNode_4 ++ dktJ1_getNode_5
def dkwJ1_getNode_3 : List UInt8 := [176, 45, 180, 0, 177, 89, 58, 4, 198, 0, 70, 45, 193, 0, 180, 153, 0, 14, 45, 192, 0, 180, 21, 6]
abbrev dktJ1_getNode_3 : List UInt8 := dkwJ1_getNode_3 ++ dktJ1_getNode_4
def dkwJ1_getNode_2 : List UInt8 := [180, 0, 170, 89, 58, 7, 43, 165, 0, 16, 43, 198, 0, 14, 43, 25, 7, 182, 0, 173, 153, 0, 5, 45]
abbrev dktJ1_getNode_2 : List UInt8 := dkwJ1_getNode_2 ++ dktJ1_getNode_3
def dkwJ1_getNode_1 : List UInt8 := [184, 0, 149, 89, 54, 6, 126, 50, 89, 78, 198, 0, 115, 45, 180, 0, 168, 21, 6, 160, 0, 29, 45]
abbrev dktJ1_getNode_1 : List UInt8 := dkwJ1_getNode_1 ++ dktJ1_getNode_2
def dkwJ1_getNode_0 : List UInt8 := [42, 180, 0, 105, 89, 77, 198, 0, 142, 44, 190, 89, 54, 5, 158, 0, 134, 44, 21, 5, 4, 100, 43]
abbrev dktJ1_getNode_0 : List UInt8 := dkwJ1_getNode_0 ++ dktJ1_getNode_1
theorem dksJ1_getNode_0 : cJ1_getNode.data.toList.drop 0 = dktJ1_getNode_0 := by decide +kernel
theorem dksJ1_getNode_1 : cJ1_getNode.data.toList.drop 23 = dktJ1_getNode_1 := dk_seg dksJ1_getNode_0 23 rfl rfl
theorem dksJ1_getNode_2 : cJ1_getNode.data.toList.drop 46 = dktJ1_getNode_2 := dk_seg dksJ1_getNode_1 23 rfl rfl
theorem dksJ1_getNode_3 : cJ1_getNode.data.toList.drop 70 = dktJ1_getNode_3 := dk_seg dksJ1_getNode_2 24 rfl rfl
theorem dksJ1_getNode_4 : cJ1_getNode.data.toList.drop 94 = dktJ1_getNode_4 := dk_seg dksJ1_getNode_3 24 rfl rfl
theorem dksJ1_getNode_5 : cJ1_getNode.data.toList.drop 118 = dktJ1_getNode_5 := dk_seg dksJ1_getNode_4 24 rfl rfl
theorem dksJ1_getNode_6 : cJ1_getNode.data.toList.drop 142 = dktJ1_getNode_6 := dk_seg dksJ1_getNode_5 24 rfl rfl
theorem dJ1_getNode_0 : decode cJ1_getNode 0 = .ok (.aload_n 0, 1) := dk_42 (dk_at dksJ1_getNode_0 0 rfl rfl)
theorem dJ1_getNode_1 : decode cJ1_getNode 1 = .ok (.getfield 105, 3) := dk_180 0 105 (dk_at dksJ1_getNode_0 1 rfl rfl)
theorem dJ1_getNode_4 : decode cJ1_getNode 4 = .ok (.dup, 1) := dk_89 (dk_at dksJ1_getNode_0 4 rfl rfl)
theorem dJ1_getNode_5 : decode cJ1_getNode 5 = .ok (.astore_n 2, 1) := dk_77 (dk_at dksJ1_getNode_0 5 rfl rfl)
theorem dJ1_getNode_6 : decode cJ1_getNode 6 = .ok (.ifnull 142, 3) := dk_198 0 142 (dk_at dksJ1_getNode_0 6 rfl rfl)
theorem dJ1_getNode_9 : decode cJ1_getNode 9 = .ok (.aload_n 2, 1) := dk_44 (dk_at dksJ1_getNode_0 9 rfl rfl)
theorem dJ1_getNode_10 : decode cJ1_getNode 10 = .ok (.arraylength, 1) := dk_190 (dk_at dksJ1_getNode_0 10 rfl rfl)
theorem dJ1_getNode_11 : decode cJ1_getNode 11 = .ok (.dup, 1) := dk_89 (dk_at dksJ1_getNode_0 11 rfl rfl)
theorem dJ1_getNode_12 : decode cJ1_getNode 12 = .ok (.istore 5, 2) := dk_54 5 (dk_at dksJ1_getNode_0 12 rfl rfl)
theorem dJ1_getNode_14 : decode cJ1_getNode 14 = .ok (.ifCond .le 134, 3) := dk_158 0 134 (dk_at dksJ1_getNode_0 14 rfl rfl)
theorem dJ1_getNode_17 : decode cJ1_getNode 17 = .ok (.aload_n 2, 1) := dk_44 (dk_at dksJ1_getNode_0 17 rfl rfl)
theorem dJ1_getNode_18 : decode cJ1_getNode 18 = .ok (.iload 5, 2) := dk_21 5 (dk_at dksJ1_getNode_0 18 rfl rfl)
theorem dJ1_getNode_20 : decode cJ1_getNode 20 = .ok (.iconst 1, 1) := dk_4 (dk_at dksJ1_getNode_0 20 rfl rfl)
theorem dJ1_getNode_21 : decode cJ1_getNode 21 = .ok (.isub, 1) := dk_100 (dk_at dksJ1_getNode_0 21 rfl rfl)
theorem dJ1_getNode_22 : decode cJ1_getNode 22 = .ok (.aload_n 1, 1) := dk_43 (dk_at dksJ1_getNode_0 22 rfl rfl)
theorem dJ1_getNode_23 : decode cJ1_getNode 23 = .ok (.invokestatic 149, 3) := dk_184 0 149 (dk_at dksJ1_getNode_1 0 rfl rfl)
theorem dJ1_getNode_26 : decode cJ1_getNode 26 = .ok (.dup, 1) := dk_89 (dk_at dksJ1_getNode_1 3 rfl rfl)
theorem dJ1_getNode_27 : decode cJ1_getNode 27 = .ok (.istore 6, 2) := dk_54 6 (dk_at dksJ1_getNode_1 4 rfl rfl)
theorem dJ1_getNode_29 : decode cJ1_getNode 29 = .ok (.iand, 1) := dk_126 (dk_at dksJ1_getNode_1 6 rfl rfl)
theorem dJ1_getNode_30 : decode cJ1_getNode 30 = .ok (.aaload, 1) := dk_50 (dk_at dksJ1_getNode_1 7 rfl rfl)
theorem dJ1_getNode_31 : decode cJ1_getNode 31 = .ok (.dup, 1) := dk_89 (dk_at dksJ1_getNode_1 8 rfl rfl)
theorem dJ1_getNode_32 : decode cJ1_getNode 32 = .ok (.astore_n 3, 1) := dk_78 (dk_at dksJ1_getNode_1 9 rfl rfl)
theorem dJ1_getNode_33 : decode cJ1_getNode 33 = .ok (.ifnull 115, 3) := dk_198 0 115 (dk_at dksJ1_getNode_1 10 rfl rfl)
theorem dJ1_getNode_36 : decode cJ1_getNode 36 = .ok (.aload_n 3, 1) := dk_45 (dk_at dksJ1_getNode_1 13 rfl rfl)
theorem dJ1_getNode_37 : decode cJ1_getNode 37 = .ok (.getfield 168, 3) := dk_180 0 168 (dk_at dksJ1_getNode_1 14 rfl rfl)
theorem dJ1_getNode_40 : decode cJ1_getNode 40 = .ok (.iload 6, 2) := dk_21 6 (dk_at dksJ1_getNode_1 17 rfl rfl)
theorem dJ1_getNode_42 : decode cJ1_getNode 42 = .ok (.if_icmp .ne 29, 3) := dk_160 0 29 (dk_at dksJ1_getNode_1 19 rfl rfl)
theorem dJ1_getNode_45 : decode cJ1_getNode 45 = .ok (.aload_n 3, 1) := dk_45 (dk_at dksJ1_getNode_1 22 rfl rfl)
theorem dJ1_getNode_46 : decode cJ1_getNode 46 = .ok (.getfield 170, 3) := dk_180 0 170 (dk_at dksJ1_getNode_2 0 rfl rfl)
theorem dJ1_getNode_49 : decode cJ1_getNode 49 = .ok (.dup, 1) := dk_89 (dk_at dksJ1_getNode_2 3 rfl rfl)
theorem dJ1_getNode_50 : decode cJ1_getNode 50 = .ok (.astore 7, 2) := dk_58 7 (dk_at dksJ1_getNode_2 4 rfl rfl)
theorem dJ1_getNode_52 : decode cJ1_getNode 52 = .ok (.aload_n 1, 1) := dk_43 (dk_at dksJ1_getNode_2 6 rfl rfl)
theorem dJ1_getNode_53 : decode cJ1_getNode 53 = .ok (.if_acmp .eq 16, 3) := dk_165 0 16 (dk_at dksJ1_getNode_2 7 rfl rfl)
theorem dJ1_getNode_56 : decode cJ1_getNode 56 = .ok (.aload_n 1, 1) := dk_43 (dk_at dksJ1_getNode_2 10 rfl rfl)
theorem dJ1_getNode_57 : decode cJ1_getNode 57 = .ok (.ifnull 14, 3) := dk_198 0 14 (dk_at dksJ1_getNode_2 11 rfl rfl)
theorem dJ1_getNode_60 : decode cJ1_getNode 60 = .ok (.aload_n 1, 1) := dk_43 (dk_at dksJ1_getNode_2 14 rfl rfl)
theorem dJ1_getNode_61 : decode cJ1_getNode 61 = .ok (.aload 7, 2) := dk_25 7 (dk_at dksJ1_getNode_2 15 rfl rfl)
theorem dJ1_getNode_63 : decode cJ1_getNode 63 = .ok (.invokevirtual 173, 3) := dk_182 0 173 (dk_at dksJ1_getNode_2 17 rfl rfl)
theorem dJ1_getNode_66 : decode cJ1_getNode 66 = .ok (.ifCond .eq 5, 3) := dk_153 0 5 (dk_at dksJ1_getNode_2 20 rfl rfl)
theorem dJ1_getNode_69 : decode cJ1_getNode 69 = .ok (.aload_n 3, 1) := dk_45 (dk_at dksJ1_getNode_2 23 rfl rfl)
theorem dJ1_getNode_70 : decode cJ1_getNode 70 = .ok (.areturn, 1) := dk_176 (dk_at dksJ1_getNode_3 0 rfl rfl)
theorem dJ1_getNode_71 : decode cJ1_getNode 71 = .ok (.aload_n 3, 1) := dk_45 (dk_at dksJ1_getNode_3 1 rfl rfl)
theorem dJ1_getNode_72 : decode cJ1_getNode 72 = .ok (.getfield 177, 3) := dk_180 0 177 (dk_at dksJ1_getNode_3 2 rfl rfl)
theorem dJ1_getNode_75 : decode cJ1_getNode 75 = .ok (.dup, 1) := dk_89 (dk_at dksJ1_getNode_3 5 rfl rfl)
theorem dJ1_getNode_76 : decode cJ1_getNode 76 = .ok (.astore 4, 2) := dk_58 4 (dk_at dksJ1_getNode_3 6 rfl rfl)
theorem dJ1_getNode_78 : decode cJ1_getNode 78 = .ok (.ifnull 70, 3) := dk_198 0 70 (dk_at dksJ1_getNode_3 8 rfl rfl)
theorem dJ1_getNode_81 : decode cJ1_getNode 81 = .ok (.aload_n 3, 1) := dk_45 (dk_at dksJ1_getNode_3 11 rfl rfl)
theorem dJ1_getNode_82 : decode cJ1_getNode 82 = .ok (.instanceof 180, 3) := dk_193 0 180 (dk_at dksJ1_getNode_3 12 rfl rfl)
theorem dJ1_getNode_85 : decode cJ1_getNode 85 = .ok (.ifCond .eq 14, 3) := dk_153 0 14 (dk_at dksJ1_getNode_3 15 rfl rfl)
theorem dJ1_getNode_88 : decode cJ1_getNode 88 = .ok (.aload_n 3, 1) := dk_45 (dk_at dksJ1_getNode_3 18 rfl rfl)
theorem dJ1_getNode_89 : decode cJ1_getNode 89 = .ok (.checkcast 180, 3) := dk_192 0 180 (dk_at dksJ1_getNode_3 19 rfl rfl)
theorem dJ1_getNode_92 : decode cJ1_getNode 92 = .ok (.iload 6, 2) := dk_21 6 (dk_at dksJ1_getNode_3 22 rfl rfl)
theorem dJ1_getNode_94 : decode cJ1_getNode 94 = .ok (.aload_n 1, 1) := dk_43 (dk_at dksJ1_getNode_4 0 rfl rfl)
theorem dJ1_getNode_95 : decode cJ1_getNode 95 = .ok (.invokevirtual 182, 3) := dk_182 0 182 (dk_at dksJ1_getNode_4 1 rfl rfl)
theorem dJ1_getNode_98 : decode cJ1_getNode 98 = .ok (.areturn, 1) := dk_176 (dk_at dksJ1_getNode_4 4 rfl rfl)
theorem dJ1_getNode_99 : decode cJ1_getNode 99 = .ok (.aload 4, 2) := dk_25 4 (dk_at dksJ1_getNode_4 5 rfl rfl)
theorem dJ1_getNode_101 : decode cJ1_getNode 101 = .ok (.getfield 168, 3) := dk_180 0 168 (dk_at dksJ1_getNode_4 7 rfl rfl)
theorem dJ1_getNode_104 : decode cJ1_getNode 104 = .ok (.iload 6, 2) := dk_21 6 (dk_at dksJ1_getNode_4 10 rfl rfl)
theorem dJ1_getNode_106 : decode cJ1_getNode 106 = .ok (.if_icmp .ne 31, 3) := dk_160 0 31 (dk_at dksJ1_getNode_4 12 rfl rfl)
theorem dJ1_getNode_109 : decode cJ1_getNode 109 = .ok (.aload 4, 2) := dk_25 4 (dk_at dksJ1_getNode_4 15 rfl rfl)
theorem dJ1_getNode_111 : decode cJ1_getNode 111 = .ok (.getfield 170, 3) := dk_180 0 170 (dk_at dksJ1_getNode_4 17 rfl rfl)
theorem dJ1_getNode_114 : decode cJ1_getNode 114 = .ok (.dup, 1) := dk_89 (dk_at dksJ1_getNode_4 20 rfl rfl)
theorem dJ1_getNode_115 : decode cJ1_getNode 115 = .ok (.astore 7, 2) := dk_58 7 (dk_at dksJ1_getNode_4 21 rfl rfl)
theorem dJ1_getNode_117 : decode cJ1_getNode 117 = .ok (.aload_n 1, 1) := dk_43 (dk_at dksJ1_getNode_4 23 rfl rfl)
theorem dJ1_getNode_118 : decode cJ1_getNode 118 = .ok (.if_acmp .eq 16, 3) := dk_165 0 16 (dk_at dksJ1_getNode_5 0 rfl rfl)
theorem dJ1_getNode_121 : decode cJ1_getNode 121 = .ok (.aload_n 1, 1) := dk_43 (dk_at dksJ1_getNode_5 3 rfl rfl)
theorem dJ1_getNode_122 : decode cJ1_getNode 122 = .ok (.ifnull 15, 3) := dk_198 0 15 (dk_at dksJ1_getNode_5 4 rfl rfl)
theorem dJ1_getNode_125 : decode cJ1_getNode 125 = .ok (.aload_n 1, 1) := dk_43 (dk_at dksJ1_getNode_5 7 rfl rfl)
theorem dJ1_getNode_126 : decode cJ1_getNode 126 = .ok (.aload 7, 2) := dk_25 7 (dk_at dksJ1_getNode_5 8 rfl rfl)
theorem dJ1_getNode_128 : decode cJ1_getNode 128 = .ok (.invokevirtual 173, 3) := dk_182 0 173 (dk_at dksJ1_getNode_5 10 rfl rfl)
theorem dJ1_getNode_131 : decode cJ1_getNode 131 = .ok (.ifCond .eq 6, 3) := dk_153 0 6 (dk_at dksJ1_getNode_5 13 rfl rfl)
theorem dJ1_getNode_134 : decode cJ1_getNode 134 = .ok (.aload 4, 2) := dk_25 4 (dk_at dksJ1_getNode_5 16 rfl rfl)
theorem dJ1_getNode_136 : decode cJ1_getNode 136 = .ok (.areturn, 1) := dk_176 (dk_at dksJ1_getNode_5 18 rfl rfl)
theorem dJ1_getNode_137 : decode cJ1_getNode 137 = .ok (.aload 4, 2) := dk_25 4 (dk_at dksJ1_getNode_5 19 rfl rfl)
theorem dJ1_getNode_139 : decode cJ1_getNode 139 = .ok (.getfield 177, 3) := dk_180 0 177 (dk_at dksJ1_getNode_5 21 rfl rfl)
theorem dJ1_getNode_142 : decode cJ1_getNode 142 = .ok (.dup, 1) := dk_89 (dk_at dksJ1_getNode_6 0 rfl rfl)
theorem dJ1_getNode_143 : decode cJ1_getNode 143 = .ok (.astore 4, 2) := dk_58 4 (dk_at dksJ1_getNode_6 1 rfl rfl)
theorem dJ1_getNode_145 : decode cJ1_getNode 145 = .ok (.ifnonnull (-46), 3) := dk_199 255 210 (dk_at dksJ1_getNode_6 3 rfl rfl)
theorem dJ1_getNode_148 : decode cJ1_getNode 148 = .ok (.aconst_null, 1) := dk_1 (dk_at dksJ1_getNode_6 6 rfl rfl)
theorem dJ1_getNode_149 : decode cJ1_getNode 149 = .ok (.areturn, 1) := dk_176 (dk_at dksJ1_getNode_6 7 rfl rfl)
def dkwJ1_hash_0 : List UInt8 := [42, 199, 0, 7, 3, 167, 0, 14, 42, 182, 0, 1, 89, 60, 27, 16, 16, 124, 130, 172]
abbrev dktJ1_hash_0 : List UInt8 := dkwJ1_hash_0 ++ []
theorem dksJ1_hash_0 : cJ1_hash.data.toList.drop 0 = dktJ1_hash_0 := by decide +kernel
theorem dJ1_hash_0 : decode cJ1_hash 0 = .ok (.aload_n 0, 1) := dk_42 (dk_at dksJ1_hash_0 0 rfl rfl)
theorem dJ1_hash_1 : decode cJ1_hash 1 = .ok (.ifnonnull 7, 3) := dk_199 0 7 (dk_at dksJ1_hash_0 1 rfl rfl)
theorem dJ1_hash_4 : decode cJ1_hash 4 = .ok (.iconst 0, 1) := dk_3 (dk_at dksJ1_hash_0 4 rfl rfl)
theorem dJ1_hash_5 : decode cJ1_hash 5 = .ok (.goto 14, 3) := dk_167 0 14 (dk_at dksJ1_hash_0 5 rfl rfl)
theorem dJ1_hash_8 : decode cJ1_hash 8 = .ok (.aload_n 0, 1) := dk_42 (dk_at dksJ1_hash_0 8 rfl rfl)
theorem dJ1_hash_9 : decode cJ1_hash 9 = .ok (.invokevirtual 1, 3) := dk_182 0 1 (dk_at dksJ1_hash_0 9 rfl rfl)
theorem dJ1_hash_12 : decode cJ1_hash 12 = .ok (.dup, 1) := dk_89 (dk_at dksJ1_hash_0 12 rfl rfl)
theorem dJ1_hash_13 : decode cJ1_hash 13 = .ok (.istore_n 1, 1) := dk_60 (dk_at dksJ1_hash_0 13 rfl rfl)
theorem dJ1_hash_14 : decode cJ1_hash 14 = .ok (.iload_n 1, 1) := dk_27 (dk_at dksJ1_hash_0 14 rfl rfl)
theorem dJ1_hash_15 : decode cJ1_hash 15 = .ok (.bipush 16, 2) := dk_16 16 (dk_at dksJ1_hash_0 15 rfl rfl)
theorem dJ1_hash_17 : decode cJ1_hash 17 = .ok (.iushr, 1) := dk_124 (dk_at dksJ1_hash_0 17 rfl rfl)
theorem dJ1_hash_18 : decode cJ1_hash 18 = .ok (.ixor, 1) := dk_130 (dk_at dksJ1_hash_0 18 rfl rfl)
theorem dJ1_hash_19 : decode cJ1_hash 19 = .ok (.ireturn, 1) := dk_172 (dk_at dksJ1_hash_0 19 rfl rfl)
def dkwJ1_comparableClassFor_4 : List UInt8 := [4, 160, 0, 12, 45, 3, 50, 43, 166, 0, 5, 43, 176, 132, 7, 1, 167, 255, 186, 1, 176]
abbrev dktJ1_comparableClassFor_4 : List UInt8 := dkwJ1_comparableClassFor_4 ++ []
def dkwJ1_comparableClassFor_3 : List UInt8 := [185, 0, 23, 1, 0, 18, 7, 166, 0, 30, 25, 4, 185, 0, 27, 1, 0, 89, 78, 198, 0, 18, 45, 190]
abbrev dktJ1_comparableClassFor_3 : List UInt8 := dkwJ1_comparableClassFor_3 ++ dktJ1_comparableClassFor_4
def dkwJ1_comparableClassFor_2 : List UInt8 := [25, 5, 21, 7, 50, 58, 8, 25, 8, 193, 0, 21, 153, 0, 48, 25, 8, 192, 0, 21, 89, 58, 4]
abbrev dktJ1_comparableClassFor_2 : List UInt8 := dkwJ1_comparableClassFor_2 ++ dktJ1_comparableClassFor_3
def dkwJ1_comparableClassFor_1 : List UInt8 := [89, 77, 198, 0, 87, 44, 58, 5, 25, 5, 190, 54, 6, 3, 54, 7, 21, 7, 21, 6, 162, 0, 69]
abbrev dktJ1_comparableClassFor_1 : List UInt8 := dkwJ1_comparableClassFor_1 ++ dktJ1_comparableClassFor_2
def dkwJ1_comparableClassFor_0 : List UInt8 := [42, 193, 0, 7, 153, 0, 109, 42, 182, 0, 9, 89, 76, 18, 13, 166, 0, 5, 43, 176, 43, 182, 0, 15]
abbrev dktJ1_comparableClassFor_0 : List UInt8 := dkwJ1_comparableClassFor_0 ++ dktJ1_comparableClassFor_1
theorem dksJ1_comparableClassFor_0 : cJ1_comparableClassFor.data.toList.drop 0 = dktJ1_comparableClassFor_0 := by decide +kernel
theorem dksJ1_comparableClassFor_1 : cJ1_comparableClassFor.data.toList.drop 24 = dktJ1_comparableClassFor_1 := dk_seg dksJ1_comparableClassFor_0 24 rfl rfl
theorem dksJ1_comparableClassFor_2 : cJ1_comparableClassFor.data.toList.drop 47 = dktJ1_comparableClassFor_2 := dk_seg dksJ1_comparableClassFor_1 23 rfl rfl
theorem dksJ1_comparableClassFor_3 : cJ1_comparableClassFor.data.toList.drop 70 = dktJ1_comparableClassFor_3 := dk_seg dksJ1_comparableClassFor_2 23 rfl rfl
theorem dksJ1_comparableClassFor_4 : cJ1_comparableClassFor.data.toList.drop 94 = dktJ1_comparableClassFor_4 := dk_seg dksJ1_comparableClassFor_3 24 rfl rfl
theorem dJ1_comparableClassFor_0 : decode cJ1_comparableClassFor 0 = .ok (.aload_n 0, 1) := dk_42 (dk_at dksJ1_comparableClassFor_0 0 rfl rfl)
theorem dJ1_comparableClassFor_1 : decode cJ1_comparableClassFor 1 = .ok (.instanceof 7, 3) := dk_193 0 7 (dk_at dksJ1_comparableClassFor_0 1 rfl rfl)
theorem dJ1_comparableClassFor_4 : decode cJ1_comparableClassFor 4 = .ok (.ifCond .eq 109, 3) := dk_153 0 109 (dk_at dksJ1_comparableClassFor_0 4 rfl rfl)
theorem dJ1_comparableClassFor_7 : decode cJ1_comparableClassFor 7 = .ok (.aload_n 0, 1) := dk_42 (dk_at dksJ1_comparableClassFor_0 7 rfl rfl)
theorem dJ1_comparableClassFor_8 : decode cJ1_comparableClassFor 8 = .ok (.invokevirtual 9, 3) := dk_182 0 9 (dk_at dksJ1_comparableClassFor_0 8 rfl rfl)
theorem dJ1_comparableClassFor_11 : decode cJ1_comparableClassFor 11 = .ok (.dup, 1) := dk_89 (dk_at dksJ1_comparableClassFor_0 11 rfl rfl)
theorem dJ1_comparableClassFor_12 : decode cJ1_comparableClassFor 12 = .ok (.astore_n 1, 1) := dk_76 (dk_at dksJ1_comparableClassFor_0 12 rfl rfl)
theorem dJ1_comparableClassFor_13 : decode cJ1_comparableClassFor 13 = .ok (.ldc 13, 2) := dk_18 13 (dk_at dksJ1_comparableClassFor_0 13 rfl rfl)
theorem dJ1_comparableClassFor_15 : decode cJ1_comparableClassFor 15 = .ok (.if_acmp .ne 5, 3) := dk_166 0 5 (dk_at dksJ1_comparableClassFor_0 15 rfl rfl)
theorem dJ1_comparableClassFor_18 : decode cJ1_comparableClassFor 18 = .ok (.aload_n 1, 1) := dk_43 (dk_at dksJ1_comparableClassFor_0 18 rfl rfl)
theorem dJ1_comparableClassFor_19 : decode cJ1_comparableClassFor 19 = .ok (.areturn, 1) := dk_176 (dk_at dksJ1_comparableClassFor_0 19 rfl rfl)
theorem dJ1_comparableClassFor_20 : decode cJ1_comparableClassFor 20 = .ok (.aload_n 1, 1) := dk_43 (dk_at dksJ1_comparableClassFor_0 20 rfl rfl)
theorem dJ1_comparableClassFor_21 : decode cJ1_comparableClassFor 21 = .ok (.invokevirtual 15, 3) := dk_182 0 15 (dk_at dksJ1_comparableClassFor_0 21 rfl rfl)
theorem dJ1_comparableClassFor_24 : decode cJ1_comparableClassFor 24 = .ok (.dup, 1) := dk_89 (dk_at dksJ1_comparableClassFor_1 0 rfl rfl)
theorem dJ1_comparableClassFor_25 : decode cJ1_comparableClassFor 25 = .ok (.astore_n 2, 1) := dk_77 (dk_at dksJ1_comparableClassFor_1 1 rfl rfl)
theorem dJ1_comparableClassFor_26 : decode cJ1_comparableClassFor 26 = .ok (.ifnull 87, 3) := dk_198 0 87 (dk_at dksJ1_comparableClassFor_1 2 rfl rfl)
theorem dJ1_comparableClassFor_29 : decode cJ1_comparableClassFor 29 = .ok (.aload_n 2, 1) := dk_44 (dk_at dksJ1_comparableClassFor_1 5 rfl rfl)
theorem dJ1_comparableClassFor_30 : decode cJ1_comparableClassFor 30 = .ok (.astore 5, 2) := dk_58 5 (dk_at dksJ1_comparableClassFor_1 6 rfl rfl)
theorem dJ1_comparableClassFor_32 : decode cJ1_comparableClassFor 32 = .ok (.aload 5, 2) := dk_25 5 (dk_at dksJ1_comparableClassFor_1 8 rfl rfl)
theorem dJ1_comparableClassFor_34 : decode cJ1_comparableClassFor 34 = .ok (.arraylength, 1) := dk_190 (dk_at dksJ1_comparableClassFor_1 10 rfl rfl)
theorem dJ1_comparableClassFor_35 : decode cJ1_comparableClassFor 35 = .ok (.istore 6, 2) := dk_54 6 (dk_at dksJ1_comparableClassFor_1 11 rfl rfl)
theorem dJ1_comparableClassFor_37 : decode cJ1_comparableClassFor 37 = .ok (.iconst 0, 1) := dk_3 (dk_at dksJ1_comparableClassFor_1 13 rfl rfl)
theorem dJ1_comparableClassFor_38 : decode cJ1_comparableClassFor 38 = .ok (.istore 7, 2) := dk_54 7 (dk_at dksJ1_comparableClassFor_1 14 rfl rfl)
theorem dJ1_comparableClassFor_40 : decode cJ1_comparableClassFor 40 = .ok (.iload 7, 2) := dk_21 7 (dk_at dksJ1_comparableClassFor_1 16 rfl rfl)
theorem dJ1_comparableClassFor_42 : decode cJ1_comparableClassFor 42 = .ok (.iload 6, 2) := dk_21 6 (dk_at dksJ1_comparableClassFor_1 18 rfl rfl)
theorem dJ1_comparableClassFor_44 : decode cJ1_comparableClassFor 44 = .ok (.if_icmp .ge 69, 3) := dk_162 0 69 (dk_at dksJ1_comparableClassFor_1 20 rfl rfl)
theorem dJ1_comparableClassFor_47 : decode cJ1_comparableClassFor 47 = .ok (.aload 5, 2) := dk_25 5 (dk_at dksJ1_comparableClassFor_2 0 rfl rfl)
theorem dJ1_comparableClassFor_49 : decode cJ1_comparableClassFor 49 = .ok (.iload 7, 2) := dk_21 7 (dk_at dksJ1_comparableClassFor_2 2 rfl rfl)
theorem dJ1_comparableClassFor_51 : decode cJ1_comparableClassFor 51 = .ok (.aaload, 1) := dk_50 (dk_at dksJ1_comparableClassFor_2 4 rfl rfl)
theorem dJ1_comparableClassFor_52 : decode cJ1_comparableClassFor 52 = .ok (.astore 8, 2) := dk_58 8 (dk_at dksJ1_comparableClassFor_2 5 rfl rfl)
theorem dJ1_comparableClassFor_54 : decode cJ1_comparableClassFor 54 = .ok (.aload 8, 2) := dk_25 8 (dk_at dksJ1_comparableClassFor_2 7 rfl rfl)
theorem dJ1_comparableClassFor_56 : decode cJ1_comparableClassFor 56 = .ok (.instanceof 21, 3) := dk_193 0 21 (dk_at dksJ1_comparableClassFor_2 9 rfl rfl)
theorem dJ1_comparableClassFor_59 : decode cJ1_comparableClassFor 59 = .ok (.ifCond .eq 48, 3) := dk_153 0 48 (dk_at dksJ1_comparableClassFor_2 12 rfl rfl)
theorem dJ1_comparableClassFor_62 : decode cJ1_comparableClassFor 62 = .ok (.aload 8, 2) := dk_25 8 (dk_at dksJ1_comparableClassFor_2 15 rfl rfl)
theorem dJ1_comparableClassFor_64 : decode cJ1_comparableClassFor 64 = .ok (.checkcast 21, 3) := dk_192 0 21 (dk_at dksJ1_comparableClassFor_2 17 rfl rfl)
theorem dJ1_comparableClassFor_67 : decode cJ1_comparableClassFor 67 = .ok (.dup, 1) := dk_89 (dk_at dksJ1_comparableClassFor_2 20 rfl rfl)
theorem dJ1_comparableClassFor_68 : decode cJ1_comparableClassFor 68 = .ok (.astore 4, 2) := dk_58 4 (dk_at dksJ1_comparableClassFor_2 21 rfl rfl)
theorem dJ1_comparableClassFor_70 : decode cJ1_comparableClassFor 70 = .ok (.invokeinterface 23 1, 5) := by decide +kernel
theorem dJ1_comparableClassFor_75 : decode cJ1_comparableClassFor 75 = .ok (.ldc 7, 2) := dk_18 7 (dk_at dksJ1_comparableClassFor_3 5 rfl rfl)
theorem dJ1_comparableClassFor_77 : decode cJ1_comparableClassFor 77 = .ok (.if_acmp .ne 30, 3) := dk_166 0 30 (dk_at dksJ1_comparableClassFor_3 7 rfl rfl)
theorem dJ1_comparableClassFor_80 : decode cJ1_comparableClassFor 80 = .ok (.aload 4, 2) := dk_25 4 (dk_at dksJ1_comparableClassFor_3 10 rfl rfl)
theorem dJ1_comparableClassFor_82 : decode cJ1_comparableClassFor 82 = .ok (.invokeinterface 27 1, 5) := by decide +kernel
theorem dJ1_comparableClassFor_87 : decode cJ1_comparableClassFor 87 = .ok (.dup, 1) := dk_89 (dk_at dksJ1_comparableClassFor_3 17 rfl rfl)
theorem dJ1_comparableClassFor_88 : decode cJ1_comparableClassFor 88 = .ok (.astore_n 3, 1) := dk_78 (dk_at dksJ1_comparableClassFor_3 18 rfl rfl)
theorem dJ1_comparableClassFor_89 : decode cJ1_comparableClassFor 89 = .ok (.ifnull 18, 3) := dk_198 0 18 (dk_at dksJ1_comparableClassFor_3 19 rfl rfl)
theorem dJ1_comparableClassFor_92 : decode cJ1_comparableClassFor 92 = .ok (.aload_n 3, 1) := dk_45 (dk_at dksJ1_comparableClassFor_3 22 rfl rfl)
theorem dJ1_comparableClassFor_93 : decode cJ1_comparableClassFor 93 = .ok (.arraylength, 1) := dk_190 (dk_at dksJ1_comparableClassFor_3 23 rfl rfl)
theorem dJ1_comparableClassFor_94 : decode cJ1_comparableClassFor 94 = .ok (.iconst 1, 1) := dk_4 (dk_at dksJ1_comparableClassFor_4 0 rfl rfl)
theorem dJ1_comparableClassFor_95 : decode cJ1_comparableClassFor 95 = .ok (.if_icmp .ne 12, 3) := dk_160 0 12 (dk_at dksJ1_comparableClassFor_4 1 rfl rfl)
theorem dJ1_comparableClassFor_98 : decode cJ1_comparableClassFor 98 = .ok (.aload_n 3, 1) := dk_45 (dk_at dksJ1_comparableClassFor_4 4 rfl rfl)
theorem dJ1_comparableClassFor_99 : decode cJ1_comparableClassFor 99 = .ok (.iconst 0, 1) := dk_3 (dk_at dksJ1_comparableClassFor_4 5 rfl rfl)
theorem dJ1_comparableClassFor_100 : decode cJ1_comparableClassFor 100 = .ok (.aaload, 1) := dk_50 (dk_at dksJ1_comparableClassFor_4 6 rfl rfl)
theorem dJ1_comparableClassFor_101 : decode cJ1_comparableClassFor 101 = .ok (.aload_n 1, 1) := dk_43 (dk_at dksJ1_comparableClassFor_4 7 rfl rfl)
theorem dJ1_comparableClassFor_102 : decode cJ1_comparableClassFor 102 = .ok (.if_acmp .ne 5, 3) := dk_166 0 5 (dk_at dksJ1_comparableClassFor_4 8 rfl rfl)
theorem dJ1_comparableClassFor_105 : decode cJ1_comparableClassFor 105 = .ok (.aload_n 1, 1) := dk_43 (dk_at dksJ1_comparableClassFor_4 11 rfl rfl)
theorem dJ1_comparableClassFor_106 : decode cJ1_comparableClassFor 106 = .ok (.areturn, 1) := dk_176 (dk_at dksJ1_comparableClassFor_4 12 rfl rfl)
theorem dJ1_comparableClassFor_107 : decode cJ1_comparableClassFor 107 = .ok (.iinc 7 1, 3) := dk_132 7 1 (dk_at dksJ1_comparableClassFor_4 13 rfl rfl)
theorem dJ1_comparableClassFor_110 : decode cJ1_comparableClassFor 110 = .ok (.goto (-70), 3) := dk_167 255 186 (dk_at dksJ1_comparableClassFor_4 16 rfl rfl)
theorem dJ1_comparableClassFor_113 : decode cJ1_comparableClassFor 113 = .ok (.aconst_null, 1) := dk_1 (dk_at dksJ1_comparableClassFor_4 19 rfl rfl)
theorem dJ1_comparableClassFor_114 : decode cJ1_comparableClassFor 114 = .ok (.areturn, 1) := dk_176 (dk_at dksJ1_comparableClassFor_4 20 rfl rfl)
def dkwJ1_compareComparables_1 : List UInt8 := [185, 0, 30, 2, 0, 172]
abbrev dktJ1_compareComparables_1 : List UInt8 := dkwJ1_compareComparables_1 ++ []
def dkwJ1_compareComparables_0 : List UInt8 := [44, 198, 0, 11, 44, 182, 0, 9, 42, 165, 0, 7, 3, 167, 0, 13, 43, 192, 0, 7, 44]
abbrev dktJ1_compareComparables_0 : List UInt8 := dkwJ1_compareComparables_0 ++ dktJ1_compareComparables_1
theorem dksJ1_compareComparables_0 : cJ1_compareComparables.data.toList.drop 0 = dktJ1_compareComparables_0 := by decide +kernel
theorem dksJ1_compareComparables_1 : cJ1_compareComparables.data.toList.drop 21 = dktJ1_compareComparables_1 := dk_seg dksJ1_compareComparables_0 21 rfl rfl
theorem dJ1_compareComparables_0 : decode cJ1_compareComparables 0 = .ok (.aload_n 2, 1) := dk_44 (dk_at dksJ1_compareComparables_0 0 rfl rfl)
theorem dJ1_compareComparables_1 : decode cJ1_compareComparables 1 = .ok (.ifnull 11, 3) := dk_198 0 11 (dk_at dksJ1_compareComparables_0 1 rfl rfl)
theorem dJ1_compareComparables_4 : decode cJ1_compareComparables 4 = .ok (.aload_n 2, 1) := dk_44 (dk_at dksJ1_compareComparables_0 4 rfl rfl)
theorem dJ1_compareComparables_5 : decode cJ1_compareComparables 5 = .ok (.invokevirtual 9, 3) := dk_182 0 9 (dk_at dksJ1_compareComparables_0 5 rfl rfl)
theorem dJ1_compareComparables_8 : decode cJ1_compareComparables 8 = .ok (.aload_n 0, 1) := dk_42 (dk_at dksJ1_compareComparables_0 8 rfl rfl)
theorem dJ1_compareComparables_9 : decode cJ1_compareComparables 9 = .ok (.if_acmp .eq 7, 3) := dk_165 0 7 (dk_at dksJ1_compareComparables_0 9 rfl rfl)
theorem dJ1_compareComparables_12 : decode cJ1_compareComparables 12 = .ok (.iconst 0, 1) := dk_3 (dk_at dksJ1_compareComparables_0 12 rfl rfl)
theorem dJ1_compareComparables_13 : decode cJ1_compareComparables 13 = .ok (.goto 13, 3) := dk_167 0 13 (dk_at dksJ1_compareComparables_0 13 rfl rfl)
theorem dJ1_compareComparables_16 : decode cJ1_compareComparables 16 = .ok (.aload_n 1, 1) := dk_43 (dk_at dksJ1_compareComparables_0 16 rfl rfl)
theorem dJ1_compareComparables_17 : decode cJ1_compareComparables 17 = .ok (.checkcast 7, 3) := dk_192 0 7 (dk_at dksJ1_compareComparables_0 17 rfl rfl)
theorem dJ1_compareComparables_20 : decode cJ1_compareComparables 20 = .ok (.aload_n 2, 1) := dk_44 (dk_at dksJ1_compareComparables_0 20 rfl rfl)
theorem dJ1_compareComparables_21 : decode cJ1_compareComparables 21 = .ok (.invokeinterface 30 2, 5) := by decide +kernel
theorem dJ1_compareComparables_26 : decode cJ1_compareComparables 26 = .ok (.ireturn, 1) := dk_172 (dk_at dksJ1_compareComparables_1 5 rfl rfl)
def dkwJ1_put_0 : List UInt8 := [42, 43, 184, 0, 149, 43, 44, 3, 4, 182, 0, 152, 176]
abbrev dktJ1_put_0 : List UInt8 := dkwJ1_put_0 ++ []
theorem dksJ1_put_0 : cJ1_put.data.toList.drop 0 = dktJ1_put_0 := by decide +kernel
theorem dJ1_put_0 : decode cJ1_put 0 = .ok (.aload_n 0, 1) := dk_42 (dk_at dksJ1_put_0 0 rfl rfl)
theorem dJ1_put_1 : decode cJ1_put 1 = .ok (.aload_n 1, 1) := dk_43 (dk_at dksJ1_put_0 1 rfl rfl)
theorem dJ1_put_2 : decode cJ1_put 2 = .ok (.invokestatic 149, 3) := dk_184 0 149 (dk_at dksJ1_put_0 2 rfl rfl)
theorem dJ1_put_5 : decode cJ1_put 5 = .ok (.aload_n 1, 1) := dk_43 (dk_at dksJ1_put_0 5 rfl rfl)
theorem dJ1_put_6 : decode cJ1_put 6 = .ok (.aload_n 2, 1) := dk_44 (dk_at dksJ1_put_0 6 rfl rfl)
theorem dJ1_put_7 : decode cJ1_put 7 = .ok (.iconst 0, 1) := dk_3 (dk_at dksJ1_put_0 7 rfl rfl)
theorem dJ1_put_8 : decode cJ1_put 8 = .ok (.iconst 1, 1) := dk_4 (dk_at dksJ1_put_0 8 rfl rfl)
theorem dJ1_put_9 : decode cJ1_put 9 = .ok (.invokevirtual 152, 3) := dk_182 0 152 (dk_at dksJ1_put_0 9 rfl rfl)
theorem dJ1_put_12 : decode cJ1_put 12 = .ok (.areturn, 1) := dk_176 (dk_at dksJ1_put_0 12 rfl rfl)
def dkwJ1_putVal_12 : List UInt8 := [181, 0, 156, 42, 180, 0, 88, 164, 0, 8, 42, 182, 0, 117, 87, 42, 21, 5, 182, 0, 205, 1, 176]
abbrev dktJ1_putVal_12 : List UInt8 := dkwJ1_putVal_12 ++ []
def dkwJ1_putVal_11 : List UInt8 := [182, 0, 198, 25, 12, 176, 42, 89, 180, 0, 202, 4, 96, 181, 0, 202, 42, 89, 180, 0, 156, 4, 96, 90]
abbrev dktJ1_putVal_11 : List UInt8 := dkwJ1_putVal_11 ++ dktJ1_putVal_12
def dkwJ1_putVal_10 : List UInt8 := [180, 0, 162, 58, 12, 21, 4, 153, 0, 8, 25, 12, 199, 0, 9, 25, 10, 45, 181, 0, 162, 42, 25, 10]
abbrev dktJ1_putVal_10 : List UInt8 := dkwJ1_putVal_10 ++ dktJ1_putVal_11
def dkwJ1_putVal_9 : List UInt8 := [153, 0, 6, 167, 0, 13, 25, 10, 58, 7, 132, 12, 1, 167, 255, 171, 25, 10, 198, 0, 35, 25, 10]
abbrev dktJ1_putVal_9 : List UInt8 := dkwJ1_putVal_9 ++ dktJ1_putVal_10
def dkwJ1_putVal_8 : List UInt8 := [25, 10, 180, 0, 170, 89, 58, 11, 44, 165, 0, 29, 44, 198, 0, 15, 44, 25, 11, 182, 0, 173]
abbrev dktJ1_putVal_8 : List UInt8 := dkwJ1_putVal_8 ++ dktJ1_putVal_9
def dkwJ1_putVal_7 : List UInt8 := [16, 7, 161, 0, 60, 42, 25, 6, 27, 182, 0, 194, 167, 0, 50, 25, 10, 180, 0, 168, 27, 160, 0, 31]
abbrev dktJ1_putVal_7 : List UInt8 := dkwJ1_putVal_7 ++ dktJ1_putVal_8
def dkwJ1_putVal_6 : List UInt8 := [180, 0, 177, 89, 58, 10, 199, 0, 33, 25, 7, 42, 27, 44, 45, 1, 182, 0, 186, 181, 0, 177, 21, 12]
abbrev dktJ1_putVal_6 : List UInt8 := dkwJ1_putVal_6 ++ dktJ1_putVal_7
def dkwJ1_putVal_5 : List UInt8 := [192, 0, 180, 42, 25, 6, 27, 44, 45, 182, 0, 190, 58, 10, 167, 0, 94, 3, 54, 12, 25, 7]
abbrev dktJ1_putVal_5 : List UInt8 := dkwJ1_putVal_5 ++ dktJ1_putVal_6
def dkwJ1_putVal_4 : List UInt8 := [182, 0, 173, 153, 0, 10, 25, 7, 58, 10, 167, 0, 121, 25, 7, 193, 0, 180, 153, 0, 22, 25, 7]
abbrev dktJ1_putVal_4 : List UInt8 := dkwJ1_putVal_4 ++ dktJ1_putVal_5
def dkwJ1_putVal_3 : List UInt8 := [160, 0, 35, 25, 7, 180, 0, 170, 89, 58, 11, 44, 165, 0, 16, 44, 198, 0, 19, 44, 25, 11]
abbrev dktJ1_putVal_3 : List UInt8 := dkwJ1_putVal_3 ++ dktJ1_putVal_4
def dkwJ1_putVal_2 : List UInt8 := [25, 6, 21, 9, 42, 27, 44, 45, 1, 182, 0, 186, 83, 167, 0, 199, 25, 7, 180, 0, 168, 27]
abbrev dktJ1_putVal_2 : List UInt8 := dkwJ1_putVal_2 ++ dktJ1_putVal_3
def dkwJ1_putVal_1 : List UInt8 := [58, 6, 190, 54, 8, 25, 6, 21, 8, 4, 100, 27, 126, 89, 54, 9, 50, 89, 58, 7, 199, 0, 19]
abbrev dktJ1_putVal_1 : List UInt8 := dkwJ1_putVal_1 ++ dktJ1_putVal_2
def dkwJ1_putVal_0 : List UInt8 := [42, 180, 0, 105, 89, 58, 6, 198, 0, 12, 25, 6, 190, 89, 54, 8, 154, 0, 13, 42, 182, 0, 117, 89]
abbrev dktJ1_putVal_0 : List UInt8 := dkwJ1_putVal_0 ++ dktJ1_putVal_1
theorem dksJ1_putVal_0 : cJ1_putVal.data.toList.drop 0 = dktJ1_putVal_0 := by decide +kernel
theorem dksJ1_putVal_1 : cJ1_putVal.data.toList.drop 24 = dktJ1_putVal_1 := dk_seg dksJ1_putVal_0 24 rfl rfl
theorem dksJ1_putVal_2 : cJ1_putVal.data.toList.drop 47 = dktJ1_putVal_2 := dk_seg dksJ1_putVal_1 23 rfl rfl
theorem dksJ1_putVal_3 : cJ1_putVal.data.toList.drop 69 = dktJ1_putVal_3 := dk_seg dksJ1_putVal_2 22 rfl rfl
theorem dksJ1_putVal_4 : cJ1_putVal.data.toList.drop 91 = dktJ1_putVal_4 := dk_seg dksJ1_putVal_3 22 rfl rfl
theorem dksJ1_putVal_5 : cJ1_putVal.data.toList.drop 114 = dktJ1_putVal_5 := dk_seg dksJ1_putVal_4 23 rfl rfl
theorem dksJ1_putVal_6 : cJ1_putVal.data.toList.drop 136 = dktJ1_putVal_6 := dk_seg dksJ1_putVal_5 22 rfl rfl
theorem dksJ1_putVal_7 : cJ1_putVal.data.toList.drop 160 = dktJ1_putVal_7 := dk_seg dksJ1_putVal_6 24 rfl rfl
theorem dksJ1_putVal_8 : cJ1_putVal.data.toList.drop 184 = dktJ1_putVal_8 := dk_seg dksJ1_putVal_7 24 rfl rfl
theorem dksJ1_putVal_9 : cJ1_putVal.data.toList.drop 206 = dktJ1_putVal_9 := dk_seg dksJ1_putVal_8 22 rfl rfl
theorem dksJ1_putVal_10 : cJ1_putVal.data.toList.drop 229 = dktJ1_putVal_10 := dk_seg dksJ1_putVal_9 23 rfl rfl
theorem dksJ1_putVal_11 : cJ1_putVal.data.toList.drop 253 = dktJ1_putVal_11 := dk_seg dksJ1_putVal_10 24 rfl rfl
theorem dksJ1_putVal_12 : cJ1_putVal.data.toList.drop 277 = dktJ1_putVal_12 := dk_seg dksJ1_putVal_11 24 rfl rfl
theorem dJ1_putVal_0 : decode cJ1_putVal 0 = .ok (.aload_n 0, 1) := dk_42 (dk_at dksJ1_putVal_0 0 rfl rfl)
theorem dJ1_putVal_1 : decode cJ1_putVal 1 = .ok (.getfield 105, 3) := dk_180 0 105 (dk_at dksJ1_putVal_0 1 rfl rfl)
theorem dJ1_putVal_4 : decode cJ1_putVal 4 = .ok (.dup, 1) := dk_89 (dk_at dksJ1_putVal_0 4 rfl rfl)
theorem dJ1_putVal_5 : decode cJ1_putVal 5 = .ok (.astore 6, 2) := dk_58 6 (dk_at dksJ1_putVal_0 5 rfl rfl)
theorem dJ1_putVal_7 : decode cJ1_putVal 7 = .ok (.ifnull 12, 3) := dk_198 0 12 (dk_at dksJ1_putVal_0 7 rfl rfl)
theorem dJ1_putVal_10 : decode cJ1_putVal 10 = .ok (.aload 6, 2) := dk_25 6 (dk_at dksJ1_putVal_0 10 rfl rfl)
theorem dJ1_putVal_12 : decode cJ1_putVal 12 = .ok (.arraylength, 1) := dk_190 (dk_at dksJ1_putVal_0 12 rfl rfl)
theorem dJ1_putVal_13 : decode cJ1_putVal 13 = .ok (.dup, 1) := dk_89 (dk_at dksJ1_putVal_0 13 rfl rfl)
theorem dJ1_putVal_14 : decode cJ1_putVal 14 = .ok (.istore 8, 2) := dk_54 8 (dk_at dksJ1_putVal_0 14 rfl rfl)
theorem dJ1_putVal_16 : decode cJ1_putVal 16 = .ok (.ifCond .ne 13, 3) := dk_154 0 13 (dk_at dksJ1_putVal_0 16 rfl rfl)
theorem dJ1_putVal_19 : decode cJ1_putVal 19 = .ok (.aload_n 0, 1) := dk_42 (dk_at dksJ1_putVal_0 19 rfl rfl)
theorem dJ1_putVal_20 : decode cJ1_putVal 20 = .ok (.invokevirtual 117, 3) := dk_182 0 117 (dk_at dksJ1_putVal_0 20 rfl rfl)
theorem dJ1_putVal_23 : decode cJ1_putVal 23 = .ok (.dup, 1) := dk_89 (dk_at dksJ1_putVal_0 23 rfl rfl)
theorem dJ1_putVal_24 : decode cJ1_putVal 24 = .ok (.astore 6, 2) := dk_58 6 (dk_at dksJ1_putVal_1 0 rfl rfl)
theorem dJ1_putVal_26 : decode cJ1_putVal 26 = .ok (.arraylength, 1) := dk_190 (dk_at dksJ1_putVal_1 2 rfl rfl)
theorem dJ1_putVal_27 : decode cJ1_putVal 27 = .ok (.istore 8, 2) := dk_54 8 (dk_at dksJ1_putVal_1 3 rfl rfl)
theorem dJ1_putVal_29 : decode cJ1_putVal 29 = .ok (.aload 6, 2) := dk_25 6 (dk_at dksJ1_putVal_1 5 rfl rfl)
theorem dJ1_putVal_31 : decode cJ1_putVal 31 = .ok (.iload 8, 2) := dk_21 8 (dk_at dksJ1_putVal_1 7 rfl rfl)
theorem dJ1_putVal_33 : decode cJ1_putVal 33 = .ok (.iconst 1, 1) := dk_4 (dk_at dksJ1_putVal_1 9 rfl rfl)
theorem dJ1_putVal_34 : decode cJ1_putVal 34 = .ok (.isub, 1) := dk_100 (dk_at dksJ1_putVal_1 10 rfl rfl)
theorem dJ1_putVal_35 : decode cJ1_putVal 35 = .ok (.iload_n 1, 1) := dk_27 (dk_at dksJ1_putVal_1 11 rfl rfl)
theorem dJ1_putVal_36 : decode cJ1_putVal 36 = .ok (.iand, 1) := dk_126 (dk_at dksJ1_putVal_1 12 rfl rfl)
theorem dJ1_putVal_37 : decode cJ1_putVal 37 = .ok (.dup, 1) := dk_89 (dk_at dksJ1_putVal_1 13 rfl rfl)
theorem dJ1_putVal_38 : decode cJ1_putVal 38 = .ok (.istore 9, 2) := dk_54 9 (dk_at dksJ1_putVal_1 14 rfl rfl)
theorem dJ1_putVal_40 : decode cJ1_putVal 40 = .ok (.aaload, 1) := dk_50 (dk_at dksJ1_putVal_1 16 rfl rfl)
theorem dJ1_putVal_41 : decode cJ1_putVal 41 = .ok (.dup, 1) := dk_89 (dk_at dksJ1_putVal_1 17 rfl rfl)
theorem dJ1_putVal_42 : decode cJ1_putVal 42 = .ok (.astore 7, 2) := dk_58 7 (dk_at dksJ1_putVal_1 18 rfl rfl)
theorem dJ1_putVal_44 : decode cJ1_putVal 44 = .ok (.ifnonnull 19, 3) := dk_199 0 19 (dk_at dksJ1_putVal_1 20 rfl rfl)
theorem dJ1_putVal_47 : decode cJ1_putVal 47 = .ok (.aload 6, 2) := dk_25 6 (dk_at dksJ1_putVal_2 0 rfl rfl)
theorem dJ1_putVal_49 : decode cJ1_putVal 49 = .ok (.iload 9, 2) := dk_21 9 (dk_at dksJ1_putVal_2 2 rfl rfl)
theorem dJ1_putVal_51 : decode cJ1_putVal 51 = .ok (.aload_n 0, 1) := dk_42 (dk_at dksJ1_putVal_2 4 rfl rfl)
theorem dJ1_putVal_52 : decode cJ1_putVal 52 = .ok (.iload_n 1, 1) := dk_27 (dk_at dksJ1_putVal_2 5 rfl rfl)
theorem dJ1_putVal_53 : decode cJ1_putVal 53 = .ok (.aload_n 2, 1) := dk_44 (dk_at dksJ1_putVal_2 6 rfl rfl)
theorem dJ1_putVal_54 : decode cJ1_putVal 54 = .ok (.aload_n 3, 1) := dk_45 (dk_at dksJ1_putVal_2 7 rfl rfl)
theorem dJ1_putVal_55 : decode cJ1_putVal 55 = .ok (.aconst_null, 1) := dk_1 (dk_at dksJ1_putVal_2 8 rfl rfl)
theorem dJ1_putVal_56 : decode cJ1_putVal 56 = .ok (.invokevirtual 186, 3) := dk_182 0 186 (dk_at dksJ1_putVal_2 9 rfl rfl)
theorem dJ1_putVal_59 : decode cJ1_putVal 59 = .ok (.aastore, 1) := dk_83 (dk_at dksJ1_putVal_2 12 rfl rfl)
theorem dJ1_putVal_60 : decode cJ1_putVal 60 = .ok (.goto 199, 3) := dk_167 0 199 (dk_at dksJ1_putVal_2 13 rfl rfl)
theorem dJ1_putVal_63 : decode cJ1_putVal 63 = .ok (.aload 7, 2) := dk_25 7 (dk_at dksJ1_putVal_2 16 rfl rfl)
theorem dJ1_putVal_65 : decode cJ1_putVal 65 = .ok (.getfield 168, 3) := dk_180 0 168 (dk_at dksJ1_putVal_2 18 rfl rfl)
theorem dJ1_putVal_68 : decode cJ1_putVal 68 = .ok (.iload_n 1, 1) := dk_27 (dk_at dksJ1_putVal_2 21 rfl rfl)
theorem dJ1_putVal_69 : decode cJ1_putVal 69 = .ok (.if_icmp .ne 35, 3) := dk_160 0 35 (dk_at dksJ1_putVal_3 0 rfl rfl)
theorem dJ1_putVal_72 : decode cJ1_putVal 72 = .ok (.aload 7, 2) := dk_25 7 (dk_at dksJ1_putVal_3 3 rfl rfl)
theorem dJ1_putVal_74 : decode cJ1_putVal 74 = .ok (.getfield 170, 3) := dk_180 0 170 (dk_at dksJ1_putVal_3 5 rfl rfl)
theorem dJ1_putVal_77 : decode cJ1_putVal 77 = .ok (.dup, 1) := dk_89 (dk_at dksJ1_putVal_3 8 rfl rfl)
theorem dJ1_putVal_78 : decode cJ1_putVal 78 = .ok (.astore 11, 2) := dk_58 11 (dk_at dksJ1_putVal_3 9 rfl rfl)
theorem dJ1_putVal_80 : decode cJ1_putVal 80 = .ok (.aload_n 2, 1) := dk_44 (dk_at dksJ1_putVal_3 11 rfl rfl)
theorem dJ1_putVal_81 : decode cJ1_putVal 81 = .ok (.if_acmp .eq 16, 3) := dk_165 0 16 (dk_at dksJ1_putVal_3 12 rfl rfl)
theorem dJ1_putVal_84 : decode cJ1_putVal 84 = .ok (.aload_n 2, 1) := dk_44 (dk_at dksJ1_putVal_3 15 rfl rfl)
theorem dJ1_putVal_85 : decode cJ1_putVal 85 = .ok (.ifnull 19, 3) := dk_198 0 19 (dk_at dksJ1_putVal_3 16 rfl rfl)
theorem dJ1_putVal_88 : decode cJ1_putVal 88 = .ok (.aload_n 2, 1) := dk_44 (dk_at dksJ1_putVal_3 19 rfl rfl)
theorem dJ1_putVal_89 : decode cJ1_putVal 89 = .ok (.aload 11, 2) := dk_25 11 (dk_at dksJ1_putVal_3 20 rfl rfl)
theorem dJ1_putVal_91 : decode cJ1_putVal 91 = .ok (.invokevirtual 173, 3) := dk_182 0 173 (dk_at dksJ1_putVal_4 0 rfl rfl)
theorem dJ1_putVal_94 : decode cJ1_putVal 94 = .ok (.ifCond .eq 10, 3) := dk_153 0 10 (dk_at dksJ1_putVal_4 3 rfl rfl)
theorem dJ1_putVal_97 : decode cJ1_putVal 97 = .ok (.aload 7, 2) := dk_25 7 (dk_at dksJ1_putVal_4 6 rfl rfl)
theorem dJ1_putVal_99 : decode cJ1_putVal 99 = .ok (.astore 10, 2) := dk_58 10 (dk_at dksJ1_putVal_4 8 rfl rfl)
theorem dJ1_putVal_101 : decode cJ1_putVal 101 = .ok (.goto 121, 3) := dk_167 0 121 (dk_at dksJ1_putVal_4 10 rfl rfl)
theorem dJ1_putVal_104 : decode cJ1_putVal 104 = .ok (.aload 7, 2) := dk_25 7 (dk_at dksJ1_putVal_4 13 rfl rfl)
theorem dJ1_putVal_106 : decode cJ1_putVal 106 = .ok (.instanceof 180, 3) := dk_193 0 180 (dk_at dksJ1_putVal_4 15 rfl rfl)
theorem dJ1_putVal_109 : decode cJ1_putVal 109 = .ok (.ifCond .eq 22, 3) := dk_153 0 22 (dk_at dksJ1_putVal_4 18 rfl rfl)
theorem dJ1_putVal_112 : decode cJ1_putVal 112 = .ok (.aload 7, 2) := dk_25 7 (dk_at dksJ1_putVal_4 21 rfl rfl)
theorem dJ1_putVal_114 : decode cJ1_putVal 114 = .ok (.checkcast 180, 3) := dk_192 0 180 (dk_at dksJ1_putVal_5 0 rfl rfl)
theorem dJ1_putVal_117 : decode cJ1_putVal 117 = .ok (.aload_n 0, 1) := dk_42 (dk_at dksJ1_putVal_5 3 rfl rfl)
theorem dJ1_putVal_118 : decode cJ1_putVal 118 = .ok (.aload 6, 2) := dk_25 6 (dk_at dksJ1_putVal_5 4 rfl rfl)
theorem dJ1_putVal_120 : decode cJ1_putVal 120 = .ok (.iload_n 1, 1) := dk_27 (dk_at dksJ1_putVal_5 6 rfl rfl)
theorem dJ1_putVal_121 : decode cJ1_putVal 121 = .ok (.aload_n 2, 1) := dk_44 (dk_at dksJ1_putVal_5 7 rfl rfl)
theorem dJ1_putVal_122 : decode cJ1_putVal 122 = .ok (.aload_n 3, 1) := dk_45 (dk_at dksJ1_putVal_5 8 rfl rfl)
theorem dJ1_putVal_123 : decode cJ1_putVal 123 = .ok (.invokevirtual 190, 3) := dk_182 0 190 (dk_at dksJ1_putVal_5 9 rfl rfl)
theorem dJ1_putVal_126 : decode cJ1_putVal 126 = .ok (.astore 10, 2) := dk_58 10 (dk_at dksJ1_putVal_5 12 rfl rfl)
theorem dJ1_putVal_128 : decode cJ1_putVal 128 = .ok (.goto 94, 3) := dk_167 0 94 (dk_at dksJ1_putVal_5 14 rfl rfl)
theorem dJ1_putVal_131 : decode cJ1_putVal 131 = .ok (.iconst 0, 1) := dk_3 (dk_at dksJ1_putVal_5 17 rfl rfl)
theorem dJ1_putVal_132 : decode cJ1_putVal 132 = .ok (.istore 12, 2) := dk_54 12 (dk_at dksJ1_putVal_5 18 rfl rfl)
theorem dJ1_putVal_134 : decode cJ1_putVal 134 = .ok (.aload 7, 2) := dk_25 7 (dk_at dksJ1_putVal_5 20 rfl rfl)
theorem dJ1_putVal_136 : decode cJ1_putVal 136 = .ok (.getfield 177, 3) := dk_180 0 177 (dk_at dksJ1_putVal_6 0 rfl rfl)
theorem dJ1_putVal_139 : decode cJ1_putVal 139 = .ok (.dup, 1) := dk_89 (dk_at dksJ1_putVal_6 3 rfl rfl)
theorem dJ1_putVal_140 : decode cJ1_putVal 140 = .ok (.astore 10, 2) := dk_58 10 (dk_at dksJ1_putVal_6 4 rfl rfl)
theorem dJ1_putVal_142 : decode cJ1_putVal 142 = .ok (.ifnonnull 33, 3) := dk_199 0 33 (dk_at dksJ1_putVal_6 6 rfl rfl)
theorem dJ1_putVal_145 : decode cJ1_putVal 145 = .ok (.aload 7, 2) := dk_25 7 (dk_at dksJ1_putVal_6 9 rfl rfl)
theorem dJ1_putVal_147 : decode cJ1_putVal 147 = .ok (.aload_n 0, 1) := dk_42 (dk_at dksJ1_putVal_6 11 rfl rfl)
theorem dJ1_putVal_148 : decode cJ1_putVal 148 = .ok (.iload_n 1, 1) := dk_27 (dk_at dksJ1_putVal_6 12 rfl rfl)
theorem dJ1_putVal_149 : decode cJ1_putVal 149 = .ok (.aload_n 2, 1) := dk_44 (dk_at dksJ1_putVal_6 13 rfl rfl)
theorem dJ1_putVal_150 : decode cJ1_putVal 150 = .ok (.aload_n 3, 1) := dk_45 (dk_at dksJ1_putVal_6 14 rfl rfl)
theorem dJ1_putVal_151 : decode cJ1_putVal 151 = .ok (.aconst_null, 1) := dk_1 (dk_at dksJ1_putVal_6 15 rfl rfl)
theorem dJ1_putVal_152 : decode cJ1_putVal 152 = .ok (.invokevirtual 186, 3) := dk_182 0 186 (dk_at dksJ1_putVal_6 16 rfl rfl)
theorem dJ1_putVal_155 : decode cJ1_putVal 155 = .ok (.putfield 177, 3) := dk_181 0 177 (dk_at dksJ1_putVal_6 19 rfl rfl)
theorem dJ1_putVal_158 : decode cJ1_putVal 158 = .ok (.iload 12, 2) := dk_21 12 (dk_at dksJ1_putVal_6 22 rfl rfl)
theorem dJ1_putVal_160 : decode cJ1_putVal 160 = .ok (.bipush 7, 2) := dk_16 7 (dk_at dksJ1_putVal_7 0 rfl rfl)
theorem dJ1_putVal_162 : decode cJ1_putVal 162 = .ok (.if_icmp .lt 60, 3) := dk_161 0 60 (dk_at dksJ1_putVal_7 2 rfl rfl)
theorem dJ1_putVal_165 : decode cJ1_putVal 165 = .ok (.aload_n 0, 1) := dk_42 (dk_at dksJ1_putVal_7 5 rfl rfl)
theorem dJ1_putVal_166 : decode cJ1_putVal 166 = .ok (.aload 6, 2) := dk_25 6 (dk_at dksJ1_putVal_7 6 rfl rfl)
theorem dJ1_putVal_168 : decode cJ1_putVal 168 = .ok (.iload_n 1, 1) := dk_27 (dk_at dksJ1_putVal_7 8 rfl rfl)
theorem dJ1_putVal_169 : decode cJ1_putVal 169 = .ok (.invokevirtual 194, 3) := dk_182 0 194 (dk_at dksJ1_putVal_7 9 rfl rfl)
theorem dJ1_putVal_172 : decode cJ1_putVal 172 = .ok (.goto 50, 3) := dk_167 0 50 (dk_at dksJ1_putVal_7 12 rfl rfl)
theorem dJ1_putVal_175 : decode cJ1_putVal 175 = .ok (.aload 10, 2) := dk_25 10 (dk_at dksJ1_putVal_7 15 rfl rfl)
theorem dJ1_putVal_177 : decode cJ1_putVal 177 = .ok (.getfield 168, 3) := dk_180 0 168 (dk_at dksJ1_putVal_7 17 rfl rfl)
theorem dJ1_putVal_180 : decode cJ1_putVal 180 = .ok (.iload_n 1, 1) := dk_27 (dk_at dksJ1_putVal_7 20 rfl rfl)
theorem dJ1_putVal_181 : decode cJ1_putVal 181 = .ok (.if_icmp .ne 31, 3) := dk_160 0 31 (dk_at dksJ1_putVal_7 21 rfl rfl)
theorem dJ1_putVal_184 : decode cJ1_putVal 184 = .ok (.aload 10, 2) := dk_25 10 (dk_at dksJ1_putVal_8 0 rfl rfl)
theorem dJ1_putVal_186 : decode cJ1_putVal 186 = .ok (.getfield 170, 3) := dk_180 0 170 (dk_at dksJ1_putVal_8 2 rfl rfl)
theorem dJ1_putVal_189 : decode cJ1_putVal 189 = .ok (.dup, 1) := dk_89 (dk_at dksJ1_putVal_8 5 rfl rfl)
theorem dJ1_putVal_190 : decode cJ1_putVal 190 = .ok (.astore 11, 2) := dk_58 11 (dk_at dksJ1_putVal_8 6 rfl rfl)
theorem dJ1_putVal_192 : decode cJ1_putVal 192 = .ok (.aload_n 2, 1) := dk_44 (dk_at dksJ1_putVal_8 8 rfl rfl)
theorem dJ1_putVal_193 : decode cJ1_putVal 193 = .ok (.if_acmp .eq 29, 3) := dk_165 0 29 (dk_at dksJ1_putVal_8 9 rfl rfl)
theorem dJ1_putVal_196 : decode cJ1_putVal 196 = .ok (.aload_n 2, 1) := dk_44 (dk_at dksJ1_putVal_8 12 rfl rfl)
theorem dJ1_putVal_197 : decode cJ1_putVal 197 = .ok (.ifnull 15, 3) := dk_198 0 15 (dk_at dksJ1_putVal_8 13 rfl rfl)
theorem dJ1_putVal_200 : decode cJ1_putVal 200 = .ok (.aload_n 2, 1) := dk_44 (dk_at dksJ1_putVal_8 16 rfl rfl)
theorem dJ1_putVal_201 : decode cJ1_putVal 201 = .ok (.aload 11, 2) := dk_25 11 (dk_at dksJ1_putVal_8 17 rfl rfl)
theorem dJ1_putVal_203 : decode cJ1_putVal 203 = .ok (.invokevirtual 173, 3) := dk_182 0 173 (dk_at dksJ1_putVal_8 19 rfl rfl)
theorem dJ1_putVal_206 : decode cJ1_putVal 206 = .ok (.ifCond .eq 6, 3) := dk_153 0 6 (dk_at dksJ1_putVal_9 0 rfl rfl)
theorem dJ1_putVal_209 : decode cJ1_putVal 209 = .ok (.goto 13, 3) := dk_167 0 13 (dk_at dksJ1_putVal_9 3 rfl rfl)
theorem dJ1_putVal_212 : decode cJ1_putVal 212 = .ok (.aload 10, 2) := dk_25 10 (dk_at dksJ1_putVal_9 6 rfl rfl)
theorem dJ1_putVal_214 : decode cJ1_putVal 214 = .ok (.astore 7, 2) := dk_58 7 (dk_at dksJ1_putVal_9 8 rfl rfl)
theorem dJ1_putVal_216 : decode cJ1_putVal 216 = .ok (.iinc 12 1, 3) := dk_132 12 1 (dk_at dksJ1_putVal_9 10 rfl rfl)
theorem dJ1_putVal_219 : decode cJ1_putVal 219 = .ok (.goto (-85), 3) := dk_167 255 171 (dk_at dksJ1_putVal_9 13 rfl rfl)
theorem dJ1_putVal_222 : decode cJ1_putVal 222 = .ok (.aload 10, 2) := dk_25 10 (dk_at dksJ1_putVal_9 16 rfl rfl)
theorem dJ1_putVal_224 : decode cJ1_putVal 224 = .ok (.ifnull 35, 3) := dk_198 0 35 (dk_at dksJ1_putVal_9 18 rfl rfl)
theorem dJ1_putVal_227 : decode cJ1_putVal 227 = .ok (.aload 10, 2) := dk_25 10 (dk_at dksJ1_putVal_9 21 rfl rfl)
theorem dJ1_putVal_229 : decode cJ1_putVal 229 = .ok (.getfield 162, 3) := dk_180 0 162 (dk_at dksJ1_putVal_10 0 rfl rfl)
theorem dJ1_putVal_232 : decode cJ1_putVal 232 = .ok (.astore 12, 2) := dk_58 12 (dk_at dksJ1_putVal_10 3 rfl rfl)
theorem dJ1_putVal_234 : decode cJ1_putVal 234 = .ok (.iload 4, 2) := dk_21 4 (dk_at dksJ1_putVal_10 5 rfl rfl)
theorem dJ1_putVal_236 : decode cJ1_putVal 236 = .ok (.ifCond .eq 8, 3) := dk_153 0 8 (dk_at dksJ1_putVal_10 7 rfl rfl)
theorem dJ1_putVal_239 : decode cJ1_putVal 239 = .ok (.aload 12, 2) := dk_25 12 (dk_at dksJ1_putVal_10 10 rfl rfl)
theorem dJ1_putVal_241 : decode cJ1_putVal 241 = .ok (.ifnonnull 9, 3) := dk_199 0 9 (dk_at dksJ1_putVal_10 12 rfl rfl)
theorem dJ1_putVal_244 : decode cJ1_putVal 244 = .ok (.aload 10, 2) := dk_25 10 (dk_at dksJ1_putVal_10 15 rfl rfl)
theorem dJ1_putVal_246 : decode cJ1_putVal 246 = .ok (.aload_n 3, 1) := dk_45 (dk_at dksJ1_putVal_10 17 rfl rfl)
theorem dJ1_putVal_247 : decode cJ1_putVal 247 = .ok (.putfield 162, 3) := dk_181 0 162 (dk_at dksJ1_putVal_10 18 rfl rfl)
theorem dJ1_putVal_250 : decode cJ1_putVal 250 = .ok (.aload_n 0, 1) := dk_42 (dk_at dksJ1_putVal_10 21 rfl rfl)
theorem dJ1_putVal_251 : decode cJ1_putVal 251 = .ok (.aload 10, 2) := dk_25 10 (dk_at dksJ1_putVal_10 22 rfl rfl)
theorem dJ1_putVal_253 : decode cJ1_putVal 253 = .ok (.invokevirtual 198, 3) := dk_182 0 198 (dk_at dksJ1_putVal_11 0 rfl rfl)
theorem dJ1_putVal_256 : decode cJ1_putVal 256 = .ok (.aload 12, 2) := dk_25 12 (dk_at dksJ1_putVal_11 3 rfl rfl)
theorem dJ1_putVal_258 : decode cJ1_putVal 258 = .ok (.areturn, 1) := dk_176 (dk_at dksJ1_putVal_11 5 rfl rfl)
theorem dJ1_putVal_259 : decode cJ1_putVal 259 = .ok (.aload_n 0, 1) := dk_42 (dk_at dksJ1_putVal_11 6 rfl rfl)
theorem dJ1_putVal_260 : decode cJ1_putVal 260 = .ok (.dup, 1) := dk_89 (dk_at dksJ1_putVal_11 7 rfl rfl)
theorem dJ1_putVal_261 : decode cJ1_putVal 261 = .ok (.getfield 202, 3) := dk_180 0 202 (dk_at dksJ1_putVal_11 8 rfl rfl)
theorem dJ1_putVal_264 : decode cJ1_putVal 264 = .ok (.iconst 1, 1) := dk_4 (dk_at dksJ1_putVal_11 11 rfl rfl)
theorem dJ1_putVal_265 : decode cJ1_putVal 265 = .ok (.iadd, 1) := dk_96 (dk_at dksJ1_putVal_11 12 rfl rfl)
theorem dJ1_putVal_266 : decode cJ1_putVal 266 = .ok (.putfield 202, 3) := dk_181 0 202 (dk_at dksJ1_putVal_11 13 rfl rfl)
theorem dJ1_putVal_269 : decode cJ1_putVal 269 = .ok (.aload_n 0, 1) := dk_42 (dk_at dksJ1_putVal_11 16 rfl rfl)
theorem dJ1_putVal_270 : decode cJ1_putVal 270 = .ok (.dup, 1) := dk_89 (dk_at dksJ1_putVal_11 17 rfl rfl)
theorem dJ1_putVal_271 : decode cJ1_putVal 271 = .ok (.getfield 156, 3) := dk_180 0 156 (dk_at dksJ1_putVal_11 18 rfl rfl)
theorem dJ1_putVal_274 : decode cJ1_putVal 274 = .ok (.iconst 1, 1) := dk_4 (dk_at dksJ1_putVal_11 21 rfl rfl)
theorem dJ1_putVal_275 : decode cJ1_putVal 275 = .ok (.iadd, 1) := dk_96 (dk_at dksJ1_putVal_11 22 rfl rfl)
theorem dJ1_putVal_276 : decode cJ1_putVal 276 = .ok (.dup_x1, 1) := dk_90 (dk_at dksJ1_putVal_11 23 rfl rfl)
theorem dJ1_putVal_277 : decode cJ1_putVal 277 = .ok (.putfield 156, 3) := dk_181 0 156 (dk_at dksJ1_putVal_12 0 rfl rfl)
theorem dJ1_putVal_280 : decode cJ1_putVal 280 = .ok (.aload_n 0, 1) := dk_42 (dk_at dksJ1_putVal_12 3 rfl rfl)
theorem dJ1_putVal_281 : decode cJ1_putVal 281 = .ok (.getfield 88, 3) := dk_180 0 88 (dk_at dksJ1_putVal_12 4 rfl rfl)
theorem dJ1_putVal_284 : decode cJ1_putVal 284 = .ok (.if_icmp .le 8, 3) := dk_164 0 8 (dk_at dksJ1_putVal_12 7 rfl rfl)
theorem dJ1_putVal_287 : decode cJ1_putVal 287 = .ok (.aload_n 0, 1) := dk_42 (dk_at dksJ1_putVal_12 10 rfl rfl)
theorem dJ1_putVal_288 : decode cJ1_putVal 288 = .ok (.invokevirtual 117, 3) := dk_182 0 117 (dk_at dksJ1_putVal_12 11 rfl rfl)
theorem dJ1_putVal_291 : decode cJ1_putVal 291 = .ok (.pop, 1) := dk_87 (dk_at dksJ1_putVal_12 14 rfl rfl)
theorem dJ1_putVal_292 : decode cJ1_putVal 292 = .ok (.aload_n 0, 1) := dk_42 (dk_at dksJ1_putVal_12 15 rfl rfl)
theorem dJ1_putVal_293 : decode cJ1_putVal 293 = .ok (.iload 5, 2) := dk_21 5 (dk_at dksJ1_putVal_12 16 rfl rfl)
theorem dJ1_putVal_295 : decode cJ1_putVal 295 = .ok (.invokevirtual 205, 3) := dk_182 0 205 (dk_at dksJ1_putVal_12 18 rfl rfl)
theorem dJ1_putVal_298 : decode cJ1_putVal 298 = .ok (.aconst_null, 1) := dk_1 (dk_at dksJ1_putVal_12 21 rfl rfl)
theorem dJ1_putVal_299 : decode cJ1_putVal 299 = .ok (.areturn, 1) := dk_176 (dk_at dksJ1_putVal_12 22 rfl rfl)
def dkwJ1_resize_15 : List UInt8 := [25, 6, 176]
abbrev dktJ1_resize_15 : List UInt8 := dkwJ1_resize_15 ++ []
def dkwJ1_resize_14 : List UInt8 := [198, 0, 18, 25, 12, 1, 181, 0, 177, 25, 6, 21, 7, 28, 96, 25, 11, 83, 132, 7, 1, 167, 255, 57]
abbrev dktJ1_resize_14 : List UInt8 := dkwJ1_resize_14 ++ dktJ1_resize_15
def dkwJ1_resize_13 : List UInt8 := [199, 255, 185, 25, 10, 198, 0, 16, 25, 10, 1, 181, 0, 177, 25, 6, 21, 7, 25, 9, 83, 25, 12]
abbrev dktJ1_resize_13 : List UInt8 := dkwJ1_resize_13 ++ dktJ1_resize_14
def dkwJ1_resize_12 : List UInt8 := [25, 8, 58, 11, 167, 0, 10, 25, 12, 25, 8, 181, 0, 177, 25, 8, 58, 12, 25, 13, 89, 58, 8]
abbrev dktJ1_resize_12 : List UInt8 := dkwJ1_resize_12 ++ dktJ1_resize_13
def dkwJ1_resize_11 : List UInt8 := [58, 9, 167, 0, 10, 25, 10, 25, 8, 181, 0, 177, 25, 8, 58, 10, 167, 0, 26, 25, 12, 199, 0, 10]
abbrev dktJ1_resize_11 : List UInt8 := dkwJ1_resize_11 ++ dktJ1_resize_12
def dkwJ1_resize_10 : List UInt8 := [25, 8, 180, 0, 177, 58, 13, 25, 8, 180, 0, 168, 28, 126, 154, 0, 29, 25, 10, 199, 0, 10, 25, 8]
abbrev dktJ1_resize_10 : List UInt8 := dkwJ1_resize_10 ++ dktJ1_resize_11
def dkwJ1_resize_9 : List UInt8 := [42, 25, 6, 21, 7, 28, 182, 0, 211, 167, 0, 127, 1, 58, 9, 1, 58, 10, 1, 58, 11, 1, 58, 12]
abbrev dktJ1_resize_9 : List UInt8 := dkwJ1_resize_9 ++ dktJ1_resize_10
def dkwJ1_resize_8 : List UInt8 := [21, 4, 4, 100, 126, 25, 8, 83, 167, 0, 152, 25, 8, 193, 0, 180, 153, 0, 20, 25, 8, 192, 0, 180]
abbrev dktJ1_resize_8 : List UInt8 := dkwJ1_resize_8 ++ dktJ1_resize_9
def dkwJ1_resize_7 : List UInt8 := [198, 0, 183, 43, 21, 7, 1, 83, 25, 8, 180, 0, 177, 199, 0, 21, 25, 6, 25, 8, 180, 0, 168]
abbrev dktJ1_resize_7 : List UInt8 := dkwJ1_resize_7 ++ dktJ1_resize_8
def dkwJ1_resize_6 : List UInt8 := [181, 0, 105, 43, 198, 0, 208, 3, 54, 7, 21, 7, 28, 162, 0, 199, 43, 21, 7, 50, 89, 58, 8]
abbrev dktJ1_resize_6 : List UInt8 := dkwJ1_resize_6 ++ dktJ1_resize_7
def dkwJ1_resize_5 : List UInt8 := [167, 0, 5, 18, 209, 54, 5, 42, 21, 5, 181, 0, 88, 21, 4, 189, 0, 163, 58, 6, 42, 25, 6]
abbrev dktJ1_resize_5 : List UInt8 := dkwJ1_resize_5 ++ dktJ1_resize_6
def dkwJ1_resize_4 : List UInt8 := [180, 0, 81, 106, 56, 6, 21, 4, 18, 42, 162, 0, 17, 23, 6, 18, 210, 150, 156, 0, 9, 23, 6, 139]
abbrev dktJ1_resize_4 : List UInt8 := dkwJ1_resize_4 ++ dktJ1_resize_5
def dkwJ1_resize_3 : List UInt8 := [54, 4, 167, 0, 11, 16, 16, 54, 4, 16, 12, 54, 5, 21, 5, 154, 0, 38, 21, 4, 134, 42]
abbrev dktJ1_resize_3 : List UInt8 := dkwJ1_resize_3 ++ dktJ1_resize_4
def dkwJ1_resize_2 : List UInt8 := [18, 42, 162, 0, 35, 28, 16, 16, 161, 0, 29, 29, 4, 120, 54, 5, 167, 0, 21, 29, 158, 0, 9, 29]
abbrev dktJ1_resize_2 : List UInt8 := dkwJ1_resize_2 ++ dktJ1_resize_3
def dkwJ1_resize_1 : List UInt8 := [28, 158, 0, 42, 28, 18, 42, 161, 0, 11, 42, 18, 209, 181, 0, 88, 43, 176, 28, 4, 120, 89, 54, 4]
abbrev dktJ1_resize_1 : List UInt8 := dkwJ1_resize_1 ++ dktJ1_resize_2
def dkwJ1_resize_0 : List UInt8 := [42, 180, 0, 105, 76, 43, 199, 0, 7, 3, 167, 0, 5, 43, 190, 61, 42, 180, 0, 88, 62, 3, 54, 5]
abbrev dktJ1_resize_0 : List UInt8 := dkwJ1_resize_0 ++ dktJ1_resize_1
theorem dksJ1_resize_0 : cJ1_resize.data.toList.drop 0 = dktJ1_resize_0 := by decide +kernel
theorem dksJ1_resize_1 : cJ1_resize.data.toList.drop 24 = dktJ1_resize_1 := dk_seg dksJ1_resize_0 24 rfl rfl
theorem dksJ1_resize_2 : cJ1_resize.data.toList.drop 48 = dktJ1_resize_2 := dk_seg dksJ1_resize_1 24 rfl rfl
theorem dksJ1_resize_3 : cJ1_resize.data.toList.drop 72 = dktJ1_resize_3 := dk_seg dksJ1_resize_2 24 rfl rfl
theorem dksJ1_resize_4 : cJ1_resize.data.toList.drop 94 = dktJ1_resize_4 := dk_seg dksJ1_resize_3 22 rfl rfl
theorem dksJ1_resize_5 : cJ1_resize.data.toList.drop 118 = dktJ1_resize_5 := dk_seg dksJ1_resize_4 24 rfl rfl
theorem dksJ1_resize_6 : cJ1_resize.data.toList.drop 141 = dktJ1_resize_6 := dk_seg dksJ1_resize_5 23 rfl rfl
theorem dksJ1_resize_7 : cJ1_resize.data.toList.drop 164 = dktJ1_resize_7 := dk_seg dksJ1_resize_6 23 rfl rfl
theorem dksJ1_resize_8 : cJ1_resize.data.toList.drop 187 = dktJ1_resize_8 := dk_seg dksJ1_resize_7 23 rfl rfl
theorem dksJ1_resize_9 : cJ1_resize.data.toList.drop 211 = dktJ1_resize_9 := dk_seg dksJ1_resize_8 24 rfl rfl
theorem dksJ1_resize_10 : cJ1_resize.data.toList.drop 235 = dktJ1_resize_10 := dk_seg dksJ1_resize_9 24 rfl rfl
theorem dksJ1_resize_11 : cJ1_resize.data.toList.drop 259 = dktJ1_resize_11 := dk_seg dksJ1_resize_10 24 rfl rfl
theorem dksJ1_resize_12 : cJ1_resize.data.toList.drop 283 = dktJ1_resize_12 := dk_seg dksJ1_resize_11 24 rfl rfl
theorem dksJ1_resize_13 : cJ1_resize.data.toList.drop 306 = dktJ1_resize_13 := dk_seg dksJ1_resize_12 23 rfl rfl
theorem dksJ1_resize_14 : cJ1_resize.data.toList.drop 329 = dktJ1_resize_14 := dk_seg dksJ1_resize_13 23 rfl rfl
theorem dksJ1_resize_15 : cJ1_resize.data.toList.drop 353 = dktJ1_resize_15 := dk_seg dksJ1_resize_14 24 rfl rfl
theorem dJ1_resize_0 : decode cJ1_resize 0 = .ok (.aload_n 0, 1) := dk_42 (dk_at dksJ1_resize_0 0 rfl rfl)
theorem dJ1_resize_1 : decode cJ1_resize 1 = .ok (.getfield 105, 3) := dk_180 0 105 (dk_at dksJ1_resize_0 1 rfl rfl)
theorem dJ1_resize_4 : decode cJ1_resize 4 = .ok (.astore_n 1, 1) := dk_76 (dk_at dksJ1_resize_0 4 rfl rfl)
theorem dJ1_resize_5 : decode cJ1_resize 5 = .ok (.aload_n 1, 1) := dk_43 (dk_at dksJ1_resize_0 5 rfl rfl)
theorem dJ1_resize_6 : decode cJ1_resize 6 = .ok (.ifnonnull 7, 3) := dk_199 0 7 (dk_at dksJ1_resize_0 6 rfl rfl)
theorem dJ1_resize_9 : decode cJ1_resize 9 = .ok (.iconst 0, 1) := dk_3 (dk_at dksJ1_resize_0 9 rfl rfl)
theorem dJ1_resize_10 : decode cJ1_resize 10 = .ok (.goto 5, 3) := dk_167 0 5 (dk_at dksJ1_resize_0 10 rfl rfl)
theorem dJ1_resize_13 : decode cJ1_resize 13 = .ok (.aload_n 1, 1) := dk_43 (dk_at dksJ1_resize_0 13 rfl rfl)
theorem dJ1_resize_14 : decode cJ1_resize 14 = .ok (.arraylength, 1) := dk_190 (dk_at dksJ1_resize_0 14 rfl rfl)
theorem dJ1_resize_15 : decode cJ1_resize 15 = .ok (.istore_n 2, 1) := dk_61 (dk_at dksJ1_resize_0 15 rfl rfl)
theorem dJ1_resize_16 : decode cJ1_resize 16 = .ok (.aload_n 0, 1) := dk_42 (dk_at dksJ1_resize_0 16 rfl rfl)
theorem dJ1_resize_17 : decode cJ1_resize 17 = .ok (.getfield 88, 3) := dk_180 0 88 (dk_at dksJ1_resize_0 17 rfl rfl)
theorem dJ1_resize_20 : decode cJ1_resize 20 = .ok (.istore_n 3, 1) := dk_62 (dk_at dksJ1_resize_0 20 rfl rfl)
theorem dJ1_resize_21 : decode cJ1_resize 21 = .ok (.iconst 0, 1) := dk_3 (dk_at dksJ1_resize_0 21 rfl rfl)
theorem dJ1_resize_22 : decode cJ1_resize 22 = .ok (.istore 5, 2) := dk_54 5 (dk_at dksJ1_resize_0 22 rfl rfl)
theorem dJ1_resize_24 : decode cJ1_resize 24 = .ok (.iload_n 2, 1) := dk_28 (dk_at dksJ1_resize_1 0 rfl rfl)
theorem dJ1_resize_25 : decode cJ1_resize 25 = .ok (.ifCond .le 42, 3) := dk_158 0 42 (dk_at dksJ1_resize_1 1 rfl rfl)
theorem dJ1_resize_28 : decode cJ1_resize 28 = .ok (.iload_n 2, 1) := dk_28 (dk_at dksJ1_resize_1 4 rfl rfl)
theorem dJ1_resize_29 : decode cJ1_resize 29 = .ok (.ldc 42, 2) := dk_18 42 (dk_at dksJ1_resize_1 5 rfl rfl)
theorem dJ1_resize_31 : decode cJ1_resize 31 = .ok (.if_icmp .lt 11, 3) := dk_161 0 11 (dk_at dksJ1_resize_1 7 rfl rfl)
theorem dJ1_resize_34 : decode cJ1_resize 34 = .ok (.aload_n 0, 1) := dk_42 (dk_at dksJ1_resize_1 10 rfl rfl)
theorem dJ1_resize_35 : decode cJ1_resize 35 = .ok (.ldc 209, 2) := dk_18 209 (dk_at dksJ1_resize_1 11 rfl rfl)
theorem dJ1_resize_37 : decode cJ1_resize 37 = .ok (.putfield 88, 3) := dk_181 0 88 (dk_at dksJ1_resize_1 13 rfl rfl)
theorem dJ1_resize_40 : decode cJ1_resize 40 = .ok (.aload_n 1, 1) := dk_43 (dk_at dksJ1_resize_1 16 rfl rfl)
theorem dJ1_resize_41 : decode cJ1_resize 41 = .ok (.areturn, 1) := dk_176 (dk_at dksJ1_resize_1 17 rfl rfl)
theorem dJ1_resize_42 : decode cJ1_resize 42 = .ok (.iload_n 2, 1) := dk_28 (dk_at dksJ1_resize_1 18 rfl rfl)
theorem dJ1_resize_43 : decode cJ1_resize 43 = .ok (.iconst 1, 1) := dk_4 (dk_at dksJ1_resize_1 19 rfl rfl)
theorem dJ1_resize_44 : decode cJ1_resize 44 = .ok (.ishl, 1) := dk_120 (dk_at dksJ1_resize_1 20 rfl rfl)
theorem dJ1_resize_45 : decode cJ1_resize 45 = .ok (.dup, 1) := dk_89 (dk_at dksJ1_resize_1 21 rfl rfl)
theorem dJ1_resize_46 : decode cJ1_resize 46 = .ok (.istore 4, 2) := dk_54 4 (dk_at dksJ1_resize_1 22 rfl rfl)
theorem dJ1_resize_48 : decode cJ1_resize 48 = .ok (.ldc 42, 2) := dk_18 42 (dk_at dksJ1_resize_2 0 rfl rfl)
theorem dJ1_resize_50 : decode cJ1_resize 50 = .ok (.if_icmp .ge 35, 3) := dk_162 0 35 (dk_at dksJ1_resize_2 2 rfl rfl)
theorem dJ1_resize_53 : decode cJ1_resize 53 = .ok (.iload_n 2, 1) := dk_28 (dk_at dksJ1_resize_2 5 rfl rfl)
theorem dJ1_resize_54 : decode cJ1_resize 54 = .ok (.bipush 16, 2) := dk_16 16 (dk_at dksJ1_resize_2 6 rfl rfl)
theorem dJ1_resize_56 : decode cJ1_resize 56 = .ok (.if_icmp .lt 29, 3) := dk_161 0 29 (dk_at dksJ1_resize_2 8 rfl rfl)
theorem dJ1_resize_59 : decode cJ1_resize 59 = .ok (.iload_n 3, 1) := dk_29 (dk_at dksJ1_resize_2 11 rfl rfl)
theorem dJ1_resize_60 : decode cJ1_resize 60 = .ok (.iconst 1, 1) := dk_4 (dk_at dksJ1_resize_2 12 rfl rfl)
theorem dJ1_resize_61 : decode cJ1_resize 61 = .ok (.ishl, 1) := dk_120 (dk_at dksJ1_resize_2 13 rfl rfl)
theorem dJ1_resize_62 : decode cJ1_resize 62 = .ok (.istore 5, 2) := dk_54 5 (dk_at dksJ1_resize_2 14 rfl rfl)
theorem dJ1_resize_64 : decode cJ1_resize 64 = .ok (.goto 21, 3) := dk_167 0 21 (dk_at dksJ1_resize_2 16 rfl rfl)
theorem dJ1_resize_67 : decode cJ1_resize 67 = .ok (.iload_n 3, 1) := dk_29 (dk_at dksJ1_resize_2 19 rfl rfl)
theorem dJ1_resize_68 : decode cJ1_resize 68 = .ok (.ifCond .le 9, 3) := dk_158 0 9 (dk_at dksJ1_resize_2 20 rfl rfl)
theorem dJ1_resize_71 : decode cJ1_resize 71 = .ok (.iload_n 3, 1) := dk_29 (dk_at dksJ1_resize_2 23 rfl rfl)
theorem dJ1_resize_72 : decode cJ1_resize 72 = .ok (.istore 4, 2) := dk_54 4 (dk_at dksJ1_resize_3 0 rfl rfl)
theorem dJ1_resize_74 : decode cJ1_resize 74 = .ok (.goto 11, 3) := dk_167 0 11 (dk_at dksJ1_resize_3 2 rfl rfl)
theorem dJ1_resize_77 : decode cJ1_resize 77 = .ok (.bipush 16, 2) := dk_16 16 (dk_at dksJ1_resize_3 5 rfl rfl)
theorem dJ1_resize_79 : decode cJ1_resize 79 = .ok (.istore 4, 2) := dk_54 4 (dk_at dksJ1_resize_3 7 rfl rfl)
theorem dJ1_resize_81 : decode cJ1_resize 81 = .ok (.bipush 12, 2) := dk_16 12 (dk_at dksJ1_resize_3 9 rfl rfl)
theorem dJ1_resize_83 : decode cJ1_resize 83 = .ok (.istore 5, 2) := dk_54 5 (dk_at dksJ1_resize_3 11 rfl rfl)
theorem dJ1_resize_85 : decode cJ1_resize 85 = .ok (.iload 5, 2) := dk_21 5 (dk_at dksJ1_resize_3 13 rfl rfl)
theorem dJ1_resize_87 : decode cJ1_resize 87 = .ok (.ifCond .ne 38, 3) := dk_154 0 38 (dk_at dksJ1_resize_3 15 rfl rfl)
theorem dJ1_resize_90 : decode cJ1_resize 90 = .ok (.iload 4, 2) := dk_21 4 (dk_at dksJ1_resize_3 18 rfl rfl)
theorem dJ1_resize_92 : decode cJ1_resize 92 = .ok (.i2f, 1) := dk_134 (dk_at dksJ1_resize_3 20 rfl rfl)
theorem dJ1_resize_93 : decode cJ1_resize 93 = .ok (.aload_n 0, 1) := dk_42 (dk_at dksJ1_resize_3 21 rfl rfl)
theorem dJ1_resize_94 : decode cJ1_resize 94 = .ok (.getfield 81, 3) := dk_180 0 81 (dk_at dksJ1_resize_4 0 rfl rfl)
theorem dJ1_resize_97 : decode cJ1_resize 97 = .ok (.fmul, 1) := dk_106 (dk_at dksJ1_resize_4 3 rfl rfl)
theorem dJ1_resize_98 : decode cJ1_resize 98 = .ok (.fstore 6, 2) := dk_56 6 (dk_at dksJ1_resize_4 4 rfl rfl)
theorem dJ1_resize_100 : decode cJ1_resize 100 = .ok (.iload 4, 2) := dk_21 4 (dk_at dksJ1_resize_4 6 rfl rfl)
theorem dJ1_resize_102 : decode cJ1_resize 102 = .ok (.ldc 42, 2) := dk_18 42 (dk_at dksJ1_resize_4 8 rfl rfl)
theorem dJ1_resize_104 : decode cJ1_resize 104 = .ok (.if_icmp .ge 17, 3) := dk_162 0 17 (dk_at dksJ1_resize_4 10 rfl rfl)
theorem dJ1_resize_107 : decode cJ1_resize 107 = .ok (.fload 6, 2) := dk_23 6 (dk_at dksJ1_resize_4 13 rfl rfl)
theorem dJ1_resize_109 : decode cJ1_resize 109 = .ok (.ldc 210, 2) := dk_18 210 (dk_at dksJ1_resize_4 15 rfl rfl)
theorem dJ1_resize_111 : decode cJ1_resize 111 = .ok (.fcmp .g, 1) := dk_150 (dk_at dksJ1_resize_4 17 rfl rfl)
theorem dJ1_resize_112 : decode cJ1_resize 112 = .ok (.ifCond .ge 9, 3) := dk_156 0 9 (dk_at dksJ1_resize_4 18 rfl rfl)
theorem dJ1_resize_115 : decode cJ1_resize 115 = .ok (.fload 6, 2) := dk_23 6 (dk_at dksJ1_resize_4 21 rfl rfl)
theorem dJ1_resize_117 : decode cJ1_resize 117 = .ok (.f2i, 1) := dk_139 (dk_at dksJ1_resize_4 23 rfl rfl)
theorem dJ1_resize_118 : decode cJ1_resize 118 = .ok (.goto 5, 3) := dk_167 0 5 (dk_at dksJ1_resize_5 0 rfl rfl)
theorem dJ1_resize_121 : decode cJ1_resize 121 = .ok (.ldc 209, 2) := dk_18 209 (dk_at dksJ1_resize_5 3 rfl rfl)
theorem dJ1_resize_123 : decode cJ1_resize 123 = .ok (.istore 5, 2) := dk_54 5 (dk_at dksJ1_resize_5 5 rfl rfl)
theorem dJ1_resize_125 : decode cJ1_resize 125 = .ok (.aload_n 0, 1) := dk_42 (dk_at dksJ1_resize_5 7 rfl rfl)
theorem dJ1_resize_126 : decode cJ1_resize 126 = .ok (.iload 5, 2) := dk_21 5 (dk_at dksJ1_resize_5 8 rfl rfl)
theorem dJ1_resize_128 : decode cJ1_resize 128 = .ok (.putfield 88, 3) := dk_181 0 88 (dk_at dksJ1_resize_5 10 rfl rfl)
theorem dJ1_resize_131 : decode cJ1_resize 131 = .ok (.iload 4, 2) := dk_21 4 (dk_at dksJ1_resize_5 13 rfl rfl)
theorem dJ1_resize_133 : decode cJ1_resize 133 = .ok (.anewarray 163, 3) := dk_189 0 163 (dk_at dksJ1_resize_5 15 rfl rfl)
theorem dJ1_resize_136 : decode cJ1_resize 136 = .ok (.astore 6, 2) := dk_58 6 (dk_at dksJ1_resize_5 18 rfl rfl)
theorem dJ1_resize_138 : decode cJ1_resize 138 = .ok (.aload_n 0, 1) := dk_42 (dk_at dksJ1_resize_5 20 rfl rfl)
theorem dJ1_resize_139 : decode cJ1_resize 139 = .ok (.aload 6, 2) := dk_25 6 (dk_at dksJ1_resize_5 21 rfl rfl)
theorem dJ1_resize_141 : decode cJ1_resize 141 = .ok (.putfield 105, 3) := dk_181 0 105 (dk_at dksJ1_resize_6 0 rfl rfl)
theorem dJ1_resize_144 : decode cJ1_resize 144 = .ok (.aload_n 1, 1) := dk_43 (dk_at dksJ1_resize_6 3 rfl rfl)
theorem dJ1_resize_145 : decode cJ1_resize 145 = .ok (.ifnull 208, 3) := dk_198 0 208 (dk_at dksJ1_resize_6 4 rfl rfl)
theorem dJ1_resize_148 : decode cJ1_resize 148 = .ok (.iconst 0, 1) := dk_3 (dk_at dksJ1_resize_6 7 rfl rfl)
theorem dJ1_resize_149 : decode cJ1_resize 149 = .ok (.istore 7, 2) := dk_54 7 (dk_at dksJ1_resize_6 8 rfl rfl)
theorem dJ1_resize_151 : decode cJ1_resize 151 = .ok (.iload 7, 2) := dk_21 7 (dk_at dksJ1_resize_6 10 rfl rfl)
theorem dJ1_resize_153 : decode cJ1_resize 153 = .ok (.iload_n 2, 1) := dk_28 (dk_at dksJ1_resize_6 12 rfl rfl)
theorem dJ1_resize_154 : decode cJ1_resize 154 = .ok (.if_icmp .ge 199, 3) := dk_162 0 199 (dk_at dksJ1_resize_6 13 rfl rfl)
theorem dJ1_resize_157 : decode cJ1_resize 157 = .ok (.aload_n 1, 1) := dk_43 (dk_at dksJ1_resize_6 16 rfl rfl)
theorem dJ1_resize_158 : decode cJ1_resize 158 = .ok (.iload 7, 2) := dk_21 7 (dk_at dksJ1_resize_6 17 rfl rfl)
theorem dJ1_resize_160 : decode cJ1_resize 160 = .ok (.aaload, 1) := dk_50 (dk_at dksJ1_resize_6 19 rfl rfl)
theorem dJ1_resize_161 : decode cJ1_resize 161 = .ok (.dup, 1) := dk_89 (dk_at dksJ1_resize_6 20 rfl rfl)
theorem dJ1_resize_162 : decode cJ1_resize 162 = .ok (.astore 8, 2) := dk_58 8 (dk_at dksJ1_resize_6 21 rfl rfl)
theorem dJ1_resize_164 : decode cJ1_resize 164 = .ok (.ifnull 183, 3) := dk_198 0 183 (dk_at dksJ1_resize_7 0 rfl rfl)
theorem dJ1_resize_167 : decode cJ1_resize 167 = .ok (.aload_n 1, 1) := dk_43 (dk_at dksJ1_resize_7 3 rfl rfl)
theorem dJ1_resize_168 : decode cJ1_resize 168 = .ok (.iload 7, 2) := dk_21 7 (dk_at dksJ1_resize_7 4 rfl rfl)
theorem dJ1_resize_170 : decode cJ1_resize 170 = .ok (.aconst_null, 1) := dk_1 (dk_at dksJ1_resize_7 6 rfl rfl)
theorem dJ1_resize_171 : decode cJ1_resize 171 = .ok (.aastore, 1) := dk_83 (dk_at dksJ1_resize_7 7 rfl rfl)
theorem dJ1_resize_172 : decode cJ1_resize 172 = .ok (.aload 8, 2) := dk_25 8 (dk_at dksJ1_resize_7 8 rfl rfl)
theorem dJ1_resize_174 : decode cJ1_resize 174 = .ok (.getfield 177, 3) := dk_180 0 177 (dk_at dksJ1_resize_7 10 rfl rfl)
theorem dJ1_resize_177 : decode cJ1_resize 177 = .ok (.ifnonnull 21, 3) := dk_199 0 21 (dk_at dksJ1_resize_7 13 rfl rfl)
theorem dJ1_resize_180 : decode cJ1_resize 180 = .ok (.aload 6, 2) := dk_25 6 (dk_at dksJ1_resize_7 16 rfl rfl)
theorem dJ1_resize_182 : decode cJ1_resize 182 = .ok (.aload 8, 2) := dk_25 8 (dk_at dksJ1_resize_7 18 rfl rfl)
theorem dJ1_resize_184 : decode cJ1_resize 184 = .ok (.getfield 168, 3) := dk_180 0 168 (dk_at dksJ1_resize_7 20 rfl rfl)
theorem dJ1_resize_187 : decode cJ1_resize 187 = .ok (.iload 4, 2) := dk_21 4 (dk_at dksJ1_resize_8 0 rfl rfl)
theorem dJ1_resize_189 : decode cJ1_resize 189 = .ok (.iconst 1, 1) := dk_4 (dk_at dksJ1_resize_8 2 rfl rfl)
theorem dJ1_resize_190 : decode cJ1_resize 190 = .ok (.isub, 1) := dk_100 (dk_at dksJ1_resize_8 3 rfl rfl)
theorem dJ1_resize_191 : decode cJ1_resize 191 = .ok (.iand, 1) := dk_126 (dk_at dksJ1_resize_8 4 rfl rfl)
theorem dJ1_resize_192 : decode cJ1_resize 192 = .ok (.aload 8, 2) := dk_25 8 (dk_at dksJ1_resize_8 5 rfl rfl)
theorem dJ1_resize_194 : decode cJ1_resize 194 = .ok (.aastore, 1) := dk_83 (dk_at dksJ1_resize_8 7 rfl rfl)
theorem dJ1_resize_195 : decode cJ1_resize 195 = .ok (.goto 152, 3) := dk_167 0 152 (dk_at dksJ1_resize_8 8 rfl rfl)
theorem dJ1_resize_198 : decode cJ1_resize 198 = .ok (.aload 8, 2) := dk_25 8 (dk_at dksJ1_resize_8 11 rfl rfl)
theorem dJ1_resize_200 : decode cJ1_resize 200 = .ok (.instanceof 180, 3) := dk_193 0 180 (dk_at dksJ1_resize_8 13 rfl rfl)
theorem dJ1_resize_203 : decode cJ1_resize 203 = .ok (.ifCond .eq 20, 3) := dk_153 0 20 (dk_at dksJ1_resize_8 16 rfl rfl)
theorem dJ1_resize_206 : decode cJ1_resize 206 = .ok (.aload 8, 2) := dk_25 8 (dk_at dksJ1_resize_8 19 rfl rfl)
theorem dJ1_resize_208 : decode cJ1_resize 208 = .ok (.checkcast 180, 3) := dk_192 0 180 (dk_at dksJ1_resize_8 21 rfl rfl)
theorem dJ1_resize_211 : decode cJ1_resize 211 = .ok (.aload_n 0, 1) := dk_42 (dk_at dksJ1_resize_9 0 rfl rfl)
theorem dJ1_resize_212 : decode cJ1_resize 212 = .ok (.aload 6, 2) := dk_25 6 (dk_at dksJ1_resize_9 1 rfl rfl)
theorem dJ1_resize_214 : decode cJ1_resize 214 = .ok (.iload 7, 2) := dk_21 7 (dk_at dksJ1_resize_9 3 rfl rfl)
theorem dJ1_resize_216 : decode cJ1_resize 216 = .ok (.iload_n 2, 1) := dk_28 (dk_at dksJ1_resize_9 5 rfl rfl)
theorem dJ1_resize_217 : decode cJ1_resize 217 = .ok (.invokevirtual 211, 3) := dk_182 0 211 (dk_at dksJ1_resize_9 6 rfl rfl)
theorem dJ1_resize_220 : decode cJ1_resize 220 = .ok (.goto 127, 3) := dk_167 0 127 (dk_at dksJ1_resize_9 9 rfl rfl)
theorem dJ1_resize_223 : decode cJ1_resize 223 = .ok (.aconst_null, 1) := dk_1 (dk_at dksJ1_resize_9 12 rfl rfl)
theorem dJ1_resize_224 : decode cJ1_resize 224 = .ok (.astore 9, 2) := dk_58 9 (dk_at dksJ1_resize_9 13 rfl rfl)
theorem dJ1_resize_226 : decode cJ1_resize 226 = .ok (.aconst_null, 1) := dk_1 (dk_at dksJ1_resize_9 15 rfl rfl)
theorem dJ1_resize_227 : decode cJ1_resize 227 = .ok (.astore 10, 2) := dk_58 10 (dk_at dksJ1_resize_9 16 rfl rfl)
theorem dJ1_resize_229 : decode cJ1_resize 229 = .ok (.aconst_null, 1) := dk_1 (dk_at dksJ1_resize_9 18 rfl rfl)
theorem dJ1_resize_230 : decode cJ1_resize 230 = .ok (.astore 11, 2) := dk_58 11 (dk_at dksJ1_resize_9 19 rfl rfl)
theorem dJ1_resize_232 : decode cJ1_resize 232 = .ok (.aconst_null, 1) := dk_1 (dk_at dksJ1_resize_9 21 rfl rfl)
theorem dJ1_resize_233 : decode cJ1_resize 233 = .ok (.astore 12, 2) := dk_58 12 (dk_at dksJ1_resize_9 22 rfl rfl)
theorem dJ1_resize_235 : decode cJ1_resize 235 = .ok (.aload 8, 2) := dk_25 8 (dk_at dksJ1_resize_10 0 rfl rfl)
theorem dJ1_resize_237 : decode cJ1_resize 237 = .ok (.getfield 177, 3) := dk_180 0 177 (dk_at dksJ1_resize_10 2 rfl rfl)
theorem dJ1_resize_240 : decode cJ1_resize 240 = .ok (.astore 13, 2) := dk_58 13 (dk_at dksJ1_resize_10 5 rfl rfl)
theorem dJ1_resize_242 : decode cJ1_resize 242 = .ok (.aload 8, 2) := dk_25 8 (dk_at dksJ1_resize_10 7 rfl rfl)
theorem dJ1_resize_244 : decode cJ1_resize 244 = .ok (.getfield 168, 3) := dk_180 0 168 (dk_at dksJ1_resize_10 9 rfl rfl)
theorem dJ1_resize_247 : decode cJ1_resize 247 = .ok (.iload_n 2, 1) := dk_28 (dk_at dksJ1_resize_10 12 rfl rfl)
theorem dJ1_resize_248 : decode cJ1_resize 248 = .ok (.iand, 1) := dk_126 (dk_at dksJ1_resize_10 13 rfl rfl)
theorem dJ1_resize_249 : decode cJ1_resize 249 = .ok (.ifCond .ne 29, 3) := dk_154 0 29 (dk_at dksJ1_resize_10 14 rfl rfl)
theorem dJ1_resize_252 : decode cJ1_resize 252 = .ok (.aload 10, 2) := dk_25 10 (dk_at dksJ1_resize_10 17 rfl rfl)
theorem dJ1_resize_254 : decode cJ1_resize 254 = .ok (.ifnonnull 10, 3) := dk_199 0 10 (dk_at dksJ1_resize_10 19 rfl rfl)
theorem dJ1_resize_257 : decode cJ1_resize 257 = .ok (.aload 8, 2) := dk_25 8 (dk_at dksJ1_resize_10 22 rfl rfl)
theorem dJ1_resize_259 : decode cJ1_resize 259 = .ok (.astore 9, 2) := dk_58 9 (dk_at dksJ1_resize_11 0 rfl rfl)
theorem dJ1_resize_261 : decode cJ1_resize 261 = .ok (.goto 10, 3) := dk_167 0 10 (dk_at dksJ1_resize_11 2 rfl rfl)
theorem dJ1_resize_264 : decode cJ1_resize 264 = .ok (.aload 10, 2) := dk_25 10 (dk_at dksJ1_resize_11 5 rfl rfl)
theorem dJ1_resize_266 : decode cJ1_resize 266 = .ok (.aload 8, 2) := dk_25 8 (dk_at dksJ1_resize_11 7 rfl rfl)
theorem dJ1_resize_268 : decode cJ1_resize 268 = .ok (.putfield 177, 3) := dk_181 0 177 (dk_at dksJ1_resize_11 9 rfl rfl)
theorem dJ1_resize_271 : decode cJ1_resize 271 = .ok (.aload 8, 2) := dk_25 8 (dk_at dksJ1_resize_11 12 rfl rfl)
theorem dJ1_resize_273 : decode cJ1_resize 273 = .ok (.astore 10, 2) := dk_58 10 (dk_at dksJ1_resize_11 14 rfl rfl)
theorem dJ1_resize_275 : decode cJ1_resize 275 = .ok (.goto 26, 3) := dk_167 0 26 (dk_at dksJ1_resize_11 16 rfl rfl)
theorem dJ1_resize_278 : decode cJ1_resize 278 = .ok (.aload 12, 2) := dk_25 12 (dk_at dksJ1_resize_11 19 rfl rfl)
theorem dJ1_resize_280 : decode cJ1_resize 280 = .ok (.ifnonnull 10, 3) := dk_199 0 10 (dk_at dksJ1_resize_11 21 rfl rfl)
theorem dJ1_resize_283 : decode cJ1_resize 283 = .ok (.aload 8, 2) := dk_25 8 (dk_at dksJ1_resize_12 0 rfl rfl)
theorem dJ1_resize_285 : decode cJ1_resize 285 = .ok (.astore 11, 2) := dk_58 11 (dk_at dksJ1_resize_12 2 rfl rfl)
theorem dJ1_resize_287 : decode cJ1_resize 287 = .ok (.goto 10, 3) := dk_167 0 10 (dk_at dksJ1_resize_12 4 rfl rfl)
theorem dJ1_resize_290 : decode cJ1_resize 290 = .ok (.aload 12, 2) := dk_25 12 (dk_at dksJ1_resize_12 7 rfl rfl)
theorem dJ1_resize_292 : decode cJ1_resize 292 = .ok (.aload 8, 2) := dk_25 8 (dk_at dksJ1_resize_12 9 rfl rfl)
theorem dJ1_resize_294 : decode cJ1_resize 294 = .ok (.putfield 177, 3) := dk_181 0 177 (dk_at dksJ1_resize_12 11 rfl rfl)
theorem dJ1_resize_297 : decode cJ1_resize 297 = .ok (.aload 8, 2) := dk_25 8 (dk_at dksJ1_resize_12 14 rfl rfl)
theorem dJ1_resize_299 : decode cJ1_resize 299 = .ok (.astore 12, 2) := dk_58 12 (dk_at dksJ1_resize_12 16 rfl rfl)
theorem dJ1_resize_301 : decode cJ1_resize 301 = .ok (.aload 13, 2) := dk_25 13 (dk_at dksJ1_resize_12 18 rfl rfl)
theorem dJ1_resize_303 : decode cJ1_resize 303 = .ok (.dup, 1) := dk_89 (dk_at dksJ1_resize_12 20 rfl rfl)
theorem dJ1_resize_304 : decode cJ1_resize 304 = .ok (.astore 8, 2) := dk_58 8 (dk_at dksJ1_resize_12 21 rfl rfl)
theorem dJ1_resize_306 : decode cJ1_resize 306 = .ok (.ifnonnull (-71), 3) := dk_199 255 185 (dk_at dksJ1_resize_13 0 rfl rfl)
theorem dJ1_resize_309 : decode cJ1_resize 309 = .ok (.aload 10, 2) := dk_25 10 (dk_at dksJ1_resize_13 3 rfl rfl)
theorem dJ1_resize_311 : decode cJ1_resize 311 = .ok (.ifnull 16, 3) := dk_198 0 16 (dk_at dksJ1_resize_13 5 rfl rfl)
theorem dJ1_resize_314 : decode cJ1_resize 314 = .ok (.aload 10, 2) := dk_25 10 (dk_at dksJ1_resize_13 8 rfl rfl)
theorem dJ1_resize_316 : decode cJ1_resize 316 = .ok (.aconst_null, 1) := dk_1 (dk_at dksJ1_resize_13 10 rfl rfl)
theorem dJ1_resize_317 : decode cJ1_resize 317 = .ok (.putfield 177, 3) := dk_181 0 177 (dk_at dksJ1_resize_13 11 rfl rfl)
theorem dJ1_resize_320 : decode cJ1_resize 320 = .ok (.aload 6, 2) := dk_25 6 (dk_at dksJ1_resize_13 14 rfl rfl)
theorem dJ1_resize_322 : decode cJ1_resize 322 = .ok (.iload 7, 2) := dk_21 7 (dk_at dksJ1_resize_13 16 rfl rfl)
theorem dJ1_resize_324 : decode cJ1_resize 324 = .ok (.aload 9, 2) := dk_25 9 (dk_at dksJ1_resize_13 18 rfl rfl)
theorem dJ1_resize_326 : decode cJ1_resize 326 = .ok (.aastore, 1) := dk_83 (dk_at dksJ1_resize_13 20 rfl rfl)
theorem dJ1_resize_327 : decode cJ1_resize 327 = .ok (.aload 12, 2) := dk_25 12 (dk_at dksJ1_resize_13 21 rfl rfl)
theorem dJ1_resize_329 : decode cJ1_resize 329 = .ok (.ifnull 18, 3) := dk_198 0 18 (dk_at dksJ1_resize_14 0 rfl rfl)
theorem dJ1_resize_332 : decode cJ1_resize 332 = .ok (.aload 12, 2) := dk_25 12 (dk_at dksJ1_resize_14 3 rfl rfl)
theorem dJ1_resize_334 : decode cJ1_resize 334 = .ok (.aconst_null, 1) := dk_1 (dk_at dksJ1_resize_14 5 rfl rfl)
theorem dJ1_resize_335 : decode cJ1_resize 335 = .ok (.putfield 177, 3) := dk_181 0 177 (dk_at dksJ1_resize_14 6 rfl rfl)
theorem dJ1_resize_338 : decode cJ1_resize 338 = .ok (.aload 6, 2) := dk_25 6 (dk_at dksJ1_resize_14 9 rfl rfl)
theorem dJ1_resize_340 : decode cJ1_resize 340 = .ok (.iload 7, 2) := dk_21 7 (dk_at dksJ1_resize_14 11 rfl rfl)
theorem dJ1_resize_342 : decode cJ1_resize 342 = .ok (.iload_n 2, 1) := dk_28 (dk_at dksJ1_resize_14 13 rfl rfl)
theorem dJ1_resize_343 : decode cJ1_resize 343 = .ok (.iadd, 1) := dk_96 (dk_at dksJ1_resize_14 14 rfl rfl)
theorem dJ1_resize_344 : decode cJ1_resize 344 = .ok (.aload 11, 2) := dk_25 11 (dk_at dksJ1_resize_14 15 rfl rfl)
theorem dJ1_resize_346 : decode cJ1_resize 346 = .ok (.aastore, 1) := dk_83 (dk_at dksJ1_resize_14 17 rfl rfl)
theorem dJ1_resize_347 : decode cJ1_resize 347 = .ok (.iinc 7 1, 3) := dk_132 7 1 (dk_at dksJ1_resize_14 18 rfl rfl)
theorem dJ1_resize_350 : decode cJ1_resize 350 = .ok (.goto (-199), 3) := dk_167 255 57 (dk_at dksJ1_resize_14 21 rfl rfl)
theorem dJ1_resize_353 : decode cJ1_resize 353 = .ok (.aload 6, 2) := dk_25 6 (dk_at dksJ1_resize_15 0 rfl rfl)
theorem dJ1_resize_355 : decode cJ1_resize 355 = .ok (.areturn, 1) := dk_176 (dk_at dksJ1_resize_15 2 rfl rfl)
def dkwJ1_replacementNode_0 : List UInt8 := [187, 0, 163, 89, 43, 180, 0, 168, 43, 180, 0, 170, 43, 180, 0, 162, 44, 183, 1, 119, 176]
abbrev dktJ1_replacementNode_0 : List UInt8 := dkwJ1_replacementNode_0 ++ []
theorem dksJ1_replacementNode_0 : cJ1_replacementNode.data.toList.drop 0 = dktJ1_replacementNode_0 := by decide +kernel
theorem dJ1_replacementNode_0 : decode cJ1_replacementNode 0 = .ok (.new 163, 3) := dk_187 0 163 (dk_at dksJ1_replacementNode_0 0 rfl rfl)
theorem dJ1_replacementNode_3 : decode cJ1_replacementNode 3 = .ok (.dup, 1) := dk_89 (dk_at dksJ1_replacementNode_0 3 rfl rfl)
theorem dJ1_replacementNode_4 : decode cJ1_replacementNode 4 = .ok (.aload_n 1, 1) := dk_43 (dk_at dksJ1_replacementNode_0 4 rfl rfl)
theorem dJ1_replacementNode_5 : decode cJ1_replacementNode 5 = .ok (.getfield 168, 3) := dk_180 0 168 (dk_at dksJ1_replacementNode_0 5 rfl rfl)
theorem dJ1_replacementNode_8 : decode cJ1_replacementNode 8 = .ok (.aload_n 1, 1) := dk_43 (dk_at dksJ1_replacementNode_0 8 rfl rfl)
theorem dJ1_replacementNode_9 : decode cJ1_replacementNode 9 = .ok (.getfield 170, 3) := dk_180 0 170 (dk_at dksJ1_replacementNode_0 9 rfl rfl)
theorem dJ1_replacementNode_12 : decode cJ1_replacementNode 12 = .ok (.aload_n 1, 1) := dk_43 (dk_at dksJ1_replacementNode_0 12 rfl rfl)
theorem dJ1_replacementNode_13 : decode cJ1_replacementNode 13 = .ok (.getfield 162, 3) := dk_180 0 162 (dk_at dksJ1_replacementNode_0 13 rfl rfl)
theorem dJ1_replacementNode_16 : decode cJ1_replacementNode 16 = .ok (.aload_n 2, 1) := dk_44 (dk_at dksJ1_replacementNode_0 16 rfl rfl)
theorem dJ1_replacementNode_17 : decode cJ1_replacementNode 17 = .ok (.invokespecial 375, 3) := dk_183 1 119 (dk_at dksJ1_replacementNode_0 17 rfl rfl)
theorem dJ1_replacementNode_20 : decode cJ1_replacementNode 20 = .ok (.areturn, 1) := dk_176 (dk_at dksJ1_replacementNode_0 20 rfl rfl)
def dkwJ1_newNode_0 : List UInt8 := [187, 0, 163, 89, 27, 44, 45, 25, 4, 183, 1, 119, 176]
abbrev dktJ1_newNode_0 : List UInt8 := dkwJ1_newNode_0 ++ []
theorem dksJ1_newNode_0 : cJ1_newNode.data.toList.drop 0 = dktJ1_newNode_0 := by decide +kernel
theorem dJ1_newNode_0 : decode cJ1_newNode 0 = .ok (.new 163, 3) := dk_187 0 163 (dk_at dksJ1_newNode_0 0 rfl rfl)
theorem dJ1_newNode_3 : decode cJ1_newNode 3 = .ok (.dup, 1) := dk_89 (dk_at dksJ1_newNode_0 3 rfl rfl)
theorem dJ1_newNode_4 : decode cJ1_newNode 4 = .ok (.iload_n 1, 1) := dk_27 (dk_at dksJ1_newNode_0 4 rfl rfl)
theorem dJ1_newNode_5 : decode cJ1_newNode 5 = .ok (.aload_n 2, 1) := dk_44 (dk_at dksJ1_newNode_0 5 rfl rfl)
theorem dJ1_newNode_6 : decode cJ1_newNode 6 = .ok (.aload_n 3, 1) := dk_45 (dk_at dksJ1_newNode_0 6 rfl rfl)
theorem dJ1_newNode_7 : decode cJ1_newNode 7 = .ok (.aload 4, 2) := dk_25 4 (dk_at dksJ1_newNode_0 7 rfl rfl)
theorem dJ1_newNode_9 : decode cJ1_newNode 9 = .ok (.invokespecial 375, 3) := dk_183 1 119 (dk_at dksJ1_newNode_0 9 rfl rfl)
theorem dJ1_newNode_12 : decode cJ1_newNode 12 = .ok (.areturn, 1) := dk_176 (dk_at dksJ1_newNode_0 12 rfl rfl)
def dkwJ1_newTreeNode_0 : List UInt8 := [187, 0, 180, 89, 27, 44, 45, 25, 4, 183, 1, 122, 176]
abbrev dktJ1_newTreeNode_0 : List UInt8 := dkwJ1_newTreeNode_0 ++ []
theorem dksJ1_newTreeNode_0 : cJ1_newTreeNode.data.toList.drop 0 = dktJ1_newTreeNode_0 := by decide +kernel
theorem dJ1_newTreeNode_0 : decode cJ1_newTreeNode 0 = .ok (.new 180, 3) := dk_187 0 180 (dk_at dksJ1_newTreeNode_0 0 rfl rfl)
theorem dJ1_newTreeNode_3 : decode cJ1_newTreeNode 3 = .ok (.dup, 1) := dk_89 (dk_at dksJ1_newTreeNode_0 3 rfl rfl)
theorem dJ1_newTreeNode_4 : decode cJ1_newTreeNode 4 = .ok (.iload_n 1, 1) := dk_27 (dk_at dksJ1_newTreeNode_0 4 rfl rfl)
theorem dJ1_newTreeNode_5 : decode cJ1_newTreeNode 5 = .ok (.aload_n 2, 1) := dk_44 (dk_at dksJ1_newTreeNode_0 5 rfl rfl)
theorem dJ1_newTreeNode_6 : decode cJ1_newTreeNode 6 = .ok (.aload_n 3, 1) := dk_45 (dk_at dksJ1_newTreeNode_0 6 rfl rfl)
theorem dJ1_newTreeNode_7 : decode cJ1_newTreeNode 7 = .ok (.aload 4, 2) := dk_25 4 (dk_at dksJ1_newTreeNode_0 7 rfl rfl)
theorem dJ1_newTreeNode_9 : decode cJ1_newTreeNode 9 = .ok (.invokespecial 378, 3) := dk_183 1 122 (dk_at dksJ1_newTreeNode_0 9 rfl rfl)
theorem dJ1_newTreeNode_12 : decode cJ1_newTreeNode 12 = .ok (.areturn, 1) := dk_176 (dk_at dksJ1_newTreeNode_0 12 rfl rfl)
def dkwJ1_treeifyBin_4 : List UInt8 := [21, 4, 25, 6, 91, 83, 198, 0, 9, 25, 6, 43, 182, 0, 224, 177]
abbrev dktJ1_treeifyBin_4 : List UInt8 := dkwJ1_treeifyBin_4 ++ []
def dkwJ1_treeifyBin_3 : List UInt8 := [25, 7, 25, 8, 181, 0, 223, 25, 8, 58, 7, 25, 5, 180, 0, 177, 89, 58, 5, 199, 255, 209, 43]
abbrev dktJ1_treeifyBin_3 : List UInt8 := dkwJ1_treeifyBin_3 ++ dktJ1_treeifyBin_4
def dkwJ1_treeifyBin_2 : List UInt8 := [182, 0, 215, 58, 8, 25, 7, 199, 0, 10, 25, 8, 58, 6, 167, 0, 17, 25, 8, 25, 7, 181, 0, 219]
abbrev dktJ1_treeifyBin_2 : List UInt8 := dkwJ1_treeifyBin_2 ++ dktJ1_treeifyBin_3
def dkwJ1_treeifyBin_1 : List UInt8 := [100, 28, 126, 89, 54, 4, 50, 89, 58, 5, 198, 0, 75, 1, 58, 6, 1, 58, 7, 42, 25, 5, 1]
abbrev dktJ1_treeifyBin_1 : List UInt8 := dkwJ1_treeifyBin_1 ++ dktJ1_treeifyBin_2
def dkwJ1_treeifyBin_0 : List UInt8 := [43, 198, 0, 12, 43, 190, 89, 62, 16, 64, 162, 0, 11, 42, 182, 0, 117, 87, 167, 0, 91, 43, 29, 4]
abbrev dktJ1_treeifyBin_0 : List UInt8 := dkwJ1_treeifyBin_0 ++ dktJ1_treeifyBin_1
theorem dksJ1_treeifyBin_0 : cJ1_treeifyBin.data.toList.drop 0 = dktJ1_treeifyBin_0 := by decide +kernel
theorem dksJ1_treeifyBin_1 : cJ1_treeifyBin.data.toList.drop 24 = dktJ1_treeifyBin_1 := dk_seg dksJ1_treeifyBin_0 24 rfl rfl
theorem dksJ1_treeifyBin_2 : cJ1_treeifyBin.data.toList.drop 47 = dktJ1_treeifyBin_2 := dk_seg dksJ1_treeifyBin_1 23 rfl rfl
theorem dksJ1_treeifyBin_3 : cJ1_treeifyBin.data.toList.drop 71 = dktJ1_treeifyBin_3 := dk_seg dksJ1_treeifyBin_2 24 rfl rfl
theorem dksJ1_treeifyBin_4 : cJ1_treeifyBin.data.toList.drop 94 = dktJ1_treeifyBin_4 := dk_seg dksJ1_treeifyBin_3 23 rfl rfl
theorem dJ1_treeifyBin_0 : decode cJ1_treeifyBin 0 = .ok (.aload_n 1, 1) := dk_43 (dk_at dksJ1_treeifyBin_0 0 rfl rfl)
theorem dJ1_treeifyBin_1 : decode cJ1_treeifyBin 1 = .ok (.ifnull 12, 3) := dk_198 0 12 (dk_at dksJ1_treeifyBin_0 1 rfl rfl)
theorem dJ1_treeifyBin_4 : decode cJ1_treeifyBin 4 = .ok (.aload_n 1, 1) := dk_43 (dk_at dksJ1_treeifyBin_0 4 rfl rfl)
theorem dJ1_treeifyBin_5 : decode cJ1_treeifyBin 5 = .ok (.arraylength, 1) := dk_190 (dk_at dksJ1_treeifyBin_0 5 rfl rfl)
theorem dJ1_treeifyBin_6 : decode cJ1_treeifyBin 6 = .ok (.dup, 1) := dk_89 (dk_at dksJ1_treeifyBin_0 6 rfl rfl)
theorem dJ1_treeifyBin_7 : decode cJ1_treeifyBin 7 = .ok (.istore_n 3, 1) := dk_62 (dk_at dksJ1_treeifyBin_0 7 rfl rfl)
theorem dJ1_treeifyBin_8 : decode cJ1_treeifyBin 8 = .ok (.bipush 64, 2) := dk_16 64 (dk_at dksJ1_treeifyBin_0 8 rfl rfl)
theorem dJ1_treeifyBin_10 : decode cJ1_treeifyBin 10 = .ok (.if_icmp .ge 11, 3) := dk_162 0 11 (dk_at dksJ1_treeifyBin_0 10 rfl rfl)
theorem dJ1_treeifyBin_13 : decode cJ1_treeifyBin 13 = .ok (.aload_n 0, 1) := dk_42 (dk_at dksJ1_treeifyBin_0 13 rfl rfl)
theorem dJ1_treeifyBin_14 : decode cJ1_treeifyBin 14 = .ok (.invokevirtual 117, 3) := dk_182 0 117 (dk_at dksJ1_treeifyBin_0 14 rfl rfl)
theorem dJ1_treeifyBin_17 : decode cJ1_treeifyBin 17 = .ok (.pop, 1) := dk_87 (dk_at dksJ1_treeifyBin_0 17 rfl rfl)
theorem dJ1_treeifyBin_18 : decode cJ1_treeifyBin 18 = .ok (.goto 91, 3) := dk_167 0 91 (dk_at dksJ1_treeifyBin_0 18 rfl rfl)
theorem dJ1_treeifyBin_21 : decode cJ1_treeifyBin 21 = .ok (.aload_n 1, 1) := dk_43 (dk_at dksJ1_treeifyBin_0 21 rfl rfl)
theorem dJ1_treeifyBin_22 : decode cJ1_treeifyBin 22 = .ok (.iload_n 3, 1) := dk_29 (dk_at dksJ1_treeifyBin_0 22 rfl rfl)
theorem dJ1_treeifyBin_23 : decode cJ1_treeifyBin 23 = .ok (.iconst 1, 1) := dk_4 (dk_at dksJ1_treeifyBin_0 23 rfl rfl)
theorem dJ1_treeifyBin_24 : decode cJ1_treeifyBin 24 = .ok (.isub, 1) := dk_100 (dk_at dksJ1_treeifyBin_1 0 rfl rfl)
theorem dJ1_treeifyBin_25 : decode cJ1_treeifyBin 25 = .ok (.iload_n 2, 1) := dk_28 (dk_at dksJ1_treeifyBin_1 1 rfl rfl)
theorem dJ1_treeifyBin_26 : decode cJ1_treeifyBin 26 = .ok (.iand, 1) := dk_126 (dk_at dksJ1_treeifyBin_1 2 rfl rfl)
theorem dJ1_treeifyBin_27 : decode cJ1_treeifyBin 27 = .ok (.dup, 1) := dk_89 (dk_at dksJ1_treeifyBin_1 3 rfl rfl)
theorem dJ1_treeifyBin_28 : decode cJ1_treeifyBin 28 = .ok (.istore 4, 2) := dk_54 4 (dk_at dksJ1_treeifyBin_1 4 rfl rfl)
theorem dJ1_treeifyBin_30 : decode cJ1_treeifyBin 30 = .ok (.aaload, 1) := dk_50 (dk_at dksJ1_treeifyBin_1 6 rfl rfl)
theorem dJ1_treeifyBin_31 : decode cJ1_treeifyBin 31 = .ok (.dup, 1) := dk_89 (dk_at dksJ1_treeifyBin_1 7 rfl rfl)
theorem dJ1_treeifyBin_32 : decode cJ1_treeifyBin 32 = .ok (.astore 5, 2) := dk_58 5 (dk_at dksJ1_treeifyBin_1 8 rfl rfl)
theorem dJ1_treeifyBin_34 : decode cJ1_treeifyBin 34 = .ok (.ifnull 75, 3) := dk_198 0 75 (dk_at dksJ1_treeifyBin_1 10 rfl rfl)
theorem dJ1_treeifyBin_37 : decode cJ1_treeifyBin 37 = .ok (.aconst_null, 1) := dk_1 (dk_at dksJ1_treeifyBin_1 13 rfl rfl)
theorem dJ1_treeifyBin_38 : decode cJ1_treeifyBin 38 = .ok (.astore 6, 2) := dk_58 6 (dk_at dksJ1_treeifyBin_1 14 rfl rfl)
theorem dJ1_treeifyBin_40 : decode cJ1_treeifyBin 40 = .ok (.aconst_null, 1) := dk_1 (dk_at dksJ1_treeifyBin_1 16 rfl rfl)
theorem dJ1_treeifyBin_41 : decode cJ1_treeifyBin 41 = .ok (.astore 7, 2) := dk_58 7 (dk_at dksJ1_treeifyBin_1 17 rfl rfl)
theorem dJ1_treeifyBin_43 : decode cJ1_treeifyBin 43 = .ok (.aload_n 0, 1) := dk_42 (dk_at dksJ1_treeifyBin_1 19 rfl rfl)
theorem dJ1_treeifyBin_44 : decode cJ1_treeifyBin 44 = .ok (.aload 5, 2) := dk_25 5 (dk_at dksJ1_treeifyBin_1 20 rfl rfl)
theorem dJ1_treeifyBin_46 : decode cJ1_treeifyBin 46 = .ok (.aconst_null, 1) := dk_1 (dk_at dksJ1_treeifyBin_1 22 rfl rfl)
theorem dJ1_treeifyBin_47 : decode cJ1_treeifyBin 47 = .ok (.invokevirtual 215, 3) := dk_182 0 215 (dk_at dksJ1_treeifyBin_2 0 rfl rfl)
theorem dJ1_treeifyBin_50 : decode cJ1_treeifyBin 50 = .ok (.astore 8, 2) := dk_58 8 (dk_at dksJ1_treeifyBin_2 3 rfl rfl)
theorem dJ1_treeifyBin_52 : decode cJ1_treeifyBin 52 = .ok (.aload 7, 2) := dk_25 7 (dk_at dksJ1_treeifyBin_2 5 rfl rfl)
theorem dJ1_treeifyBin_54 : decode cJ1_treeifyBin 54 = .ok (.ifnonnull 10, 3) := dk_199 0 10 (dk_at dksJ1_treeifyBin_2 7 rfl rfl)
theorem dJ1_treeifyBin_57 : decode cJ1_treeifyBin 57 = .ok (.aload 8, 2) := dk_25 8 (dk_at dksJ1_treeifyBin_2 10 rfl rfl)
theorem dJ1_treeifyBin_59 : decode cJ1_treeifyBin 59 = .ok (.astore 6, 2) := dk_58 6 (dk_at dksJ1_treeifyBin_2 12 rfl rfl)
theorem dJ1_treeifyBin_61 : decode cJ1_treeifyBin 61 = .ok (.goto 17, 3) := dk_167 0 17 (dk_at dksJ1_treeifyBin_2 14 rfl rfl)
theorem dJ1_treeifyBin_64 : decode cJ1_treeifyBin 64 = .ok (.aload 8, 2) := dk_25 8 (dk_at dksJ1_treeifyBin_2 17 rfl rfl)
theorem dJ1_treeifyBin_66 : decode cJ1_treeifyBin 66 = .ok (.aload 7, 2) := dk_25 7 (dk_at dksJ1_treeifyBin_2 19 rfl rfl)
theorem dJ1_treeifyBin_68 : decode cJ1_treeifyBin 68 = .ok (.putfield 219, 3) := dk_181 0 219 (dk_at dksJ1_treeifyBin_2 21 rfl rfl)
theorem dJ1_treeifyBin_71 : decode cJ1_treeifyBin 71 = .ok (.aload 7, 2) := dk_25 7 (dk_at dksJ1_treeifyBin_3 0 rfl rfl)
theorem dJ1_treeifyBin_73 : decode cJ1_treeifyBin 73 = .ok (.aload 8, 2) := dk_25 8 (dk_at dksJ1_treeifyBin_3 2 rfl rfl)
theorem dJ1_treeifyBin_75 : decode cJ1_treeifyBin 75 = .ok (.putfield 223, 3) := dk_181 0 223 (dk_at dksJ1_treeifyBin_3 4 rfl rfl)
theorem dJ1_treeifyBin_78 : decode cJ1_treeifyBin 78 = .ok (.aload 8, 2) := dk_25 8 (dk_at dksJ1_treeifyBin_3 7 rfl rfl)
theorem dJ1_treeifyBin_80 : decode cJ1_treeifyBin 80 = .ok (.astore 7, 2) := dk_58 7 (dk_at dksJ1_treeifyBin_3 9 rfl rfl)
theorem dJ1_treeifyBin_82 : decode cJ1_treeifyBin 82 = .ok (.aload 5, 2) := dk_25 5 (dk_at dksJ1_treeifyBin_3 11 rfl rfl)
theorem dJ1_treeifyBin_84 : decode cJ1_treeifyBin 84 = .ok (.getfield 177, 3) := dk_180 0 177 (dk_at dksJ1_treeifyBin_3 13 rfl rfl)
theorem dJ1_treeifyBin_87 : decode cJ1_treeifyBin 87 = .ok (.dup, 1) := dk_89 (dk_at dksJ1_treeifyBin_3 16 rfl rfl)
theorem dJ1_treeifyBin_88 : decode cJ1_treeifyBin 88 = .ok (.astore 5, 2) := dk_58 5 (dk_at dksJ1_treeifyBin_3 17 rfl rfl)
theorem dJ1_treeifyBin_90 : decode cJ1_treeifyBin 90 = .ok (.ifnonnull (-47), 3) := dk_199 255 209 (dk_at dksJ1_treeifyBin_3 19 rfl rfl)
theorem dJ1_treeifyBin_93 : decode cJ1_treeifyBin 93 = .ok (.aload_n 1, 1) := dk_43 (dk_at dksJ1_treeifyBin_3 22 rfl rfl)
theorem dJ1_treeifyBin_94 : decode cJ1_treeifyBin 94 = .ok (.iload 4, 2) := dk_21 4 (dk_at dksJ1_treeifyBin_4 0 rfl rfl)
theorem dJ1_treeifyBin_96 : decode cJ1_treeifyBin 96 = .ok (.aload 6, 2) := dk_25 6 (dk_at dksJ1_treeifyBin_4 2 rfl rfl)
theorem dJ1_treeifyBin_98 : decode cJ1_treeifyBin 98 = .ok (.dup_x2, 1) := dk_91 (dk_at dksJ1_treeifyBin_4 4 rfl rfl)
theorem dJ1_treeifyBin_99 : decode cJ1_treeifyBin 99 = .ok (.aastore, 1) := dk_83 (dk_at dksJ1_treeifyBin_4 5 rfl rfl)
theorem dJ1_treeifyBin_100 : decode cJ1_treeifyBin 100 = .ok (.ifnull 9, 3) := dk_198 0 9 (dk_at dksJ1_treeifyBin_4 6 rfl rfl)
theorem dJ1_treeifyBin_103 : decode cJ1_treeifyBin 103 = .ok (.aload 6, 2) := dk_25 6 (dk_at dksJ1_treeifyBin_4 9 rfl rfl)
theorem dJ1_treeifyBin_105 : decode cJ1_treeifyBin 105 = .ok (.aload_n 1, 1) := dk_43 (dk_at dksJ1_treeifyBin_4 11 rfl rfl)
theorem dJ1_treeifyBin_106 : decode cJ1_treeifyBin 106 = .ok (.invokevirtual 224, 3) := dk_182 0 224 (dk_at dksJ1_treeifyBin_4 12 rfl rfl)
theorem dJ1_treeifyBin_109 : decode cJ1_treeifyBin 109 = .ok (.return_, 1) := dk_177 (dk_at dksJ1_treeifyBin_4 15 rfl rfl)
def dkwJ1_replacementTreeNode_0 : List UInt8 := [187, 0, 180, 89, 43, 180, 0, 168, 43, 180, 0, 170, 43, 180, 0, 162, 44, 183, 1, 122, 176]
abbrev dktJ1_replacementTreeNode_0 : List UInt8 := dkwJ1_replacementTreeNode_0 ++ []
theorem dksJ1_replacementTreeNode_0 : cJ1_replacementTreeNode.data.toList.drop 0 = dktJ1_replacementTreeNode_0 := by decide +kernel
theorem dJ1_replacementTreeNode_0 : decode cJ1_replacementTreeNode 0 = .ok (.new 180, 3) := dk_187 0 180 (dk_at dksJ1_replacementTreeNode_0 0 rfl rfl)
theorem dJ1_replacementTreeNode_3 : decode cJ1_replacementTreeNode 3 = .ok (.dup, 1) := dk_89 (dk_at dksJ1_replacementTreeNode_0 3 rfl rfl)
theorem dJ1_replacementTreeNode_4 : decode cJ1_replacementTreeNode 4 = .ok (.aload_n 1, 1) := dk_43 (dk_at dksJ1_replacementTreeNode_0 4 rfl rfl)
theorem dJ1_replacementTreeNode_5 : decode cJ1_replacementTreeNode 5 = .ok (.getfield 168, 3) := dk_180 0 168 (dk_at dksJ1_replacementTreeNode_0 5 rfl rfl)
theorem dJ1_replacementTreeNode_8 : decode cJ1_replacementTreeNode 8 = .ok (.aload_n 1, 1) := dk_43 (dk_at dksJ1_replacementTreeNode_0 8 rfl rfl)
theorem dJ1_replacementTreeNode_9 : decode cJ1_replacementTreeNode 9 = .ok (.getfield 170, 3) := dk_180 0 170 (dk_at dksJ1_replacementTreeNode_0 9 rfl rfl)
theorem dJ1_replacementTreeNode_12 : decode cJ1_replacementTreeNode 12 = .ok (.aload_n 1, 1) := dk_43 (dk_at dksJ1_replacementTreeNode_0 12 rfl rfl)
theorem dJ1_replacementTreeNode_13 : decode cJ1_replacementTreeNode 13 = .ok (.getfield 162, 3) := dk_180 0 162 (dk_at dksJ1_replacementTreeNode_0 13 rfl rfl)
theorem dJ1_replacementTreeNode_16 : decode cJ1_replacementTreeNode 16 = .ok (.aload_n 2, 1) := dk_44 (dk_at dksJ1_replacementTreeNode_0 16 rfl rfl)
theorem dJ1_replacementTreeNode_17 : decode cJ1_replacementTreeNode 17 = .ok (.invokespecial 378, 3) := dk_183 1 122 (dk_at dksJ1_replacementTreeNode_0 17 rfl rfl)
theorem dJ1_replacementTreeNode_20 : decode cJ1_replacementTreeNode 20 = .ok (.areturn, 1) := dk_176 (dk_at dksJ1_replacementTreeNode_0 20 rfl rfl)
theorem dJ1_afterNodeAccess_0 : decode cJ1_afterNodeAccess 0 = .ok (.return_, 1) := by decide +kernel
theorem dJ1_afterNodeInsertion_0 : decode cJ1_afterNodeInsertion 0 = .ok (.return_, 1) := by decide +kernel
def dkwJ1_remove_1 : List UInt8 := [180, 0, 162, 176]
abbrev dktJ1_remove_1 : List UInt8 := dkwJ1_remove_1 ++ []
def dkwJ1_remove_0 : List UInt8 := [42, 43, 184, 0, 149, 43, 1, 3, 4, 182, 0, 228, 89, 77, 199, 0, 7, 1, 167, 0, 7, 44]
abbrev dktJ1_remove_0 : List UInt8 := dkwJ1_remove_0 ++ dktJ1_remove_1
theorem dksJ1_remove_0 : cJ1_remove.data.toList.drop 0 = dktJ1_remove_0 := by decide +kernel
theorem dksJ1_remove_1 : cJ1_remove.data.toList.drop 22 = dktJ1_remove_1 := dk_seg dksJ1_remove_0 22 rfl rfl
theorem dJ1_remove_0 : decode cJ1_remove 0 = .ok (.aload_n 0, 1) := dk_42 (dk_at dksJ1_remove_0 0 rfl rfl)
theorem dJ1_remove_1 : decode cJ1_remove 1 = .ok (.aload_n 1, 1) := dk_43 (dk_at dksJ1_remove_0 1 rfl rfl)
theorem dJ1_remove_2 : decode cJ1_remove 2 = .ok (.invokestatic 149, 3) := dk_184 0 149 (dk_at dksJ1_remove_0 2 rfl rfl)
theorem dJ1_remove_5 : decode cJ1_remove 5 = .ok (.aload_n 1, 1) := dk_43 (dk_at dksJ1_remove_0 5 rfl rfl)
theorem dJ1_remove_6 : decode cJ1_remove 6 = .ok (.aconst_null, 1) := dk_1 (dk_at dksJ1_remove_0 6 rfl rfl)
theorem dJ1_remove_7 : decode cJ1_remove 7 = .ok (.iconst 0, 1) := dk_3 (dk_at dksJ1_remove_0 7 rfl rfl)
theorem dJ1_remove_8 : decode cJ1_remove 8 = .ok (.iconst 1, 1) := dk_4 (dk_at dksJ1_remove_0 8 rfl rfl)
theorem dJ1_remove_9 : decode cJ1_remove 9 = .ok (.invokevirtual 228, 3) := dk_182 0 228 (dk_at dksJ1_remove_0 9 rfl rfl)
theorem dJ1_remove_12 : decode cJ1_remove 12 = .ok (.dup, 1) := dk_89 (dk_at dksJ1_remove_0 12 rfl rfl)
theorem dJ1_remove_13 : decode cJ1_remove 13 = .ok (.astore_n 2, 1) := dk_77 (dk_at dksJ1_remove_0 13 rfl rfl)
theorem dJ1_remove_14 : decode cJ1_remove 14 = .ok (.ifnonnull 7, 3) := dk_199 0 7 (dk_at dksJ1_remove_0 14 rfl rfl)
theorem dJ1_remove_17 : decode cJ1_remove 17 = .ok (.aconst_null, 1) := dk_1 (dk_at dksJ1_remove_0 17 rfl rfl)
theorem dJ1_remove_18 : decode cJ1_remove 18 = .ok (.goto 7, 3) := dk_167 0 7 (dk_at dksJ1_remove_0 18 rfl rfl)
theorem dJ1_remove_21 : decode cJ1_remove 21 = .ok (.aload_n 2, 1) := dk_44 (dk_at dksJ1_remove_0 21 rfl rfl)
theorem dJ1_remove_22 : decode cJ1_remove 22 = .ok (.getfield 162, 3) := dk_180 0 162 (dk_at dksJ1_remove_1 0 rfl rfl)
theorem dJ1_remove_25 : decode cJ1_remove 25 = .ok (.areturn, 1) := dk_176 (dk_at dksJ1_remove_1 3 rfl rfl)
def dkwJ1_removeNode_12 : List UInt8 := [181, 0, 156, 42, 25, 10, 182, 0, 236, 25, 10, 176, 1, 176]
abbrev dktJ1_removeNode_12 : List UInt8 := dkwJ1_removeNode_12 ++ []
def dkwJ1_removeNode_11 : List UInt8 := [180, 0, 177, 181, 0, 177, 42, 89, 180, 0, 202, 4, 96, 181, 0, 202, 42, 89, 180, 0, 156, 4, 100]
abbrev dktJ1_removeNode_11 : List UInt8 := dkwJ1_removeNode_11 ++ dktJ1_removeNode_12
def dkwJ1_removeNode_10 : List UInt8 := [25, 10, 25, 7, 166, 0, 16, 25, 6, 21, 9, 25, 10, 180, 0, 177, 83, 167, 0, 13, 25, 7, 25, 10]
abbrev dktJ1_removeNode_10 : List UInt8 := dkwJ1_removeNode_10 ++ dktJ1_removeNode_11
def dkwJ1_removeNode_9 : List UInt8 := [25, 10, 193, 0, 180, 153, 0, 19, 25, 10, 192, 0, 180, 42, 25, 6, 21, 5, 182, 0, 232, 167, 0, 33]
abbrev dktJ1_removeNode_9 : List UInt8 := dkwJ1_removeNode_9 ++ dktJ1_removeNode_10
def dkwJ1_removeNode_8 : List UInt8 := [180, 0, 162, 89, 58, 13, 45, 165, 0, 16, 45, 198, 0, 95, 45, 25, 13, 182, 0, 173, 153, 0, 86]
abbrev dktJ1_removeNode_8 : List UInt8 := dkwJ1_removeNode_8 ++ dktJ1_removeNode_9
def dkwJ1_removeNode_7 : List UInt8 := [25, 11, 180, 0, 177, 89, 58, 11, 199, 255, 203, 25, 10, 198, 0, 116, 21, 4, 153, 0, 28, 25, 10]
abbrev dktJ1_removeNode_7 : List UInt8 := dkwJ1_removeNode_7 ++ dktJ1_removeNode_8
def dkwJ1_removeNode_6 : List UInt8 := [198, 0, 19, 44, 25, 12, 182, 0, 173, 153, 0, 10, 25, 11, 58, 10, 167, 0, 18, 25, 11, 58, 7]
abbrev dktJ1_removeNode_6 : List UInt8 := dkwJ1_removeNode_6 ++ dktJ1_removeNode_7
def dkwJ1_removeNode_5 : List UInt8 := [25, 11, 180, 0, 168, 27, 160, 0, 35, 25, 11, 180, 0, 170, 89, 58, 12, 44, 165, 0, 16, 44]
abbrev dktJ1_removeNode_5 : List UInt8 := dkwJ1_removeNode_5 ++ dktJ1_removeNode_6
def dkwJ1_removeNode_4 : List UInt8 := [25, 7, 193, 0, 180, 153, 0, 18, 25, 7, 192, 0, 180, 27, 44, 182, 0, 182, 58, 10, 167, 0, 59]
abbrev dktJ1_removeNode_4 : List UInt8 := dkwJ1_removeNode_4 ++ dktJ1_removeNode_5
def dkwJ1_removeNode_3 : List UInt8 := [182, 0, 173, 153, 0, 10, 25, 7, 58, 10, 167, 0, 93, 25, 7, 180, 0, 177, 89, 58, 11, 198, 0, 82]
abbrev dktJ1_removeNode_3 : List UInt8 := dkwJ1_removeNode_3 ++ dktJ1_removeNode_4
def dkwJ1_removeNode_2 : List UInt8 := [160, 0, 35, 25, 7, 180, 0, 170, 89, 58, 12, 44, 165, 0, 16, 44, 198, 0, 19, 44, 25, 12]
abbrev dktJ1_removeNode_2 : List UInt8 := dkwJ1_removeNode_2 ++ dktJ1_removeNode_3
def dkwJ1_removeNode_1 : List UInt8 := [100, 27, 126, 89, 54, 9, 50, 89, 58, 7, 198, 0, 255, 1, 58, 10, 25, 7, 180, 0, 168, 27]
abbrev dktJ1_removeNode_1 : List UInt8 := dkwJ1_removeNode_1 ++ dktJ1_removeNode_2
def dkwJ1_removeNode_0 : List UInt8 := [42, 180, 0, 105, 89, 58, 6, 198, 1, 26, 25, 6, 190, 89, 54, 8, 158, 1, 17, 25, 6, 21, 8, 4]
abbrev dktJ1_removeNode_0 : List UInt8 := dkwJ1_removeNode_0 ++ dktJ1_removeNode_1
theorem dksJ1_removeNode_0 : cJ1_removeNode.data.toList.drop 0 = dktJ1_removeNode_0 := by decide +kernel
theorem dksJ1_removeNode_1 : cJ1_removeNode.data.toList.drop 24 = dktJ1_removeNode_1 := dk_seg dksJ1_removeNode_0 24 rfl rfl
theorem dksJ1_removeNode_2 : cJ1_removeNode.data.toList.drop 46 = dktJ1_removeNode_2 := dk_seg dksJ1_removeNode_1 22 rfl rfl
theorem dksJ1_removeNode_3 : cJ1_removeNode.data.toList.drop 68 = dktJ1_removeNode_3 := dk_seg dksJ1_removeNode_2 22 rfl rfl
theorem dksJ1_removeNode_4 : cJ1_removeNode.data.toList.drop 92 = dktJ1_removeNode_4 := dk_seg dksJ1_removeNode_3 24 rfl rfl
theorem dksJ1_removeNode_5 : cJ1_removeNode.data.toList.drop 115 = dktJ1_removeNode_5 := dk_seg dksJ1_removeNode_4 23 rfl rfl
theorem dksJ1_removeNode_6 : cJ1_removeNode.data.toList.drop 137 = dktJ1_removeNode_6 := dk_seg dksJ1_removeNode_5 22 rfl rfl
theorem dksJ1_removeNode_7 : cJ1_removeNode.data.toList.drop 160 = dktJ1_removeNode_7 := dk_seg dksJ1_removeNode_6 23 rfl rfl
theorem dksJ1_removeNode_8 : cJ1_removeNode.data.toList.drop 183 = dktJ1_removeNode_8 := dk_seg dksJ1_removeNode_7 23 rfl rfl
theorem dksJ1_removeNode_9 : cJ1_removeNode.data.toList.drop 206 = dktJ1_removeNode_9 := dk_seg dksJ1_removeNode_8 23 rfl rfl
theorem dksJ1_removeNode_10 : cJ1_removeNode.data.toList.drop 230 = dktJ1_removeNode_10 := dk_seg dksJ1_removeNode_9 24 rfl rfl
theorem dksJ1_removeNode_11 : cJ1_removeNode.data.toList.drop 254 = dktJ1_removeNode_11 := dk_seg dksJ1_removeNode_10 24 rfl rfl
theorem dksJ1_removeNode_12 : cJ1_removeNode.data.toList.drop 277 = dktJ1_removeNode_12 := dk_seg dksJ1_removeNode_11 23 rfl rfl
theorem dJ1_removeNode_0 : decode cJ1_removeNode 0 = .ok (.aload_n 0, 1) := dk_42 (dk_at dksJ1_removeNode_0 0 rfl rfl)
theorem dJ1_removeNode_1 : decode cJ1_removeNode 1 = .ok (.getfield 105, 3) := dk_180 0 105 (dk_at dksJ1_removeNode_0 1 rfl rfl)
theorem dJ1_removeNode_4 : decode cJ1_removeNode 4 = .ok (.dup, 1) := dk_89 (dk_at dksJ1_removeNode_0 4 rfl rfl)
theorem dJ1_removeNode_5 : decode cJ1_removeNode 5 = .ok (.astore 6, 2) := dk_58 6 (dk_at dksJ1_removeNode_0 5 rfl rfl)
theorem dJ1_removeNode_7 : decode cJ1_removeNode 7 = .ok (.ifnull 282, 3) := dk_198 1 26 (dk_at dksJ1_removeNode_0 7 rfl rfl)
theorem dJ1_removeNode_10 : decode cJ1_removeNode 10 = .ok (.aload 6, 2) := dk_25 6 (dk_at dksJ1_removeNode_0 10 rfl rfl)
theorem dJ1_removeNode_12 : decode cJ1_removeNode 12 = .ok (.arraylength, 1) := dk_190 (dk_at dksJ1_removeNode_0 12 rfl rfl)
theorem dJ1_removeNode_13 : decode cJ1_removeNode 13 = .ok (.dup, 1) := dk_89 (dk_at dksJ1_removeNode_0 13 rfl rfl)
theorem dJ1_removeNode_14 : decode cJ1_removeNode 14 = .ok (.istore 8, 2) := dk_54 8 (dk_at dksJ1_removeNode_0 14 rfl rfl)
theorem dJ1_removeNode_16 : decode cJ1_removeNode 16 = .ok (.ifCond .le 273, 3) := dk_158 1 17 (dk_at dksJ1_removeNode_0 16 rfl rfl)
theorem dJ1_removeNode_19 : decode cJ1_removeNode 19 = .ok (.aload 6, 2) := dk_25 6 (dk_at dksJ1_removeNode_0 19 rfl rfl)
theorem dJ1_removeNode_21 : decode cJ1_removeNode 21 = .ok (.iload 8, 2) := dk_21 8 (dk_at dksJ1_removeNode_0 21 rfl rfl)
theorem dJ1_removeNode_23 : decode cJ1_removeNode 23 = .ok (.iconst 1, 1) := dk_4 (dk_at dksJ1_removeNode_0 23 rfl rfl)
theorem dJ1_removeNode_24 : decode cJ1_removeNode 24 = .ok (.isub, 1) := dk_100 (dk_at dksJ1_removeNode_1 0 rfl rfl)
theorem dJ1_removeNode_25 : decode cJ1_removeNode 25 = .ok (.iload_n 1, 1) := dk_27 (dk_at dksJ1_removeNode_1 1 rfl rfl)
theorem dJ1_removeNode_26 : decode cJ1_removeNode 26 = .ok (.iand, 1) := dk_126 (dk_at dksJ1_removeNode_1 2 rfl rfl)
theorem dJ1_removeNode_27 : decode cJ1_removeNode 27 = .ok (.dup, 1) := dk_89 (dk_at dksJ1_removeNode_1 3 rfl rfl)
theorem dJ1_removeNode_28 : decode cJ1_removeNode 28 = .ok (.istore 9, 2) := dk_54 9 (dk_at dksJ1_removeNode_1 4 rfl rfl)
theorem dJ1_removeNode_30 : decode cJ1_removeNode 30 = .ok (.aaload, 1) := dk_50 (dk_at dksJ1_removeNode_1 6 rfl rfl)
theorem dJ1_removeNode_31 : decode cJ1_removeNode 31 = .ok (.dup, 1) := dk_89 (dk_at dksJ1_removeNode_1 7 rfl rfl)
theorem dJ1_removeNode_32 : decode cJ1_removeNode 32 = .ok (.astore 7, 2) := dk_58 7 (dk_at dksJ1_removeNode_1 8 rfl rfl)
theorem dJ1_removeNode_34 : decode cJ1_removeNode 34 = .ok (.ifnull 255, 3) := dk_198 0 255 (dk_at dksJ1_removeNode_1 10 rfl rfl)
theorem dJ1_removeNode_37 : decode cJ1_removeNode 37 = .ok (.aconst_null, 1) := dk_1 (dk_at dksJ1_removeNode_1 13 rfl rfl)
theorem dJ1_removeNode_38 : decode cJ1_removeNode 38 = .ok (.astore 10, 2) := dk_58 10 (dk_at dksJ1_removeNode_1 14 rfl rfl)
theorem dJ1_removeNode_40 : decode cJ1_removeNode 40 = .ok (.aload 7, 2) := dk_25 7 (dk_at dksJ1_removeNode_1 16 rfl rfl)
theorem dJ1_removeNode_42 : decode cJ1_removeNode 42 = .ok (.getfield 168, 3) := dk_180 0 168 (dk_at dksJ1_removeNode_1 18 rfl rfl)
theorem dJ1_removeNode_45 : decode cJ1_removeNode 45 = .ok (.iload_n 1, 1) := dk_27 (dk_at dksJ1_removeNode_1 21 rfl rfl)
theorem dJ1_removeNode_46 : decode cJ1_removeNode 46 = .ok (.if_icmp .ne 35, 3) := dk_160 0 35 (dk_at dksJ1_removeNode_2 0 rfl rfl)
theorem dJ1_removeNode_49 : decode cJ1_removeNode 49 = .ok (.aload 7, 2) := dk_25 7 (dk_at dksJ1_removeNode_2 3 rfl rfl)
theorem dJ1_removeNode_51 : decode cJ1_removeNode 51 = .ok (.getfield 170, 3) := dk_180 0 170 (dk_at dksJ1_removeNode_2 5 rfl rfl)
theorem dJ1_removeNode_54 : decode cJ1_removeNode 54 = .ok (.dup, 1) := dk_89 (dk_at dksJ1_removeNode_2 8 rfl rfl)
theorem dJ1_removeNode_55 : decode cJ1_removeNode 55 = .ok (.astore 12, 2) := dk_58 12 (dk_at dksJ1_removeNode_2 9 rfl rfl)
theorem dJ1_removeNode_57 : decode cJ1_removeNode 57 = .ok (.aload_n 2, 1) := dk_44 (dk_at dksJ1_removeNode_2 11 rfl rfl)
theorem dJ1_removeNode_58 : decode cJ1_removeNode 58 = .ok (.if_acmp .eq 16, 3) := dk_165 0 16 (dk_at dksJ1_removeNode_2 12 rfl rfl)
theorem dJ1_removeNode_61 : decode cJ1_removeNode 61 = .ok (.aload_n 2, 1) := dk_44 (dk_at dksJ1_removeNode_2 15 rfl rfl)
theorem dJ1_removeNode_62 : decode cJ1_removeNode 62 = .ok (.ifnull 19, 3) := dk_198 0 19 (dk_at dksJ1_removeNode_2 16 rfl rfl)
theorem dJ1_removeNode_65 : decode cJ1_removeNode 65 = .ok (.aload_n 2, 1) := dk_44 (dk_at dksJ1_removeNode_2 19 rfl rfl)
theorem dJ1_removeNode_66 : decode cJ1_removeNode 66 = .ok (.aload 12, 2) := dk_25 12 (dk_at dksJ1_removeNode_2 20 rfl rfl)
theorem dJ1_removeNode_68 : decode cJ1_removeNode 68 = .ok (.invokevirtual 173, 3) := dk_182 0 173 (dk_at dksJ1_removeNode_3 0 rfl rfl)
theorem dJ1_removeNode_71 : decode cJ1_removeNode 71 = .ok (.ifCond .eq 10, 3) := dk_153 0 10 (dk_at dksJ1_removeNode_3 3 rfl rfl)
theorem dJ1_removeNode_74 : decode cJ1_removeNode 74 = .ok (.aload 7, 2) := dk_25 7 (dk_at dksJ1_removeNode_3 6 rfl rfl)
theorem dJ1_removeNode_76 : decode cJ1_removeNode 76 = .ok (.astore 10, 2) := dk_58 10 (dk_at dksJ1_removeNode_3 8 rfl rfl)
theorem dJ1_removeNode_78 : decode cJ1_removeNode 78 = .ok (.goto 93, 3) := dk_167 0 93 (dk_at dksJ1_removeNode_3 10 rfl rfl)
theorem dJ1_removeNode_81 : decode cJ1_removeNode 81 = .ok (.aload 7, 2) := dk_25 7 (dk_at dksJ1_removeNode_3 13 rfl rfl)
theorem dJ1_removeNode_83 : decode cJ1_removeNode 83 = .ok (.getfield 177, 3) := dk_180 0 177 (dk_at dksJ1_removeNode_3 15 rfl rfl)
theorem dJ1_removeNode_86 : decode cJ1_removeNode 86 = .ok (.dup, 1) := dk_89 (dk_at dksJ1_removeNode_3 18 rfl rfl)
theorem dJ1_removeNode_87 : decode cJ1_removeNode 87 = .ok (.astore 11, 2) := dk_58 11 (dk_at dksJ1_removeNode_3 19 rfl rfl)
theorem dJ1_removeNode_89 : decode cJ1_removeNode 89 = .ok (.ifnull 82, 3) := dk_198 0 82 (dk_at dksJ1_removeNode_3 21 rfl rfl)
theorem dJ1_removeNode_92 : decode cJ1_removeNode 92 = .ok (.aload 7, 2) := dk_25 7 (dk_at dksJ1_removeNode_4 0 rfl rfl)
theorem dJ1_removeNode_94 : decode cJ1_removeNode 94 = .ok (.instanceof 180, 3) := dk_193 0 180 (dk_at dksJ1_removeNode_4 2 rfl rfl)
theorem dJ1_removeNode_97 : decode cJ1_removeNode 97 = .ok (.ifCond .eq 18, 3) := dk_153 0 18 (dk_at dksJ1_removeNode_4 5 rfl rfl)
theorem dJ1_removeNode_100 : decode cJ1_removeNode 100 = .ok (.aload 7, 2) := dk_25 7 (dk_at dksJ1_removeNode_4 8 rfl rfl)
theorem dJ1_removeNode_102 : decode cJ1_removeNode 102 = .ok (.checkcast 180, 3) := dk_192 0 180 (dk_at dksJ1_removeNode_4 10 rfl rfl)
theorem dJ1_removeNode_105 : decode cJ1_removeNode 105 = .ok (.iload_n 1, 1) := dk_27 (dk_at dksJ1_removeNode_4 13 rfl rfl)
theorem dJ1_removeNode_106 : decode cJ1_removeNode 106 = .ok (.aload_n 2, 1) := dk_44 (dk_at dksJ1_removeNode_4 14 rfl rfl)
theorem dJ1_removeNode_107 : decode cJ1_removeNode 107 = .ok (.invokevirtual 182, 3) := dk_182 0 182 (dk_at dksJ1_removeNode_4 15 rfl rfl)
theorem dJ1_removeNode_110 : decode cJ1_removeNode 110 = .ok (.astore 10, 2) := dk_58 10 (dk_at dksJ1_removeNode_4 18 rfl rfl)
theorem dJ1_removeNode_112 : decode cJ1_removeNode 112 = .ok (.goto 59, 3) := dk_167 0 59 (dk_at dksJ1_removeNode_4 20 rfl rfl)
theorem dJ1_removeNode_115 : decode cJ1_removeNode 115 = .ok (.aload 11, 2) := dk_25 11 (dk_at dksJ1_removeNode_5 0 rfl rfl)
theorem dJ1_removeNode_117 : decode cJ1_removeNode 117 = .ok (.getfield 168, 3) := dk_180 0 168 (dk_at dksJ1_removeNode_5 2 rfl rfl)
theorem dJ1_removeNode_120 : decode cJ1_removeNode 120 = .ok (.iload_n 1, 1) := dk_27 (dk_at dksJ1_removeNode_5 5 rfl rfl)
theorem dJ1_removeNode_121 : decode cJ1_removeNode 121 = .ok (.if_icmp .ne 35, 3) := dk_160 0 35 (dk_at dksJ1_removeNode_5 6 rfl rfl)
theorem dJ1_removeNode_124 : decode cJ1_removeNode 124 = .ok (.aload 11, 2) := dk_25 11 (dk_at dksJ1_removeNode_5 9 rfl rfl)
theorem dJ1_removeNode_126 : decode cJ1_removeNode 126 = .ok (.getfield 170, 3) := dk_180 0 170 (dk_at dksJ1_removeNode_5 11 rfl rfl)
theorem dJ1_removeNode_129 : decode cJ1_removeNode 129 = .ok (.dup, 1) := dk_89 (dk_at dksJ1_removeNode_5 14 rfl rfl)
theorem dJ1_removeNode_130 : decode cJ1_removeNode 130 = .ok (.astore 12, 2) := dk_58 12 (dk_at dksJ1_removeNode_5 15 rfl rfl)
theorem dJ1_removeNode_132 : decode cJ1_removeNode 132 = .ok (.aload_n 2, 1) := dk_44 (dk_at dksJ1_removeNode_5 17 rfl rfl)
theorem dJ1_removeNode_133 : decode cJ1_removeNode 133 = .ok (.if_acmp .eq 16, 3) := dk_165 0 16 (dk_at dksJ1_removeNode_5 18 rfl rfl)
theorem dJ1_removeNode_136 : decode cJ1_removeNode 136 = .ok (.aload_n 2, 1) := dk_44 (dk_at dksJ1_removeNode_5 21 rfl rfl)
theorem dJ1_removeNode_137 : decode cJ1_removeNode 137 = .ok (.ifnull 19, 3) := dk_198 0 19 (dk_at dksJ1_removeNode_6 0 rfl rfl)
theorem dJ1_removeNode_140 : decode cJ1_removeNode 140 = .ok (.aload_n 2, 1) := dk_44 (dk_at dksJ1_removeNode_6 3 rfl rfl)
theorem dJ1_removeNode_141 : decode cJ1_removeNode 141 = .ok (.aload 12, 2) := dk_25 12 (dk_at dksJ1_removeNode_6 4 rfl rfl)
theorem dJ1_removeNode_143 : decode cJ1_removeNode 143 = .ok (.invokevirtual 173, 3) := dk_182 0 173 (dk_at dksJ1_removeNode_6 6 rfl rfl)
theorem dJ1_removeNode_146 : decode cJ1_removeNode 146 = .ok (.ifCond .eq 10, 3) := dk_153 0 10 (dk_at dksJ1_removeNode_6 9 rfl rfl)
theorem dJ1_removeNode_149 : decode cJ1_removeNode 149 = .ok (.aload 11, 2) := dk_25 11 (dk_at dksJ1_removeNode_6 12 rfl rfl)
theorem dJ1_removeNode_151 : decode cJ1_removeNode 151 = .ok (.astore 10, 2) := dk_58 10 (dk_at dksJ1_removeNode_6 14 rfl rfl)
theorem dJ1_removeNode_153 : decode cJ1_removeNode 153 = .ok (.goto 18, 3) := dk_167 0 18 (dk_at dksJ1_removeNode_6 16 rfl rfl)
theorem dJ1_removeNode_156 : decode cJ1_removeNode 156 = .ok (.aload 11, 2) := dk_25 11 (dk_at dksJ1_removeNode_6 19 rfl rfl)
theorem dJ1_removeNode_158 : decode cJ1_removeNode 158 = .ok (.astore 7, 2) := dk_58 7 (dk_at dksJ1_removeNode_6 21 rfl rfl)
theorem dJ1_removeNode_160 : decode cJ1_removeNode 160 = .ok (.aload 11, 2) := dk_25 11 (dk_at dksJ1_removeNode_7 0 rfl rfl)
theorem dJ1_removeNode_162 : decode cJ1_removeNode 162 = .ok (.getfield 177, 3) := dk_180 0 177 (dk_at dksJ1_removeNode_7 2 rfl rfl)
theorem dJ1_removeNode_165 : decode cJ1_removeNode 165 = .ok (.dup, 1) := dk_89 (dk_at dksJ1_removeNode_7 5 rfl rfl)
theorem dJ1_removeNode_166 : decode cJ1_removeNode 166 = .ok (.astore 11, 2) := dk_58 11 (dk_at dksJ1_removeNode_7 6 rfl rfl)
theorem dJ1_removeNode_168 : decode cJ1_removeNode 168 = .ok (.ifnonnull (-53), 3) := dk_199 255 203 (dk_at dksJ1_removeNode_7 8 rfl rfl)
theorem dJ1_removeNode_171 : decode cJ1_removeNode 171 = .ok (.aload 10, 2) := dk_25 10 (dk_at dksJ1_removeNode_7 11 rfl rfl)
theorem dJ1_removeNode_173 : decode cJ1_removeNode 173 = .ok (.ifnull 116, 3) := dk_198 0 116 (dk_at dksJ1_removeNode_7 13 rfl rfl)
theorem dJ1_removeNode_176 : decode cJ1_removeNode 176 = .ok (.iload 4, 2) := dk_21 4 (dk_at dksJ1_removeNode_7 16 rfl rfl)
theorem dJ1_removeNode_178 : decode cJ1_removeNode 178 = .ok (.ifCond .eq 28, 3) := dk_153 0 28 (dk_at dksJ1_removeNode_7 18 rfl rfl)
theorem dJ1_removeNode_181 : decode cJ1_removeNode 181 = .ok (.aload 10, 2) := dk_25 10 (dk_at dksJ1_removeNode_7 21 rfl rfl)
theorem dJ1_removeNode_183 : decode cJ1_removeNode 183 = .ok (.getfield 162, 3) := dk_180 0 162 (dk_at dksJ1_removeNode_8 0 rfl rfl)
theorem dJ1_removeNode_186 : decode cJ1_removeNode 186 = .ok (.dup, 1) := dk_89 (dk_at dksJ1_removeNode_8 3 rfl rfl)
theorem dJ1_removeNode_187 : decode cJ1_removeNode 187 = .ok (.astore 13, 2) := dk_58 13 (dk_at dksJ1_removeNode_8 4 rfl rfl)
theorem dJ1_removeNode_189 : decode cJ1_removeNode 189 = .ok (.aload_n 3, 1) := dk_45 (dk_at dksJ1_removeNode_8 6 rfl rfl)
theorem dJ1_removeNode_190 : decode cJ1_removeNode 190 = .ok (.if_acmp .eq 16, 3) := dk_165 0 16 (dk_at dksJ1_removeNode_8 7 rfl rfl)
theorem dJ1_removeNode_193 : decode cJ1_removeNode 193 = .ok (.aload_n 3, 1) := dk_45 (dk_at dksJ1_removeNode_8 10 rfl rfl)
theorem dJ1_removeNode_194 : decode cJ1_removeNode 194 = .ok (.ifnull 95, 3) := dk_198 0 95 (dk_at dksJ1_removeNode_8 11 rfl rfl)
theorem dJ1_removeNode_197 : decode cJ1_removeNode 197 = .ok (.aload_n 3, 1) := dk_45 (dk_at dksJ1_removeNode_8 14 rfl rfl)
theorem dJ1_removeNode_198 : decode cJ1_removeNode 198 = .ok (.aload 13, 2) := dk_25 13 (dk_at dksJ1_removeNode_8 15 rfl rfl)
theorem dJ1_removeNode_200 : decode cJ1_removeNode 200 = .ok (.invokevirtual 173, 3) := dk_182 0 173 (dk_at dksJ1_removeNode_8 17 rfl rfl)
theorem dJ1_removeNode_203 : decode cJ1_removeNode 203 = .ok (.ifCond .eq 86, 3) := dk_153 0 86 (dk_at dksJ1_removeNode_8 20 rfl rfl)
theorem dJ1_removeNode_206 : decode cJ1_removeNode 206 = .ok (.aload 10, 2) := dk_25 10 (dk_at dksJ1_removeNode_9 0 rfl rfl)
theorem dJ1_removeNode_208 : decode cJ1_removeNode 208 = .ok (.instanceof 180, 3) := dk_193 0 180 (dk_at dksJ1_removeNode_9 2 rfl rfl)
theorem dJ1_removeNode_211 : decode cJ1_removeNode 211 = .ok (.ifCond .eq 19, 3) := dk_153 0 19 (dk_at dksJ1_removeNode_9 5 rfl rfl)
theorem dJ1_removeNode_214 : decode cJ1_removeNode 214 = .ok (.aload 10, 2) := dk_25 10 (dk_at dksJ1_removeNode_9 8 rfl rfl)
theorem dJ1_removeNode_216 : decode cJ1_removeNode 216 = .ok (.checkcast 180, 3) := dk_192 0 180 (dk_at dksJ1_removeNode_9 10 rfl rfl)
theorem dJ1_removeNode_219 : decode cJ1_removeNode 219 = .ok (.aload_n 0, 1) := dk_42 (dk_at dksJ1_removeNode_9 13 rfl rfl)
theorem dJ1_removeNode_220 : decode cJ1_removeNode 220 = .ok (.aload 6, 2) := dk_25 6 (dk_at dksJ1_removeNode_9 14 rfl rfl)
theorem dJ1_removeNode_222 : decode cJ1_removeNode 222 = .ok (.iload 5, 2) := dk_21 5 (dk_at dksJ1_removeNode_9 16 rfl rfl)
theorem dJ1_removeNode_224 : decode cJ1_removeNode 224 = .ok (.invokevirtual 232, 3) := dk_182 0 232 (dk_at dksJ1_removeNode_9 18 rfl rfl)
theorem dJ1_removeNode_227 : decode cJ1_removeNode 227 = .ok (.goto 33, 3) := dk_167 0 33 (dk_at dksJ1_removeNode_9 21 rfl rfl)
theorem dJ1_removeNode_230 : decode cJ1_removeNode 230 = .ok (.aload 10, 2) := dk_25 10 (dk_at dksJ1_removeNode_10 0 rfl rfl)
theorem dJ1_removeNode_232 : decode cJ1_removeNode 232 = .ok (.aload 7, 2) := dk_25 7 (dk_at dksJ1_removeNode_10 2 rfl rfl)
theorem dJ1_removeNode_234 : decode cJ1_removeNode 234 = .ok (.if_acmp .ne 16, 3) := dk_166 0 16 (dk_at dksJ1_removeNode_10 4 rfl rfl)
theorem dJ1_removeNode_237 : decode cJ1_removeNode 237 = .ok (.aload 6, 2) := dk_25 6 (dk_at dksJ1_removeNode_10 7 rfl rfl)
theorem dJ1_removeNode_239 : decode cJ1_removeNode 239 = .ok (.iload 9, 2) := dk_21 9 (dk_at dksJ1_removeNode_10 9 rfl rfl)
theorem dJ1_removeNode_241 : decode cJ1_removeNode 241 = .ok (.aload 10, 2) := dk_25 10 (dk_at dksJ1_removeNode_10 11 rfl rfl)
theorem dJ1_removeNode_243 : decode cJ1_removeNode 243 = .ok (.getfield 177, 3) := dk_180 0 177 (dk_at dksJ1_removeNode_10 13 rfl rfl)
theorem dJ1_removeNode_246 : decode cJ1_removeNode 246 = .ok (.aastore, 1) := dk_83 (dk_at dksJ1_removeNode_10 16 rfl rfl)
theorem dJ1_removeNode_247 : decode cJ1_removeNode 247 = .ok (.goto 13, 3) := dk_167 0 13 (dk_at dksJ1_removeNode_10 17 rfl rfl)
theorem dJ1_removeNode_250 : decode cJ1_removeNode 250 = .ok (.aload 7, 2) := dk_25 7 (dk_at dksJ1_removeNode_10 20 rfl rfl)
theorem dJ1_removeNode_252 : decode cJ1_removeNode 252 = .ok (.aload 10, 2) := dk_25 10 (dk_at dksJ1_removeNode_10 22 rfl rfl)
theorem dJ1_removeNode_254 : decode cJ1_removeNode 254 = .ok (.getfield 177, 3) := dk_180 0 177 (dk_at dksJ1_removeNode_11 0 rfl rfl)
theorem dJ1_removeNode_257 : decode cJ1_removeNode 257 = .ok (.putfield 177, 3) := dk_181 0 177 (dk_at dksJ1_removeNode_11 3 rfl rfl)
theorem dJ1_removeNode_260 : decode cJ1_removeNode 260 = .ok (.aload_n 0, 1) := dk_42 (dk_at dksJ1_removeNode_11 6 rfl rfl)
theorem dJ1_removeNode_261 : decode cJ1_removeNode 261 = .ok (.dup, 1) := dk_89 (dk_at dksJ1_removeNode_11 7 rfl rfl)
theorem dJ1_removeNode_262 : decode cJ1_removeNode 262 = .ok (.getfield 202, 3) := dk_180 0 202 (dk_at dksJ1_removeNode_11 8 rfl rfl)
theorem dJ1_removeNode_265 : decode cJ1_removeNode 265 = .ok (.iconst 1, 1) := dk_4 (dk_at dksJ1_removeNode_11 11 rfl rfl)
theorem dJ1_removeNode_266 : decode cJ1_removeNode 266 = .ok (.iadd, 1) := dk_96 (dk_at dksJ1_removeNode_11 12 rfl rfl)
theorem dJ1_removeNode_267 : decode cJ1_removeNode 267 = .ok (.putfield 202, 3) := dk_181 0 202 (dk_at dksJ1_removeNode_11 13 rfl rfl)
theorem dJ1_removeNode_270 : decode cJ1_removeNode 270 = .ok (.aload_n 0, 1) := dk_42 (dk_at dksJ1_removeNode_11 16 rfl rfl)
theorem dJ1_removeNode_271 : decode cJ1_removeNode 271 = .ok (.dup, 1) := dk_89 (dk_at dksJ1_removeNode_11 17 rfl rfl)
theorem dJ1_removeNode_272 : decode cJ1_removeNode 272 = .ok (.getfield 156, 3) := dk_180 0 156 (dk_at dksJ1_removeNode_11 18 rfl rfl)
theorem dJ1_removeNode_275 : decode cJ1_removeNode 275 = .ok (.iconst 1, 1) := dk_4 (dk_at dksJ1_removeNode_11 21 rfl rfl)
theorem dJ1_removeNode_276 : decode cJ1_removeNode 276 = .ok (.isub, 1) := dk_100 (dk_at dksJ1_removeNode_11 22 rfl rfl)
theorem dJ1_removeNode_277 : decode cJ1_removeNode 277 = .ok (.putfield 156, 3) := dk_181 0 156 (dk_at dksJ1_removeNode_12 0 rfl rfl)
theorem dJ1_removeNode_280 : decode cJ1_removeNode 280 = .ok (.aload_n 0, 1) := dk_42 (dk_at dksJ1_removeNode_12 3 rfl rfl)
theorem dJ1_removeNode_281 : decode cJ1_removeNode 281 = .ok (.aload 10, 2) := dk_25 10 (dk_at dksJ1_removeNode_12 4 rfl rfl)
theorem dJ1_removeNode_283 : decode cJ1_removeNode 283 = .ok (.invokevirtual 236, 3) := dk_182 0 236 (dk_at dksJ1_removeNode_12 6 rfl rfl)
theorem dJ1_removeNode_286 : decode cJ1_removeNode 286 = .ok (.aload 10, 2) := dk_25 10 (dk_at dksJ1_removeNode_12 9 rfl rfl)
theorem dJ1_removeNode_288 : decode cJ1_removeNode 288 = .ok (.areturn, 1) := dk_176 (dk_at dksJ1_removeNode_12 11 rfl rfl)
theorem dJ1_removeNode_289 : decode cJ1_removeNode 289 = .ok (.aconst_null, 1) := dk_1 (dk_at dksJ1_removeNode_12 12 rfl rfl)
theorem dJ1_removeNode_290 : decode cJ1_removeNode 290 = .ok (.areturn, 1) := dk_176 (dk_at dksJ1_removeNode_12 13 rfl rfl)
theorem dJ1_afterNodeRemoval_0 : decode cJ1_afterNodeRemoval 0 = .ok (.return_, 1) := by decide +kernel
def dkwJ1_isEmpty_0 : List UInt8 := [42, 180, 0, 156, 154, 0, 7, 4, 167, 0, 4, 3, 172]
abbrev dktJ1_isEmpty_0 : List UInt8 := dkwJ1_isEmpty_0 ++ []
theorem dksJ1_isEmpty_0 : cJ1_isEmpty.data.toList.drop 0 = dktJ1_isEmpty_0 := by decide +kernel
theorem dJ1_isEmpty_0 : decode cJ1_isEmpty 0 = .ok (.aload_n 0, 1) := dk_42 (dk_at dksJ1_isEmpty_0 0 rfl rfl)
theorem dJ1_isEmpty_1 : decode cJ1_isEmpty 1 = .ok (.getfield 156, 3) := dk_180 0 156 (dk_at dksJ1_isEmpty_0 1 rfl rfl)
theorem dJ1_isEmpty_4 : decode cJ1_isEmpty 4 = .ok (.ifCond .ne 7, 3) := dk_154 0 7 (dk_at dksJ1_isEmpty_0 4 rfl rfl)
theorem dJ1_isEmpty_7 : decode cJ1_isEmpty 7 = .ok (.iconst 1, 1) := dk_4 (dk_at dksJ1_isEmpty_0 7 rfl rfl)
theorem dJ1_isEmpty_8 : decode cJ1_isEmpty 8 = .ok (.goto 4, 3) := dk_167 0 4 (dk_at dksJ1_isEmpty_0 8 rfl rfl)
theorem dJ1_isEmpty_11 : decode cJ1_isEmpty 11 = .ok (.iconst 0, 1) := dk_3 (dk_at dksJ1_isEmpty_0 11 rfl rfl)
theorem dJ1_isEmpty_12 : decode cJ1_isEmpty 12 = .ok (.ireturn, 1) := dk_172 (dk_at dksJ1_isEmpty_0 12 rfl rfl)
def dkwJ2_init_0 : List UInt8 := [42, 183, 0, 87, 42, 3, 181, 0, 1, 42, 3, 181, 0, 64, 177]
abbrev dktJ2_init_0 : List UInt8 := dkwJ2_init_0 ++ []
theorem dksJ2_init_0 : cJ2_init.data.toList.drop 0 = dktJ2_init_0 := by decide +kernel
theorem dJ2_init_0 : decode cJ2_init 0 = .ok (.aload_n 0, 1) := dk_42 (dk_at dksJ2_init_0 0 rfl rfl)
theorem dJ2_init_1 : decode cJ2_init 1 = .ok (.invokespecial 87, 3) := dk_183 0 87 (dk_at dksJ2_init_0 1 rfl rfl)
theorem dJ2_init_4 : decode cJ2_init 4 = .ok (.aload_n 0, 1) := dk_42 (dk_at dksJ2_init_0 4 rfl rfl)
theorem dJ2_init_5 : decode cJ2_init 5 = .ok (.iconst 0, 1) := dk_3 (dk_at dksJ2_init_0 5 rfl rfl)
theorem dJ2_init_6 : decode cJ2_init 6 = .ok (.putfield 1, 3) := dk_181 0 1 (dk_at dksJ2_init_0 6 rfl rfl)
theorem dJ2_init_9 : decode cJ2_init 9 = .ok (.aload_n 0, 1) := dk_42 (dk_at dksJ2_init_0 9 rfl rfl)
theorem dJ2_init_10 : decode cJ2_init 10 = .ok (.iconst 0, 1) := dk_3 (dk_at dksJ2_init_0 10 rfl rfl)
theorem dJ2_init_11 : decode cJ2_init 11 = .ok (.putfield 64, 3) := dk_181 0 64 (dk_at dksJ2_init_0 11 rfl rfl)
theorem dJ2_init_14 : decode cJ2_init 14 = .ok (.return_, 1) := dk_177 (dk_at dksJ2_init_0 14 rfl rfl)
theorem dJ2_values_0 : decode cJ2_values 0 = .ok (.aload_n 0, 1) := by decide +kernel
theorem dJ2_values_1 : decode cJ2_values 1 = .ok (.invokevirtual 135, 3) := by decide +kernel
theorem dJ2_values_4 : decode cJ2_values 4 = .ok (.areturn, 1) := by decide +kernel
def dkwJ2_sequencedValues_1 : List UInt8 := [44, 176, 43, 192, 0, 146, 176]
abbrev dktJ2_sequencedValues_1 : List UInt8 := dkwJ2_sequencedValues_1 ++ []
def dkwJ2_sequencedValues_0 : List UInt8 := [42, 180, 0, 139, 76, 43, 199, 0, 20, 187, 0, 143, 89, 42, 3, 183, 0, 145, 77, 42, 44, 181, 0, 139]
abbrev dktJ2_sequencedValues_0 : List UInt8 := dkwJ2_sequencedValues_0 ++ dktJ2_sequencedValues_1
theorem dksJ2_sequencedValues_0 : cJ2_sequencedValues.data.toList.drop 0 = dktJ2_sequencedValues_0 := by decide +kernel
theorem dksJ2_sequencedValues_1 : cJ2_sequencedValues.data.toList.drop 24 = dktJ2_sequencedValues_1 := dk_seg dksJ2_sequencedValues_0 24 rfl rfl
theorem dJ2_sequencedValues_0 : decode cJ2_sequencedValues 0 = .ok (.aload_n 0, 1) := dk_42 (dk_at dksJ2_sequencedValues_0 0 rfl rfl)
theorem dJ2_sequencedValues_1 : decode cJ2_sequencedValues 1 = .ok (.getfield 139, 3) := dk_180 0 139 (dk_at dksJ2_sequencedValues_0 1 rfl rfl)
theorem dJ2_sequencedValues_4 : decode cJ2_sequencedValues 4 = .ok (.astore_n 1, 1) := dk_76 (dk_at dksJ2_sequencedValues_0 4 rfl rfl)
theorem dJ2_sequencedValues_5 : decode cJ2_sequencedValues 5 = .ok (.aload_n 1, 1) := dk_43 (dk_at dksJ2_sequencedValues_0 5 rfl rfl)
theorem dJ2_sequencedValues_6 : decode cJ2_sequencedValues 6 = .ok (.ifnonnull 20, 3) := dk_199 0 20 (dk_at dksJ2_sequencedValues_0 6 rfl rfl)
theorem dJ2_sequencedValues_9 : decode cJ2_sequencedValues 9 = .ok (.new 143, 3) := dk_187 0 143 (dk_at dksJ2_sequencedValues_0 9 rfl rfl)
theorem dJ2_sequencedValues_12 : decode cJ2_sequencedValues 12 = .ok (.dup, 1) := dk_89 (dk_at dksJ2_sequencedValues_0 12 rfl rfl)
theorem dJ2_sequencedValues_13 : decode cJ2_sequencedValues 13 = .ok (.aload_n 0, 1) := dk_42 (dk_at dksJ2_sequencedValues_0 13 rfl rfl)
theorem dJ2_sequencedValues_14 : decode cJ2_sequencedValues 14 = .ok (.iconst 0, 1) := dk_3 (dk_at dksJ2_sequencedValues_0 14 rfl rfl)
theorem dJ2_sequencedValues_15 : decode cJ2_sequencedValues 15 = .ok (.invokespecial 145, 3) := dk_183 0 145 (dk_at dksJ2_sequencedValues_0 15 rfl rfl)
theorem dJ2_sequencedValues_18 : decode cJ2_sequencedValues 18 = .ok (.astore_n 2, 1) := dk_77 (dk_at dksJ2_sequencedValues_0 18 rfl rfl)
theorem dJ2_sequencedValues_19 : decode cJ2_sequencedValues 19 = .ok (.aload_n 0, 1) := dk_42 (dk_at dksJ2_sequencedValues_0 19 rfl rfl)
theorem dJ2_sequencedValues_20 : decode cJ2_sequencedValues 20 = .ok (.aload_n 2, 1) := dk_44 (dk_at dksJ2_sequencedValues_0 20 rfl rfl)
theorem dJ2_sequencedValues_21 : decode cJ2_sequencedValues 21 = .ok (.putfield 139, 3) := dk_181 0 139 (dk_at dksJ2_sequencedValues_0 21 rfl rfl)
theorem dJ2_sequencedValues_24 : decode cJ2_sequencedValues 24 = .ok (.aload_n 2, 1) := dk_44 (dk_at dksJ2_sequencedValues_1 0 rfl rfl)
theorem dJ2_sequencedValues_25 : decode cJ2_sequencedValues 25 = .ok (.areturn, 1) := dk_176 (dk_at dksJ2_sequencedValues_1 1 rfl rfl)
theorem dJ2_sequencedValues_26 : decode cJ2_sequencedValues 26 = .ok (.aload_n 1, 1) := dk_43 (dk_at dksJ2_sequencedValues_1 2 rfl rfl)
theorem dJ2_sequencedValues_27 : decode cJ2_sequencedValues 27 = .ok (.checkcast 146, 3) := dk_192 0 146 (dk_at dksJ2_sequencedValues_1 3 rfl rfl)
theorem dJ2_sequencedValues_30 : decode cJ2_sequencedValues 30 = .ok (.areturn, 1) := dk_176 (dk_at dksJ2_sequencedValues_1 6 rfl rfl)
theorem dJ2_keySet_0 : decode cJ2_keySet 0 = .ok (.aload_n 0, 1) := by decide +kernel
theorem dJ2_keySet_1 : decode cJ2_keySet 1 = .ok (.invokevirtual 113, 3) := by decide +kernel
theorem dJ2_keySet_4 : decode cJ2_keySet 4 = .ok (.areturn, 1) := by decide +kernel
def dkwJ2_sequencedKeySet_1 : List UInt8 := [44, 176, 43, 192, 0, 126, 176]
abbrev dktJ2_sequencedKeySet_1 : List UInt8 := dkwJ2_sequencedKeySet_1 ++ []
def dkwJ2_sequencedKeySet_0 : List UInt8 := [42, 180, 0, 117, 76, 43, 199, 0, 20, 187, 0, 121, 89, 42, 3, 183, 0, 123, 77, 42, 44, 181, 0, 117]
abbrev dktJ2_sequencedKeySet_0 : List UInt8 := dkwJ2_sequencedKeySet_0 ++ dktJ2_sequencedKeySet_1
theorem dksJ2_sequencedKeySet_0 : cJ2_sequencedKeySet.data.toList.drop 0 = dktJ2_sequencedKeySet_0 := by decide +kernel
theorem dksJ2_sequencedKeySet_1 : cJ2_sequencedKeySet.data.toList.drop 24 = dktJ2_sequencedKeySet_1 := dk_seg dksJ2_sequencedKeySet_0 24 rfl rfl
theorem dJ2_sequencedKeySet_0 : decode cJ2_sequencedKeySet 0 = .ok (.aload_n 0, 1) := dk_42 (dk_at dksJ2_sequencedKeySet_0 0 rfl rfl)
theorem dJ2_sequencedKeySet_1 : decode cJ2_sequencedKeySet 1 = .ok (.getfield 117, 3) := dk_180 0 117 (dk_at dksJ2_sequencedKeySet_0 1 rfl rfl)
theorem dJ2_sequencedKeySet_4 : decode cJ2_sequencedKeySet 4 = .ok (.astore_n 1, 1) := dk_76 (dk_at dksJ2_sequencedKeySet_0 4 rfl rfl)
theorem dJ2_sequencedKeySet_5 : decode cJ2_sequencedKeySet 5 = .ok (.aload_n 1, 1) := dk_43 (dk_at dksJ2_sequencedKeySet_0 5 rfl rfl)
theorem dJ2_sequencedKeySet_6 : decode cJ2_sequencedKeySet 6 = .ok (.ifnonnull 20, 3) := dk_199 0 20 (dk_at dksJ2_sequencedKeySet_0 6 rfl rfl)
theorem dJ2_sequencedKeySet_9 : decode cJ2_sequencedKeySet 9 = .ok (.new 121, 3) := dk_187 0 121 (dk_at dksJ2_sequencedKeySet_0 9 rfl rfl)
theorem dJ2_sequencedKeySet_12 : decode cJ2_sequencedKeySet 12 = .ok (.dup, 1) := dk_89 (dk_at dksJ2_sequencedKeySet_0 12 rfl rfl)
theorem dJ2_sequencedKeySet_13 : decode cJ2_sequencedKeySet 13 = .ok (.aload_n 0, 1) := dk_42 (dk_at dksJ2_sequencedKeySet_0 13 rfl rfl)
theorem dJ2_sequencedKeySet_14 : decode cJ2_sequencedKeySet 14 = .ok (.iconst 0, 1) := dk_3 (dk_at dksJ2_sequencedKeySet_0 14 rfl rfl)
theorem dJ2_sequencedKeySet_15 : decode cJ2_sequencedKeySet 15 = .ok (.invokespecial 123, 3) := dk_183 0 123 (dk_at dksJ2_sequencedKeySet_0 15 rfl rfl)
theorem dJ2_sequencedKeySet_18 : decode cJ2_sequencedKeySet 18 = .ok (.astore_n 2, 1) := dk_77 (dk_at dksJ2_sequencedKeySet_0 18 rfl rfl)
theorem dJ2_sequencedKeySet_19 : decode cJ2_sequencedKeySet 19 = .ok (.aload_n 0, 1) := dk_42 (dk_at dksJ2_sequencedKeySet_0 19 rfl rfl)
theorem dJ2_sequencedKeySet_20 : decode cJ2_sequencedKeySet 20 = .ok (.aload_n 2, 1) := dk_44 (dk_at dksJ2_sequencedKeySet_0 20 rfl rfl)
theorem dJ2_sequencedKeySet_21 : decode cJ2_sequencedKeySet 21 = .ok (.putfield 117, 3) := dk_181 0 117 (dk_at dksJ2_sequencedKeySet_0 21 rfl rfl)
theorem dJ2_sequencedKeySet_24 : decode cJ2_sequencedKeySet 24 = .ok (.aload_n 2, 1) := dk_44 (dk_at dksJ2_sequencedKeySet_1 0 rfl rfl)
theorem dJ2_sequencedKeySet_25 : decode cJ2_sequencedKeySet 25 = .ok (.areturn, 1) := dk_176 (dk_at dksJ2_sequencedKeySet_1 1 rfl rfl)
theorem dJ2_sequencedKeySet_26 : decode cJ2_sequencedKeySet 26 = .ok (.aload_n 1, 1) := dk_43 (dk_at dksJ2_sequencedKeySet_1 2 rfl rfl)
theorem dJ2_sequencedKeySet_27 : decode cJ2_sequencedKeySet 27 = .ok (.checkcast 126, 3) := dk_192 0 126 (dk_at dksJ2_sequencedKeySet_1 3 rfl rfl)
theorem dJ2_sequencedKeySet_30 : decode cJ2_sequencedKeySet 30 = .ok (.areturn, 1) := dk_176 (dk_at dksJ2_sequencedKeySet_1 6 rfl rfl)
def dkwJ2_replacementNode_1 : List UInt8 := [183, 0, 28, 58, 4, 42, 45, 25, 4, 182, 0, 46, 25, 4, 176]
abbrev dktJ2_replacementNode_1 : List UInt8 := dkwJ2_replacementNode_1 ++ []
def dkwJ2_replacementNode_0 : List UInt8 := [43, 192, 0, 15, 78, 187, 0, 15, 89, 45, 180, 0, 36, 45, 180, 0, 39, 45, 180, 0, 43, 44]
abbrev dktJ2_replacementNode_0 : List UInt8 := dkwJ2_replacementNode_0 ++ dktJ2_replacementNode_1
theorem dksJ2_replacementNode_0 : cJ2_replacementNode.data.toList.drop 0 = dktJ2_replacementNode_0 := by decide +kernel
theorem dksJ2_replacementNode_1 : cJ2_replacementNode.data.toList.drop 22 = dktJ2_replacementNode_1 := dk_seg dksJ2_replacementNode_0 22 rfl rfl
theorem dJ2_replacementNode_0 : decode cJ2_replacementNode 0 = .ok (.aload_n 1, 1) := dk_43 (dk_at dksJ2_replacementNode_0 0 rfl rfl)
theorem dJ2_replacementNode_1 : decode cJ2_replacementNode 1 = .ok (.checkcast 15, 3) := dk_192 0 15 (dk_at dksJ2_replacementNode_0 1 rfl rfl)
theorem dJ2_replacementNode_4 : decode cJ2_replacementNode 4 = .ok (.astore_n 3, 1) := dk_78 (dk_at dksJ2_replacementNode_0 4 rfl rfl)
theorem dJ2_replacementNode_5 : decode cJ2_replacementNode 5 = .ok (.new 15, 3) := dk_187 0 15 (dk_at dksJ2_replacementNode_0 5 rfl rfl)
theorem dJ2_replacementNode_8 : decode cJ2_replacementNode 8 = .ok (.dup, 1) := dk_89 (dk_at dksJ2_replacementNode_0 8 rfl rfl)
theorem dJ2_replacementNode_9 : decode cJ2_replacementNode 9 = .ok (.aload_n 3, 1) := dk_45 (dk_at dksJ2_replacementNode_0 9 rfl rfl)
theorem dJ2_replacementNode_10 : decode cJ2_replacementNode 10 = .ok (.getfield 36, 3) := dk_180 0 36 (dk_at dksJ2_replacementNode_0 10 rfl rfl)
theorem dJ2_replacementNode_13 : decode cJ2_replacementNode 13 = .ok (.aload_n 3, 1) := dk_45 (dk_at dksJ2_replacementNode_0 13 rfl rfl)
theorem dJ2_replacementNode_14 : decode cJ2_replacementNode 14 = .ok (.getfield 39, 3) := dk_180 0 39 (dk_at dksJ2_replacementNode_0 14 rfl rfl)
theorem dJ2_replacementNode_17 : decode cJ2_replacementNode 17 = .ok (.aload_n 3, 1) := dk_45 (dk_at dksJ2_replacementNode_0 17 rfl rfl)
theorem dJ2_replacementNode_18 : decode cJ2_replacementNode 18 = .ok (.getfield 43, 3) := dk_180 0 43 (dk_at dksJ2_replacementNode_0 18 rfl rfl)
theorem dJ2_replacementNode_21 : decode cJ2_replacementNode 21 = .ok (.aload_n 2, 1) := dk_44 (dk_at dksJ2_replacementNode_0 21 rfl rfl)
theorem dJ2_replacementNode_22 : decode cJ2_replacementNode 22 = .ok (.invokespecial 28, 3) := dk_183 0 28 (dk_at dksJ2_replacementNode_1 0 rfl rfl)
theorem dJ2_replacementNode_25 : decode cJ2_replacementNode 25 = .ok (.astore 4, 2) := dk_58 4 (dk_at dksJ2_replacementNode_1 3 rfl rfl)
theorem dJ2_replacementNode_27 : decode cJ2_replacementNode 27 = .ok (.aload_n 0, 1) := dk_42 (dk_at dksJ2_replacementNode_1 5 rfl rfl)
theorem dJ2_replacementNode_28 : decode cJ2_replacementNode 28 = .ok (.aload_n 3, 1) := dk_45 (dk_at dksJ2_replacementNode_1 6 rfl rfl)
theorem dJ2_replacementNode_29 : decode cJ2_replacementNode 29 = .ok (.aload 4, 2) := dk_25 4 (dk_at dksJ2_replacementNode_1 7 rfl rfl)
theorem dJ2_replacementNode_31 : decode cJ2_replacementNode 31 = .ok (.invokevirtual 46, 3) := dk_182 0 46 (dk_at dksJ2_replacementNode_1 9 rfl rfl)
theorem dJ2_replacementNode_34 : decode cJ2_replacementNode 34 = .ok (.aload 4, 2) := dk_25 4 (dk_at dksJ2_replacementNode_1 12 rfl rfl)
theorem dJ2_replacementNode_36 : decode cJ2_replacementNode 36 = .ok (.areturn, 1) := dk_176 (dk_at dksJ2_replacementNode_1 14 rfl rfl)
def dkwJ2_transferLinks_2 : List UInt8 := [181, 0, 11, 167, 0, 9, 25, 4, 44, 181, 0, 19, 177]
abbrev dktJ2_transferLinks_2 : List UInt8 := dkwJ2_transferLinks_2 ++ []
def dkwJ2_transferLinks_1 : List UInt8 := [199, 0, 11, 42, 44, 181, 0, 7, 167, 0, 8, 45, 44, 181, 0, 14, 25, 4, 199, 0, 11, 42, 44]
abbrev dktJ2_transferLinks_1 : List UInt8 := dkwJ2_transferLinks_1 ++ dktJ2_transferLinks_2
def dkwJ2_transferLinks_0 : List UInt8 := [44, 43, 180, 0, 19, 90, 181, 0, 19, 78, 44, 43, 180, 0, 14, 90, 181, 0, 14, 58, 4, 45]
abbrev dktJ2_transferLinks_0 : List UInt8 := dkwJ2_transferLinks_0 ++ dktJ2_transferLinks_1
theorem dksJ2_transferLinks_0 : cJ2_transferLinks.data.toList.drop 0 = dktJ2_transferLinks_0 := by decide +kernel
theorem dksJ2_transferLinks_1 : cJ2_transferLinks.data.toList.drop 22 = dktJ2_transferLinks_1 := dk_seg dksJ2_transferLinks_0 22 rfl rfl
theorem dksJ2_transferLinks_2 : cJ2_transferLinks.data.toList.drop 45 = dktJ2_transferLinks_2 := dk_seg dksJ2_transferLinks_1 23 rfl rfl
theorem dJ2_transferLinks_0 : decode cJ2_transferLinks 0 = .ok (.aload_n 2, 1) := dk_44 (dk_at dksJ2_transferLinks_0 0 rfl rfl)
theorem dJ2_transferLinks_1 : decode cJ2_transferLinks 1 = .ok (.aload_n 1, 1) := dk_43 (dk_at dksJ2_transferLinks_0 1 rfl rfl)
theorem dJ2_transferLinks_2 : decode cJ2_transferLinks 2 = .ok (.getfield 19, 3) := dk_180 0 19 (dk_at dksJ2_transferLinks_0 2 rfl rfl)
theorem dJ2_transferLinks_5 : decode cJ2_transferLinks 5 = .ok (.dup_x1, 1) := dk_90 (dk_at dksJ2_transferLinks_0 5 rfl rfl)
theorem dJ2_transferLinks_6 : decode cJ2_transferLinks 6 = .ok (.putfield 19, 3) := dk_181 0 19 (dk_at dksJ2_transferLinks_0 6 rfl rfl)
theorem dJ2_transferLinks_9 : decode cJ2_transferLinks 9 = .ok (.astore_n 3, 1) := dk_78 (dk_at dksJ2_transferLinks_0 9 rfl rfl)
theorem dJ2_transferLinks_10 : decode cJ2_transferLinks 10 = .ok (.aload_n 2, 1) := dk_44 (dk_at dksJ2_transferLinks_0 10 rfl rfl)
theorem dJ2_transferLinks_11 : decode cJ2_transferLinks 11 = .ok (.aload_n 1, 1) := dk_43 (dk_at dksJ2_transferLinks_0 11 rfl rfl)
theorem dJ2_transferLinks_12 : decode cJ2_transferLinks 12 = .ok (.getfield 14, 3) := dk_180 0 14 (dk_at dksJ2_transferLinks_0 12 rfl rfl)
theorem dJ2_transferLinks_15 : decode cJ2_transferLinks 15 = .ok (.dup_x1, 1) := dk_90 (dk_at dksJ2_transferLinks_0 15 rfl rfl)
theorem dJ2_transferLinks_16 : decode cJ2_transferLinks 16 = .ok (.putfield 14, 3) := dk_181 0 14 (dk_at dksJ2_transferLinks_0 16 rfl rfl)
theorem dJ2_transferLinks_19 : decode cJ2_transferLinks 19 = .ok (.astore 4, 2) := dk_58 4 (dk_at dksJ2_transferLinks_0 19 rfl rfl)
theorem dJ2_transferLinks_21 : decode cJ2_transferLinks 21 = .ok (.aload_n 3, 1) := dk_45 (dk_at dksJ2_transferLinks_0 21 rfl rfl)
theorem dJ2_transferLinks_22 : decode cJ2_transferLinks 22 = .ok (.ifnonnull 11, 3) := dk_199 0 11 (dk_at dksJ2_transferLinks_1 0 rfl rfl)
theorem dJ2_transferLinks_25 : decode cJ2_transferLinks 25 = .ok (.aload_n 0, 1) := dk_42 (dk_at dksJ2_transferLinks_1 3 rfl rfl)
theorem dJ2_transferLinks_26 : decode cJ2_transferLinks 26 = .ok (.aload_n 2, 1) := dk_44 (dk_at dksJ2_transferLinks_1 4 rfl rfl)
theorem dJ2_transferLinks_27 : decode cJ2_transferLinks 27 = .ok (.putfield 7, 3) := dk_181 0 7 (dk_at dksJ2_transferLinks_1 5 rfl rfl)
theorem dJ2_transferLinks_30 : decode cJ2_transferLinks 30 = .ok (.goto 8, 3) := dk_167 0 8 (dk_at dksJ2_transferLinks_1 8 rfl rfl)
theorem dJ2_transferLinks_33 : decode cJ2_transferLinks 33 = .ok (.aload_n 3, 1) := dk_45 (dk_at dksJ2_transferLinks_1 11 rfl rfl)
theorem dJ2_transferLinks_34 : decode cJ2_transferLinks 34 = .ok (.aload_n 2, 1) := dk_44 (dk_at dksJ2_transferLinks_1 12 rfl rfl)
theorem dJ2_transferLinks_35 : decode cJ2_transferLinks 35 = .ok (.putfield 14, 3) := dk_181 0 14 (dk_at dksJ2_transferLinks_1 13 rfl rfl)
theorem dJ2_transferLinks_38 : decode cJ2_transferLinks 38 = .ok (.aload 4, 2) := dk_25 4 (dk_at dksJ2_transferLinks_1 16 rfl rfl)
theorem dJ2_transferLinks_40 : decode cJ2_transferLinks 40 = .ok (.ifnonnull 11, 3) := dk_199 0 11 (dk_at dksJ2_transferLinks_1 18 rfl rfl)
theorem dJ2_transferLinks_43 : decode cJ2_transferLinks 43 = .ok (.aload_n 0, 1) := dk_42 (dk_at dksJ2_transferLinks_1 21 rfl rfl)
theorem dJ2_transferLinks_44 : decode cJ2_transferLinks 44 = .ok (.aload_n 2, 1) := dk_44 (dk_at dksJ2_transferLinks_1 22 rfl rfl)
theorem dJ2_transferLinks_45 : decode cJ2_transferLinks 45 = .ok (.putfield 11, 3) := dk_181 0 11 (dk_at dksJ2_transferLinks_2 0 rfl rfl)
theorem dJ2_transferLinks_48 : decode cJ2_transferLinks 48 = .ok (.goto 9, 3) := dk_167 0 9 (dk_at dksJ2_transferLinks_2 3 rfl rfl)
theorem dJ2_transferLinks_51 : decode cJ2_transferLinks 51 = .ok (.aload 4, 2) := dk_25 4 (dk_at dksJ2_transferLinks_2 6 rfl rfl)
theorem dJ2_transferLinks_53 : decode cJ2_transferLinks 53 = .ok (.aload_n 2, 1) := dk_44 (dk_at dksJ2_transferLinks_2 8 rfl rfl)
theorem dJ2_transferLinks_54 : decode cJ2_transferLinks 54 = .ok (.putfield 19, 3) := dk_181 0 19 (dk_at dksJ2_transferLinks_2 9 rfl rfl)
theorem dJ2_transferLinks_57 : decode cJ2_transferLinks 57 = .ok (.return_, 1) := dk_177 (dk_at dksJ2_transferLinks_2 12 rfl rfl)
def dkwJ2_newNode_0 : List UInt8 := [187, 0, 15, 89, 27, 44, 45, 25, 4, 183, 0, 28, 58, 5, 42, 25, 5, 182, 0, 32, 25, 5, 176]
abbrev dktJ2_newNode_0 : List UInt8 := dkwJ2_newNode_0 ++ []
theorem dksJ2_newNode_0 : cJ2_newNode.data.toList.drop 0 = dktJ2_newNode_0 := by decide +kernel
theorem dJ2_newNode_0 : decode cJ2_newNode 0 = .ok (.new 15, 3) := dk_187 0 15 (dk_at dksJ2_newNode_0 0 rfl rfl)
theorem dJ2_newNode_3 : decode cJ2_newNode 3 = .ok (.dup, 1) := dk_89 (dk_at dksJ2_newNode_0 3 rfl rfl)
theorem dJ2_newNode_4 : decode cJ2_newNode 4 = .ok (.iload_n 1, 1) := dk_27 (dk_at dksJ2_newNode_0 4 rfl rfl)
theorem dJ2_newNode_5 : decode cJ2_newNode 5 = .ok (.aload_n 2, 1) := dk_44 (dk_at dksJ2_newNode_0 5 rfl rfl)
theorem dJ2_newNode_6 : decode cJ2_newNode 6 = .ok (.aload_n 3, 1) := dk_45 (dk_at dksJ2_newNode_0 6 rfl rfl)
theorem dJ2_newNode_7 : decode cJ2_newNode 7 = .ok (.aload 4, 2) := dk_25 4 (dk_at dksJ2_newNode_0 7 rfl rfl)
theorem dJ2_newNode_9 : decode cJ2_newNode 9 = .ok (.invokespecial 28, 3) := dk_183 0 28 (dk_at dksJ2_newNode_0 9 rfl rfl)
theorem dJ2_newNode_12 : decode cJ2_newNode 12 = .ok (.astore 5, 2) := dk_58 5 (dk_at dksJ2_newNode_0 12 rfl rfl)
theorem dJ2_newNode_14 : decode cJ2_newNode 14 = .ok (.aload_n 0, 1) := dk_42 (dk_at dksJ2_newNode_0 14 rfl rfl)
theorem dJ2_newNode_15 : decode cJ2_newNode 15 = .ok (.aload 5, 2) := dk_25 5 (dk_at dksJ2_newNode_0 15 rfl rfl)
theorem dJ2_newNode_17 : decode cJ2_newNode 17 = .ok (.invokevirtual 32, 3) := dk_182 0 32 (dk_at dksJ2_newNode_0 17 rfl rfl)
theorem dJ2_newNode_20 : decode cJ2_newNode 20 = .ok (.aload 5, 2) := dk_25 5 (dk_at dksJ2_newNode_0 20 rfl rfl)
theorem dJ2_newNode_22 : decode cJ2_newNode 22 = .ok (.areturn, 1) := dk_176 (dk_at dksJ2_newNode_0 22 rfl rfl)
def dkwJ2_linkNodeAtEnd_3 : List UInt8 := [181, 0, 14, 177]
abbrev dktJ2_linkNodeAtEnd_3 : List UInt8 := dkwJ2_linkNodeAtEnd_3 ++ []
def dkwJ2_linkNodeAtEnd_2 : List UInt8 := [42, 43, 181, 0, 11, 44, 199, 0, 11, 42, 43, 181, 0, 7, 167, 0, 13, 43, 44, 181, 0, 19, 44, 43]
abbrev dktJ2_linkNodeAtEnd_2 : List UInt8 := dkwJ2_linkNodeAtEnd_2 ++ dktJ2_linkNodeAtEnd_3
def dkwJ2_linkNodeAtEnd_1 : List UInt8 := [181, 0, 11, 167, 0, 13, 43, 44, 181, 0, 14, 44, 43, 181, 0, 19, 167, 0, 35, 42, 180, 0, 11, 77]
abbrev dktJ2_linkNodeAtEnd_1 : List UInt8 := dkwJ2_linkNodeAtEnd_1 ++ dktJ2_linkNodeAtEnd_2
def dkwJ2_linkNodeAtEnd_0 : List UInt8 := [42, 180, 0, 1, 4, 160, 0, 38, 42, 180, 0, 7, 77, 42, 43, 181, 0, 7, 44, 199, 0, 11, 42, 43]
abbrev dktJ2_linkNodeAtEnd_0 : List UInt8 := dkwJ2_linkNodeAtEnd_0 ++ dktJ2_linkNodeAtEnd_1
theorem dksJ2_linkNodeAtEnd_0 : cJ2_linkNodeAtEnd.data.toList.drop 0 = dktJ2_linkNodeAtEnd_0 := by decide +kernel
theorem dksJ2_linkNodeAtEnd_1 : cJ2_linkNodeAtEnd.data.toList.drop 24 = dktJ2_linkNodeAtEnd_1 := dk_seg dksJ2_linkNodeAtEnd_0 24 rfl rfl
theorem dksJ2_linkNodeAtEnd_2 : cJ2_linkNodeAtEnd.data.toList.drop 48 = dktJ2_linkNodeAtEnd_2 := dk_seg dksJ2_linkNodeAtEnd_1 24 rfl rfl
theorem dksJ2_linkNodeAtEnd_3 : cJ2_linkNodeAtEnd.data.toList.drop 72 = dktJ2_linkNodeAtEnd_3 := dk_seg dksJ2_linkNodeAtEnd_2 24 rfl rfl
theorem dJ2_linkNodeAtEnd_0 : decode cJ2_linkNodeAtEnd 0 = .ok (.aload_n 0, 1) := dk_42 (dk_at dksJ2_linkNodeAtEnd_0 0 rfl rfl)
theorem dJ2_linkNodeAtEnd_1 : decode cJ2_linkNodeAtEnd 1 = .ok (.getfield 1, 3) := dk_180 0 1 (dk_at dksJ2_linkNodeAtEnd_0 1 rfl rfl)
theorem dJ2_linkNodeAtEnd_4 : decode cJ2_linkNodeAtEnd 4 = .ok (.iconst 1, 1) := dk_4 (dk_at dksJ2_linkNodeAtEnd_0 4 rfl rfl)
theorem dJ2_linkNodeAtEnd_5 : decode cJ2_linkNodeAtEnd 5 = .ok (.if_icmp .ne 38, 3) := dk_160 0 38 (dk_at dksJ2_linkNodeAtEnd_0 5 rfl rfl)
theorem dJ2_linkNodeAtEnd_8 : decode cJ2_linkNodeAtEnd 8 = .ok (.aload_n 0, 1) := dk_42 (dk_at dksJ2_linkNodeAtEnd_0 8 rfl rfl)
theorem dJ2_linkNodeAtEnd_9 : decode cJ2_linkNodeAtEnd 9 = .ok (.getfield 7, 3) := dk_180 0 7 (dk_at dksJ2_linkNodeAtEnd_0 9 rfl rfl)
theorem dJ2_linkNodeAtEnd_12 : decode cJ2_linkNodeAtEnd 12 = .ok (.astore_n 2, 1) := dk_77 (dk_at dksJ2_linkNodeAtEnd_0 12 rfl rfl)
theorem dJ2_linkNodeAtEnd_13 : decode cJ2_linkNodeAtEnd 13 = .ok (.aload_n 0, 1) := dk_42 (dk_at dksJ2_linkNodeAtEnd_0 13 rfl rfl)
theorem dJ2_linkNodeAtEnd_14 : decode cJ2_linkNodeAtEnd 14 = .ok (.aload_n 1, 1) := dk_43 (dk_at dksJ2_linkNodeAtEnd_0 14 rfl rfl)
theorem dJ2_linkNodeAtEnd_15 : decode cJ2_linkNodeAtEnd 15 = .ok (.putfield 7, 3) := dk_181 0 7 (dk_at dksJ2_linkNodeAtEnd_0 15 rfl rfl)
theorem dJ2_linkNodeAtEnd_18 : decode cJ2_linkNodeAtEnd 18 = .ok (.aload_n 2, 1) := dk_44 (dk_at dksJ2_linkNodeAtEnd_0 18 rfl rfl)
theorem dJ2_linkNodeAtEnd_19 : decode cJ2_linkNodeAtEnd 19 = .ok (.ifnonnull 11, 3) := dk_199 0 11 (dk_at dksJ2_linkNodeAtEnd_0 19 rfl rfl)
theorem dJ2_linkNodeAtEnd_22 : decode cJ2_linkNodeAtEnd 22 = .ok (.aload_n 0, 1) := dk_42 (dk_at dksJ2_linkNodeAtEnd_0 22 rfl rfl)
theorem dJ2_linkNodeAtEnd_23 : decode cJ2_linkNodeAtEnd 23 = .ok (.aload_n 1, 1) := dk_43 (dk_at dksJ2_linkNodeAtEnd_0 23 rfl rfl)
theorem dJ2_linkNodeAtEnd_24 : decode cJ2_linkNodeAtEnd 24 = .ok (.putfield 11, 3) := dk_181 0 11 (dk_at dksJ2_linkNodeAtEnd_1 0 rfl rfl)
theorem dJ2_linkNodeAtEnd_27 : decode cJ2_linkNodeAtEnd 27 = .ok (.goto 13, 3) := dk_167 0 13 (dk_at dksJ2_linkNodeAtEnd_1 3 rfl rfl)
theorem dJ2_linkNodeAtEnd_30 : decode cJ2_linkNodeAtEnd 30 = .ok (.aload_n 1, 1) := dk_43 (dk_at dksJ2_linkNodeAtEnd_1 6 rfl rfl)
theorem dJ2_linkNodeAtEnd_31 : decode cJ2_linkNodeAtEnd 31 = .ok (.aload_n 2, 1) := dk_44 (dk_at dksJ2_linkNodeAtEnd_1 7 rfl rfl)
theorem dJ2_linkNodeAtEnd_32 : decode cJ2_linkNodeAtEnd 32 = .ok (.putfield 14, 3) := dk_181 0 14 (dk_at dksJ2_linkNodeAtEnd_1 8 rfl rfl)
theorem dJ2_linkNodeAtEnd_35 : decode cJ2_linkNodeAtEnd 35 = .ok (.aload_n 2, 1) := dk_44 (dk_at dksJ2_linkNodeAtEnd_1 11 rfl rfl)
theorem dJ2_linkNodeAtEnd_36 : decode cJ2_linkNodeAtEnd 36 = .ok (.aload_n 1, 1) := dk_43 (dk_at dksJ2_linkNodeAtEnd_1 12 rfl rfl)
theorem dJ2_linkNodeAtEnd_37 : decode cJ2_linkNodeAtEnd 37 = .ok (.putfield 19, 3) := dk_181 0 19 (dk_at dksJ2_linkNodeAtEnd_1 13 rfl rfl)
theorem dJ2_linkNodeAtEnd_40 : decode cJ2_linkNodeAtEnd 40 = .ok (.goto 35, 3) := dk_167 0 35 (dk_at dksJ2_linkNodeAtEnd_1 16 rfl rfl)
theorem dJ2_linkNodeAtEnd_43 : decode cJ2_linkNodeAtEnd 43 = .ok (.aload_n 0, 1) := dk_42 (dk_at dksJ2_linkNodeAtEnd_1 19 rfl rfl)
theorem dJ2_linkNodeAtEnd_44 : decode cJ2_linkNodeAtEnd 44 = .ok (.getfield 11, 3) := dk_180 0 11 (dk_at dksJ2_linkNodeAtEnd_1 20 rfl rfl)
theorem dJ2_linkNodeAtEnd_47 : decode cJ2_linkNodeAtEnd 47 = .ok (.astore_n 2, 1) := dk_77 (dk_at dksJ2_linkNodeAtEnd_1 23 rfl rfl)
theorem dJ2_linkNodeAtEnd_48 : decode cJ2_linkNodeAtEnd 48 = .ok (.aload_n 0, 1) := dk_42 (dk_at dksJ2_linkNodeAtEnd_2 0 rfl rfl)
theorem dJ2_linkNodeAtEnd_49 : decode cJ2_linkNodeAtEnd 49 = .ok (.aload_n 1, 1) := dk_43 (dk_at dksJ2_linkNodeAtEnd_2 1 rfl rfl)
theorem dJ2_linkNodeAtEnd_50 : decode cJ2_linkNodeAtEnd 50 = .ok (.putfield 11, 3) := dk_181 0 11 (dk_at dksJ2_linkNodeAtEnd_2 2 rfl rfl)
theorem dJ2_linkNodeAtEnd_53 : decode cJ2_linkNodeAtEnd 53 = .ok (.aload_n 2, 1) := dk_44 (dk_at dksJ2_linkNodeAtEnd_2 5 rfl rfl)
theorem dJ2_linkNodeAtEnd_54 : decode cJ2_linkNodeAtEnd 54 = .ok (.ifnonnull 11, 3) := dk_199 0 11 (dk_at dksJ2_linkNodeAtEnd_2 6 rfl rfl)
theorem dJ2_linkNodeAtEnd_57 : decode cJ2_linkNodeAtEnd 57 = .ok (.aload_n 0, 1) := dk_42 (dk_at dksJ2_linkNodeAtEnd_2 9 rfl rfl)
theorem dJ2_linkNodeAtEnd_58 : decode cJ2_linkNodeAtEnd 58 = .ok (.aload_n 1, 1) := dk_43 (dk_at dksJ2_linkNodeAtEnd_2 10 rfl rfl)
theorem dJ2_linkNodeAtEnd_59 : decode cJ2_linkNodeAtEnd 59 = .ok (.putfield 7, 3) := dk_181 0 7 (dk_at dksJ2_linkNodeAtEnd_2 11 rfl rfl)
theorem dJ2_linkNodeAtEnd_62 : decode cJ2_linkNodeAtEnd 62 = .ok (.goto 13, 3) := dk_167 0 13 (dk_at dksJ2_linkNodeAtEnd_2 14 rfl rfl)
theorem dJ2_linkNodeAtEnd_65 : decode cJ2_linkNodeAtEnd 65 = .ok (.aload_n 1, 1) := dk_43 (dk_at dksJ2_linkNodeAtEnd_2 17 rfl rfl)
theorem dJ2_linkNodeAtEnd_66 : decode cJ2_linkNodeAtEnd 66 = .ok (.aload_n 2, 1) := dk_44 (dk_at dksJ2_linkNodeAtEnd_2 18 rfl rfl)
theorem dJ2_linkNodeAtEnd_67 : decode cJ2_linkNodeAtEnd 67 = .ok (.putfield 19, 3) := dk_181 0 19 (dk_at dksJ2_linkNodeAtEnd_2 19 rfl rfl)
theorem dJ2_linkNodeAtEnd_70 : decode cJ2_linkNodeAtEnd 70 = .ok (.aload_n 2, 1) := dk_44 (dk_at dksJ2_linkNodeAtEnd_2 22 rfl rfl)
theorem dJ2_linkNodeAtEnd_71 : decode cJ2_linkNodeAtEnd 71 = .ok (.aload_n 1, 1) := dk_43 (dk_at dksJ2_linkNodeAtEnd_2 23 rfl rfl)
theorem dJ2_linkNodeAtEnd_72 : decode cJ2_linkNodeAtEnd 72 = .ok (.putfield 14, 3) := dk_181 0 14 (dk_at dksJ2_linkNodeAtEnd_3 0 rfl rfl)
theorem dJ2_linkNodeAtEnd_75 : decode cJ2_linkNodeAtEnd 75 = .ok (.return_, 1) := dk_177 (dk_at dksJ2_linkNodeAtEnd_3 3 rfl rfl)
def dkwJ2_newTreeNode_0 : List UInt8 := [187, 0, 50, 89, 27, 44, 45, 25, 4, 183, 0, 52, 58, 5, 42, 25, 5, 182, 0, 32, 25, 5, 176]
abbrev dktJ2_newTreeNode_0 : List UInt8 := dkwJ2_newTreeNode_0 ++ []
theorem dksJ2_newTreeNode_0 : cJ2_newTreeNode.data.toList.drop 0 = dktJ2_newTreeNode_0 := by decide +kernel
theorem dJ2_newTreeNode_0 : decode cJ2_newTreeNode 0 = .ok (.new 50, 3) := dk_187 0 50 (dk_at dksJ2_newTreeNode_0 0 rfl rfl)
theorem dJ2_newTreeNode_3 : decode cJ2_newTreeNode 3 = .ok (.dup, 1) := dk_89 (dk_at dksJ2_newTreeNode_0 3 rfl rfl)
theorem dJ2_newTreeNode_4 : decode cJ2_newTreeNode 4 = .ok (.iload_n 1, 1) := dk_27 (dk_at dksJ2_newTreeNode_0 4 rfl rfl)
theorem dJ2_newTreeNode_5 : decode cJ2_newTreeNode 5 = .ok (.aload_n 2, 1) := dk_44 (dk_at dksJ2_newTreeNode_0 5 rfl rfl)
theorem dJ2_newTreeNode_6 : decode cJ2_newTreeNode 6 = .ok (.aload_n 3, 1) := dk_45 (dk_at dksJ2_newTreeNode_0 6 rfl rfl)
theorem dJ2_newTreeNode_7 : decode cJ2_newTreeNode 7 = .ok (.aload 4, 2) := dk_25 4 (dk_at dksJ2_newTreeNode_0 7 rfl rfl)
theorem dJ2_newTreeNode_9 : decode cJ2_newTreeNode 9 = .ok (.invokespecial 52, 3) := dk_183 0 52 (dk_at dksJ2_newTreeNode_0 9 rfl rfl)
theorem dJ2_newTreeNode_12 : decode cJ2_newTreeNode 12 = .ok (.astore 5, 2) := dk_58 5 (dk_at dksJ2_newTreeNode_0 12 rfl rfl)
theorem dJ2_newTreeNode_14 : decode cJ2_newTreeNode 14 = .ok (.aload_n 0, 1) := dk_42 (dk_at dksJ2_newTreeNode_0 14 rfl rfl)
theorem dJ2_newTreeNode_15 : decode cJ2_newTreeNode 15 = .ok (.aload 5, 2) := dk_25 5 (dk_at dksJ2_newTreeNode_0 15 rfl rfl)
theorem dJ2_newTreeNode_17 : decode cJ2_newTreeNode 17 = .ok (.invokevirtual 32, 3) := dk_182 0 32 (dk_at dksJ2_newTreeNode_0 17 rfl rfl)
theorem dJ2_newTreeNode_20 : decode cJ2_newTreeNode 20 = .ok (.aload 5, 2) := dk_25 5 (dk_at dksJ2_newTreeNode_0 20 rfl rfl)
theorem dJ2_newTreeNode_22 : decode cJ2_newTreeNode 22 = .ok (.areturn, 1) := dk_176 (dk_at dksJ2_newTreeNode_0 22 rfl rfl)
def dkwJ2_replacementTreeNode_1 : List UInt8 := [183, 0, 52, 58, 4, 42, 45, 25, 4, 182, 0, 46, 25, 4, 176]
abbrev dktJ2_replacementTreeNode_1 : List UInt8 := dkwJ2_replacementTreeNode_1 ++ []
def dkwJ2_replacementTreeNode_0 : List UInt8 := [43, 192, 0, 15, 78, 187, 0, 50, 89, 45, 180, 0, 36, 45, 180, 0, 39, 45, 180, 0, 43, 44]
abbrev dktJ2_replacementTreeNode_0 : List UInt8 := dkwJ2_replacementTreeNode_0 ++ dktJ2_replacementTreeNode_1
theorem dksJ2_replacementTreeNode_0 : cJ2_replacementTreeNode.data.toList.drop 0 = dktJ2_replacementTreeNode_0 := by decide +kernel
theorem dksJ2_replacementTreeNode_1 : cJ2_replacementTreeNode.data.toList.drop 22 = dktJ2_replacementTreeNode_1 := dk_seg dksJ2_replacementTreeNode_0 22 rfl rfl
theorem dJ2_replacementTreeNode_0 : decode cJ2_replacementTreeNode 0 = .ok (.aload_n 1, 1) := dk_43 (dk_at dksJ2_replacementTreeNode_0 0 rfl rfl)
theorem dJ2_replacementTreeNode_1 : decode cJ2_replacementTreeNode 1 = .ok (.checkcast 15, 3) := dk_192 0 15 (dk_at dksJ2_replacementTreeNode_0 1 rfl rfl)
theorem dJ2_replacementTreeNode_4 : decode cJ2_replacementTreeNode 4 = .ok (.astore_n 3, 1) := dk_78 (dk_at dksJ2_replacementTreeNode_0 4 rfl rfl)
theorem dJ2_replacementTreeNode_5 : decode cJ2_replacementTreeNode 5 = .ok (.new 50, 3) := dk_187 0 50 (dk_at dksJ2_replacementTreeNode_0 5 rfl rfl)
theorem dJ2_replacementTreeNode_8 : decode cJ2_replacementTreeNode 8 = .ok (.dup, 1) := dk_89 (dk_at dksJ2_replacementTreeNode_0 8 rfl rfl)
theorem dJ2_replacementTreeNode_9 : decode cJ2_replacementTreeNode 9 = .ok (.aload_n 3, 1) := dk_45 (dk_at dksJ2_replacementTreeNode_0 9 rfl rfl)
theorem dJ2_replacementTreeNode_10 : decode cJ2_replacementTreeNode 10 = .ok (.getfield 36, 3) := dk_180 0 36 (dk_at dksJ2_replacementTreeNode_0 10 rfl rfl)
theorem dJ2_replacementTreeNode_13 : decode cJ2_replacementTreeNode 13 = .ok (.aload_n 3, 1) := dk_45 (dk_at dksJ2_replacementTreeNode_0 13 rfl rfl)
theorem dJ2_replacementTreeNode_14 : decode cJ2_replacementTreeNode 14 = .ok (.getfield 39, 3) := dk_180 0 39 (dk_at dksJ2_replacementTreeNode_0 14 rfl rfl)
theorem dJ2_replacementTreeNode_17 : decode cJ2_replacementTreeNode 17 = .ok (.aload_n 3, 1) := dk_45 (dk_at dksJ2_replacementTreeNode_0 17 rfl rfl)
theorem dJ2_replacementTreeNode_18 : decode cJ2_replacementTreeNode 18 = .ok (.getfield 43, 3) := dk_180 0 43 (dk_at dksJ2_replacementTreeNode_0 18 rfl rfl)
theorem dJ2_replacementTreeNode_21 : decode cJ2_replacementTreeNode 21 = .ok (.aload_n 2, 1) := dk_44 (dk_at dksJ2_replacementTreeNode_0 21 rfl rfl)
theorem dJ2_replacementTreeNode_22 : decode cJ2_replacementTreeNode 22 = .ok (.invokespecial 52, 3) := dk_183 0 52 (dk_at dksJ2_replacementTreeNode_1 0 rfl rfl)
theorem dJ2_replacementTreeNode_25 : decode cJ2_replacementTreeNode 25 = .ok (.astore 4, 2) := dk_58 4 (dk_at dksJ2_replacementTreeNode_1 3 rfl rfl)
theorem dJ2_replacementTreeNode_27 : decode cJ2_replacementTreeNode 27 = .ok (.aload_n 0, 1) := dk_42 (dk_at dksJ2_replacementTreeNode_1 5 rfl rfl)
theorem dJ2_replacementTreeNode_28 : decode cJ2_replacementTreeNode 28 = .ok (.aload_n 3, 1) := dk_45 (dk_at dksJ2_replacementTreeNode_1 6 rfl rfl)
theorem dJ2_replacementTreeNode_29 : decode cJ2_replacementTreeNode 29 = .ok (.aload 4, 2) := dk_25 4 (dk_at dksJ2_replacementTreeNode_1 7 rfl rfl)
theorem dJ2_replacementTreeNode_31 : decode cJ2_replacementTreeNode 31 = .ok (.invokevirtual 46, 3) := dk_182 0 46 (dk_at dksJ2_replacementTreeNode_1 9 rfl rfl)
theorem dJ2_replacementTreeNode_34 : decode cJ2_replacementTreeNode 34 = .ok (.aload 4, 2) := dk_25 4 (dk_at dksJ2_replacementTreeNode_1 12 rfl rfl)
theorem dJ2_replacementTreeNode_36 : decode cJ2_replacementTreeNode 36 = .ok (.areturn, 1) := dk_176 (dk_at dksJ2_replacementTreeNode_1 14 rfl rfl)
def dkwJ2_afterNodeAccess_11 : List UInt8 := [181, 0, 7, 42, 89, 180, 0, 68, 4, 96, 181, 0, 68, 177]
abbrev dktJ2_afterNodeAccess_11 : List UInt8 := dkwJ2_afterNodeAccess_11 ++ []
def dkwJ2_afterNodeAccess_10 : List UInt8 := [25, 4, 181, 0, 11, 167, 0, 15, 25, 4, 45, 181, 0, 14, 45, 25, 4, 181, 0, 19, 42, 25, 4]
abbrev dktJ2_afterNodeAccess_10 : List UInt8 := dkwJ2_afterNodeAccess_10 ++ dktJ2_afterNodeAccess_11
def dkwJ2_afterNodeAccess_9 : List UInt8 := [25, 5, 198, 0, 13, 25, 5, 25, 6, 181, 0, 14, 167, 0, 6, 25, 6, 78, 45, 199, 0, 12, 42]
abbrev dktJ2_afterNodeAccess_9 : List UInt8 := dkwJ2_afterNodeAccess_9 ++ dktJ2_afterNodeAccess_10
def dkwJ2_afterNodeAccess_8 : List UInt8 := [181, 0, 19, 25, 6, 199, 0, 12, 42, 25, 5, 181, 0, 11, 167, 0, 10, 25, 6, 25, 5, 181, 0, 19]
abbrev dktJ2_afterNodeAccess_8 : List UInt8 := dkwJ2_afterNodeAccess_8 ++ dktJ2_afterNodeAccess_9
def dkwJ2_afterNodeAccess_7 : List UInt8 := [43, 192, 0, 15, 58, 4, 25, 4, 180, 0, 19, 58, 5, 25, 4, 180, 0, 14, 58, 6, 25, 4, 1]
abbrev dktJ2_afterNodeAccess_7 : List UInt8 := dkwJ2_afterNodeAccess_7 ++ dktJ2_afterNodeAccess_8
def dkwJ2_afterNodeAccess_6 : List UInt8 := [181, 0, 68, 167, 0, 127, 42, 180, 0, 1, 4, 160, 0, 119, 42, 180, 0, 7, 89, 78, 43, 165, 0, 109]
abbrev dktJ2_afterNodeAccess_6 : List UInt8 := dkwJ2_afterNodeAccess_6 ++ dktJ2_afterNodeAccess_7
def dkwJ2_afterNodeAccess_5 : List UInt8 := [181, 0, 19, 44, 25, 4, 181, 0, 14, 42, 25, 4, 181, 0, 11, 42, 89, 180, 0, 68, 4, 96]
abbrev dktJ2_afterNodeAccess_5 : List UInt8 := dkwJ2_afterNodeAccess_5 ++ dktJ2_afterNodeAccess_6
def dkwJ2_afterNodeAccess_4 : List UInt8 := [167, 0, 6, 25, 5, 77, 44, 199, 0, 12, 42, 25, 4, 181, 0, 7, 167, 0, 15, 25, 4, 44]
abbrev dktJ2_afterNodeAccess_4 : List UInt8 := dkwJ2_afterNodeAccess_4 ++ dktJ2_afterNodeAccess_5
def dkwJ2_afterNodeAccess_3 : List UInt8 := [167, 0, 10, 25, 5, 25, 6, 181, 0, 14, 25, 6, 198, 0, 13, 25, 6, 25, 5, 181, 0, 19]
abbrev dktJ2_afterNodeAccess_3 : List UInt8 := dkwJ2_afterNodeAccess_3 ++ dktJ2_afterNodeAccess_4
def dkwJ2_afterNodeAccess_2 : List UInt8 := [180, 0, 14, 58, 6, 25, 4, 1, 181, 0, 14, 25, 5, 199, 0, 12, 42, 25, 6, 181, 0, 7]
abbrev dktJ2_afterNodeAccess_2 : List UInt8 := dkwJ2_afterNodeAccess_2 ++ dktJ2_afterNodeAccess_3
def dkwJ2_afterNodeAccess_1 : List UInt8 := [180, 0, 11, 89, 77, 43, 165, 0, 112, 43, 192, 0, 15, 58, 4, 25, 4, 180, 0, 19, 58, 5, 25, 4]
abbrev dktJ2_afterNodeAccess_1 : List UInt8 := dkwJ2_afterNodeAccess_1 ++ dktJ2_afterNodeAccess_2
def dkwJ2_afterNodeAccess_0 : List UInt8 := [42, 180, 0, 1, 5, 159, 0, 17, 42, 180, 0, 1, 154, 0, 129, 42, 180, 0, 64, 153, 0, 122, 42]
abbrev dktJ2_afterNodeAccess_0 : List UInt8 := dkwJ2_afterNodeAccess_0 ++ dktJ2_afterNodeAccess_1
theorem dksJ2_afterNodeAccess_0 : cJ2_afterNodeAccess.data.toList.drop 0 = dktJ2_afterNodeAccess_0 := by decide +kernel
theorem dksJ2_afterNodeAccess_1 : cJ2_afterNodeAccess.data.toList.drop 23 = dktJ2_afterNodeAccess_1 := dk_seg dksJ2_afterNodeAccess_0 23 rfl rfl
theorem dksJ2_afterNodeAccess_2 : cJ2_afterNodeAccess.data.toList.drop 47 = dktJ2_afterNodeAccess_2 := dk_seg dksJ2_afterNodeAccess_1 24 rfl rfl
theorem dksJ2_afterNodeAccess_3 : cJ2_afterNodeAccess.data.toList.drop 69 = dktJ2_afterNodeAccess_3 := dk_seg dksJ2_afterNodeAccess_2 22 rfl rfl
theorem dksJ2_afterNodeAccess_4 : cJ2_afterNodeAccess.data.toList.drop 91 = dktJ2_afterNodeAccess_4 := dk_seg dksJ2_afterNodeAccess_3 22 rfl rfl
theorem dksJ2_afterNodeAccess_5 : cJ2_afterNodeAccess.data.toList.drop 113 = dktJ2_afterNodeAccess_5 := dk_seg dksJ2_afterNodeAccess_4 22 rfl rfl
theorem dksJ2_afterNodeAccess_6 : cJ2_afterNodeAccess.data.toList.drop 135 = dktJ2_afterNodeAccess_6 := dk_seg dksJ2_afterNodeAccess_5 22 rfl rfl
theorem dksJ2_afterNodeAccess_7 : cJ2_afterNodeAccess.data.toList.drop 159 = dktJ2_afterNodeAccess_7 := dk_seg dksJ2_afterNodeAccess_6 24 rfl rfl
theorem dksJ2_afterNodeAccess_8 : cJ2_afterNodeAccess.data.toList.drop 182 = dktJ2_afterNodeAccess_8 := dk_seg dksJ2_afterNodeAccess_7 23 rfl rfl
theorem dksJ2_afterNodeAccess_9 : cJ2_afterNodeAccess.data.toList.drop 206 = dktJ2_afterNodeAccess_9 := dk_seg dksJ2_afterNodeAccess_8 24 rfl rfl
theorem dksJ2_afterNodeAccess_10 : cJ2_afterNodeAccess.data.toList.drop 229 = dktJ2_afterNodeAccess_10 := dk_seg dksJ2_afterNodeAccess_9 23 rfl rfl
theorem dksJ2_afterNodeAccess_11 : cJ2_afterNodeAccess.data.toList.drop 252 = dktJ2_afterNodeAccess_11 := dk_seg dksJ2_afterNodeAccess_10 23 rfl rfl
theorem dJ2_afterNodeAccess_0 : decode cJ2_afterNodeAccess 0 = .ok (.aload_n 0, 1) := dk_42 (dk_at dksJ2_afterNodeAccess_0 0 rfl rfl)
theorem dJ2_afterNodeAccess_1 : decode cJ2_afterNodeAccess 1 = .ok (.getfield 1, 3) := dk_180 0 1 (dk_at dksJ2_afterNodeAccess_0 1 rfl rfl)
theorem dJ2_afterNodeAccess_4 : decode cJ2_afterNodeAccess 4 = .ok (.iconst 2, 1) := dk_5 (dk_at dksJ2_afterNodeAccess_0 4 rfl rfl)
theorem dJ2_afterNodeAccess_5 : decode cJ2_afterNodeAccess 5 = .ok (.if_icmp .eq 17, 3) := dk_159 0 17 (dk_at dksJ2_afterNodeAccess_0 5 rfl rfl)
theorem dJ2_afterNodeAccess_8 : decode cJ2_afterNodeAccess 8 = .ok (.aload_n 0, 1) := dk_42 (dk_at dksJ2_afterNodeAccess_0 8 rfl rfl)
theorem dJ2_afterNodeAccess_9 : decode cJ2_afterNodeAccess 9 = .ok (.getfield 1, 3) := dk_180 0 1 (dk_at dksJ2_afterNodeAccess_0 9 rfl rfl)
theorem dJ2_afterNodeAccess_12 : decode cJ2_afterNodeAccess 12 = .ok (.ifCond .ne 129, 3) := dk_154 0 129 (dk_at dksJ2_afterNodeAccess_0 12 rfl rfl)
theorem dJ2_afterNodeAccess_15 : decode cJ2_afterNodeAccess 15 = .ok (.aload_n 0, 1) := dk_42 (dk_at dksJ2_afterNodeAccess_0 15 rfl rfl)
theorem dJ2_afterNodeAccess_16 : decode cJ2_afterNodeAccess 16 = .ok (.getfield 64, 3) := dk_180 0 64 (dk_at dksJ2_afterNodeAccess_0 16 rfl rfl)
theorem dJ2_afterNodeAccess_19 : decode cJ2_afterNodeAccess 19 = .ok (.ifCond .eq 122, 3) := dk_153 0 122 (dk_at dksJ2_afterNodeAccess_0 19 rfl rfl)
theorem dJ2_afterNodeAccess_22 : decode cJ2_afterNodeAccess 22 = .ok (.aload_n 0, 1) := dk_42 (dk_at dksJ2_afterNodeAccess_0 22 rfl rfl)
theorem dJ2_afterNodeAccess_23 : decode cJ2_afterNodeAccess 23 = .ok (.getfield 11, 3) := dk_180 0 11 (dk_at dksJ2_afterNodeAccess_1 0 rfl rfl)
theorem dJ2_afterNodeAccess_26 : decode cJ2_afterNodeAccess 26 = .ok (.dup, 1) := dk_89 (dk_at dksJ2_afterNodeAccess_1 3 rfl rfl)
theorem dJ2_afterNodeAccess_27 : decode cJ2_afterNodeAccess 27 = .ok (.astore_n 2, 1) := dk_77 (dk_at dksJ2_afterNodeAccess_1 4 rfl rfl)
theorem dJ2_afterNodeAccess_28 : decode cJ2_afterNodeAccess 28 = .ok (.aload_n 1, 1) := dk_43 (dk_at dksJ2_afterNodeAccess_1 5 rfl rfl)
theorem dJ2_afterNodeAccess_29 : decode cJ2_afterNodeAccess 29 = .ok (.if_acmp .eq 112, 3) := dk_165 0 112 (dk_at dksJ2_afterNodeAccess_1 6 rfl rfl)
theorem dJ2_afterNodeAccess_32 : decode cJ2_afterNodeAccess 32 = .ok (.aload_n 1, 1) := dk_43 (dk_at dksJ2_afterNodeAccess_1 9 rfl rfl)
theorem dJ2_afterNodeAccess_33 : decode cJ2_afterNodeAccess 33 = .ok (.checkcast 15, 3) := dk_192 0 15 (dk_at dksJ2_afterNodeAccess_1 10 rfl rfl)
theorem dJ2_afterNodeAccess_36 : decode cJ2_afterNodeAccess 36 = .ok (.astore 4, 2) := dk_58 4 (dk_at dksJ2_afterNodeAccess_1 13 rfl rfl)
theorem dJ2_afterNodeAccess_38 : decode cJ2_afterNodeAccess 38 = .ok (.aload 4, 2) := dk_25 4 (dk_at dksJ2_afterNodeAccess_1 15 rfl rfl)
theorem dJ2_afterNodeAccess_40 : decode cJ2_afterNodeAccess 40 = .ok (.getfield 19, 3) := dk_180 0 19 (dk_at dksJ2_afterNodeAccess_1 17 rfl rfl)
theorem dJ2_afterNodeAccess_43 : decode cJ2_afterNodeAccess 43 = .ok (.astore 5, 2) := dk_58 5 (dk_at dksJ2_afterNodeAccess_1 20 rfl rfl)
theorem dJ2_afterNodeAccess_45 : decode cJ2_afterNodeAccess 45 = .ok (.aload 4, 2) := dk_25 4 (dk_at dksJ2_afterNodeAccess_1 22 rfl rfl)
theorem dJ2_afterNodeAccess_47 : decode cJ2_afterNodeAccess 47 = .ok (.getfield 14, 3) := dk_180 0 14 (dk_at dksJ2_afterNodeAccess_2 0 rfl rfl)
theorem dJ2_afterNodeAccess_50 : decode cJ2_afterNodeAccess 50 = .ok (.astore 6, 2) := dk_58 6 (dk_at dksJ2_afterNodeAccess_2 3 rfl rfl)
theorem dJ2_afterNodeAccess_52 : decode cJ2_afterNodeAccess 52 = .ok (.aload 4, 2) := dk_25 4 (dk_at dksJ2_afterNodeAccess_2 5 rfl rfl)
theorem dJ2_afterNodeAccess_54 : decode cJ2_afterNodeAccess 54 = .ok (.aconst_null, 1) := dk_1 (dk_at dksJ2_afterNodeAccess_2 7 rfl rfl)
theorem dJ2_afterNodeAccess_55 : decode cJ2_afterNodeAccess 55 = .ok (.putfield 14, 3) := dk_181 0 14 (dk_at dksJ2_afterNodeAccess_2 8 rfl rfl)
theorem dJ2_afterNodeAccess_58 : decode cJ2_afterNodeAccess 58 = .ok (.aload 5, 2) := dk_25 5 (dk_at dksJ2_afterNodeAccess_2 11 rfl rfl)
theorem dJ2_afterNodeAccess_60 : decode cJ2_afterNodeAccess 60 = .ok (.ifnonnull 12, 3) := dk_199 0 12 (dk_at dksJ2_afterNodeAccess_2 13 rfl rfl)
theorem dJ2_afterNodeAccess_63 : decode cJ2_afterNodeAccess 63 = .ok (.aload_n 0, 1) := dk_42 (dk_at dksJ2_afterNodeAccess_2 16 rfl rfl)
theorem dJ2_afterNodeAccess_64 : decode cJ2_afterNodeAccess 64 = .ok (.aload 6, 2) := dk_25 6 (dk_at dksJ2_afterNodeAccess_2 17 rfl rfl)
theorem dJ2_afterNodeAccess_66 : decode cJ2_afterNodeAccess 66 = .ok (.putfield 7, 3) := dk_181 0 7 (dk_at dksJ2_afterNodeAccess_2 19 rfl rfl)
theorem dJ2_afterNodeAccess_69 : decode cJ2_afterNodeAccess 69 = .ok (.goto 10, 3) := dk_167 0 10 (dk_at dksJ2_afterNodeAccess_3 0 rfl rfl)
theorem dJ2_afterNodeAccess_72 : decode cJ2_afterNodeAccess 72 = .ok (.aload 5, 2) := dk_25 5 (dk_at dksJ2_afterNodeAccess_3 3 rfl rfl)
theorem dJ2_afterNodeAccess_74 : decode cJ2_afterNodeAccess 74 = .ok (.aload 6, 2) := dk_25 6 (dk_at dksJ2_afterNodeAccess_3 5 rfl rfl)
theorem dJ2_afterNodeAccess_76 : decode cJ2_afterNodeAccess 76 = .ok (.putfield 14, 3) := dk_181 0 14 (dk_at dksJ2_afterNodeAccess_3 7 rfl rfl)
theorem dJ2_afterNodeAccess_79 : decode cJ2_afterNodeAccess 79 = .ok (.aload 6, 2) := dk_25 6 (dk_at dksJ2_afterNodeAccess_3 10 rfl rfl)
theorem dJ2_afterNodeAccess_81 : decode cJ2_afterNodeAccess 81 = .ok (.ifnull 13, 3) := dk_198 0 13 (dk_at dksJ2_afterNodeAccess_3 12 rfl rfl)
theorem dJ2_afterNodeAccess_84 : decode cJ2_afterNodeAccess 84 = .ok (.aload 6, 2) := dk_25 6 (dk_at dksJ2_afterNodeAccess_3 15 rfl rfl)
theorem dJ2_afterNodeAccess_86 : decode cJ2_afterNodeAccess 86 = .ok (.aload 5, 2) := dk_25 5 (dk_at dksJ2_afterNodeAccess_3 17 rfl rfl)
theorem dJ2_afterNodeAccess_88 : decode cJ2_afterNodeAccess 88 = .ok (.putfield 19, 3) := dk_181 0 19 (dk_at dksJ2_afterNodeAccess_3 19 rfl rfl)
theorem dJ2_afterNodeAccess_91 : decode cJ2_afterNodeAccess 91 = .ok (.goto 6, 3) := dk_167 0 6 (dk_at dksJ2_afterNodeAccess_4 0 rfl rfl)
theorem dJ2_afterNodeAccess_94 : decode cJ2_afterNodeAccess 94 = .ok (.aload 5, 2) := dk_25 5 (dk_at dksJ2_afterNodeAccess_4 3 rfl rfl)
theorem dJ2_afterNodeAccess_96 : decode cJ2_afterNodeAccess 96 = .ok (.astore_n 2, 1) := dk_77 (dk_at dksJ2_afterNodeAccess_4 5 rfl rfl)
theorem dJ2_afterNodeAccess_97 : decode cJ2_afterNodeAccess 97 = .ok (.aload_n 2, 1) := dk_44 (dk_at dksJ2_afterNodeAccess_4 6 rfl rfl)
theorem dJ2_afterNodeAccess_98 : decode cJ2_afterNodeAccess 98 = .ok (.ifnonnull 12, 3) := dk_199 0 12 (dk_at dksJ2_afterNodeAccess_4 7 rfl rfl)
theorem dJ2_afterNodeAccess_101 : decode cJ2_afterNodeAccess 101 = .ok (.aload_n 0, 1) := dk_42 (dk_at dksJ2_afterNodeAccess_4 10 rfl rfl)
theorem dJ2_afterNodeAccess_102 : decode cJ2_afterNodeAccess 102 = .ok (.aload 4, 2) := dk_25 4 (dk_at dksJ2_afterNodeAccess_4 11 rfl rfl)
theorem dJ2_afterNodeAccess_104 : decode cJ2_afterNodeAccess 104 = .ok (.putfield 7, 3) := dk_181 0 7 (dk_at dksJ2_afterNodeAccess_4 13 rfl rfl)
theorem dJ2_afterNodeAccess_107 : decode cJ2_afterNodeAccess 107 = .ok (.goto 15, 3) := dk_167 0 15 (dk_at dksJ2_afterNodeAccess_4 16 rfl rfl)
theorem dJ2_afterNodeAccess_110 : decode cJ2_afterNodeAccess 110 = .ok (.aload 4, 2) := dk_25 4 (dk_at dksJ2_afterNodeAccess_4 19 rfl rfl)
theorem dJ2_afterNodeAccess_112 : decode cJ2_afterNodeAccess 112 = .ok (.aload_n 2, 1) := dk_44 (dk_at dksJ2_afterNodeAccess_4 21 rfl rfl)
theorem dJ2_afterNodeAccess_113 : decode cJ2_afterNodeAccess 113 = .ok (.putfield 19, 3) := dk_181 0 19 (dk_at dksJ2_afterNodeAccess_5 0 rfl rfl)
theorem dJ2_afterNodeAccess_116 : decode cJ2_afterNodeAccess 116 = .ok (.aload_n 2, 1) := dk_44 (dk_at dksJ2_afterNodeAccess_5 3 rfl rfl)
theorem dJ2_afterNodeAccess_117 : decode cJ2_afterNodeAccess 117 = .ok (.aload 4, 2) := dk_25 4 (dk_at dksJ2_afterNodeAccess_5 4 rfl rfl)
theorem dJ2_afterNodeAccess_119 : decode cJ2_afterNodeAccess 119 = .ok (.putfield 14, 3) := dk_181 0 14 (dk_at dksJ2_afterNodeAccess_5 6 rfl rfl)
theorem dJ2_afterNodeAccess_122 : decode cJ2_afterNodeAccess 122 = .ok (.aload_n 0, 1) := dk_42 (dk_at dksJ2_afterNodeAccess_5 9 rfl rfl)
theorem dJ2_afterNodeAccess_123 : decode cJ2_afterNodeAccess 123 = .ok (.aload 4, 2) := dk_25 4 (dk_at dksJ2_afterNodeAccess_5 10 rfl rfl)
theorem dJ2_afterNodeAccess_125 : decode cJ2_afterNodeAccess 125 = .ok (.putfield 11, 3) := dk_181 0 11 (dk_at dksJ2_afterNodeAccess_5 12 rfl rfl)
theorem dJ2_afterNodeAccess_128 : decode cJ2_afterNodeAccess 128 = .ok (.aload_n 0, 1) := dk_42 (dk_at dksJ2_afterNodeAccess_5 15 rfl rfl)
theorem dJ2_afterNodeAccess_129 : decode cJ2_afterNodeAccess 129 = .ok (.dup, 1) := dk_89 (dk_at dksJ2_afterNodeAccess_5 16 rfl rfl)
theorem dJ2_afterNodeAccess_130 : decode cJ2_afterNodeAccess 130 = .ok (.getfield 68, 3) := dk_180 0 68 (dk_at dksJ2_afterNodeAccess_5 17 rfl rfl)
theorem dJ2_afterNodeAccess_133 : decode cJ2_afterNodeAccess 133 = .ok (.iconst 1, 1) := dk_4 (dk_at dksJ2_afterNodeAccess_5 20 rfl rfl)
theorem dJ2_afterNodeAccess_134 : decode cJ2_afterNodeAccess 134 = .ok (.iadd, 1) := dk_96 (dk_at dksJ2_afterNodeAccess_5 21 rfl rfl)
theorem dJ2_afterNodeAccess_135 : decode cJ2_afterNodeAccess 135 = .ok (.putfield 68, 3) := dk_181 0 68 (dk_at dksJ2_afterNodeAccess_6 0 rfl rfl)
theorem dJ2_afterNodeAccess_138 : decode cJ2_afterNodeAccess 138 = .ok (.goto 127, 3) := dk_167 0 127 (dk_at dksJ2_afterNodeAccess_6 3 rfl rfl)
theorem dJ2_afterNodeAccess_141 : decode cJ2_afterNodeAccess 141 = .ok (.aload_n 0, 1) := dk_42 (dk_at dksJ2_afterNodeAccess_6 6 rfl rfl)
theorem dJ2_afterNodeAccess_142 : decode cJ2_afterNodeAccess 142 = .ok (.getfield 1, 3) := dk_180 0 1 (dk_at dksJ2_afterNodeAccess_6 7 rfl rfl)
theorem dJ2_afterNodeAccess_145 : decode cJ2_afterNodeAccess 145 = .ok (.iconst 1, 1) := dk_4 (dk_at dksJ2_afterNodeAccess_6 10 rfl rfl)
theorem dJ2_afterNodeAccess_146 : decode cJ2_afterNodeAccess 146 = .ok (.if_icmp .ne 119, 3) := dk_160 0 119 (dk_at dksJ2_afterNodeAccess_6 11 rfl rfl)
theorem dJ2_afterNodeAccess_149 : decode cJ2_afterNodeAccess 149 = .ok (.aload_n 0, 1) := dk_42 (dk_at dksJ2_afterNodeAccess_6 14 rfl rfl)
theorem dJ2_afterNodeAccess_150 : decode cJ2_afterNodeAccess 150 = .ok (.getfield 7, 3) := dk_180 0 7 (dk_at dksJ2_afterNodeAccess_6 15 rfl rfl)
theorem dJ2_afterNodeAccess_153 : decode cJ2_afterNodeAccess 153 = .ok (.dup, 1) := dk_89 (dk_at dksJ2_afterNodeAccess_6 18 rfl rfl)
theorem dJ2_afterNodeAccess_154 : decode cJ2_afterNodeAccess 154 = .ok (.astore_n 3, 1) := dk_78 (dk_at dksJ2_afterNodeAccess_6 19 rfl rfl)
theorem dJ2_afterNodeAccess_155 : decode cJ2_afterNodeAccess 155 = .ok (.aload_n 1, 1) := dk_43 (dk_at dksJ2_afterNodeAccess_6 20 rfl rfl)
theorem dJ2_afterNodeAccess_156 : decode cJ2_afterNodeAccess 156 = .ok (.if_acmp .eq 109, 3) := dk_165 0 109 (dk_at dksJ2_afterNodeAccess_6 21 rfl rfl)
theorem dJ2_afterNodeAccess_159 : decode cJ2_afterNodeAccess 159 = .ok (.aload_n 1, 1) := dk_43 (dk_at dksJ2_afterNodeAccess_7 0 rfl rfl)
theorem dJ2_afterNodeAccess_160 : decode cJ2_afterNodeAccess 160 = .ok (.checkcast 15, 3) := dk_192 0 15 (dk_at dksJ2_afterNodeAccess_7 1 rfl rfl)
theorem dJ2_afterNodeAccess_163 : decode cJ2_afterNodeAccess 163 = .ok (.astore 4, 2) := dk_58 4 (dk_at dksJ2_afterNodeAccess_7 4 rfl rfl)
theorem dJ2_afterNodeAccess_165 : decode cJ2_afterNodeAccess 165 = .ok (.aload 4, 2) := dk_25 4 (dk_at dksJ2_afterNodeAccess_7 6 rfl rfl)
theorem dJ2_afterNodeAccess_167 : decode cJ2_afterNodeAccess 167 = .ok (.getfield 19, 3) := dk_180 0 19 (dk_at dksJ2_afterNodeAccess_7 8 rfl rfl)
theorem dJ2_afterNodeAccess_170 : decode cJ2_afterNodeAccess 170 = .ok (.astore 5, 2) := dk_58 5 (dk_at dksJ2_afterNodeAccess_7 11 rfl rfl)
theorem dJ2_afterNodeAccess_172 : decode cJ2_afterNodeAccess 172 = .ok (.aload 4, 2) := dk_25 4 (dk_at dksJ2_afterNodeAccess_7 13 rfl rfl)
theorem dJ2_afterNodeAccess_174 : decode cJ2_afterNodeAccess 174 = .ok (.getfield 14, 3) := dk_180 0 14 (dk_at dksJ2_afterNodeAccess_7 15 rfl rfl)
theorem dJ2_afterNodeAccess_177 : decode cJ2_afterNodeAccess 177 = .ok (.astore 6, 2) := dk_58 6 (dk_at dksJ2_afterNodeAccess_7 18 rfl rfl)
theorem dJ2_afterNodeAccess_179 : decode cJ2_afterNodeAccess 179 = .ok (.aload 4, 2) := dk_25 4 (dk_at dksJ2_afterNodeAccess_7 20 rfl rfl)
theorem dJ2_afterNodeAccess_181 : decode cJ2_afterNodeAccess 181 = .ok (.aconst_null, 1) := dk_1 (dk_at dksJ2_afterNodeAccess_7 22 rfl rfl)
theorem dJ2_afterNodeAccess_182 : decode cJ2_afterNodeAccess 182 = .ok (.putfield 19, 3) := dk_181 0 19 (dk_at dksJ2_afterNodeAccess_8 0 rfl rfl)
theorem dJ2_afterNodeAccess_185 : decode cJ2_afterNodeAccess 185 = .ok (.aload 6, 2) := dk_25 6 (dk_at dksJ2_afterNodeAccess_8 3 rfl rfl)
theorem dJ2_afterNodeAccess_187 : decode cJ2_afterNodeAccess 187 = .ok (.ifnonnull 12, 3) := dk_199 0 12 (dk_at dksJ2_afterNodeAccess_8 5 rfl rfl)
theorem dJ2_afterNodeAccess_190 : decode cJ2_afterNodeAccess 190 = .ok (.aload_n 0, 1) := dk_42 (dk_at dksJ2_afterNodeAccess_8 8 rfl rfl)
theorem dJ2_afterNodeAccess_191 : decode cJ2_afterNodeAccess 191 = .ok (.aload 5, 2) := dk_25 5 (dk_at dksJ2_afterNodeAccess_8 9 rfl rfl)
theorem dJ2_afterNodeAccess_193 : decode cJ2_afterNodeAccess 193 = .ok (.putfield 11, 3) := dk_181 0 11 (dk_at dksJ2_afterNodeAccess_8 11 rfl rfl)
theorem dJ2_afterNodeAccess_196 : decode cJ2_afterNodeAccess 196 = .ok (.goto 10, 3) := dk_167 0 10 (dk_at dksJ2_afterNodeAccess_8 14 rfl rfl)
theorem dJ2_afterNodeAccess_199 : decode cJ2_afterNodeAccess 199 = .ok (.aload 6, 2) := dk_25 6 (dk_at dksJ2_afterNodeAccess_8 17 rfl rfl)
theorem dJ2_afterNodeAccess_201 : decode cJ2_afterNodeAccess 201 = .ok (.aload 5, 2) := dk_25 5 (dk_at dksJ2_afterNodeAccess_8 19 rfl rfl)
theorem dJ2_afterNodeAccess_203 : decode cJ2_afterNodeAccess 203 = .ok (.putfield 19, 3) := dk_181 0 19 (dk_at dksJ2_afterNodeAccess_8 21 rfl rfl)
theorem dJ2_afterNodeAccess_206 : decode cJ2_afterNodeAccess 206 = .ok (.aload 5, 2) := dk_25 5 (dk_at dksJ2_afterNodeAccess_9 0 rfl rfl)
theorem dJ2_afterNodeAccess_208 : decode cJ2_afterNodeAccess 208 = .ok (.ifnull 13, 3) := dk_198 0 13 (dk_at dksJ2_afterNodeAccess_9 2 rfl rfl)
theorem dJ2_afterNodeAccess_211 : decode cJ2_afterNodeAccess 211 = .ok (.aload 5, 2) := dk_25 5 (dk_at dksJ2_afterNodeAccess_9 5 rfl rfl)
theorem dJ2_afterNodeAccess_213 : decode cJ2_afterNodeAccess 213 = .ok (.aload 6, 2) := dk_25 6 (dk_at dksJ2_afterNodeAccess_9 7 rfl rfl)
theorem dJ2_afterNodeAccess_215 : decode cJ2_afterNodeAccess 215 = .ok (.putfield 14, 3) := dk_181 0 14 (dk_at dksJ2_afterNodeAccess_9 9 rfl rfl)
theorem dJ2_afterNodeAccess_218 : decode cJ2_afterNodeAccess 218 = .ok (.goto 6, 3) := dk_167 0 6 (dk_at dksJ2_afterNodeAccess_9 12 rfl rfl)
theorem dJ2_afterNodeAccess_221 : decode cJ2_afterNodeAccess 221 = .ok (.aload 6, 2) := dk_25 6 (dk_at dksJ2_afterNodeAccess_9 15 rfl rfl)
theorem dJ2_afterNodeAccess_223 : decode cJ2_afterNodeAccess 223 = .ok (.astore_n 3, 1) := dk_78 (dk_at dksJ2_afterNodeAccess_9 17 rfl rfl)
theorem dJ2_afterNodeAccess_224 : decode cJ2_afterNodeAccess 224 = .ok (.aload_n 3, 1) := dk_45 (dk_at dksJ2_afterNodeAccess_9 18 rfl rfl)
theorem dJ2_afterNodeAccess_225 : decode cJ2_afterNodeAccess 225 = .ok (.ifnonnull 12, 3) := dk_199 0 12 (dk_at dksJ2_afterNodeAccess_9 19 rfl rfl)
theorem dJ2_afterNodeAccess_228 : decode cJ2_afterNodeAccess 228 = .ok (.aload_n 0, 1) := dk_42 (dk_at dksJ2_afterNodeAccess_9 22 rfl rfl)
theorem dJ2_afterNodeAccess_229 : decode cJ2_afterNodeAccess 229 = .ok (.aload 4, 2) := dk_25 4 (dk_at dksJ2_afterNodeAccess_10 0 rfl rfl)
theorem dJ2_afterNodeAccess_231 : decode cJ2_afterNodeAccess 231 = .ok (.putfield 11, 3) := dk_181 0 11 (dk_at dksJ2_afterNodeAccess_10 2 rfl rfl)
theorem dJ2_afterNodeAccess_234 : decode cJ2_afterNodeAccess 234 = .ok (.goto 15, 3) := dk_167 0 15 (dk_at dksJ2_afterNodeAccess_10 5 rfl rfl)
theorem dJ2_afterNodeAccess_237 : decode cJ2_afterNodeAccess 237 = .ok (.aload 4, 2) := dk_25 4 (dk_at dksJ2_afterNodeAccess_10 8 rfl rfl)
theorem dJ2_afterNodeAccess_239 : decode cJ2_afterNodeAccess 239 = .ok (.aload_n 3, 1) := dk_45 (dk_at dksJ2_afterNodeAccess_10 10 rfl rfl)
theorem dJ2_afterNodeAccess_240 : decode cJ2_afterNodeAccess 240 = .ok (.putfield 14, 3) := dk_181 0 14 (dk_at dksJ2_afterNodeAccess_10 11 rfl rfl)
theorem dJ2_afterNodeAccess_243 : decode cJ2_afterNodeAccess 243 = .ok (.aload_n 3, 1) := dk_45 (dk_at dksJ2_afterNodeAccess_10 14 rfl rfl)
theorem dJ2_afterNodeAccess_244 : decode cJ2_afterNodeAccess 244 = .ok (.aload 4, 2) := dk_25 4 (dk_at dksJ2_afterNodeAccess_10 15 rfl rfl)
theorem dJ2_afterNodeAccess_246 : decode cJ2_afterNodeAccess 246 = .ok (.putfield 19, 3) := dk_181 0 19 (dk_at dksJ2_afterNodeAccess_10 17 rfl rfl)
theorem dJ2_afterNodeAccess_249 : decode cJ2_afterNodeAccess 249 = .ok (.aload_n 0, 1) := dk_42 (dk_at dksJ2_afterNodeAccess_10 20 rfl rfl)
theorem dJ2_afterNodeAccess_250 : decode cJ2_afterNodeAccess 250 = .ok (.aload 4, 2) := dk_25 4 (dk_at dksJ2_afterNodeAccess_10 21 rfl rfl)
theorem dJ2_afterNodeAccess_252 : decode cJ2_afterNodeAccess 252 = .ok (.putfield 7, 3) := dk_181 0 7 (dk_at dksJ2_afterNodeAccess_11 0 rfl rfl)
theorem dJ2_afterNodeAccess_255 : decode cJ2_afterNodeAccess 255 = .ok (.aload_n 0, 1) := dk_42 (dk_at dksJ2_afterNodeAccess_11 3 rfl rfl)
theorem dJ2_afterNodeAccess_256 : decode cJ2_afterNodeAccess 256 = .ok (.dup, 1) := dk_89 (dk_at dksJ2_afterNodeAccess_11 4 rfl rfl)
theorem dJ2_afterNodeAccess_257 : decode cJ2_afterNodeAccess 257 = .ok (.getfield 68, 3) := dk_180 0 68 (dk_at dksJ2_afterNodeAccess_11 5 rfl rfl)
theorem dJ2_afterNodeAccess_260 : decode cJ2_afterNodeAccess 260 = .ok (.iconst 1, 1) := dk_4 (dk_at dksJ2_afterNodeAccess_11 8 rfl rfl)
theorem dJ2_afterNodeAccess_261 : decode cJ2_afterNodeAccess 261 = .ok (.iadd, 1) := dk_96 (dk_at dksJ2_afterNodeAccess_11 9 rfl rfl)
theorem dJ2_afterNodeAccess_262 : decode cJ2_afterNodeAccess 262 = .ok (.putfield 68, 3) := dk_181 0 68 (dk_at dksJ2_afterNodeAccess_11 10 rfl rfl)
theorem dJ2_afterNodeAccess_265 : decode cJ2_afterNodeAccess 265 = .ok (.return_, 1) := dk_177 (dk_at dksJ2_afterNodeAccess_11 13 rfl rfl)
def dkwJ2_afterNodeInsertion_1 : List UInt8 := [180, 0, 39, 78, 42, 45, 184, 0, 57, 45, 1, 3, 4, 182, 0, 60, 87, 177]
abbrev dktJ2_afterNodeInsertion_1 : List UInt8 := dkwJ2_afterNodeInsertion_1 ++ []
def dkwJ2_afterNodeInsertion_0 : List UInt8 := [27, 153, 0, 38, 42, 180, 0, 7, 89, 77, 198, 0, 29, 42, 44, 182, 0, 53, 153, 0, 21, 44]
abbrev dktJ2_afterNodeInsertion_0 : List UInt8 := dkwJ2_afterNodeInsertion_0 ++ dktJ2_afterNodeInsertion_1
theorem dksJ2_afterNodeInsertion_0 : cJ2_afterNodeInsertion.data.toList.drop 0 = dktJ2_afterNodeInsertion_0 := by decide +kernel
theorem dksJ2_afterNodeInsertion_1 : cJ2_afterNodeInsertion.data.toList.drop 22 = dktJ2_afterNodeInsertion_1 := dk_seg dksJ2_afterNodeInsertion_0 22 rfl rfl
theorem dJ2_afterNodeInsertion_0 : decode cJ2_afterNodeInsertion 0 = .ok (.iload_n 1, 1) := dk_27 (dk_at dksJ2_afterNodeInsertion_0 0 rfl rfl)
theorem dJ2_afterNodeInsertion_1 : decode cJ2_afterNodeInsertion 1 = .ok (.ifCond .eq 38, 3) := dk_153 0 38 (dk_at dksJ2_afterNodeInsertion_0 1 rfl rfl)
theorem dJ2_afterNodeInsertion_4 : decode cJ2_afterNodeInsertion 4 = .ok (.aload_n 0, 1) := dk_42 (dk_at dksJ2_afterNodeInsertion_0 4 rfl rfl)
theorem dJ2_afterNodeInsertion_5 : decode cJ2_afterNodeInsertion 5 = .ok (.getfield 7, 3) := dk_180 0 7 (dk_at dksJ2_afterNodeInsertion_0 5 rfl rfl)
theorem dJ2_afterNodeInsertion_8 : decode cJ2_afterNodeInsertion 8 = .ok (.dup, 1) := dk_89 (dk_at dksJ2_afterNodeInsertion_0 8 rfl rfl)
theorem dJ2_afterNodeInsertion_9 : decode cJ2_afterNodeInsertion 9 = .ok (.astore_n 2, 1) := dk_77 (dk_at dksJ2_afterNodeInsertion_0 9 rfl rfl)
theorem dJ2_afterNodeInsertion_10 : decode cJ2_afterNodeInsertion 10 = .ok (.ifnull 29, 3) := dk_198 0 29 (dk_at dksJ2_afterNodeInsertion_0 10 rfl rfl)
theorem dJ2_afterNodeInsertion_13 : decode cJ2_afterNodeInsertion 13 = .ok (.aload_n 0, 1) := dk_42 (dk_at dksJ2_afterNodeInsertion_0 13 rfl rfl)
theorem dJ2_afterNodeInsertion_14 : decode cJ2_afterNodeInsertion 14 = .ok (.aload_n 2, 1) := dk_44 (dk_at dksJ2_afterNodeInsertion_0 14 rfl rfl)
theorem dJ2_afterNodeInsertion_15 : decode cJ2_afterNodeInsertion 15 = .ok (.invokevirtual 53, 3) := dk_182 0 53 (dk_at dksJ2_afterNodeInsertion_0 15 rfl rfl)
theorem dJ2_afterNodeInsertion_18 : decode cJ2_afterNodeInsertion 18 = .ok (.ifCond .eq 21, 3) := dk_153 0 21 (dk_at dksJ2_afterNodeInsertion_0 18 rfl rfl)
theorem dJ2_afterNodeInsertion_21 : decode cJ2_afterNodeInsertion 21 = .ok (.aload_n 2, 1) := dk_44 (dk_at dksJ2_afterNodeInsertion_0 21 rfl rfl)
theorem dJ2_afterNodeInsertion_22 : decode cJ2_afterNodeInsertion 22 = .ok (.getfield 39, 3) := dk_180 0 39 (dk_at dksJ2_afterNodeInsertion_1 0 rfl rfl)
theorem dJ2_afterNodeInsertion_25 : decode cJ2_afterNodeInsertion 25 = .ok (.astore_n 3, 1) := dk_78 (dk_at dksJ2_afterNodeInsertion_1 3 rfl rfl)
theorem dJ2_afterNodeInsertion_26 : decode cJ2_afterNodeInsertion 26 = .ok (.aload_n 0, 1) := dk_42 (dk_at dksJ2_afterNodeInsertion_1 4 rfl rfl)
theorem dJ2_afterNodeInsertion_27 : decode cJ2_afterNodeInsertion 27 = .ok (.aload_n 3, 1) := dk_45 (dk_at dksJ2_afterNodeInsertion_1 5 rfl rfl)
theorem dJ2_afterNodeInsertion_28 : decode cJ2_afterNodeInsertion 28 = .ok (.invokestatic 57, 3) := dk_184 0 57 (dk_at dksJ2_afterNodeInsertion_1 6 rfl rfl)
theorem dJ2_afterNodeInsertion_31 : decode cJ2_afterNodeInsertion 31 = .ok (.aload_n 3, 1) := dk_45 (dk_at dksJ2_afterNodeInsertion_1 9 rfl rfl)
theorem dJ2_afterNodeInsertion_32 : decode cJ2_afterNodeInsertion 32 = .ok (.aconst_null, 1) := dk_1 (dk_at dksJ2_afterNodeInsertion_1 10 rfl rfl)
theorem dJ2_afterNodeInsertion_33 : decode cJ2_afterNodeInsertion 33 = .ok (.iconst 0, 1) := dk_3 (dk_at dksJ2_afterNodeInsertion_1 11 rfl rfl)
theorem dJ2_afterNodeInsertion_34 : decode cJ2_afterNodeInsertion 34 = .ok (.iconst 1, 1) := dk_4 (dk_at dksJ2_afterNodeInsertion_1 12 rfl rfl)
theorem dJ2_afterNodeInsertion_35 : decode cJ2_afterNodeInsertion 35 = .ok (.invokevirtual 60, 3) := dk_182 0 60 (dk_at dksJ2_afterNodeInsertion_1 13 rfl rfl)
theorem dJ2_afterNodeInsertion_38 : decode cJ2_afterNodeInsertion 38 = .ok (.pop, 1) := dk_87 (dk_at dksJ2_afterNodeInsertion_1 16 rfl rfl)
theorem dJ2_afterNodeInsertion_39 : decode cJ2_afterNodeInsertion 39 = .ok (.return_, 1) := dk_177 (dk_at dksJ2_afterNodeInsertion_1 17 rfl rfl)
theorem dJ2_removeEldestEntry_0 : decode cJ2_removeEldestEntry 0 = .ok (.iconst 0, 1) := by decide +kernel
theorem dJ2_removeEldestEntry_1 : decode cJ2_removeEldestEntry 1 = .ok (.ireturn, 1) := by decide +kernel
def dkwJ2_get_1 : List UInt8 := [44, 180, 0, 107, 176]
abbrev dktJ2_get_1 : List UInt8 := dkwJ2_get_1 ++ []
def dkwJ2_get_0 : List UInt8 := [42, 43, 182, 0, 99, 89, 77, 199, 0, 5, 1, 176, 42, 180, 0, 64, 153, 0, 8, 42, 44, 182, 0, 103]
abbrev dktJ2_get_0 : List UInt8 := dkwJ2_get_0 ++ dktJ2_get_1
theorem dksJ2_get_0 : cJ2_get.data.toList.drop 0 = dktJ2_get_0 := by decide +kernel
theorem dksJ2_get_1 : cJ2_get.data.toList.drop 24 = dktJ2_get_1 := dk_seg dksJ2_get_0 24 rfl rfl
theorem dJ2_get_0 : decode cJ2_get 0 = .ok (.aload_n 0, 1) := dk_42 (dk_at dksJ2_get_0 0 rfl rfl)
theorem dJ2_get_1 : decode cJ2_get 1 = .ok (.aload_n 1, 1) := dk_43 (dk_at dksJ2_get_0 1 rfl rfl)
theorem dJ2_get_2 : decode cJ2_get 2 = .ok (.invokevirtual 99, 3) := dk_182 0 99 (dk_at dksJ2_get_0 2 rfl rfl)
theorem dJ2_get_5 : decode cJ2_get 5 = .ok (.dup, 1) := dk_89 (dk_at dksJ2_get_0 5 rfl rfl)
theorem dJ2_get_6 : decode cJ2_get 6 = .ok (.astore_n 2, 1) := dk_77 (dk_at dksJ2_get_0 6 rfl rfl)
theorem dJ2_get_7 : decode cJ2_get 7 = .ok (.ifnonnull 5, 3) := dk_199 0 5 (dk_at dksJ2_get_0 7 rfl rfl)
theorem dJ2_get_10 : decode cJ2_get 10 = .ok (.aconst_null, 1) := dk_1 (dk_at dksJ2_get_0 10 rfl rfl)
theorem dJ2_get_11 : decode cJ2_get 11 = .ok (.areturn, 1) := dk_176 (dk_at dksJ2_get_0 11 rfl rfl)
theorem dJ2_get_12 : decode cJ2_get 12 = .ok (.aload_n 0, 1) := dk_42 (dk_at dksJ2_get_0 12 rfl rfl)
theorem dJ2_get_13 : decode cJ2_get 13 = .ok (.getfield 64, 3) := dk_180 0 64 (dk_at dksJ2_get_0 13 rfl rfl)
theorem dJ2_get_16 : decode cJ2_get 16 = .ok (.ifCond .eq 8, 3) := dk_153 0 8 (dk_at dksJ2_get_0 16 rfl rfl)
theorem dJ2_get_19 : decode cJ2_get 19 = .ok (.aload_n 0, 1) := dk_42 (dk_at dksJ2_get_0 19 rfl rfl)
theorem dJ2_get_20 : decode cJ2_get 20 = .ok (.aload_n 2, 1) := dk_44 (dk_at dksJ2_get_0 20 rfl rfl)
theorem dJ2_get_21 : decode cJ2_get 21 = .ok (.invokevirtual 103, 3) := dk_182 0 103 (dk_at dksJ2_get_0 21 rfl rfl)
theorem dJ2_get_24 : decode cJ2_get 24 = .ok (.aload_n 2, 1) := dk_44 (dk_at dksJ2_get_1 0 rfl rfl)
theorem dJ2_get_25 : decode cJ2_get 25 = .ok (.getfield 107, 3) := dk_180 0 107 (dk_at dksJ2_get_1 1 rfl rfl)
theorem dJ2_get_28 : decode cJ2_get 28 = .ok (.areturn, 1) := dk_176 (dk_at dksJ2_get_1 4 rfl rfl)
def dkwJ2_afterNodeRemoval_2 : List UInt8 := [199, 0, 11, 42, 45, 181, 0, 11, 167, 0, 9, 25, 4, 45, 181, 0, 19, 177]
abbrev dktJ2_afterNodeRemoval_2 : List UInt8 := dkwJ2_afterNodeRemoval_2 ++ []
def dkwJ2_afterNodeRemoval_1 : List UInt8 := [181, 0, 19, 45, 199, 0, 12, 42, 25, 4, 181, 0, 7, 167, 0, 9, 45, 25, 4, 181, 0, 14, 25, 4]
abbrev dktJ2_afterNodeRemoval_1 : List UInt8 := dkwJ2_afterNodeRemoval_1 ++ dktJ2_afterNodeRemoval_2
def dkwJ2_afterNodeRemoval_0 : List UInt8 := [43, 192, 0, 15, 77, 44, 180, 0, 19, 78, 44, 180, 0, 14, 58, 4, 44, 44, 1, 90, 181, 0, 14]
abbrev dktJ2_afterNodeRemoval_0 : List UInt8 := dkwJ2_afterNodeRemoval_0 ++ dktJ2_afterNodeRemoval_1
theorem dksJ2_afterNodeRemoval_0 : cJ2_afterNodeRemoval.data.toList.drop 0 = dktJ2_afterNodeRemoval_0 := by decide +kernel
theorem dksJ2_afterNodeRemoval_1 : cJ2_afterNodeRemoval.data.toList.drop 23 = dktJ2_afterNodeRemoval_1 := dk_seg dksJ2_afterNodeRemoval_0 23 rfl rfl
theorem dksJ2_afterNodeRemoval_2 : cJ2_afterNodeRemoval.data.toList.drop 47 = dktJ2_afterNodeRemoval_2 := dk_seg dksJ2_afterNodeRemoval_1 24 rfl rfl
theorem dJ2_afterNodeRemoval_0 : decode cJ2_afterNodeRemoval 0 = .ok (.aload_n 1, 1) := dk_43 (dk_at dksJ2_afterNodeRemoval_0 0 rfl rfl)
theorem dJ2_afterNodeRemoval_1 : decode cJ2_afterNodeRemoval 1 = .ok (.checkcast 15, 3) := dk_192 0 15 (dk_at dksJ2_afterNodeRemoval_0 1 rfl rfl)
theorem dJ2_afterNodeRemoval_4 : decode cJ2_afterNodeRemoval 4 = .ok (.astore_n 2, 1) := dk_77 (dk_at dksJ2_afterNodeRemoval_0 4 rfl rfl)
theorem dJ2_afterNodeRemoval_5 : decode cJ2_afterNodeRemoval 5 = .ok (.aload_n 2, 1) := dk_44 (dk_at dksJ2_afterNodeRemoval_0 5 rfl rfl)
theorem dJ2_afterNodeRemoval_6 : decode cJ2_afterNodeRemoval 6 = .ok (.getfield 19, 3) := dk_180 0 19 (dk_at dksJ2_afterNodeRemoval_0 6 rfl rfl)
theorem dJ2_afterNodeRemoval_9 : decode cJ2_afterNodeRemoval 9 = .ok (.astore_n 3, 1) := dk_78 (dk_at dksJ2_afterNodeRemoval_0 9 rfl rfl)
theorem dJ2_afterNodeRemoval_10 : decode cJ2_afterNodeRemoval 10 = .ok (.aload_n 2, 1) := dk_44 (dk_at dksJ2_afterNodeRemoval_0 10 rfl rfl)
theorem dJ2_afterNodeRemoval_11 : decode cJ2_afterNodeRemoval 11 = .ok (.getfield 14, 3) := dk_180 0 14 (dk_at dksJ2_afterNodeRemoval_0 11 rfl rfl)
theorem dJ2_afterNodeRemoval_14 : decode cJ2_afterNodeRemoval 14 = .ok (.astore 4, 2) := dk_58 4 (dk_at dksJ2_afterNodeRemoval_0 14 rfl rfl)
theorem dJ2_afterNodeRemoval_16 : decode cJ2_afterNodeRemoval 16 = .ok (.aload_n 2, 1) := dk_44 (dk_at dksJ2_afterNodeRemoval_0 16 rfl rfl)
theorem dJ2_afterNodeRemoval_17 : decode cJ2_afterNodeRemoval 17 = .ok (.aload_n 2, 1) := dk_44 (dk_at dksJ2_afterNodeRemoval_0 17 rfl rfl)
theorem dJ2_afterNodeRemoval_18 : decode cJ2_afterNodeRemoval 18 = .ok (.aconst_null, 1) := dk_1 (dk_at dksJ2_afterNodeRemoval_0 18 rfl rfl)
theorem dJ2_afterNodeRemoval_19 : decode cJ2_afterNodeRemoval 19 = .ok (.dup_x1, 1) := dk_90 (dk_at dksJ2_afterNodeRemoval_0 19 rfl rfl)
theorem dJ2_afterNodeRemoval_20 : decode cJ2_afterNodeRemoval 20 = .ok (.putfield 14, 3) := dk_181 0 14 (dk_at dksJ2_afterNodeRemoval_0 20 rfl rfl)
theorem dJ2_afterNodeRemoval_23 : decode cJ2_afterNodeRemoval 23 = .ok (.putfield 19, 3) := dk_181 0 19 (dk_at dksJ2_afterNodeRemoval_1 0 rfl rfl)
theorem dJ2_afterNodeRemoval_26 : decode cJ2_afterNodeRemoval 26 = .ok (.aload_n 3, 1) := dk_45 (dk_at dksJ2_afterNodeRemoval_1 3 rfl rfl)
theorem dJ2_afterNodeRemoval_27 : decode cJ2_afterNodeRemoval 27 = .ok (.ifnonnull 12, 3) := dk_199 0 12 (dk_at dksJ2_afterNodeRemoval_1 4 rfl rfl)
theorem dJ2_afterNodeRemoval_30 : decode cJ2_afterNodeRemoval 30 = .ok (.aload_n 0, 1) := dk_42 (dk_at dksJ2_afterNodeRemoval_1 7 rfl rfl)
theorem dJ2_afterNodeRemoval_31 : decode cJ2_afterNodeRemoval 31 = .ok (.aload 4, 2) := dk_25 4 (dk_at dksJ2_afterNodeRemoval_1 8 rfl rfl)
theorem dJ2_afterNodeRemoval_33 : decode cJ2_afterNodeRemoval 33 = .ok (.putfield 7, 3) := dk_181 0 7 (dk_at dksJ2_afterNodeRemoval_1 10 rfl rfl)
theorem dJ2_afterNodeRemoval_36 : decode cJ2_afterNodeRemoval 36 = .ok (.goto 9, 3) := dk_167 0 9 (dk_at dksJ2_afterNodeRemoval_1 13 rfl rfl)
theorem dJ2_afterNodeRemoval_39 : decode cJ2_afterNodeRemoval 39 = .ok (.aload_n 3, 1) := dk_45 (dk_at dksJ2_afterNodeRemoval_1 16 rfl rfl)
theorem dJ2_afterNodeRemoval_40 : decode cJ2_afterNodeRemoval 40 = .ok (.aload 4, 2) := dk_25 4 (dk_at dksJ2_afterNodeRemoval_1 17 rfl rfl)
theorem dJ2_afterNodeRemoval_42 : decode cJ2_afterNodeRemoval 42 = .ok (.putfield 14, 3) := dk_181 0 14 (dk_at dksJ2_afterNodeRemoval_1 19 rfl rfl)
theorem dJ2_afterNodeRemoval_45 : decode cJ2_afterNodeRemoval 45 = .ok (.aload 4, 2) := dk_25 4 (dk_at dksJ2_afterNodeRemoval_1 22 rfl rfl)
theorem dJ2_afterNodeRemoval_47 : decode cJ2_afterNodeRemoval 47 = .ok (.ifnonnull 11, 3) := dk_199 0 11 (dk_at dksJ2_afterNodeRemoval_2 0 rfl rfl)
theorem dJ2_afterNodeRemoval_50 : decode cJ2_afterNodeRemoval 50 = .ok (.aload_n 0, 1) := dk_42 (dk_at dksJ2_afterNodeRemoval_2 3 rfl rfl)
theorem dJ2_afterNodeRemoval_51 : decode cJ2_afterNodeRemoval 51 = .ok (.aload_n 3, 1) := dk_45 (dk_at dksJ2_afterNodeRemoval_2 4 rfl rfl)
theorem dJ2_afterNodeRemoval_52 : decode cJ2_afterNodeRemoval 52 = .ok (.putfield 11, 3) := dk_181 0 11 (dk_at dksJ2_afterNodeRemoval_2 5 rfl rfl)
theorem dJ2_afterNodeRemoval_55 : decode cJ2_afterNodeRemoval 55 = .ok (.goto 9, 3) := dk_167 0 9 (dk_at dksJ2_afterNodeRemoval_2 8 rfl rfl)
theorem dJ2_afterNodeRemoval_58 : decode cJ2_afterNodeRemoval 58 = .ok (.aload 4, 2) := dk_25 4 (dk_at dksJ2_afterNodeRemoval_2 11 rfl rfl)
theorem dJ2_afterNodeRemoval_60 : decode cJ2_afterNodeRemoval 60 = .ok (.aload_n 3, 1) := dk_45 (dk_at dksJ2_afterNodeRemoval_2 13 rfl rfl)
theorem dJ2_afterNodeRemoval_61 : decode cJ2_afterNodeRemoval 61 = .ok (.putfield 19, 3) := dk_181 0 19 (dk_at dksJ2_afterNodeRemoval_2 14 rfl rfl)
theorem dJ2_afterNodeRemoval_64 : decode cJ2_afterNodeRemoval 64 = .ok (.return_, 1) := dk_177 (dk_at dksJ2_afterNodeRemoval_2 17 rfl rfl)
theorem dJ3_init_0 : decode cJ3_init 0 = .ok (.aload_n 0, 1) := by decide +kernel
theorem dJ3_init_1 : decode cJ3_init 1 = .ok (.invokespecial 1, 3) := by decide +kernel
theorem dJ3_init_4 : decode cJ3_init 4 = .ok (.return_, 1) := by decide +kernel
theorem dJ4_init_0 : decode cJ4_init 0 = .ok (.aload_n 0, 1) := by decide +kernel
theorem dJ4_init_1 : decode cJ4_init 1 = .ok (.invokespecial 1, 3) := by decide +kernel
theorem dJ4_init_4 : decode cJ4_init 4 = .ok (.return_, 1) := by decide +kernel
def dkwJ5_init_0 : List UInt8 := [42, 183, 0, 1, 42, 187, 0, 7, 89, 183, 0, 9, 181, 0, 10, 177]
abbrev dktJ5_init_0 : List UInt8 := dkwJ5_init_0 ++ []
theorem dksJ5_init_0 : cJ5_init.data.toList.drop 0 = dktJ5_init_0 := by decide +kernel
theorem dJ5_init_0 : decode cJ5_init 0 = .ok (.aload_n 0, 1) := dk_42 (dk_at dksJ5_init_0 0 rfl rfl)
theorem dJ5_init_1 : decode cJ5_init 1 = .ok (.invokespecial 1, 3) := dk_183 0 1 (dk_at dksJ5_init_0 1 rfl rfl)
theorem dJ5_init_4 : decode cJ5_init 4 = .ok (.aload_n 0, 1) := dk_42 (dk_at dksJ5_init_0 4 rfl rfl)
theorem dJ5_init_5 : decode cJ5_init 5 = .ok (.new 7, 3) := dk_187 0 7 (dk_at dksJ5_init_0 5 rfl rfl)
theorem dJ5_init_8 : decode cJ5_init 8 = .ok (.dup, 1) := dk_89 (dk_at dksJ5_init_0 8 rfl rfl)
theorem dJ5_init_9 : decode cJ5_init 9 = .ok (.invokespecial 9, 3) := dk_183 0 9 (dk_at dksJ5_init_0 9 rfl rfl)
theorem dJ5_init_12 : decode cJ5_init 12 = .ok (.putfield 10, 3) := dk_181 0 10 (dk_at dksJ5_init_0 12 rfl rfl)
theorem dJ5_init_15 : decode cJ5_init 15 = .ok (.return_, 1) := dk_177 (dk_at dksJ5_init_0 15 rfl rfl)
def dkwJ5_iterator_0 : List UInt8 := [42, 180, 0, 10, 182, 0, 45, 185, 0, 49, 1, 0, 176]
abbrev dktJ5_iterator_0 : List UInt8 := dkwJ5_iterator_0 ++ []
theorem dksJ5_iterator_0 : cJ5_iterator.data.toList.drop 0 = dktJ5_iterator_0 := by decide +kernel
theorem dJ5_iterator_0 : decode cJ5_iterator 0 = .ok (.aload_n 0, 1) := dk_42 (dk_at dksJ5_iterator_0 0 rfl rfl)
theorem dJ5_iterator_1 : decode cJ5_iterator 1 = .ok (.getfield 10, 3) := dk_180 0 10 (dk_at dksJ5_iterator_0 1 rfl rfl)
theorem dJ5_iterator_4 : decode cJ5_iterator 4 = .ok (.invokevirtual 45, 3) := dk_182 0 45 (dk_at dksJ5_iterator_0 4 rfl rfl)
theorem dJ5_iterator_7 : decode cJ5_iterator 7 = .ok (.invokeinterface 49 1, 5) := by decide +kernel
theorem dJ5_iterator_12 : decode cJ5_iterator 12 = .ok (.areturn, 1) := dk_176 (dk_at dksJ5_iterator_0 12 rfl rfl)
def dkwJ5_contains_0 : List UInt8 := [42, 180, 0, 10, 43, 182, 0, 60, 172]
abbrev dktJ5_contains_0 : List UInt8 := dkwJ5_contains_0 ++ []
theorem dksJ5_contains_0 : cJ5_contains.data.toList.drop 0 = dktJ5_contains_0 := by decide +kernel
theorem dJ5_contains_0 : decode cJ5_contains 0 = .ok (.aload_n 0, 1) := dk_42 (dk_at dksJ5_contains_0 0 rfl rfl)
theorem dJ5_contains_1 : decode cJ5_contains 1 = .ok (.getfield 10, 3) := dk_180 0 10 (dk_at dksJ5_contains_0 1 rfl rfl)
theorem dJ5_contains_4 : decode cJ5_contains 4 = .ok (.aload_n 1, 1) := dk_43 (dk_at dksJ5_contains_0 4 rfl rfl)
theorem dJ5_contains_5 : decode cJ5_contains 5 = .ok (.invokevirtual 60, 3) := dk_182 0 60 (dk_at dksJ5_contains_0 5 rfl rfl)
theorem dJ5_contains_8 : decode cJ5_contains 8 = .ok (.ireturn, 1) := dk_172 (dk_at dksJ5_contains_0 8 rfl rfl)
def dkwJ5_add_0 : List UInt8 := [42, 180, 0, 10, 43, 178, 0, 64, 182, 0, 68, 199, 0, 7, 4, 167, 0, 4, 3, 172]
abbrev dktJ5_add_0 : List UInt8 := dkwJ5_add_0 ++ []
theorem dksJ5_add_0 : cJ5_add.data.toList.drop 0 = dktJ5_add_0 := by decide +kernel
theorem dJ5_add_0 : decode cJ5_add 0 = .ok (.aload_n 0, 1) := dk_42 (dk_at dksJ5_add_0 0 rfl rfl)
theorem dJ5_add_1 : decode cJ5_add 1 = .ok (.getfield 10, 3) := dk_180 0 10 (dk_at dksJ5_add_0 1 rfl rfl)
theorem dJ5_add_4 : decode cJ5_add 4 = .ok (.aload_n 1, 1) := dk_43 (dk_at dksJ5_add_0 4 rfl rfl)
theorem dJ5_add_5 : decode cJ5_add 5 = .ok (.getstatic 64, 3) := dk_178 0 64 (dk_at dksJ5_add_0 5 rfl rfl)
theorem dJ5_add_8 : decode cJ5_add 8 = .ok (.invokevirtual 68, 3) := dk_182 0 68 (dk_at dksJ5_add_0 8 rfl rfl)
theorem dJ5_add_11 : decode cJ5_add 11 = .ok (.ifnonnull 7, 3) := dk_199 0 7 (dk_at dksJ5_add_0 11 rfl rfl)
theorem dJ5_add_14 : decode cJ5_add 14 = .ok (.iconst 1, 1) := dk_4 (dk_at dksJ5_add_0 14 rfl rfl)
theorem dJ5_add_15 : decode cJ5_add 15 = .ok (.goto 4, 3) := dk_167 0 4 (dk_at dksJ5_add_0 15 rfl rfl)
theorem dJ5_add_18 : decode cJ5_add 18 = .ok (.iconst 0, 1) := dk_3 (dk_at dksJ5_add_0 18 rfl rfl)
theorem dJ5_add_19 : decode cJ5_add 19 = .ok (.ireturn, 1) := dk_172 (dk_at dksJ5_add_0 19 rfl rfl)
def dkwJ5_size_0 : List UInt8 := [42, 180, 0, 10, 182, 0, 55, 172]
abbrev dktJ5_size_0 : List UInt8 := dkwJ5_size_0 ++ []
theorem dksJ5_size_0 : cJ5_size.data.toList.drop 0 = dktJ5_size_0 := by decide +kernel
theorem dJ5_size_0 : decode cJ5_size 0 = .ok (.aload_n 0, 1) := dk_42 (dk_at dksJ5_size_0 0 rfl rfl)
theorem dJ5_size_1 : decode cJ5_size 1 = .ok (.getfield 10, 3) := dk_180 0 10 (dk_at dksJ5_size_0 1 rfl rfl)
theorem dJ5_size_4 : decode cJ5_size 4 = .ok (.invokevirtual 55, 3) := dk_182 0 55 (dk_at dksJ5_size_0 4 rfl rfl)
theorem dJ5_size_7 : decode cJ5_size 7 = .ok (.ireturn, 1) := dk_172 (dk_at dksJ5_size_0 7 rfl rfl)
def dkwJ5_remove_0 : List UInt8 := [42, 180, 0, 10, 43, 182, 0, 72, 178, 0, 64, 166, 0, 7, 4, 167, 0, 4, 3, 172]
abbrev dktJ5_remove_0 : List UInt8 := dkwJ5_remove_0 ++ []
theorem dksJ5_remove_0 : cJ5_remove.data.toList.drop 0 = dktJ5_remove_0 := by decide +kernel
theorem dJ5_remove_0 : decode cJ5_remove 0 = .ok (.aload_n 0, 1) := dk_42 (dk_at dksJ5_remove_0 0 rfl rfl)
theorem dJ5_remove_1 : decode cJ5_remove 1 = .ok (.getfield 10, 3) := dk_180 0 10 (dk_at dksJ5_remove_0 1 rfl rfl)
theorem dJ5_remove_4 : decode cJ5_remove 4 = .ok (.aload_n 1, 1) := dk_43 (dk_at dksJ5_remove_0 4 rfl rfl)
theorem dJ5_remove_5 : decode cJ5_remove 5 = .ok (.invokevirtual 72, 3) := dk_182 0 72 (dk_at dksJ5_remove_0 5 rfl rfl)
theorem dJ5_remove_8 : decode cJ5_remove 8 = .ok (.getstatic 64, 3) := dk_178 0 64 (dk_at dksJ5_remove_0 8 rfl rfl)
theorem dJ5_remove_11 : decode cJ5_remove 11 = .ok (.if_acmp .ne 7, 3) := dk_166 0 7 (dk_at dksJ5_remove_0 11 rfl rfl)
theorem dJ5_remove_14 : decode cJ5_remove 14 = .ok (.iconst 1, 1) := dk_4 (dk_at dksJ5_remove_0 14 rfl rfl)
theorem dJ5_remove_15 : decode cJ5_remove 15 = .ok (.goto 4, 3) := dk_167 0 4 (dk_at dksJ5_remove_0 15 rfl rfl)
theorem dJ5_remove_18 : decode cJ5_remove 18 = .ok (.iconst 0, 1) := dk_3 (dk_at dksJ5_remove_0 18 rfl rfl)
theorem dJ5_remove_19 : decode cJ5_remove 19 = .ok (.ireturn, 1) := dk_172 (dk_at dksJ5_remove_0 19 rfl rfl)
def dkwJ6_init_0 : List UInt8 := [42, 183, 0, 42, 42, 16, 17, 189, 0, 47, 181, 0, 3, 177]
abbrev dktJ6_init_0 : List UInt8 := dkwJ6_init_0 ++ []
theorem dksJ6_init_0 : cJ6_init.data.toList.drop 0 = dktJ6_init_0 := by decide +kernel
theorem dJ6_init_0 : decode cJ6_init 0 = .ok (.aload_n 0, 1) := dk_42 (dk_at dksJ6_init_0 0 rfl rfl)
theorem dJ6_init_1 : decode cJ6_init 1 = .ok (.invokespecial 42, 3) := dk_183 0 42 (dk_at dksJ6_init_0 1 rfl rfl)
theorem dJ6_init_4 : decode cJ6_init 4 = .ok (.aload_n 0, 1) := dk_42 (dk_at dksJ6_init_0 4 rfl rfl)
theorem dJ6_init_5 : decode cJ6_init 5 = .ok (.bipush 17, 2) := dk_16 17 (dk_at dksJ6_init_0 5 rfl rfl)
theorem dJ6_init_7 : decode cJ6_init 7 = .ok (.anewarray 47, 3) := dk_189 0 47 (dk_at dksJ6_init_0 7 rfl rfl)
theorem dJ6_init_10 : decode cJ6_init 10 = .ok (.putfield 3, 3) := dk_181 0 3 (dk_at dksJ6_init_0 10 rfl rfl)
theorem dJ6_init_13 : decode cJ6_init 13 = .ok (.return_, 1) := dk_177 (dk_at dksJ6_init_0 13 rfl rfl)
def dkwJ6_iterator_0 : List UInt8 := [187, 0, 131, 89, 42, 183, 0, 133, 176]
abbrev dktJ6_iterator_0 : List UInt8 := dkwJ6_iterator_0 ++ []
theorem dksJ6_iterator_0 : cJ6_iterator.data.toList.drop 0 = dktJ6_iterator_0 := by decide +kernel
theorem dJ6_iterator_0 : decode cJ6_iterator 0 = .ok (.new 131, 3) := dk_187 0 131 (dk_at dksJ6_iterator_0 0 rfl rfl)
theorem dJ6_iterator_3 : decode cJ6_iterator 3 = .ok (.dup, 1) := dk_89 (dk_at dksJ6_iterator_0 3 rfl rfl)
theorem dJ6_iterator_4 : decode cJ6_iterator 4 = .ok (.aload_n 0, 1) := dk_42 (dk_at dksJ6_iterator_0 4 rfl rfl)
theorem dJ6_iterator_5 : decode cJ6_iterator 5 = .ok (.invokespecial 133, 3) := dk_183 0 133 (dk_at dksJ6_iterator_0 5 rfl rfl)
theorem dJ6_iterator_8 : decode cJ6_iterator 8 = .ok (.areturn, 1) := dk_176 (dk_at dksJ6_iterator_0 8 rfl rfl)
def dkwJ6_size_0 : List UInt8 := [42, 180, 0, 20, 42, 180, 0, 24, 42, 180, 0, 3, 190, 184, 0, 127, 172]
abbrev dktJ6_size_0 : List UInt8 := dkwJ6_size_0 ++ []
theorem dksJ6_size_0 : cJ6_size.data.toList.drop 0 = dktJ6_size_0 := by decide +kernel
theorem dJ6_size_0 : decode cJ6_size 0 = .ok (.aload_n 0, 1) := dk_42 (dk_at dksJ6_size_0 0 rfl rfl)
theorem dJ6_size_1 : decode cJ6_size 1 = .ok (.getfield 20, 3) := dk_180 0 20 (dk_at dksJ6_size_0 1 rfl rfl)
theorem dJ6_size_4 : decode cJ6_size 4 = .ok (.aload_n 0, 1) := dk_42 (dk_at dksJ6_size_0 4 rfl rfl)
theorem dJ6_size_5 : decode cJ6_size 5 = .ok (.getfield 24, 3) := dk_180 0 24 (dk_at dksJ6_size_0 5 rfl rfl)
theorem dJ6_size_8 : decode cJ6_size 8 = .ok (.aload_n 0, 1) := dk_42 (dk_at dksJ6_size_0 8 rfl rfl)
theorem dJ6_size_9 : decode cJ6_size 9 = .ok (.getfield 3, 3) := dk_180 0 3 (dk_at dksJ6_size_0 9 rfl rfl)
theorem dJ6_size_12 : decode cJ6_size 12 = .ok (.arraylength, 1) := dk_190 (dk_at dksJ6_size_0 12 rfl rfl)
theorem dJ6_size_13 : decode cJ6_size 13 = .ok (.invokestatic 127, 3) := dk_184 0 127 (dk_at dksJ6_size_0 13 rfl rfl)
theorem dJ6_size_16 : decode cJ6_size 16 = .ok (.ireturn, 1) := dk_172 (dk_at dksJ6_size_0 16 rfl rfl)
def dkwJ6_sub_0 : List UInt8 := [26, 27, 100, 89, 59, 156, 0, 7, 26, 28, 96, 59, 26, 172]
abbrev dktJ6_sub_0 : List UInt8 := dkwJ6_sub_0 ++ []
theorem dksJ6_sub_0 : cJ6_sub.data.toList.drop 0 = dktJ6_sub_0 := by decide +kernel
theorem dJ6_sub_0 : decode cJ6_sub 0 = .ok (.iload_n 0, 1) := dk_26 (dk_at dksJ6_sub_0 0 rfl rfl)
theorem dJ6_sub_1 : decode cJ6_sub 1 = .ok (.iload_n 1, 1) := dk_27 (dk_at dksJ6_sub_0 1 rfl rfl)
theorem dJ6_sub_2 : decode cJ6_sub 2 = .ok (.isub, 1) := dk_100 (dk_at dksJ6_sub_0 2 rfl rfl)
theorem dJ6_sub_3 : decode cJ6_sub 3 = .ok (.dup, 1) := dk_89 (dk_at dksJ6_sub_0 3 rfl rfl)
theorem dJ6_sub_4 : decode cJ6_sub 4 = .ok (.istore_n 0, 1) := dk_59 (dk_at dksJ6_sub_0 4 rfl rfl)
theorem dJ6_sub_5 : decode cJ6_sub 5 = .ok (.ifCond .ge 7, 3) := dk_156 0 7 (dk_at dksJ6_sub_0 5 rfl rfl)
theorem dJ6_sub_8 : decode cJ6_sub 8 = .ok (.iload_n 0, 1) := dk_26 (dk_at dksJ6_sub_0 8 rfl rfl)
theorem dJ6_sub_9 : decode cJ6_sub 9 = .ok (.iload_n 2, 1) := dk_28 (dk_at dksJ6_sub_0 9 rfl rfl)
theorem dJ6_sub_10 : decode cJ6_sub 10 = .ok (.iadd, 1) := dk_96 (dk_at dksJ6_sub_0 10 rfl rfl)
theorem dJ6_sub_11 : decode cJ6_sub 11 = .ok (.istore_n 0, 1) := dk_59 (dk_at dksJ6_sub_0 11 rfl rfl)
theorem dJ6_sub_12 : decode cJ6_sub 12 = .ok (.iload_n 0, 1) := dk_26 (dk_at dksJ6_sub_0 12 rfl rfl)
theorem dJ6_sub_13 : decode cJ6_sub 13 = .ok (.ireturn, 1) := dk_172 (dk_at dksJ6_sub_0 13 rfl rfl)
def dkwJ6_nonNullElementAt_0 : List UInt8 := [42, 27, 50, 77, 44, 199, 0, 11, 187, 0, 62, 89, 183, 0, 64, 191, 44, 176]
abbrev dktJ6_nonNullElementAt_0 : List UInt8 := dkwJ6_nonNullElementAt_0 ++ []
theorem dksJ6_nonNullElementAt_0 : cJ6_nonNullElementAt.data.toList.drop 0 = dktJ6_nonNullElementAt_0 := by decide +kernel
theorem dJ6_nonNullElementAt_0 : decode cJ6_nonNullElementAt 0 = .ok (.aload_n 0, 1) := dk_42 (dk_at dksJ6_nonNullElementAt_0 0 rfl rfl)
theorem dJ6_nonNullElementAt_1 : decode cJ6_nonNullElementAt 1 = .ok (.iload_n 1, 1) := dk_27 (dk_at dksJ6_nonNullElementAt_0 1 rfl rfl)
theorem dJ6_nonNullElementAt_2 : decode cJ6_nonNullElementAt 2 = .ok (.aaload, 1) := dk_50 (dk_at dksJ6_nonNullElementAt_0 2 rfl rfl)
theorem dJ6_nonNullElementAt_3 : decode cJ6_nonNullElementAt 3 = .ok (.astore_n 2, 1) := dk_77 (dk_at dksJ6_nonNullElementAt_0 3 rfl rfl)
theorem dJ6_nonNullElementAt_4 : decode cJ6_nonNullElementAt 4 = .ok (.aload_n 2, 1) := dk_44 (dk_at dksJ6_nonNullElementAt_0 4 rfl rfl)
theorem dJ6_nonNullElementAt_5 : decode cJ6_nonNullElementAt 5 = .ok (.ifnonnull 11, 3) := dk_199 0 11 (dk_at dksJ6_nonNullElementAt_0 5 rfl rfl)
theorem dJ6_nonNullElementAt_8 : decode cJ6_nonNullElementAt 8 = .ok (.new 62, 3) := dk_187 0 62 (dk_at dksJ6_nonNullElementAt_0 8 rfl rfl)
theorem dJ6_nonNullElementAt_11 : decode cJ6_nonNullElementAt 11 = .ok (.dup, 1) := dk_89 (dk_at dksJ6_nonNullElementAt_0 11 rfl rfl)
theorem dJ6_nonNullElementAt_12 : decode cJ6_nonNullElementAt 12 = .ok (.invokespecial 64, 3) := dk_183 0 64 (dk_at dksJ6_nonNullElementAt_0 12 rfl rfl)
theorem dJ6_nonNullElementAt_15 : decode cJ6_nonNullElementAt 15 = .ok (.athrow, 1) := dk_191 (dk_at dksJ6_nonNullElementAt_0 15 rfl rfl)
theorem dJ6_nonNullElementAt_16 : decode cJ6_nonNullElementAt 16 = .ok (.aload_n 2, 1) := dk_44 (dk_at dksJ6_nonNullElementAt_0 16 rfl rfl)
theorem dJ6_nonNullElementAt_17 : decode cJ6_nonNullElementAt 17 = .ok (.areturn, 1) := dk_176 (dk_at dksJ6_nonNullElementAt_0 17 rfl rfl)
def dkwJ6_inc_0 : List UInt8 := [132, 0, 1, 26, 27, 161, 0, 5, 3, 59, 26, 172]
abbrev dktJ6_inc_0 : List UInt8 := dkwJ6_inc_0 ++ []
theorem dksJ6_inc_0 : cJ6_inc.data.toList.drop 0 = dktJ6_inc_0 := by decide +kernel
theorem dJ6_inc_0 : decode cJ6_inc 0 = .ok (.iinc 0 1, 3) := dk_132 0 1 (dk_at dksJ6_inc_0 0 rfl rfl)
theorem dJ6_inc_3 : decode cJ6_inc 3 = .ok (.iload_n 0, 1) := dk_26 (dk_at dksJ6_inc_0 3 rfl rfl)
theorem dJ6_inc_4 : decode cJ6_inc 4 = .ok (.iload_n 1, 1) := dk_27 (dk_at dksJ6_inc_0 4 rfl rfl)
theorem dJ6_inc_5 : decode cJ6_inc 5 = .ok (.if_icmp .lt 5, 3) := dk_161 0 5 (dk_at dksJ6_inc_0 5 rfl rfl)
theorem dJ6_inc_8 : decode cJ6_inc 8 = .ok (.iconst 0, 1) := dk_3 (dk_at dksJ6_inc_0 8 rfl rfl)
theorem dJ6_inc_9 : decode cJ6_inc 9 = .ok (.istore_n 0, 1) := dk_59 (dk_at dksJ6_inc_0 9 rfl rfl)
theorem dJ6_inc_10 : decode cJ6_inc 10 = .ok (.iload_n 0, 1) := dk_26 (dk_at dksJ6_inc_0 10 rfl rfl)
theorem dJ6_inc_11 : decode cJ6_inc 11 = .ok (.ireturn, 1) := dk_172 (dk_at dksJ6_inc_0 11 rfl rfl)
def dkwJ6_addLast_2 : List UInt8 := [182, 0, 71, 177]
abbrev dktJ6_addLast_2 : List UInt8 := dkwJ6_addLast_2 ++ []
def dkwJ6_addLast_1 : List UInt8 := [42, 180, 0, 24, 42, 42, 180, 0, 20, 44, 190, 184, 0, 74, 90, 181, 0, 20, 160, 0, 8, 42, 4]
abbrev dktJ6_addLast_1 : List UInt8 := dkwJ6_addLast_1 ++ dktJ6_addLast_2
def dkwJ6_addLast_0 : List UInt8 := [43, 199, 0, 11, 187, 0, 65, 89, 183, 0, 67, 191, 42, 180, 0, 3, 77, 44, 42, 180, 0, 20, 43, 83]
abbrev dktJ6_addLast_0 : List UInt8 := dkwJ6_addLast_0 ++ dktJ6_addLast_1
theorem dksJ6_addLast_0 : cJ6_addLast.data.toList.drop 0 = dktJ6_addLast_0 := by decide +kernel
theorem dksJ6_addLast_1 : cJ6_addLast.data.toList.drop 24 = dktJ6_addLast_1 := dk_seg dksJ6_addLast_0 24 rfl rfl
theorem dksJ6_addLast_2 : cJ6_addLast.data.toList.drop 47 = dktJ6_addLast_2 := dk_seg dksJ6_addLast_1 23 rfl rfl
theorem dJ6_addLast_0 : decode cJ6_addLast 0 = .ok (.aload_n 1, 1) := dk_43 (dk_at dksJ6_addLast_0 0 rfl rfl)
theorem dJ6_addLast_1 : decode cJ6_addLast 1 = .ok (.ifnonnull 11, 3) := dk_199 0 11 (dk_at dksJ6_addLast_0 1 rfl rfl)
theorem dJ6_addLast_4 : decode cJ6_addLast 4 = .ok (.new 65, 3) := dk_187 0 65 (dk_at dksJ6_addLast_0 4 rfl rfl)
theorem dJ6_addLast_7 : decode cJ6_addLast 7 = .ok (.dup, 1) := dk_89 (dk_at dksJ6_addLast_0 7 rfl rfl)
theorem dJ6_addLast_8 : decode cJ6_addLast 8 = .ok (.invokespecial 67, 3) := dk_183 0 67 (dk_at dksJ6_addLast_0 8 rfl rfl)
theorem dJ6_addLast_11 : decode cJ6_addLast 11 = .ok (.athrow, 1) := dk_191 (dk_at dksJ6_addLast_0 11 rfl rfl)
theorem dJ6_addLast_12 : decode cJ6_addLast 12 = .ok (.aload_n 0, 1) := dk_42 (dk_at dksJ6_addLast_0 12 rfl rfl)
theorem dJ6_addLast_13 : decode cJ6_addLast 13 = .ok (.getfield 3, 3) := dk_180 0 3 (dk_at dksJ6_addLast_0 13 rfl rfl)
theorem dJ6_addLast_16 : decode cJ6_addLast 16 = .ok (.astore_n 2, 1) := dk_77 (dk_at dksJ6_addLast_0 16 rfl rfl)
theorem dJ6_addLast_17 : decode cJ6_addLast 17 = .ok (.aload_n 2, 1) := dk_44 (dk_at dksJ6_addLast_0 17 rfl rfl)
theorem dJ6_addLast_18 : decode cJ6_addLast 18 = .ok (.aload_n 0, 1) := dk_42 (dk_at dksJ6_addLast_0 18 rfl rfl)
theorem dJ6_addLast_19 : decode cJ6_addLast 19 = .ok (.getfield 20, 3) := dk_180 0 20 (dk_at dksJ6_addLast_0 19 rfl rfl)
theorem dJ6_addLast_22 : decode cJ6_addLast 22 = .ok (.aload_n 1, 1) := dk_43 (dk_at dksJ6_addLast_0 22 rfl rfl)
theorem dJ6_addLast_23 : decode cJ6_addLast 23 = .ok (.aastore, 1) := dk_83 (dk_at dksJ6_addLast_0 23 rfl rfl)
theorem dJ6_addLast_24 : decode cJ6_addLast 24 = .ok (.aload_n 0, 1) := dk_42 (dk_at dksJ6_addLast_1 0 rfl rfl)
theorem dJ6_addLast_25 : decode cJ6_addLast 25 = .ok (.getfield 24, 3) := dk_180 0 24 (dk_at dksJ6_addLast_1 1 rfl rfl)
theorem dJ6_addLast_28 : decode cJ6_addLast 28 = .ok (.aload_n 0, 1) := dk_42 (dk_at dksJ6_addLast_1 4 rfl rfl)
theorem dJ6_addLast_29 : decode cJ6_addLast 29 = .ok (.aload_n 0, 1) := dk_42 (dk_at dksJ6_addLast_1 5 rfl rfl)
theorem dJ6_addLast_30 : decode cJ6_addLast 30 = .ok (.getfield 20, 3) := dk_180 0 20 (dk_at dksJ6_addLast_1 6 rfl rfl)
theorem dJ6_addLast_33 : decode cJ6_addLast 33 = .ok (.aload_n 2, 1) := dk_44 (dk_at dksJ6_addLast_1 9 rfl rfl)
theorem dJ6_addLast_34 : decode cJ6_addLast 34 = .ok (.arraylength, 1) := dk_190 (dk_at dksJ6_addLast_1 10 rfl rfl)
theorem dJ6_addLast_35 : decode cJ6_addLast 35 = .ok (.invokestatic 74, 3) := dk_184 0 74 (dk_at dksJ6_addLast_1 11 rfl rfl)
theorem dJ6_addLast_38 : decode cJ6_addLast 38 = .ok (.dup_x1, 1) := dk_90 (dk_at dksJ6_addLast_1 14 rfl rfl)
theorem dJ6_addLast_39 : decode cJ6_addLast 39 = .ok (.putfield 20, 3) := dk_181 0 20 (dk_at dksJ6_addLast_1 15 rfl rfl)
theorem dJ6_addLast_42 : decode cJ6_addLast 42 = .ok (.if_icmp .ne 8, 3) := dk_160 0 8 (dk_at dksJ6_addLast_1 18 rfl rfl)
theorem dJ6_addLast_45 : decode cJ6_addLast 45 = .ok (.aload_n 0, 1) := dk_42 (dk_at dksJ6_addLast_1 21 rfl rfl)
theorem dJ6_addLast_46 : decode cJ6_addLast 46 = .ok (.iconst 1, 1) := dk_4 (dk_at dksJ6_addLast_1 22 rfl rfl)
theorem dJ6_addLast_47 : decode cJ6_addLast 47 = .ok (.invokevirtual 71, 3) := dk_182 0 71 (dk_at dksJ6_addLast_2 0 rfl rfl)
theorem dJ6_addLast_50 : decode cJ6_addLast 50 = .ok (.return_, 1) := dk_177 (dk_at dksJ6_addLast_2 3 rfl rfl)
def dkwJ6_grow_7 : List UInt8 := [177]
abbrev dktJ6_grow_7 : List UInt8 := dkwJ6_grow_7 ++ []
def dkwJ6_grow_6 : List UInt8 := [181, 0, 24, 54, 8, 21, 7, 21, 8, 162, 0, 15, 25, 5, 21, 7, 1, 83, 132, 7, 1, 167, 255, 240]
abbrev dktJ6_grow_6 : List UInt8 := dkwJ6_grow_6 ++ dktJ6_grow_7
def dkwJ6_grow_5 : List UInt8 := [42, 180, 0, 24, 100, 184, 0, 27, 42, 180, 0, 24, 54, 7, 42, 89, 180, 0, 24, 21, 6, 96, 90]
abbrev dktJ6_grow_5 : List UInt8 := dkwJ6_grow_5 ++ dktJ6_grow_6
def dkwJ6_grow_4 : List UInt8 := [198, 0, 71, 29, 28, 100, 54, 6, 25, 5, 42, 180, 0, 24, 25, 5, 42, 180, 0, 24, 21, 6, 96, 28]
abbrev dktJ6_grow_4 : List UInt8 := dkwJ6_grow_4 ++ dktJ6_grow_5
def dkwJ6_grow_3 : List UInt8 := [180, 0, 24, 161, 0, 24, 42, 180, 0, 20, 42, 180, 0, 24, 160, 0, 81, 25, 5, 42, 180, 0, 24, 50]
abbrev dktJ6_grow_3 : List UInt8 := dkwJ6_grow_3 ++ dktJ6_grow_4
def dkwJ6_grow_2 : List UInt8 := [182, 0, 10, 62, 42, 42, 180, 0, 3, 29, 184, 0, 14, 90, 181, 0, 3, 58, 5, 42, 180, 0, 20, 42]
abbrev dktJ6_grow_2 : List UInt8 := dkwJ6_grow_2 ++ dktJ6_grow_3
def dkwJ6_grow_1 : List UInt8 := [21, 4, 27, 161, 0, 15, 28, 21, 4, 96, 89, 62, 18, 9, 100, 158, 0, 11, 42, 27, 21, 4]
abbrev dktJ6_grow_1 : List UInt8 := dkwJ6_grow_1 ++ dktJ6_grow_2
def dkwJ6_grow_0 : List UInt8 := [42, 180, 0, 3, 190, 61, 28, 16, 64, 162, 0, 9, 28, 5, 96, 167, 0, 6, 28, 4, 122, 54, 4]
abbrev dktJ6_grow_0 : List UInt8 := dkwJ6_grow_0 ++ dktJ6_grow_1
theorem dksJ6_grow_0 : cJ6_grow.data.toList.drop 0 = dktJ6_grow_0 := by decide +kernel
theorem dksJ6_grow_1 : cJ6_grow.data.toList.drop 23 = dktJ6_grow_1 := dk_seg dksJ6_grow_0 23 rfl rfl
theorem dksJ6_grow_2 : cJ6_grow.data.toList.drop 45 = dktJ6_grow_2 := dk_seg dksJ6_grow_1 22 rfl rfl
theorem dksJ6_grow_3 : cJ6_grow.data.toList.drop 69 = dktJ6_grow_3 := dk_seg dksJ6_grow_2 24 rfl rfl
theorem dksJ6_grow_4 : cJ6_grow.data.toList.drop 93 = dktJ6_grow_4 := dk_seg dksJ6_grow_3 24 rfl rfl
theorem dksJ6_grow_5 : cJ6_grow.data.toList.drop 117 = dktJ6_grow_5 := dk_seg dksJ6_grow_4 24 rfl rfl
theorem dksJ6_grow_6 : cJ6_grow.data.toList.drop 140 = dktJ6_grow_6 := dk_seg dksJ6_grow_5 23 rfl rfl
theorem dksJ6_grow_7 : cJ6_grow.data.toList.drop 164 = dktJ6_grow_7 := dk_seg dksJ6_grow_6 24 rfl rfl
theorem dJ6_grow_0 : decode cJ6_grow 0 = .ok (.aload_n 0, 1) := dk_42 (dk_at dksJ6_grow_0 0 rfl rfl)
theorem dJ6_grow_1 : decode cJ6_grow 1 = .ok (.getfield 3, 3) := dk_180 0 3 (dk_at dksJ6_grow_0 1 rfl rfl)
theorem dJ6_grow_4 : decode cJ6_grow 4 = .ok (.arraylength, 1) := dk_190 (dk_at dksJ6_grow_0 4 rfl rfl)
theorem dJ6_grow_5 : decode cJ6_grow 5 = .ok (.istore_n 2, 1) := dk_61 (dk_at dksJ6_grow_0 5 rfl rfl)
theorem dJ6_grow_6 : decode cJ6_grow 6 = .ok (.iload_n 2, 1) := dk_28 (dk_at dksJ6_grow_0 6 rfl rfl)
theorem dJ6_grow_7 : decode cJ6_grow 7 = .ok (.bipush 64, 2) := dk_16 64 (dk_at dksJ6_grow_0 7 rfl rfl)
theorem dJ6_grow_9 : decode cJ6_grow 9 = .ok (.if_icmp .ge 9, 3) := dk_162 0 9 (dk_at dksJ6_grow_0 9 rfl rfl)
theorem dJ6_grow_12 : decode cJ6_grow 12 = .ok (.iload_n 2, 1) := dk_28 (dk_at dksJ6_grow_0 12 rfl rfl)
theorem dJ6_grow_13 : decode cJ6_grow 13 = .ok (.iconst 2, 1) := dk_5 (dk_at dksJ6_grow_0 13 rfl rfl)
theorem dJ6_grow_14 : decode cJ6_grow 14 = .ok (.iadd, 1) := dk_96 (dk_at dksJ6_grow_0 14 rfl rfl)
theorem dJ6_grow_15 : decode cJ6_grow 15 = .ok (.goto 6, 3) := dk_167 0 6 (dk_at dksJ6_grow_0 15 rfl rfl)
theorem dJ6_grow_18 : decode cJ6_grow 18 = .ok (.iload_n 2, 1) := dk_28 (dk_at dksJ6_grow_0 18 rfl rfl)
theorem dJ6_grow_19 : decode cJ6_grow 19 = .ok (.iconst 1, 1) := dk_4 (dk_at dksJ6_grow_0 19 rfl rfl)
theorem dJ6_grow_20 : decode cJ6_grow 20 = .ok (.ishr, 1) := dk_122 (dk_at dksJ6_grow_0 20 rfl rfl)
theorem dJ6_grow_21 : decode cJ6_grow 21 = .ok (.istore 4, 2) := dk_54 4 (dk_at dksJ6_grow_0 21 rfl rfl)
theorem dJ6_grow_23 : decode cJ6_grow 23 = .ok (.iload 4, 2) := dk_21 4 (dk_at dksJ6_grow_1 0 rfl rfl)
theorem dJ6_grow_25 : decode cJ6_grow 25 = .ok (.iload_n 1, 1) := dk_27 (dk_at dksJ6_grow_1 2 rfl rfl)
theorem dJ6_grow_26 : decode cJ6_grow 26 = .ok (.if_icmp .lt 15, 3) := dk_161 0 15 (dk_at dksJ6_grow_1 3 rfl rfl)
theorem dJ6_grow_29 : decode cJ6_grow 29 = .ok (.iload_n 2, 1) := dk_28 (dk_at dksJ6_grow_1 6 rfl rfl)
theorem dJ6_grow_30 : decode cJ6_grow 30 = .ok (.iload 4, 2) := dk_21 4 (dk_at dksJ6_grow_1 7 rfl rfl)
theorem dJ6_grow_32 : decode cJ6_grow 32 = .ok (.iadd, 1) := dk_96 (dk_at dksJ6_grow_1 9 rfl rfl)
theorem dJ6_grow_33 : decode cJ6_grow 33 = .ok (.dup, 1) := dk_89 (dk_at dksJ6_grow_1 10 rfl rfl)
theorem dJ6_grow_34 : decode cJ6_grow 34 = .ok (.istore_n 3, 1) := dk_62 (dk_at dksJ6_grow_1 11 rfl rfl)
theorem dJ6_grow_35 : decode cJ6_grow 35 = .ok (.ldc 9, 2) := dk_18 9 (dk_at dksJ6_grow_1 12 rfl rfl)
theorem dJ6_grow_37 : decode cJ6_grow 37 = .ok (.isub, 1) := dk_100 (dk_at dksJ6_grow_1 14 rfl rfl)
theorem dJ6_grow_38 : decode cJ6_grow 38 = .ok (.ifCond .le 11, 3) := dk_158 0 11 (dk_at dksJ6_grow_1 15 rfl rfl)
theorem dJ6_grow_41 : decode cJ6_grow 41 = .ok (.aload_n 0, 1) := dk_42 (dk_at dksJ6_grow_1 18 rfl rfl)
theorem dJ6_grow_42 : decode cJ6_grow 42 = .ok (.iload_n 1, 1) := dk_27 (dk_at dksJ6_grow_1 19 rfl rfl)
theorem dJ6_grow_43 : decode cJ6_grow 43 = .ok (.iload 4, 2) := dk_21 4 (dk_at dksJ6_grow_1 20 rfl rfl)
theorem dJ6_grow_45 : decode cJ6_grow 45 = .ok (.invokevirtual 10, 3) := dk_182 0 10 (dk_at dksJ6_grow_2 0 rfl rfl)
theorem dJ6_grow_48 : decode cJ6_grow 48 = .ok (.istore_n 3, 1) := dk_62 (dk_at dksJ6_grow_2 3 rfl rfl)
theorem dJ6_grow_49 : decode cJ6_grow 49 = .ok (.aload_n 0, 1) := dk_42 (dk_at dksJ6_grow_2 4 rfl rfl)
theorem dJ6_grow_50 : decode cJ6_grow 50 = .ok (.aload_n 0, 1) := dk_42 (dk_at dksJ6_grow_2 5 rfl rfl)
theorem dJ6_grow_51 : decode cJ6_grow 51 = .ok (.getfield 3, 3) := dk_180 0 3 (dk_at dksJ6_grow_2 6 rfl rfl)
theorem dJ6_grow_54 : decode cJ6_grow 54 = .ok (.iload_n 3, 1) := dk_29 (dk_at dksJ6_grow_2 9 rfl rfl)
theorem dJ6_grow_55 : decode cJ6_grow 55 = .ok (.invokestatic 14, 3) := dk_184 0 14 (dk_at dksJ6_grow_2 10 rfl rfl)
theorem dJ6_grow_58 : decode cJ6_grow 58 = .ok (.dup_x1, 1) := dk_90 (dk_at dksJ6_grow_2 13 rfl rfl)
theorem dJ6_grow_59 : decode cJ6_grow 59 = .ok (.putfield 3, 3) := dk_181 0 3 (dk_at dksJ6_grow_2 14 rfl rfl)
theorem dJ6_grow_62 : decode cJ6_grow 62 = .ok (.astore 5, 2) := dk_58 5 (dk_at dksJ6_grow_2 17 rfl rfl)
theorem dJ6_grow_64 : decode cJ6_grow 64 = .ok (.aload_n 0, 1) := dk_42 (dk_at dksJ6_grow_2 19 rfl rfl)
theorem dJ6_grow_65 : decode cJ6_grow 65 = .ok (.getfield 20, 3) := dk_180 0 20 (dk_at dksJ6_grow_2 20 rfl rfl)
theorem dJ6_grow_68 : decode cJ6_grow 68 = .ok (.aload_n 0, 1) := dk_42 (dk_at dksJ6_grow_2 23 rfl rfl)
theorem dJ6_grow_69 : decode cJ6_grow 69 = .ok (.getfield 24, 3) := dk_180 0 24 (dk_at dksJ6_grow_3 0 rfl rfl)
theorem dJ6_grow_72 : decode cJ6_grow 72 = .ok (.if_icmp .lt 24, 3) := dk_161 0 24 (dk_at dksJ6_grow_3 3 rfl rfl)
theorem dJ6_grow_75 : decode cJ6_grow 75 = .ok (.aload_n 0, 1) := dk_42 (dk_at dksJ6_grow_3 6 rfl rfl)
theorem dJ6_grow_76 : decode cJ6_grow 76 = .ok (.getfield 20, 3) := dk_180 0 20 (dk_at dksJ6_grow_3 7 rfl rfl)
theorem dJ6_grow_79 : decode cJ6_grow 79 = .ok (.aload_n 0, 1) := dk_42 (dk_at dksJ6_grow_3 10 rfl rfl)
theorem dJ6_grow_80 : decode cJ6_grow 80 = .ok (.getfield 24, 3) := dk_180 0 24 (dk_at dksJ6_grow_3 11 rfl rfl)
theorem dJ6_grow_83 : decode cJ6_grow 83 = .ok (.if_icmp .ne 81, 3) := dk_160 0 81 (dk_at dksJ6_grow_3 14 rfl rfl)
theorem dJ6_grow_86 : decode cJ6_grow 86 = .ok (.aload 5, 2) := dk_25 5 (dk_at dksJ6_grow_3 17 rfl rfl)
theorem dJ6_grow_88 : decode cJ6_grow 88 = .ok (.aload_n 0, 1) := dk_42 (dk_at dksJ6_grow_3 19 rfl rfl)
theorem dJ6_grow_89 : decode cJ6_grow 89 = .ok (.getfield 24, 3) := dk_180 0 24 (dk_at dksJ6_grow_3 20 rfl rfl)
theorem dJ6_grow_92 : decode cJ6_grow 92 = .ok (.aaload, 1) := dk_50 (dk_at dksJ6_grow_3 23 rfl rfl)
theorem dJ6_grow_93 : decode cJ6_grow 93 = .ok (.ifnull 71, 3) := dk_198 0 71 (dk_at dksJ6_grow_4 0 rfl rfl)
theorem dJ6_grow_96 : decode cJ6_grow 96 = .ok (.iload_n 3, 1) := dk_29 (dk_at dksJ6_grow_4 3 rfl rfl)
theorem dJ6_grow_97 : decode cJ6_grow 97 = .ok (.iload_n 2, 1) := dk_28 (dk_at dksJ6_grow_4 4 rfl rfl)
theorem dJ6_grow_98 : decode cJ6_grow 98 = .ok (.isub, 1) := dk_100 (dk_at dksJ6_grow_4 5 rfl rfl)
theorem dJ6_grow_99 : decode cJ6_grow 99 = .ok (.istore 6, 2) := dk_54 6 (dk_at dksJ6_grow_4 6 rfl rfl)
theorem dJ6_grow_101 : decode cJ6_grow 101 = .ok (.aload 5, 2) := dk_25 5 (dk_at dksJ6_grow_4 8 rfl rfl)
theorem dJ6_grow_103 : decode cJ6_grow 103 = .ok (.aload_n 0, 1) := dk_42 (dk_at dksJ6_grow_4 10 rfl rfl)
theorem dJ6_grow_104 : decode cJ6_grow 104 = .ok (.getfield 24, 3) := dk_180 0 24 (dk_at dksJ6_grow_4 11 rfl rfl)
theorem dJ6_grow_107 : decode cJ6_grow 107 = .ok (.aload 5, 2) := dk_25 5 (dk_at dksJ6_grow_4 14 rfl rfl)
theorem dJ6_grow_109 : decode cJ6_grow 109 = .ok (.aload_n 0, 1) := dk_42 (dk_at dksJ6_grow_4 16 rfl rfl)
theorem dJ6_grow_110 : decode cJ6_grow 110 = .ok (.getfield 24, 3) := dk_180 0 24 (dk_at dksJ6_grow_4 17 rfl rfl)
theorem dJ6_grow_113 : decode cJ6_grow 113 = .ok (.iload 6, 2) := dk_21 6 (dk_at dksJ6_grow_4 20 rfl rfl)
theorem dJ6_grow_115 : decode cJ6_grow 115 = .ok (.iadd, 1) := dk_96 (dk_at dksJ6_grow_4 22 rfl rfl)
theorem dJ6_grow_116 : decode cJ6_grow 116 = .ok (.iload_n 2, 1) := dk_28 (dk_at dksJ6_grow_4 23 rfl rfl)
theorem dJ6_grow_117 : decode cJ6_grow 117 = .ok (.aload_n 0, 1) := dk_42 (dk_at dksJ6_grow_5 0 rfl rfl)
theorem dJ6_grow_118 : decode cJ6_grow 118 = .ok (.getfield 24, 3) := dk_180 0 24 (dk_at dksJ6_grow_5 1 rfl rfl)
theorem dJ6_grow_121 : decode cJ6_grow 121 = .ok (.isub, 1) := dk_100 (dk_at dksJ6_grow_5 4 rfl rfl)
theorem dJ6_grow_122 : decode cJ6_grow 122 = .ok (.invokestatic 27, 3) := dk_184 0 27 (dk_at dksJ6_grow_5 5 rfl rfl)
theorem dJ6_grow_125 : decode cJ6_grow 125 = .ok (.aload_n 0, 1) := dk_42 (dk_at dksJ6_grow_5 8 rfl rfl)
theorem dJ6_grow_126 : decode cJ6_grow 126 = .ok (.getfield 24, 3) := dk_180 0 24 (dk_at dksJ6_grow_5 9 rfl rfl)
theorem dJ6_grow_129 : decode cJ6_grow 129 = .ok (.istore 7, 2) := dk_54 7 (dk_at dksJ6_grow_5 12 rfl rfl)
theorem dJ6_grow_131 : decode cJ6_grow 131 = .ok (.aload_n 0, 1) := dk_42 (dk_at dksJ6_grow_5 14 rfl rfl)
theorem dJ6_grow_132 : decode cJ6_grow 132 = .ok (.dup, 1) := dk_89 (dk_at dksJ6_grow_5 15 rfl rfl)
theorem dJ6_grow_133 : decode cJ6_grow 133 = .ok (.getfield 24, 3) := dk_180 0 24 (dk_at dksJ6_grow_5 16 rfl rfl)
theorem dJ6_grow_136 : decode cJ6_grow 136 = .ok (.iload 6, 2) := dk_21 6 (dk_at dksJ6_grow_5 19 rfl rfl)
theorem dJ6_grow_138 : decode cJ6_grow 138 = .ok (.iadd, 1) := dk_96 (dk_at dksJ6_grow_5 21 rfl rfl)
theorem dJ6_grow_139 : decode cJ6_grow 139 = .ok (.dup_x1, 1) := dk_90 (dk_at dksJ6_grow_5 22 rfl rfl)
theorem dJ6_grow_140 : decode cJ6_grow 140 = .ok (.putfield 24, 3) := dk_181 0 24 (dk_at dksJ6_grow_6 0 rfl rfl)
theorem dJ6_grow_143 : decode cJ6_grow 143 = .ok (.istore 8, 2) := dk_54 8 (dk_at dksJ6_grow_6 3 rfl rfl)
theorem dJ6_grow_145 : decode cJ6_grow 145 = .ok (.iload 7, 2) := dk_21 7 (dk_at dksJ6_grow_6 5 rfl rfl)
theorem dJ6_grow_147 : decode cJ6_grow 147 = .ok (.iload 8, 2) := dk_21 8 (dk_at dksJ6_grow_6 7 rfl rfl)
theorem dJ6_grow_149 : decode cJ6_grow 149 = .ok (.if_icmp .ge 15, 3) := dk_162 0 15 (dk_at dksJ6_grow_6 9 rfl rfl)
theorem dJ6_grow_152 : decode cJ6_grow 152 = .ok (.aload 5, 2) := dk_25 5 (dk_at dksJ6_grow_6 12 rfl rfl)
theorem dJ6_grow_154 : decode cJ6_grow 154 = .ok (.iload 7, 2) := dk_21 7 (dk_at dksJ6_grow_6 14 rfl rfl)
theorem dJ6_grow_156 : decode cJ6_grow 156 = .ok (.aconst_null, 1) := dk_1 (dk_at dksJ6_grow_6 16 rfl rfl)
theorem dJ6_grow_157 : decode cJ6_grow 157 = .ok (.aastore, 1) := dk_83 (dk_at dksJ6_grow_6 17 rfl rfl)
theorem dJ6_grow_158 : decode cJ6_grow 158 = .ok (.iinc 7 1, 3) := dk_132 7 1 (dk_at dksJ6_grow_6 18 rfl rfl)
theorem dJ6_grow_161 : decode cJ6_grow 161 = .ok (.goto (-16), 3) := dk_167 255 240 (dk_at dksJ6_grow_6 21 rfl rfl)
theorem dJ6_grow_164 : decode cJ6_grow 164 = .ok (.return_, 1) := dk_177 (dk_at dksJ6_grow_7 0 rfl rfl)
def dkwJ6_newCapacity_2 : List UInt8 := [18, 9, 100, 156, 0, 9, 29, 28, 96, 167, 0, 5, 18, 9, 172]
abbrev dktJ6_newCapacity_2 : List UInt8 := dkwJ6_newCapacity_2 ++ []
def dkwJ6_newCapacity_1 : List UInt8 := [187, 0, 33, 89, 18, 35, 183, 0, 37, 191, 18, 41, 172, 27, 28, 164, 0, 6, 21, 4, 172, 29, 28, 96]
abbrev dktJ6_newCapacity_1 : List UInt8 := dkwJ6_newCapacity_1 ++ dktJ6_newCapacity_2
def dkwJ6_newCapacity_0 : List UInt8 := [42, 180, 0, 3, 190, 62, 29, 27, 96, 89, 54, 4, 18, 9, 100, 158, 0, 21, 21, 4, 156, 0, 13]
abbrev dktJ6_newCapacity_0 : List UInt8 := dkwJ6_newCapacity_0 ++ dktJ6_newCapacity_1
theorem dksJ6_newCapacity_0 : cJ6_newCapacity.data.toList.drop 0 = dktJ6_newCapacity_0 := by decide +kernel
theorem dksJ6_newCapacity_1 : cJ6_newCapacity.data.toList.drop 23 = dktJ6_newCapacity_1 := dk_seg dksJ6_newCapacity_0 23 rfl rfl
theorem dksJ6_newCapacity_2 : cJ6_newCapacity.data.toList.drop 47 = dktJ6_newCapacity_2 := dk_seg dksJ6_newCapacity_1 24 rfl rfl
theorem dJ6_newCapacity_0 : decode cJ6_newCapacity 0 = .ok (.aload_n 0, 1) := dk_42 (dk_at dksJ6_newCapacity_0 0 rfl rfl)
theorem dJ6_newCapacity_1 : decode cJ6_newCapacity 1 = .ok (.getfield 3, 3) := dk_180 0 3 (dk_at dksJ6_newCapacity_0 1 rfl rfl)
theorem dJ6_newCapacity_4 : decode cJ6_newCapacity 4 = .ok (.arraylength, 1) := dk_190 (dk_at dksJ6_newCapacity_0 4 rfl rfl)
theorem dJ6_newCapacity_5 : decode cJ6_newCapacity 5 = .ok (.istore_n 3, 1) := dk_62 (dk_at dksJ6_newCapacity_0 5 rfl rfl)
theorem dJ6_newCapacity_6 : decode cJ6_newCapacity 6 = .ok (.iload_n 3, 1) := dk_29 (dk_at dksJ6_newCapacity_0 6 rfl rfl)
theorem dJ6_newCapacity_7 : decode cJ6_newCapacity 7 = .ok (.iload_n 1, 1) := dk_27 (dk_at dksJ6_newCapacity_0 7 rfl rfl)
theorem dJ6_newCapacity_8 : decode cJ6_newCapacity 8 = .ok (.iadd, 1) := dk_96 (dk_at dksJ6_newCapacity_0 8 rfl rfl)
theorem dJ6_newCapacity_9 : decode cJ6_newCapacity 9 = .ok (.dup, 1) := dk_89 (dk_at dksJ6_newCapacity_0 9 rfl rfl)
theorem dJ6_newCapacity_10 : decode cJ6_newCapacity 10 = .ok (.istore 4, 2) := dk_54 4 (dk_at dksJ6_newCapacity_0 10 rfl rfl)
theorem dJ6_newCapacity_12 : decode cJ6_newCapacity 12 = .ok (.ldc 9, 2) := dk_18 9 (dk_at dksJ6_newCapacity_0 12 rfl rfl)
theorem dJ6_newCapacity_14 : decode cJ6_newCapacity 14 = .ok (.isub, 1) := dk_100 (dk_at dksJ6_newCapacity_0 14 rfl rfl)
theorem dJ6_newCapacity_15 : decode cJ6_newCapacity 15 = .ok (.ifCond .le 21, 3) := dk_158 0 21 (dk_at dksJ6_newCapacity_0 15 rfl rfl)
theorem dJ6_newCapacity_18 : decode cJ6_newCapacity 18 = .ok (.iload 4, 2) := dk_21 4 (dk_at dksJ6_newCapacity_0 18 rfl rfl)
theorem dJ6_newCapacity_20 : decode cJ6_newCapacity 20 = .ok (.ifCond .ge 13, 3) := dk_156 0 13 (dk_at dksJ6_newCapacity_0 20 rfl rfl)
theorem dJ6_newCapacity_23 : decode cJ6_newCapacity 23 = .ok (.new 33, 3) := dk_187 0 33 (dk_at dksJ6_newCapacity_1 0 rfl rfl)
theorem dJ6_newCapacity_26 : decode cJ6_newCapacity 26 = .ok (.dup, 1) := dk_89 (dk_at dksJ6_newCapacity_1 3 rfl rfl)
theorem dJ6_newCapacity_27 : decode cJ6_newCapacity 27 = .ok (.ldc 35, 2) := dk_18 35 (dk_at dksJ6_newCapacity_1 4 rfl rfl)
theorem dJ6_newCapacity_29 : decode cJ6_newCapacity 29 = .ok (.invokespecial 37, 3) := dk_183 0 37 (dk_at dksJ6_newCapacity_1 6 rfl rfl)
theorem dJ6_newCapacity_32 : decode cJ6_newCapacity 32 = .ok (.athrow, 1) := dk_191 (dk_at dksJ6_newCapacity_1 9 rfl rfl)
theorem dJ6_newCapacity_33 : decode cJ6_newCapacity 33 = .ok (.ldc 41, 2) := dk_18 41 (dk_at dksJ6_newCapacity_1 10 rfl rfl)
theorem dJ6_newCapacity_35 : decode cJ6_newCapacity 35 = .ok (.ireturn, 1) := dk_172 (dk_at dksJ6_newCapacity_1 12 rfl rfl)
theorem dJ6_newCapacity_36 : decode cJ6_newCapacity 36 = .ok (.iload_n 1, 1) := dk_27 (dk_at dksJ6_newCapacity_1 13 rfl rfl)
theorem dJ6_newCapacity_37 : decode cJ6_newCapacity 37 = .ok (.iload_n 2, 1) := dk_28 (dk_at dksJ6_newCapacity_1 14 rfl rfl)
theorem dJ6_newCapacity_38 : decode cJ6_newCapacity 38 = .ok (.if_icmp .le 6, 3) := dk_164 0 6 (dk_at dksJ6_newCapacity_1 15 rfl rfl)
theorem dJ6_newCapacity_41 : decode cJ6_newCapacity 41 = .ok (.iload 4, 2) := dk_21 4 (dk_at dksJ6_newCapacity_1 18 rfl rfl)
theorem dJ6_newCapacity_43 : decode cJ6_newCapacity 43 = .ok (.ireturn, 1) := dk_172 (dk_at dksJ6_newCapacity_1 20 rfl rfl)
theorem dJ6_newCapacity_44 : decode cJ6_newCapacity 44 = .ok (.iload_n 3, 1) := dk_29 (dk_at dksJ6_newCapacity_1 21 rfl rfl)
theorem dJ6_newCapacity_45 : decode cJ6_newCapacity 45 = .ok (.iload_n 2, 1) := dk_28 (dk_at dksJ6_newCapacity_1 22 rfl rfl)
theorem dJ6_newCapacity_46 : decode cJ6_newCapacity 46 = .ok (.iadd, 1) := dk_96 (dk_at dksJ6_newCapacity_1 23 rfl rfl)
theorem dJ6_newCapacity_47 : decode cJ6_newCapacity 47 = .ok (.ldc 9, 2) := dk_18 9 (dk_at dksJ6_newCapacity_2 0 rfl rfl)
theorem dJ6_newCapacity_49 : decode cJ6_newCapacity 49 = .ok (.isub, 1) := dk_100 (dk_at dksJ6_newCapacity_2 2 rfl rfl)
theorem dJ6_newCapacity_50 : decode cJ6_newCapacity 50 = .ok (.ifCond .ge 9, 3) := dk_156 0 9 (dk_at dksJ6_newCapacity_2 3 rfl rfl)
theorem dJ6_newCapacity_53 : decode cJ6_newCapacity 53 = .ok (.iload_n 3, 1) := dk_29 (dk_at dksJ6_newCapacity_2 6 rfl rfl)
theorem dJ6_newCapacity_54 : decode cJ6_newCapacity 54 = .ok (.iload_n 2, 1) := dk_28 (dk_at dksJ6_newCapacity_2 7 rfl rfl)
theorem dJ6_newCapacity_55 : decode cJ6_newCapacity 55 = .ok (.iadd, 1) := dk_96 (dk_at dksJ6_newCapacity_2 8 rfl rfl)
theorem dJ6_newCapacity_56 : decode cJ6_newCapacity 56 = .ok (.goto 5, 3) := dk_167 0 5 (dk_at dksJ6_newCapacity_2 9 rfl rfl)
theorem dJ6_newCapacity_59 : decode cJ6_newCapacity 59 = .ok (.ldc 9, 2) := dk_18 9 (dk_at dksJ6_newCapacity_2 12 rfl rfl)
theorem dJ6_newCapacity_61 : decode cJ6_newCapacity 61 = .ok (.ireturn, 1) := dk_172 (dk_at dksJ6_newCapacity_2 14 rfl rfl)
def dkwJ6_removeFirst_0 : List UInt8 := [42, 182, 0, 93, 76, 43, 199, 0, 11, 187, 0, 97, 89, 183, 0, 99, 191, 43, 176]
abbrev dktJ6_removeFirst_0 : List UInt8 := dkwJ6_removeFirst_0 ++ []
theorem dksJ6_removeFirst_0 : cJ6_removeFirst.data.toList.drop 0 = dktJ6_removeFirst_0 := by decide +kernel
theorem dJ6_removeFirst_0 : decode cJ6_removeFirst 0 = .ok (.aload_n 0, 1) := dk_42 (dk_at dksJ6_removeFirst_0 0 rfl rfl)
theorem dJ6_removeFirst_1 : decode cJ6_removeFirst 1 = .ok (.invokevirtual 93, 3) := dk_182 0 93 (dk_at dksJ6_removeFirst_0 1 rfl rfl)
theorem dJ6_removeFirst_4 : decode cJ6_removeFirst 4 = .ok (.astore_n 1, 1) := dk_76 (dk_at dksJ6_removeFirst_0 4 rfl rfl)
theorem dJ6_removeFirst_5 : decode cJ6_removeFirst 5 = .ok (.aload_n 1, 1) := dk_43 (dk_at dksJ6_removeFirst_0 5 rfl rfl)
theorem dJ6_removeFirst_6 : decode cJ6_removeFirst 6 = .ok (.ifnonnull 11, 3) := dk_199 0 11 (dk_at dksJ6_removeFirst_0 6 rfl rfl)
theorem dJ6_removeFirst_9 : decode cJ6_removeFirst 9 = .ok (.new 97, 3) := dk_187 0 97 (dk_at dksJ6_removeFirst_0 9 rfl rfl)
theorem dJ6_removeFirst_12 : decode cJ6_removeFirst 12 = .ok (.dup, 1) := dk_89 (dk_at dksJ6_removeFirst_0 12 rfl rfl)
theorem dJ6_removeFirst_13 : decode cJ6_removeFirst 13 = .ok (.invokespecial 99, 3) := dk_183 0 99 (dk_at dksJ6_removeFirst_0 13 rfl rfl)
theorem dJ6_removeFirst_16 : decode cJ6_removeFirst 16 = .ok (.athrow, 1) := dk_191 (dk_at dksJ6_removeFirst_0 16 rfl rfl)
theorem dJ6_removeFirst_17 : decode cJ6_removeFirst 17 = .ok (.aload_n 1, 1) := dk_43 (dk_at dksJ6_removeFirst_0 17 rfl rfl)
theorem dJ6_removeFirst_18 : decode cJ6_removeFirst 18 = .ok (.areturn, 1) := dk_176 (dk_at dksJ6_removeFirst_0 18 rfl rfl)
def dkwJ6_pollFirst_1 : List UInt8 := [42, 28, 43, 190, 184, 0, 74, 181, 0, 24, 45, 176]
abbrev dktJ6_pollFirst_1 : List UInt8 := dkwJ6_pollFirst_1 ++ []
def dkwJ6_pollFirst_0 : List UInt8 := [42, 180, 0, 3, 89, 76, 42, 180, 0, 24, 89, 61, 184, 0, 103, 78, 45, 198, 0, 17, 43, 28, 1, 83]
abbrev dktJ6_pollFirst_0 : List UInt8 := dkwJ6_pollFirst_0 ++ dktJ6_pollFirst_1
theorem dksJ6_pollFirst_0 : cJ6_pollFirst.data.toList.drop 0 = dktJ6_pollFirst_0 := by decide +kernel
theorem dksJ6_pollFirst_1 : cJ6_pollFirst.data.toList.drop 24 = dktJ6_pollFirst_1 := dk_seg dksJ6_pollFirst_0 24 rfl rfl
theorem dJ6_pollFirst_0 : decode cJ6_pollFirst 0 = .ok (.aload_n 0, 1) := dk_42 (dk_at dksJ6_pollFirst_0 0 rfl rfl)
theorem dJ6_pollFirst_1 : decode cJ6_pollFirst 1 = .ok (.getfield 3, 3) := dk_180 0 3 (dk_at dksJ6_pollFirst_0 1 rfl rfl)
theorem dJ6_pollFirst_4 : decode cJ6_pollFirst 4 = .ok (.dup, 1) := dk_89 (dk_at dksJ6_pollFirst_0 4 rfl rfl)
theorem dJ6_pollFirst_5 : decode cJ6_pollFirst 5 = .ok (.astore_n 1, 1) := dk_76 (dk_at dksJ6_pollFirst_0 5 rfl rfl)
theorem dJ6_pollFirst_6 : decode cJ6_pollFirst 6 = .ok (.aload_n 0, 1) := dk_42 (dk_at dksJ6_pollFirst_0 6 rfl rfl)
theorem dJ6_pollFirst_7 : decode cJ6_pollFirst 7 = .ok (.getfield 24, 3) := dk_180 0 24 (dk_at dksJ6_pollFirst_0 7 rfl rfl)
theorem dJ6_pollFirst_10 : decode cJ6_pollFirst 10 = .ok (.dup, 1) := dk_89 (dk_at dksJ6_pollFirst_0 10 rfl rfl)
theorem dJ6_pollFirst_11 : decode cJ6_pollFirst 11 = .ok (.istore_n 2, 1) := dk_61 (dk_at dksJ6_pollFirst_0 11 rfl rfl)
theorem dJ6_pollFirst_12 : decode cJ6_pollFirst 12 = .ok (.invokestatic 103, 3) := dk_184 0 103 (dk_at dksJ6_pollFirst_0 12 rfl rfl)
theorem dJ6_pollFirst_15 : decode cJ6_pollFirst 15 = .ok (.astore_n 3, 1) := dk_78 (dk_at dksJ6_pollFirst_0 15 rfl rfl)
theorem dJ6_pollFirst_16 : decode cJ6_pollFirst 16 = .ok (.aload_n 3, 1) := dk_45 (dk_at dksJ6_pollFirst_0 16 rfl rfl)
theorem dJ6_pollFirst_17 : decode cJ6_pollFirst 17 = .ok (.ifnull 17, 3) := dk_198 0 17 (dk_at dksJ6_pollFirst_0 17 rfl rfl)
theorem dJ6_pollFirst_20 : decode cJ6_pollFirst 20 = .ok (.aload_n 1, 1) := dk_43 (dk_at dksJ6_pollFirst_0 20 rfl rfl)
theorem dJ6_pollFirst_21 : decode cJ6_pollFirst 21 = .ok (.iload_n 2, 1) := dk_28 (dk_at dksJ6_pollFirst_0 21 rfl rfl)
theorem dJ6_pollFirst_22 : decode cJ6_pollFirst 22 = .ok (.aconst_null, 1) := dk_1 (dk_at dksJ6_pollFirst_0 22 rfl rfl)
theorem dJ6_pollFirst_23 : decode cJ6_pollFirst 23 = .ok (.aastore, 1) := dk_83 (dk_at dksJ6_pollFirst_0 23 rfl rfl)
theorem dJ6_pollFirst_24 : decode cJ6_pollFirst 24 = .ok (.aload_n 0, 1) := dk_42 (dk_at dksJ6_pollFirst_1 0 rfl rfl)
theorem dJ6_pollFirst_25 : decode cJ6_pollFirst 25 = .ok (.iload_n 2, 1) := dk_28 (dk_at dksJ6_pollFirst_1 1 rfl rfl)
theorem dJ6_pollFirst_26 : decode cJ6_pollFirst 26 = .ok (.aload_n 1, 1) := dk_43 (dk_at dksJ6_pollFirst_1 2 rfl rfl)
theorem dJ6_pollFirst_27 : decode cJ6_pollFirst 27 = .ok (.arraylength, 1) := dk_190 (dk_at dksJ6_pollFirst_1 3 rfl rfl)
theorem dJ6_pollFirst_28 : decode cJ6_pollFirst 28 = .ok (.invokestatic 74, 3) := dk_184 0 74 (dk_at dksJ6_pollFirst_1 4 rfl rfl)
theorem dJ6_pollFirst_31 : decode cJ6_pollFirst 31 = .ok (.putfield 24, 3) := dk_181 0 24 (dk_at dksJ6_pollFirst_1 7 rfl rfl)
theorem dJ6_pollFirst_34 : decode cJ6_pollFirst 34 = .ok (.aload_n 3, 1) := dk_45 (dk_at dksJ6_pollFirst_1 10 rfl rfl)
theorem dJ6_pollFirst_35 : decode cJ6_pollFirst 35 = .ok (.areturn, 1) := dk_176 (dk_at dksJ6_pollFirst_1 11 rfl rfl)
def dkwJ6_elementAt_0 : List UInt8 := [42, 27, 50, 176]
abbrev dktJ6_elementAt_0 : List UInt8 := dkwJ6_elementAt_0 ++ []
theorem dksJ6_elementAt_0 : cJ6_elementAt.data.toList.drop 0 = dktJ6_elementAt_0 := by decide +kernel
theorem dJ6_elementAt_0 : decode cJ6_elementAt 0 = .ok (.aload_n 0, 1) := dk_42 (dk_at dksJ6_elementAt_0 0 rfl rfl)
theorem dJ6_elementAt_1 : decode cJ6_elementAt 1 = .ok (.iload_n 1, 1) := dk_27 (dk_at dksJ6_elementAt_0 1 rfl rfl)
theorem dJ6_elementAt_2 : decode cJ6_elementAt 2 = .ok (.aaload, 1) := dk_50 (dk_at dksJ6_elementAt_0 2 rfl rfl)
theorem dJ6_elementAt_3 : decode cJ6_elementAt 3 = .ok (.areturn, 1) := dk_176 (dk_at dksJ6_elementAt_0 3 rfl rfl)
def dkwJ6_isEmpty_0 : List UInt8 := [42, 180, 0, 24, 42, 180, 0, 20, 160, 0, 7, 4, 167, 0, 4, 3, 172]
abbrev dktJ6_isEmpty_0 : List UInt8 := dkwJ6_isEmpty_0 ++ []
theorem dksJ6_isEmpty_0 : cJ6_isEmpty.data.toList.drop 0 = dktJ6_isEmpty_0 := by decide +kernel
theorem dJ6_isEmpty_0 : decode cJ6_isEmpty 0 = .ok (.aload_n 0, 1) := dk_42 (dk_at dksJ6_isEmpty_0 0 rfl rfl)
theorem dJ6_isEmpty_1 : decode cJ6_isEmpty 1 = .ok (.getfield 24, 3) := dk_180 0 24 (dk_at dksJ6_isEmpty_0 1 rfl rfl)
theorem dJ6_isEmpty_4 : decode cJ6_isEmpty 4 = .ok (.aload_n 0, 1) := dk_42 (dk_at dksJ6_isEmpty_0 4 rfl rfl)
theorem dJ6_isEmpty_5 : decode cJ6_isEmpty 5 = .ok (.getfield 20, 3) := dk_180 0 20 (dk_at dksJ6_isEmpty_0 5 rfl rfl)
theorem dJ6_isEmpty_8 : decode cJ6_isEmpty 8 = .ok (.if_icmp .ne 7, 3) := dk_160 0 7 (dk_at dksJ6_isEmpty_0 8 rfl rfl)
theorem dJ6_isEmpty_11 : decode cJ6_isEmpty 11 = .ok (.iconst 1, 1) := dk_4 (dk_at dksJ6_isEmpty_0 11 rfl rfl)
theorem dJ6_isEmpty_12 : decode cJ6_isEmpty 12 = .ok (.goto 4, 3) := dk_167 0 4 (dk_at dksJ6_isEmpty_0 12 rfl rfl)
theorem dJ6_isEmpty_15 : decode cJ6_isEmpty 15 = .ok (.iconst 0, 1) := dk_3 (dk_at dksJ6_isEmpty_0 15 rfl rfl)
theorem dJ6_isEmpty_16 : decode cJ6_isEmpty 16 = .ok (.ireturn, 1) := dk_172 (dk_at dksJ6_isEmpty_0 16 rfl rfl)
def dkwJ6_removeLast_0 : List UInt8 := [42, 182, 0, 100, 76, 43, 199, 0, 11, 187, 0, 97, 89, 183, 0, 99, 191, 43, 176]
abbrev dktJ6_removeLast_0 : List UInt8 := dkwJ6_removeLast_0 ++ []
theorem dksJ6_removeLast_0 : cJ6_removeLast.data.toList.drop 0 = dktJ6_removeLast_0 := by decide +kernel
theorem dJ6_removeLast_0 : decode cJ6_removeLast 0 = .ok (.aload_n 0, 1) := dk_42 (dk_at dksJ6_removeLast_0 0 rfl rfl)
theorem dJ6_removeLast_1 : decode cJ6_removeLast 1 = .ok (.invokevirtual 100, 3) := dk_182 0 100 (dk_at dksJ6_removeLast_0 1 rfl rfl)
theorem dJ6_removeLast_4 : decode cJ6_removeLast 4 = .ok (.astore_n 1, 1) := dk_76 (dk_at dksJ6_removeLast_0 4 rfl rfl)
theorem dJ6_removeLast_5 : decode cJ6_removeLast 5 = .ok (.aload_n 1, 1) := dk_43 (dk_at dksJ6_removeLast_0 5 rfl rfl)
theorem dJ6_removeLast_6 : decode cJ6_removeLast 6 = .ok (.ifnonnull 11, 3) := dk_199 0 11 (dk_at dksJ6_removeLast_0 6 rfl rfl)
theorem dJ6_removeLast_9 : decode cJ6_removeLast 9 = .ok (.new 97, 3) := dk_187 0 97 (dk_at dksJ6_removeLast_0 9 rfl rfl)
theorem dJ6_removeLast_12 : decode cJ6_removeLast 12 = .ok (.dup, 1) := dk_89 (dk_at dksJ6_removeLast_0 12 rfl rfl)
theorem dJ6_removeLast_13 : decode cJ6_removeLast 13 = .ok (.invokespecial 99, 3) := dk_183 0 99 (dk_at dksJ6_removeLast_0 13 rfl rfl)
theorem dJ6_removeLast_16 : decode cJ6_removeLast 16 = .ok (.athrow, 1) := dk_191 (dk_at dksJ6_removeLast_0 16 rfl rfl)
theorem dJ6_removeLast_17 : decode cJ6_removeLast 17 = .ok (.aload_n 1, 1) := dk_43 (dk_at dksJ6_removeLast_0 17 rfl rfl)
theorem dJ6_removeLast_18 : decode cJ6_removeLast 18 = .ok (.areturn, 1) := dk_176 (dk_at dksJ6_removeLast_0 18 rfl rfl)
def dkwJ6_pollLast_1 : List UInt8 := [198, 0, 12, 43, 42, 28, 90, 181, 0, 20, 1, 83, 45, 176]
abbrev dktJ6_pollLast_1 : List UInt8 := dkwJ6_pollLast_1 ++ []
def dkwJ6_pollLast_0 : List UInt8 := [42, 180, 0, 3, 89, 76, 42, 180, 0, 20, 43, 190, 184, 0, 68, 89, 61, 184, 0, 103, 78, 45]
abbrev dktJ6_pollLast_0 : List UInt8 := dkwJ6_pollLast_0 ++ dktJ6_pollLast_1
theorem dksJ6_pollLast_0 : cJ6_pollLast.data.toList.drop 0 = dktJ6_pollLast_0 := by decide +kernel
theorem dksJ6_pollLast_1 : cJ6_pollLast.data.toList.drop 22 = dktJ6_pollLast_1 := dk_seg dksJ6_pollLast_0 22 rfl rfl
theorem dJ6_pollLast_0 : decode cJ6_pollLast 0 = .ok (.aload_n 0, 1) := dk_42 (dk_at dksJ6_pollLast_0 0 rfl rfl)
theorem dJ6_pollLast_1 : decode cJ6_pollLast 1 = .ok (.getfield 3, 3) := dk_180 0 3 (dk_at dksJ6_pollLast_0 1 rfl rfl)
theorem dJ6_pollLast_4 : decode cJ6_pollLast 4 = .ok (.dup, 1) := dk_89 (dk_at dksJ6_pollLast_0 4 rfl rfl)
theorem dJ6_pollLast_5 : decode cJ6_pollLast 5 = .ok (.astore_n 1, 1) := dk_76 (dk_at dksJ6_pollLast_0 5 rfl rfl)
theorem dJ6_pollLast_6 : decode cJ6_pollLast 6 = .ok (.aload_n 0, 1) := dk_42 (dk_at dksJ6_pollLast_0 6 rfl rfl)
theorem dJ6_pollLast_7 : decode cJ6_pollLast 7 = .ok (.getfield 20, 3) := dk_180 0 20 (dk_at dksJ6_pollLast_0 7 rfl rfl)
theorem dJ6_pollLast_10 : decode cJ6_pollLast 10 = .ok (.aload_n 1, 1) := dk_43 (dk_at dksJ6_pollLast_0 10 rfl rfl)
theorem dJ6_pollLast_11 : decode cJ6_pollLast 11 = .ok (.arraylength, 1) := dk_190 (dk_at dksJ6_pollLast_0 11 rfl rfl)
theorem dJ6_pollLast_12 : decode cJ6_pollLast 12 = .ok (.invokestatic 68, 3) := dk_184 0 68 (dk_at dksJ6_pollLast_0 12 rfl rfl)
theorem dJ6_pollLast_15 : decode cJ6_pollLast 15 = .ok (.dup, 1) := dk_89 (dk_at dksJ6_pollLast_0 15 rfl rfl)
theorem dJ6_pollLast_16 : decode cJ6_pollLast 16 = .ok (.istore_n 2, 1) := dk_61 (dk_at dksJ6_pollLast_0 16 rfl rfl)
theorem dJ6_pollLast_17 : decode cJ6_pollLast 17 = .ok (.invokestatic 103, 3) := dk_184 0 103 (dk_at dksJ6_pollLast_0 17 rfl rfl)
theorem dJ6_pollLast_20 : decode cJ6_pollLast 20 = .ok (.astore_n 3, 1) := dk_78 (dk_at dksJ6_pollLast_0 20 rfl rfl)
theorem dJ6_pollLast_21 : decode cJ6_pollLast 21 = .ok (.aload_n 3, 1) := dk_45 (dk_at dksJ6_pollLast_0 21 rfl rfl)
theorem dJ6_pollLast_22 : decode cJ6_pollLast 22 = .ok (.ifnull 12, 3) := dk_198 0 12 (dk_at dksJ6_pollLast_1 0 rfl rfl)
theorem dJ6_pollLast_25 : decode cJ6_pollLast 25 = .ok (.aload_n 1, 1) := dk_43 (dk_at dksJ6_pollLast_1 3 rfl rfl)
theorem dJ6_pollLast_26 : decode cJ6_pollLast 26 = .ok (.aload_n 0, 1) := dk_42 (dk_at dksJ6_pollLast_1 4 rfl rfl)
theorem dJ6_pollLast_27 : decode cJ6_pollLast 27 = .ok (.iload_n 2, 1) := dk_28 (dk_at dksJ6_pollLast_1 5 rfl rfl)
theorem dJ6_pollLast_28 : decode cJ6_pollLast 28 = .ok (.dup_x1, 1) := dk_90 (dk_at dksJ6_pollLast_1 6 rfl rfl)
theorem dJ6_pollLast_29 : decode cJ6_pollLast 29 = .ok (.putfield 20, 3) := dk_181 0 20 (dk_at dksJ6_pollLast_1 7 rfl rfl)
theorem dJ6_pollLast_32 : decode cJ6_pollLast 32 = .ok (.aconst_null, 1) := dk_1 (dk_at dksJ6_pollLast_1 10 rfl rfl)
theorem dJ6_pollLast_33 : decode cJ6_pollLast 33 = .ok (.aastore, 1) := dk_83 (dk_at dksJ6_pollLast_1 11 rfl rfl)
theorem dJ6_pollLast_34 : decode cJ6_pollLast 34 = .ok (.aload_n 3, 1) := dk_45 (dk_at dksJ6_pollLast_1 12 rfl rfl)
theorem dJ6_pollLast_35 : decode cJ6_pollLast 35 = .ok (.areturn, 1) := dk_176 (dk_at dksJ6_pollLast_1 13 rfl rfl)
def dkwJ6_dec_0 : List UInt8 := [132, 0, 255, 26, 156, 0, 7, 27, 4, 100, 59, 26, 172]
abbrev dktJ6_dec_0 : List UInt8 := dkwJ6_dec_0 ++ []
theorem dksJ6_dec_0 : cJ6_dec.data.toList.drop 0 = dktJ6_dec_0 := by decide +kernel
theorem dJ6_dec_0 : decode cJ6_dec 0 = .ok (.iinc 0 (-1), 3) := dk_132 0 255 (dk_at dksJ6_dec_0 0 rfl rfl)
theorem dJ6_dec_3 : decode cJ6_dec 3 = .ok (.iload_n 0, 1) := dk_26 (dk_at dksJ6_dec_0 3 rfl rfl)
theorem dJ6_dec_4 : decode cJ6_dec 4 = .ok (.ifCond .ge 7, 3) := dk_156 0 7 (dk_at dksJ6_dec_0 4 rfl rfl)
theorem dJ6_dec_7 : decode cJ6_dec 7 = .ok (.iload_n 1, 1) := dk_27 (dk_at dksJ6_dec_0 7 rfl rfl)
theorem dJ6_dec_8 : decode cJ6_dec 8 = .ok (.iconst 1, 1) := dk_4 (dk_at dksJ6_dec_0 8 rfl rfl)
theorem dJ6_dec_9 : decode cJ6_dec 9 = .ok (.isub, 1) := dk_100 (dk_at dksJ6_dec_0 9 rfl rfl)
theorem dJ6_dec_10 : decode cJ6_dec 10 = .ok (.istore_n 0, 1) := dk_59 (dk_at dksJ6_dec_0 10 rfl rfl)
theorem dJ6_dec_11 : decode cJ6_dec 11 = .ok (.iload_n 0, 1) := dk_26 (dk_at dksJ6_dec_0 11 rfl rfl)
theorem dJ6_dec_12 : decode cJ6_dec 12 = .ok (.ireturn, 1) := dk_172 (dk_at dksJ6_dec_0 12 rfl rfl)
def dkwJ6_clear_1 : List UInt8 := [181, 0, 24, 177]
abbrev dktJ6_clear_1 : List UInt8 := dkwJ6_clear_1 ++ []
def dkwJ6_clear_0 : List UInt8 := [42, 180, 0, 3, 42, 180, 0, 24, 42, 180, 0, 20, 184, 0, 181, 42, 42, 3, 90, 181, 0, 20]
abbrev dktJ6_clear_0 : List UInt8 := dkwJ6_clear_0 ++ dktJ6_clear_1
theorem dksJ6_clear_0 : cJ6_clear.data.toList.drop 0 = dktJ6_clear_0 := by decide +kernel
theorem dksJ6_clear_1 : cJ6_clear.data.toList.drop 22 = dktJ6_clear_1 := dk_seg dksJ6_clear_0 22 rfl rfl
theorem dJ6_clear_0 : decode cJ6_clear 0 = .ok (.aload_n 0, 1) := dk_42 (dk_at dksJ6_clear_0 0 rfl rfl)
theorem dJ6_clear_1 : decode cJ6_clear 1 = .ok (.getfield 3, 3) := dk_180 0 3 (dk_at dksJ6_clear_0 1 rfl rfl)
theorem dJ6_clear_4 : decode cJ6_clear 4 = .ok (.aload_n 0, 1) := dk_42 (dk_at dksJ6_clear_0 4 rfl rfl)
theorem dJ6_clear_5 : decode cJ6_clear 5 = .ok (.getfield 24, 3) := dk_180 0 24 (dk_at dksJ6_clear_0 5 rfl rfl)
theorem dJ6_clear_8 : decode cJ6_clear 8 = .ok (.aload_n 0, 1) := dk_42 (dk_at dksJ6_clear_0 8 rfl rfl)
theorem dJ6_clear_9 : decode cJ6_clear 9 = .ok (.getfield 20, 3) := dk_180 0 20 (dk_at dksJ6_clear_0 9 rfl rfl)
theorem dJ6_clear_12 : decode cJ6_clear 12 = .ok (.invokestatic 181, 3) := dk_184 0 181 (dk_at dksJ6_clear_0 12 rfl rfl)
theorem dJ6_clear_15 : decode cJ6_clear 15 = .ok (.aload_n 0, 1) := dk_42 (dk_at dksJ6_clear_0 15 rfl rfl)
theorem dJ6_clear_16 : decode cJ6_clear 16 = .ok (.aload_n 0, 1) := dk_42 (dk_at dksJ6_clear_0 16 rfl rfl)
theorem dJ6_clear_17 : decode cJ6_clear 17 = .ok (.iconst 0, 1) := dk_3 (dk_at dksJ6_clear_0 17 rfl rfl)
theorem dJ6_clear_18 : decode cJ6_clear 18 = .ok (.dup_x1, 1) := dk_90 (dk_at dksJ6_clear_0 18 rfl rfl)
theorem dJ6_clear_19 : decode cJ6_clear 19 = .ok (.putfield 20, 3) := dk_181 0 20 (dk_at dksJ6_clear_0 19 rfl rfl)
theorem dJ6_clear_22 : decode cJ6_clear 22 = .ok (.putfield 24, 3) := dk_181 0 24 (dk_at dksJ6_clear_1 0 rfl rfl)
theorem dJ6_clear_25 : decode cJ6_clear 25 = .ok (.return_, 1) := dk_177 (dk_at dksJ6_clear_1 3 rfl rfl)
def dkwJ6_circularClear_1 : List UInt8 := [167, 255, 244, 29, 28, 160, 0, 6, 167, 0, 10, 3, 60, 28, 62, 167, 255, 229, 177]
abbrev dktJ6_circularClear_1 : List UInt8 := dkwJ6_circularClear_1 ++ []
def dkwJ6_circularClear_0 : List UInt8 := [27, 28, 163, 0, 7, 28, 167, 0, 5, 42, 190, 62, 27, 29, 162, 0, 13, 42, 27, 1, 83, 132, 1, 1]
abbrev dktJ6_circularClear_0 : List UInt8 := dkwJ6_circularClear_0 ++ dktJ6_circularClear_1
theorem dksJ6_circularClear_0 : cJ6_circularClear.data.toList.drop 0 = dktJ6_circularClear_0 := by decide +kernel
theorem dksJ6_circularClear_1 : cJ6_circularClear.data.toList.drop 24 = dktJ6_circularClear_1 := dk_seg dksJ6_circularClear_0 24 rfl rfl
theorem dJ6_circularClear_0 : decode cJ6_circularClear 0 = .ok (.iload_n 1, 1) := dk_27 (dk_at dksJ6_circularClear_0 0 rfl rfl)
theorem dJ6_circularClear_1 : decode cJ6_circularClear 1 = .ok (.iload_n 2, 1) := dk_28 (dk_at dksJ6_circularClear_0 1 rfl rfl)
theorem dJ6_circularClear_2 : decode cJ6_circularClear 2 = .ok (.if_icmp .gt 7, 3) := dk_163 0 7 (dk_at dksJ6_circularClear_0 2 rfl rfl)
theorem dJ6_circularClear_5 : decode cJ6_circularClear 5 = .ok (.iload_n 2, 1) := dk_28 (dk_at dksJ6_circularClear_0 5 rfl rfl)
theorem dJ6_circularClear_6 : decode cJ6_circularClear 6 = .ok (.goto 5, 3) := dk_167 0 5 (dk_at dksJ6_circularClear_0 6 rfl rfl)
theorem dJ6_circularClear_9 : decode cJ6_circularClear 9 = .ok (.aload_n 0, 1) := dk_42 (dk_at dksJ6_circularClear_0 9 rfl rfl)
theorem dJ6_circularClear_10 : decode cJ6_circularClear 10 = .ok (.arraylength, 1) := dk_190 (dk_at dksJ6_circularClear_0 10 rfl rfl)
theorem dJ6_circularClear_11 : decode cJ6_circularClear 11 = .ok (.istore_n 3, 1) := dk_62 (dk_at dksJ6_circularClear_0 11 rfl rfl)
theorem dJ6_circularClear_12 : decode cJ6_circularClear 12 = .ok (.iload_n 1, 1) := dk_27 (dk_at dksJ6_circularClear_0 12 rfl rfl)
theorem dJ6_circularClear_13 : decode cJ6_circularClear 13 = .ok (.iload_n 3, 1) := dk_29 (dk_at dksJ6_circularClear_0 13 rfl rfl)
theorem dJ6_circularClear_14 : decode cJ6_circularClear 14 = .ok (.if_icmp .ge 13, 3) := dk_162 0 13 (dk_at dksJ6_circularClear_0 14 rfl rfl)
theorem dJ6_circularClear_17 : decode cJ6_circularClear 17 = .ok (.aload_n 0, 1) := dk_42 (dk_at dksJ6_circularClear_0 17 rfl rfl)
theorem dJ6_circularClear_18 : decode cJ6_circularClear 18 = .ok (.iload_n 1, 1) := dk_27 (dk_at dksJ6_circularClear_0 18 rfl rfl)
theorem dJ6_circularClear_19 : decode cJ6_circularClear 19 = .ok (.aconst_null, 1) := dk_1 (dk_at dksJ6_circularClear_0 19 rfl rfl)
theorem dJ6_circularClear_20 : decode cJ6_circularClear 20 = .ok (.aastore, 1) := dk_83 (dk_at dksJ6_circularClear_0 20 rfl rfl)
theorem dJ6_circularClear_21 : decode cJ6_circularClear 21 = .ok (.iinc 1 1, 3) := dk_132 1 1 (dk_at dksJ6_circularClear_0 21 rfl rfl)
theorem dJ6_circularClear_24 : decode cJ6_circularClear 24 = .ok (.goto (-12), 3) := dk_167 255 244 (dk_at dksJ6_circularClear_1 0 rfl rfl)
theorem dJ6_circularClear_27 : decode cJ6_circularClear 27 = .ok (.iload_n 3, 1) := dk_29 (dk_at dksJ6_circularClear_1 3 rfl rfl)
theorem dJ6_circularClear_28 : decode cJ6_circularClear 28 = .ok (.iload_n 2, 1) := dk_28 (dk_at dksJ6_circularClear_1 4 rfl rfl)
theorem dJ6_circularClear_29 : decode cJ6_circularClear 29 = .ok (.if_icmp .ne 6, 3) := dk_160 0 6 (dk_at dksJ6_circularClear_1 5 rfl rfl)
theorem dJ6_circularClear_32 : decode cJ6_circularClear 32 = .ok (.goto 10, 3) := dk_167 0 10 (dk_at dksJ6_circularClear_1 8 rfl rfl)
theorem dJ6_circularClear_35 : decode cJ6_circularClear 35 = .ok (.iconst 0, 1) := dk_3 (dk_at dksJ6_circularClear_1 11 rfl rfl)
theorem dJ6_circularClear_36 : decode cJ6_circularClear 36 = .ok (.istore_n 1, 1) := dk_60 (dk_at dksJ6_circularClear_1 12 rfl rfl)
theorem dJ6_circularClear_37 : decode cJ6_circularClear 37 = .ok (.iload_n 2, 1) := dk_28 (dk_at dksJ6_circularClear_1 13 rfl rfl)
theorem dJ6_circularClear_38 : decode cJ6_circularClear 38 = .ok (.istore_n 3, 1) := dk_62 (dk_at dksJ6_circularClear_1 14 rfl rfl)
theorem dJ6_circularClear_39 : decode cJ6_circularClear 39 = .ok (.goto (-27), 3) := dk_167 255 229 (dk_at dksJ6_circularClear_1 15 rfl rfl)
theorem dJ6_circularClear_42 : decode cJ6_circularClear 42 = .ok (.return_, 1) := dk_177 (dk_at dksJ6_circularClear_1 18 rfl rfl)
def dkwJ7_init_1 : List UInt8 := [167, 0, 16, 42, 27, 184, 0, 26, 181, 0, 15, 42, 4, 181, 0, 22, 177]
abbrev dktJ7_init_1 : List UInt8 := dkwJ7_init_1 ++ []
def dkwJ7_init_0 : List UInt8 := [42, 183, 0, 3, 178, 0, 18, 153, 0, 18, 42, 27, 188, 8, 181, 0, 15, 42, 3, 181, 0, 22]
abbrev dktJ7_init_0 : List UInt8 := dkwJ7_init_0 ++ dktJ7_init_1
theorem dksJ7_init_0 : cJ7_init.data.toList.drop 0 = dktJ7_init_0 := by decide +kernel
theorem dksJ7_init_1 : cJ7_init.data.toList.drop 22 = dktJ7_init_1 := dk_seg dksJ7_init_0 22 rfl rfl
theorem dJ7_init_0 : decode cJ7_init 0 = .ok (.aload_n 0, 1) := dk_42 (dk_at dksJ7_init_0 0 rfl rfl)
theorem dJ7_init_1 : decode cJ7_init 1 = .ok (.invokespecial 3, 3) := dk_183 0 3 (dk_at dksJ7_init_0 1 rfl rfl)
theorem dJ7_init_4 : decode cJ7_init 4 = .ok (.getstatic 18, 3) := dk_178 0 18 (dk_at dksJ7_init_0 4 rfl rfl)
theorem dJ7_init_7 : decode cJ7_init 7 = .ok (.ifCond .eq 18, 3) := dk_153 0 18 (dk_at dksJ7_init_0 7 rfl rfl)
theorem dJ7_init_10 : decode cJ7_init 10 = .ok (.aload_n 0, 1) := dk_42 (dk_at dksJ7_init_0 10 rfl rfl)
theorem dJ7_init_11 : decode cJ7_init 11 = .ok (.iload_n 1, 1) := dk_27 (dk_at dksJ7_init_0 11 rfl rfl)
theorem dJ7_init_12 : decode cJ7_init 12 = .ok (.newarray .byte, 2) := dk_188_8 (dk_at dksJ7_init_0 12 rfl rfl)
theorem dJ7_init_14 : decode cJ7_init 14 = .ok (.putfield 15, 3) := dk_181 0 15 (dk_at dksJ7_init_0 14 rfl rfl)
theorem dJ7_init_17 : decode cJ7_init 17 = .ok (.aload_n 0, 1) := dk_42 (dk_at dksJ7_init_0 17 rfl rfl)
theorem dJ7_init_18 : decode cJ7_init 18 = .ok (.iconst 0, 1) := dk_3 (dk_at dksJ7_init_0 18 rfl rfl)
theorem dJ7_init_19 : decode cJ7_init 19 = .ok (.putfield 22, 3) := dk_181 0 22 (dk_at dksJ7_init_0 19 rfl rfl)
theorem dJ7_init_22 : decode cJ7_init 22 = .ok (.goto 16, 3) := dk_167 0 16 (dk_at dksJ7_init_1 0 rfl rfl)
theorem dJ7_init_25 : decode cJ7_init 25 = .ok (.aload_n 0, 1) := dk_42 (dk_at dksJ7_init_1 3 rfl rfl)
theorem dJ7_init_26 : decode cJ7_init 26 = .ok (.iload_n 1, 1) := dk_27 (dk_at dksJ7_init_1 4 rfl rfl)
theorem dJ7_init_27 : decode cJ7_init 27 = .ok (.invokestatic 26, 3) := dk_184 0 26 (dk_at dksJ7_init_1 5 rfl rfl)
theorem dJ7_init_30 : decode cJ7_init 30 = .ok (.putfield 15, 3) := dk_181 0 15 (dk_at dksJ7_init_1 8 rfl rfl)
theorem dJ7_init_33 : decode cJ7_init 33 = .ok (.aload_n 0, 1) := dk_42 (dk_at dksJ7_init_1 11 rfl rfl)
theorem dJ7_init_34 : decode cJ7_init 34 = .ok (.iconst 1, 1) := dk_4 (dk_at dksJ7_init_1 12 rfl rfl)
theorem dJ7_init_35 : decode cJ7_init 35 = .ok (.putfield 22, 3) := dk_181 0 22 (dk_at dksJ7_init_1 13 rfl rfl)
theorem dJ7_init_38 : decode cJ7_init 38 = .ok (.return_, 1) := dk_177 (dk_at dksJ7_init_1 16 rfl rfl)
def dkwJ7_append_1 : List UInt8 := [42, 42, 180, 0, 79, 43, 182, 0, 208, 42, 89, 180, 0, 79, 28, 96, 181, 0, 79, 42, 176]
abbrev dktJ7_append_1 : List UInt8 := dkwJ7_append_1 ++ []
def dkwJ7_append_0 : List UInt8 := [43, 199, 0, 8, 42, 182, 0, 204, 176, 43, 182, 0, 32, 61, 42, 42, 180, 0, 79, 28, 96, 182, 0, 100]
abbrev dktJ7_append_0 : List UInt8 := dkwJ7_append_0 ++ dktJ7_append_1
theorem dksJ7_append_0 : cJ7_append.data.toList.drop 0 = dktJ7_append_0 := by decide +kernel
theorem dksJ7_append_1 : cJ7_append.data.toList.drop 24 = dktJ7_append_1 := dk_seg dksJ7_append_0 24 rfl rfl
theorem dJ7_append_0 : decode cJ7_append 0 = .ok (.aload_n 1, 1) := dk_43 (dk_at dksJ7_append_0 0 rfl rfl)
theorem dJ7_append_1 : decode cJ7_append 1 = .ok (.ifnonnull 8, 3) := dk_199 0 8 (dk_at dksJ7_append_0 1 rfl rfl)
theorem dJ7_append_4 : decode cJ7_append 4 = .ok (.aload_n 0, 1) := dk_42 (dk_at dksJ7_append_0 4 rfl rfl)
theorem dJ7_append_5 : decode cJ7_append 5 = .ok (.invokevirtual 204, 3) := dk_182 0 204 (dk_at dksJ7_append_0 5 rfl rfl)
theorem dJ7_append_8 : decode cJ7_append 8 = .ok (.areturn, 1) := dk_176 (dk_at dksJ7_append_0 8 rfl rfl)
theorem dJ7_append_9 : decode cJ7_append 9 = .ok (.aload_n 1, 1) := dk_43 (dk_at dksJ7_append_0 9 rfl rfl)
theorem dJ7_append_10 : decode cJ7_append 10 = .ok (.invokevirtual 32, 3) := dk_182 0 32 (dk_at dksJ7_append_0 10 rfl rfl)
theorem dJ7_append_13 : decode cJ7_append 13 = .ok (.istore_n 2, 1) := dk_61 (dk_at dksJ7_append_0 13 rfl rfl)
theorem dJ7_append_14 : decode cJ7_append 14 = .ok (.aload_n 0, 1) := dk_42 (dk_at dksJ7_append_0 14 rfl rfl)
theorem dJ7_append_15 : decode cJ7_append 15 = .ok (.aload_n 0, 1) := dk_42 (dk_at dksJ7_append_0 15 rfl rfl)
theorem dJ7_append_16 : decode cJ7_append 16 = .ok (.getfield 79, 3) := dk_180 0 79 (dk_at dksJ7_append_0 16 rfl rfl)
theorem dJ7_append_19 : decode cJ7_append 19 = .ok (.iload_n 2, 1) := dk_28 (dk_at dksJ7_append_0 19 rfl rfl)
theorem dJ7_append_20 : decode cJ7_append 20 = .ok (.iadd, 1) := dk_96 (dk_at dksJ7_append_0 20 rfl rfl)
theorem dJ7_append_21 : decode cJ7_append 21 = .ok (.invokevirtual 100, 3) := dk_182 0 100 (dk_at dksJ7_append_0 21 rfl rfl)
theorem dJ7_append_24 : decode cJ7_append 24 = .ok (.aload_n 0, 1) := dk_42 (dk_at dksJ7_append_1 0 rfl rfl)
theorem dJ7_append_25 : decode cJ7_append 25 = .ok (.aload_n 0, 1) := dk_42 (dk_at dksJ7_append_1 1 rfl rfl)
theorem dJ7_append_26 : decode cJ7_append 26 = .ok (.getfield 79, 3) := dk_180 0 79 (dk_at dksJ7_append_1 2 rfl rfl)
theorem dJ7_append_29 : decode cJ7_append 29 = .ok (.aload_n 1, 1) := dk_43 (dk_at dksJ7_append_1 5 rfl rfl)
theorem dJ7_append_30 : decode cJ7_append 30 = .ok (.invokevirtual 208, 3) := dk_182 0 208 (dk_at dksJ7_append_1 6 rfl rfl)
theorem dJ7_append_33 : decode cJ7_append 33 = .ok (.aload_n 0, 1) := dk_42 (dk_at dksJ7_append_1 9 rfl rfl)
theorem dJ7_append_34 : decode cJ7_append 34 = .ok (.dup, 1) := dk_89 (dk_at dksJ7_append_1 10 rfl rfl)
theorem dJ7_append_35 : decode cJ7_append 35 = .ok (.getfield 79, 3) := dk_180 0 79 (dk_at dksJ7_append_1 11 rfl rfl)
theorem dJ7_append_38 : decode cJ7_append 38 = .ok (.iload_n 2, 1) := dk_28 (dk_at dksJ7_append_1 14 rfl rfl)
theorem dJ7_append_39 : decode cJ7_append 39 = .ok (.iadd, 1) := dk_96 (dk_at dksJ7_append_1 15 rfl rfl)
theorem dJ7_append_40 : decode cJ7_append 40 = .ok (.putfield 79, 3) := dk_181 0 79 (dk_at dksJ7_append_1 16 rfl rfl)
theorem dJ7_append_43 : decode cJ7_append 43 = .ok (.aload_n 0, 1) := dk_42 (dk_at dksJ7_append_1 19 rfl rfl)
theorem dJ7_append_44 : decode cJ7_append 44 = .ok (.areturn, 1) := dk_176 (dk_at dksJ7_append_1 20 rfl rfl)
def dkwJ7_appendNull_3 : List UInt8 := [184, 0, 226, 60, 42, 27, 181, 0, 79, 42, 176]
abbrev dktJ7_appendNull_3 : List UInt8 := dkwJ7_appendNull_3 ++ []
def dkwJ7_appendNull_2 : List UInt8 := [16, 108, 84, 44, 27, 132, 1, 1, 16, 108, 84, 167, 0, 17, 44, 27, 16, 110, 16, 117, 16, 108, 16, 108]
abbrev dktJ7_appendNull_2 : List UInt8 := dkwJ7_appendNull_2 ++ dktJ7_appendNull_3
def dkwJ7_appendNull_1 : List UInt8 := [153, 0, 38, 44, 27, 132, 1, 1, 16, 110, 84, 44, 27, 132, 1, 1, 16, 117, 84, 44, 27, 132, 1, 1]
abbrev dktJ7_appendNull_1 : List UInt8 := dkwJ7_appendNull_1 ++ dktJ7_appendNull_2
def dkwJ7_appendNull_0 : List UInt8 := [42, 42, 180, 0, 79, 7, 96, 182, 0, 100, 42, 180, 0, 79, 60, 42, 180, 0, 15, 77, 42, 182, 0, 83]
abbrev dktJ7_appendNull_0 : List UInt8 := dkwJ7_appendNull_0 ++ dktJ7_appendNull_1
theorem dksJ7_appendNull_0 : cJ7_appendNull.data.toList.drop 0 = dktJ7_appendNull_0 := by decide +kernel
theorem dksJ7_appendNull_1 : cJ7_appendNull.data.toList.drop 24 = dktJ7_appendNull_1 := dk_seg dksJ7_appendNull_0 24 rfl rfl
theorem dksJ7_appendNull_2 : cJ7_appendNull.data.toList.drop 48 = dktJ7_appendNull_2 := dk_seg dksJ7_appendNull_1 24 rfl rfl
theorem dksJ7_appendNull_3 : cJ7_appendNull.data.toList.drop 72 = dktJ7_appendNull_3 := dk_seg dksJ7_appendNull_2 24 rfl rfl
theorem dJ7_appendNull_0 : decode cJ7_appendNull 0 = .ok (.aload_n 0, 1) := dk_42 (dk_at dksJ7_appendNull_0 0 rfl rfl)
theorem dJ7_appendNull_1 : decode cJ7_appendNull 1 = .ok (.aload_n 0, 1) := dk_42 (dk_at dksJ7_appendNull_0 1 rfl rfl)
theorem dJ7_appendNull_2 : decode cJ7_appendNull 2 = .ok (.getfield 79, 3) := dk_180 0 79 (dk_at dksJ7_appendNull_0 2 rfl rfl)
theorem dJ7_appendNull_5 : decode cJ7_appendNull 5 = .ok (.iconst 4, 1) := dk_7 (dk_at dksJ7_appendNull_0 5 rfl rfl)
theorem dJ7_appendNull_6 : decode cJ7_appendNull 6 = .ok (.iadd, 1) := dk_96 (dk_at dksJ7_appendNull_0 6 rfl rfl)
theorem dJ7_appendNull_7 : decode cJ7_appendNull 7 = .ok (.invokevirtual 100, 3) := dk_182 0 100 (dk_at dksJ7_appendNull_0 7 rfl rfl)
theorem dJ7_appendNull_10 : decode cJ7_appendNull 10 = .ok (.aload_n 0, 1) := dk_42 (dk_at dksJ7_appendNull_0 10 rfl rfl)
theorem dJ7_appendNull_11 : decode cJ7_appendNull 11 = .ok (.getfield 79, 3) := dk_180 0 79 (dk_at dksJ7_appendNull_0 11 rfl rfl)
theorem dJ7_appendNull_14 : decode cJ7_appendNull 14 = .ok (.istore_n 1, 1) := dk_60 (dk_at dksJ7_appendNull_0 14 rfl rfl)
theorem dJ7_appendNull_15 : decode cJ7_appendNull 15 = .ok (.aload_n 0, 1) := dk_42 (dk_at dksJ7_appendNull_0 15 rfl rfl)
theorem dJ7_appendNull_16 : decode cJ7_appendNull 16 = .ok (.getfield 15, 3) := dk_180 0 15 (dk_at dksJ7_appendNull_0 16 rfl rfl)
theorem dJ7_appendNull_19 : decode cJ7_appendNull 19 = .ok (.astore_n 2, 1) := dk_77 (dk_at dksJ7_appendNull_0 19 rfl rfl)
theorem dJ7_appendNull_20 : decode cJ7_appendNull 20 = .ok (.aload_n 0, 1) := dk_42 (dk_at dksJ7_appendNull_0 20 rfl rfl)
theorem dJ7_appendNull_21 : decode cJ7_appendNull 21 = .ok (.invokevirtual 83, 3) := dk_182 0 83 (dk_at dksJ7_appendNull_0 21 rfl rfl)
theorem dJ7_appendNull_24 : decode cJ7_appendNull 24 = .ok (.ifCond .eq 38, 3) := dk_153 0 38 (dk_at dksJ7_appendNull_1 0 rfl rfl)
theorem dJ7_appendNull_27 : decode cJ7_appendNull 27 = .ok (.aload_n 2, 1) := dk_44 (dk_at dksJ7_appendNull_1 3 rfl rfl)
theorem dJ7_appendNull_28 : decode cJ7_appendNull 28 = .ok (.iload_n 1, 1) := dk_27 (dk_at dksJ7_appendNull_1 4 rfl rfl)
theorem dJ7_appendNull_29 : decode cJ7_appendNull 29 = .ok (.iinc 1 1, 3) := dk_132 1 1 (dk_at dksJ7_appendNull_1 5 rfl rfl)
theorem dJ7_appendNull_32 : decode cJ7_appendNull 32 = .ok (.bipush 110, 2) := dk_16 110 (dk_at dksJ7_appendNull_1 8 rfl rfl)
theorem dJ7_appendNull_34 : decode cJ7_appendNull 34 = .ok (.bastore, 1) := dk_84 (dk_at dksJ7_appendNull_1 10 rfl rfl)
theorem dJ7_appendNull_35 : decode cJ7_appendNull 35 = .ok (.aload_n 2, 1) := dk_44 (dk_at dksJ7_appendNull_1 11 rfl rfl)
theorem dJ7_appendNull_36 : decode cJ7_appendNull 36 = .ok (.iload_n 1, 1) := dk_27 (dk_at dksJ7_appendNull_1 12 rfl rfl)
theorem dJ7_appendNull_37 : decode cJ7_appendNull 37 = .ok (.iinc 1 1, 3) := dk_132 1 1 (dk_at dksJ7_appendNull_1 13 rfl rfl)
theorem dJ7_appendNull_40 : decode cJ7_appendNull 40 = .ok (.bipush 117, 2) := dk_16 117 (dk_at dksJ7_appendNull_1 16 rfl rfl)
theorem dJ7_appendNull_42 : decode cJ7_appendNull 42 = .ok (.bastore, 1) := dk_84 (dk_at dksJ7_appendNull_1 18 rfl rfl)
theorem dJ7_appendNull_43 : decode cJ7_appendNull 43 = .ok (.aload_n 2, 1) := dk_44 (dk_at dksJ7_appendNull_1 19 rfl rfl)
theorem dJ7_appendNull_44 : decode cJ7_appendNull 44 = .ok (.iload_n 1, 1) := dk_27 (dk_at dksJ7_appendNull_1 20 rfl rfl)
theorem dJ7_appendNull_45 : decode cJ7_appendNull 45 = .ok (.iinc 1 1, 3) := dk_132 1 1 (dk_at dksJ7_appendNull_1 21 rfl rfl)
theorem dJ7_appendNull_48 : decode cJ7_appendNull 48 = .ok (.bipush 108, 2) := dk_16 108 (dk_at dksJ7_appendNull_2 0 rfl rfl)
theorem dJ7_appendNull_50 : decode cJ7_appendNull 50 = .ok (.bastore, 1) := dk_84 (dk_at dksJ7_appendNull_2 2 rfl rfl)
theorem dJ7_appendNull_51 : decode cJ7_appendNull 51 = .ok (.aload_n 2, 1) := dk_44 (dk_at dksJ7_appendNull_2 3 rfl rfl)
theorem dJ7_appendNull_52 : decode cJ7_appendNull 52 = .ok (.iload_n 1, 1) := dk_27 (dk_at dksJ7_appendNull_2 4 rfl rfl)
theorem dJ7_appendNull_53 : decode cJ7_appendNull 53 = .ok (.iinc 1 1, 3) := dk_132 1 1 (dk_at dksJ7_appendNull_2 5 rfl rfl)
theorem dJ7_appendNull_56 : decode cJ7_appendNull 56 = .ok (.bipush 108, 2) := dk_16 108 (dk_at dksJ7_appendNull_2 8 rfl rfl)
theorem dJ7_appendNull_58 : decode cJ7_appendNull 58 = .ok (.bastore, 1) := dk_84 (dk_at dksJ7_appendNull_2 10 rfl rfl)
theorem dJ7_appendNull_59 : decode cJ7_appendNull 59 = .ok (.goto 17, 3) := dk_167 0 17 (dk_at dksJ7_appendNull_2 11 rfl rfl)
theorem dJ7_appendNull_62 : decode cJ7_appendNull 62 = .ok (.aload_n 2, 1) := dk_44 (dk_at dksJ7_appendNull_2 14 rfl rfl)
theorem dJ7_appendNull_63 : decode cJ7_appendNull 63 = .ok (.iload_n 1, 1) := dk_27 (dk_at dksJ7_appendNull_2 15 rfl rfl)
theorem dJ7_appendNull_64 : decode cJ7_appendNull 64 = .ok (.bipush 110, 2) := dk_16 110 (dk_at dksJ7_appendNull_2 16 rfl rfl)
theorem dJ7_appendNull_66 : decode cJ7_appendNull 66 = .ok (.bipush 117, 2) := dk_16 117 (dk_at dksJ7_appendNull_2 18 rfl rfl)
theorem dJ7_appendNull_68 : decode cJ7_appendNull 68 = .ok (.bipush 108, 2) := dk_16 108 (dk_at dksJ7_appendNull_2 20 rfl rfl)
theorem dJ7_appendNull_70 : decode cJ7_appendNull 70 = .ok (.bipush 108, 2) := dk_16 108 (dk_at dksJ7_appendNull_2 22 rfl rfl)
theorem dJ7_appendNull_72 : decode cJ7_appendNull 72 = .ok (.invokestatic 226, 3) := dk_184 0 226 (dk_at dksJ7_appendNull_3 0 rfl rfl)
theorem dJ7_appendNull_75 : decode cJ7_appendNull 75 = .ok (.istore_n 1, 1) := dk_60 (dk_at dksJ7_appendNull_3 3 rfl rfl)
theorem dJ7_appendNull_76 : decode cJ7_appendNull 76 = .ok (.aload_n 0, 1) := dk_42 (dk_at dksJ7_appendNull_3 4 rfl rfl)
theorem dJ7_appendNull_77 : decode cJ7_appendNull 77 = .ok (.iload_n 1, 1) := dk_27 (dk_at dksJ7_appendNull_3 5 rfl rfl)
theorem dJ7_appendNull_78 : decode cJ7_appendNull 78 = .ok (.putfield 79, 3) := dk_181 0 79 (dk_at dksJ7_appendNull_3 6 rfl rfl)
theorem dJ7_appendNull_81 : decode cJ7_appendNull 81 = .ok (.aload_n 0, 1) := dk_42 (dk_at dksJ7_appendNull_3 9 rfl rfl)
theorem dJ7_appendNull_82 : decode cJ7_appendNull 82 = .ok (.areturn, 1) := dk_176 (dk_at dksJ7_appendNull_3 10 rfl rfl)
def dkwJ7_ensureCapacityInternal_1 : List UInt8 := [182, 0, 104, 42, 180, 0, 22, 120, 184, 0, 108, 181, 0, 15, 177]
abbrev dktJ7_ensureCapacityInternal_1 : List UInt8 := dkwJ7_ensureCapacityInternal_1 ++ []
def dkwJ7_ensureCapacityInternal_0 : List UInt8 := [42, 180, 0, 15, 190, 42, 180, 0, 22, 122, 61, 27, 28, 100, 158, 0, 24, 42, 42, 180, 0, 15, 42, 27]
abbrev dktJ7_ensureCapacityInternal_0 : List UInt8 := dkwJ7_ensureCapacityInternal_0 ++ dktJ7_ensureCapacityInternal_1
theorem dksJ7_ensureCapacityInternal_0 : cJ7_ensureCapacityInternal.data.toList.drop 0 = dktJ7_ensureCapacityInternal_0 := by decide +kernel
theorem dksJ7_ensureCapacityInternal_1 : cJ7_ensureCapacityInternal.data.toList.drop 24 = dktJ7_ensureCapacityInternal_1 := dk_seg dksJ7_ensureCapacityInternal_0 24 rfl rfl
theorem dJ7_ensureCapacityInternal_0 : decode cJ7_ensureCapacityInternal 0 = .ok (.aload_n 0, 1) := dk_42 (dk_at dksJ7_ensureCapacityInternal_0 0 rfl rfl)
theorem dJ7_ensureCapacityInternal_1 : decode cJ7_ensureCapacityInternal 1 = .ok (.getfield 15, 3) := dk_180 0 15 (dk_at dksJ7_ensureCapacityInternal_0 1 rfl rfl)
theorem dJ7_ensureCapacityInternal_4 : decode cJ7_ensureCapacityInternal 4 = .ok (.arraylength, 1) := dk_190 (dk_at dksJ7_ensureCapacityInternal_0 4 rfl rfl)
theorem dJ7_ensureCapacityInternal_5 : decode cJ7_ensureCapacityInternal 5 = .ok (.aload_n 0, 1) := dk_42 (dk_at dksJ7_ensureCapacityInternal_0 5 rfl rfl)
theorem dJ7_ensureCapacityInternal_6 : decode cJ7_ensureCapacityInternal 6 = .ok (.getfield 22, 3) := dk_180 0 22 (dk_at dksJ7_ensureCapacityInternal_0 6 rfl rfl)
theorem dJ7_ensureCapacityInternal_9 : decode cJ7_ensureCapacityInternal 9 = .ok (.ishr, 1) := dk_122 (dk_at dksJ7_ensureCapacityInternal_0 9 rfl rfl)
theorem dJ7_ensureCapacityInternal_10 : decode cJ7_ensureCapacityInternal 10 = .ok (.istore_n 2, 1) := dk_61 (dk_at dksJ7_ensureCapacityInternal_0 10 rfl rfl)
theorem dJ7_ensureCapacityInternal_11 : decode cJ7_ensureCapacityInternal 11 = .ok (.iload_n 1, 1) := dk_27 (dk_at dksJ7_ensureCapacityInternal_0 11 rfl rfl)
theorem dJ7_ensureCapacityInternal_12 : decode cJ7_ensureCapacityInternal 12 = .ok (.iload_n 2, 1) := dk_28 (dk_at dksJ7_ensureCapacityInternal_0 12 rfl rfl)
theorem dJ7_ensureCapacityInternal_13 : decode cJ7_ensureCapacityInternal 13 = .ok (.isub, 1) := dk_100 (dk_at dksJ7_ensureCapacityInternal_0 13 rfl rfl)
theorem dJ7_ensureCapacityInternal_14 : decode cJ7_ensureCapacityInternal 14 = .ok (.ifCond .le 24, 3) := dk_158 0 24 (dk_at dksJ7_ensureCapacityInternal_0 14 rfl rfl)
theorem dJ7_ensureCapacityInternal_17 : decode cJ7_ensureCapacityInternal 17 = .ok (.aload_n 0, 1) := dk_42 (dk_at dksJ7_ensureCapacityInternal_0 17 rfl rfl)
theorem dJ7_ensureCapacityInternal_18 : decode cJ7_ensureCapacityInternal 18 = .ok (.aload_n 0, 1) := dk_42 (dk_at dksJ7_ensureCapacityInternal_0 18 rfl rfl)
theorem dJ7_ensureCapacityInternal_19 : decode cJ7_ensureCapacityInternal 19 = .ok (.getfield 15, 3) := dk_180 0 15 (dk_at dksJ7_ensureCapacityInternal_0 19 rfl rfl)
theorem dJ7_ensureCapacityInternal_22 : decode cJ7_ensureCapacityInternal 22 = .ok (.aload_n 0, 1) := dk_42 (dk_at dksJ7_ensureCapacityInternal_0 22 rfl rfl)
theorem dJ7_ensureCapacityInternal_23 : decode cJ7_ensureCapacityInternal 23 = .ok (.iload_n 1, 1) := dk_27 (dk_at dksJ7_ensureCapacityInternal_0 23 rfl rfl)
theorem dJ7_ensureCapacityInternal_24 : decode cJ7_ensureCapacityInternal 24 = .ok (.invokevirtual 104, 3) := dk_182 0 104 (dk_at dksJ7_ensureCapacityInternal_1 0 rfl rfl)
theorem dJ7_ensureCapacityInternal_27 : decode cJ7_ensureCapacityInternal 27 = .ok (.aload_n 0, 1) := dk_42 (dk_at dksJ7_ensureCapacityInternal_1 3 rfl rfl)
theorem dJ7_ensureCapacityInternal_28 : decode cJ7_ensureCapacityInternal 28 = .ok (.getfield 22, 3) := dk_180 0 22 (dk_at dksJ7_ensureCapacityInternal_1 4 rfl rfl)
theorem dJ7_ensureCapacityInternal_31 : decode cJ7_ensureCapacityInternal 31 = .ok (.ishl, 1) := dk_120 (dk_at dksJ7_ensureCapacityInternal_1 7 rfl rfl)
theorem dJ7_ensureCapacityInternal_32 : decode cJ7_ensureCapacityInternal 32 = .ok (.invokestatic 108, 3) := dk_184 0 108 (dk_at dksJ7_ensureCapacityInternal_1 8 rfl rfl)
theorem dJ7_ensureCapacityInternal_35 : decode cJ7_ensureCapacityInternal 35 = .ok (.putfield 15, 3) := dk_181 0 15 (dk_at dksJ7_ensureCapacityInternal_1 11 rfl rfl)
theorem dJ7_ensureCapacityInternal_38 : decode cJ7_ensureCapacityInternal 38 = .ok (.return_, 1) := dk_177 (dk_at dksJ7_ensureCapacityInternal_1 14 rfl rfl)
def dkwJ7_newCapacity_2 : List UInt8 := [183, 0, 124, 191, 21, 5, 42, 180, 0, 22, 122, 172]
abbrev dktJ7_newCapacity_2 : List UInt8 := dkwJ7_newCapacity_2 ++ []
def dkwJ7_newCapacity_1 : List UInt8 := [180, 0, 22, 120, 96, 184, 0, 114, 54, 5, 21, 5, 18, 39, 160, 0, 13, 187, 0, 120, 89, 18, 122]
abbrev dktJ7_newCapacity_1 : List UInt8 := dkwJ7_newCapacity_1 ++ dktJ7_newCapacity_2
def dkwJ7_newCapacity_0 : List UInt8 := [42, 180, 0, 15, 190, 61, 27, 42, 180, 0, 22, 120, 62, 29, 28, 100, 54, 4, 28, 21, 4, 28, 5, 42]
abbrev dktJ7_newCapacity_0 : List UInt8 := dkwJ7_newCapacity_0 ++ dktJ7_newCapacity_1
theorem dksJ7_newCapacity_0 : cJ7_newCapacity.data.toList.drop 0 = dktJ7_newCapacity_0 := by decide +kernel
theorem dksJ7_newCapacity_1 : cJ7_newCapacity.data.toList.drop 24 = dktJ7_newCapacity_1 := dk_seg dksJ7_newCapacity_0 24 rfl rfl
theorem dksJ7_newCapacity_2 : cJ7_newCapacity.data.toList.drop 47 = dktJ7_newCapacity_2 := dk_seg dksJ7_newCapacity_1 23 rfl rfl
theorem dJ7_newCapacity_0 : decode cJ7_newCapacity 0 = .ok (.aload_n 0, 1) := dk_42 (dk_at dksJ7_newCapacity_0 0 rfl rfl)
theorem dJ7_newCapacity_1 : decode cJ7_newCapacity 1 = .ok (.getfield 15, 3) := dk_180 0 15 (dk_at dksJ7_newCapacity_0 1 rfl rfl)
theorem dJ7_newCapacity_4 : decode cJ7_newCapacity 4 = .ok (.arraylength, 1) := dk_190 (dk_at dksJ7_newCapacity_0 4 rfl rfl)
theorem dJ7_newCapacity_5 : decode cJ7_newCapacity 5 = .ok (.istore_n 2, 1) := dk_61 (dk_at dksJ7_newCapacity_0 5 rfl rfl)
theorem dJ7_newCapacity_6 : decode cJ7_newCapacity 6 = .ok (.iload_n 1, 1) := dk_27 (dk_at dksJ7_newCapacity_0 6 rfl rfl)
theorem dJ7_newCapacity_7 : decode cJ7_newCapacity 7 = .ok (.aload_n 0, 1) := dk_42 (dk_at dksJ7_newCapacity_0 7 rfl rfl)
theorem dJ7_newCapacity_8 : decode cJ7_newCapacity 8 = .ok (.getfield 22, 3) := dk_180 0 22 (dk_at dksJ7_newCapacity_0 8 rfl rfl)
theorem dJ7_newCapacity_11 : decode cJ7_newCapacity 11 = .ok (.ishl, 1) := dk_120 (dk_at dksJ7_newCapacity_0 11 rfl rfl)
theorem dJ7_newCapacity_12 : decode cJ7_newCapacity 12 = .ok (.istore_n 3, 1) := dk_62 (dk_at dksJ7_newCapacity_0 12 rfl rfl)
theorem dJ7_newCapacity_13 : decode cJ7_newCapacity 13 = .ok (.iload_n 3, 1) := dk_29 (dk_at dksJ7_newCapacity_0 13 rfl rfl)
theorem dJ7_newCapacity_14 : decode cJ7_newCapacity 14 = .ok (.iload_n 2, 1) := dk_28 (dk_at dksJ7_newCapacity_0 14 rfl rfl)
theorem dJ7_newCapacity_15 : decode cJ7_newCapacity 15 = .ok (.isub, 1) := dk_100 (dk_at dksJ7_newCapacity_0 15 rfl rfl)
theorem dJ7_newCapacity_16 : decode cJ7_newCapacity 16 = .ok (.istore 4, 2) := dk_54 4 (dk_at dksJ7_newCapacity_0 16 rfl rfl)
theorem dJ7_newCapacity_18 : decode cJ7_newCapacity 18 = .ok (.iload_n 2, 1) := dk_28 (dk_at dksJ7_newCapacity_0 18 rfl rfl)
theorem dJ7_newCapacity_19 : decode cJ7_newCapacity 19 = .ok (.iload 4, 2) := dk_21 4 (dk_at dksJ7_newCapacity_0 19 rfl rfl)
theorem dJ7_newCapacity_21 : decode cJ7_newCapacity 21 = .ok (.iload_n 2, 1) := dk_28 (dk_at dksJ7_newCapacity_0 21 rfl rfl)
theorem dJ7_newCapacity_22 : decode cJ7_newCapacity 22 = .ok (.iconst 2, 1) := dk_5 (dk_at dksJ7_newCapacity_0 22 rfl rfl)
theorem dJ7_newCapacity_23 : decode cJ7_newCapacity 23 = .ok (.aload_n 0, 1) := dk_42 (dk_at dksJ7_newCapacity_0 23 rfl rfl)
theorem dJ7_newCapacity_24 : decode cJ7_newCapacity 24 = .ok (.getfield 22, 3) := dk_180 0 22 (dk_at dksJ7_newCapacity_1 0 rfl rfl)
theorem dJ7_newCapacity_27 : decode cJ7_newCapacity 27 = .ok (.ishl, 1) := dk_120 (dk_at dksJ7_newCapacity_1 3 rfl rfl)
theorem dJ7_newCapacity_28 : decode cJ7_newCapacity 28 = .ok (.iadd, 1) := dk_96 (dk_at dksJ7_newCapacity_1 4 rfl rfl)
theorem dJ7_newCapacity_29 : decode cJ7_newCapacity 29 = .ok (.invokestatic 114, 3) := dk_184 0 114 (dk_at dksJ7_newCapacity_1 5 rfl rfl)
theorem dJ7_newCapacity_32 : decode cJ7_newCapacity 32 = .ok (.istore 5, 2) := dk_54 5 (dk_at dksJ7_newCapacity_1 8 rfl rfl)
theorem dJ7_newCapacity_34 : decode cJ7_newCapacity 34 = .ok (.iload 5, 2) := dk_21 5 (dk_at dksJ7_newCapacity_1 10 rfl rfl)
theorem dJ7_newCapacity_36 : decode cJ7_newCapacity 36 = .ok (.ldc 39, 2) := dk_18 39 (dk_at dksJ7_newCapacity_1 12 rfl rfl)
theorem dJ7_newCapacity_38 : decode cJ7_newCapacity 38 = .ok (.if_icmp .ne 13, 3) := dk_160 0 13 (dk_at dksJ7_newCapacity_1 14 rfl rfl)
theorem dJ7_newCapacity_41 : decode cJ7_newCapacity 41 = .ok (.new 120, 3) := dk_187 0 120 (dk_at dksJ7_newCapacity_1 17 rfl rfl)
theorem dJ7_newCapacity_44 : decode cJ7_newCapacity 44 = .ok (.dup, 1) := dk_89 (dk_at dksJ7_newCapacity_1 20 rfl rfl)
theorem dJ7_newCapacity_45 : decode cJ7_newCapacity 45 = .ok (.ldc 122, 2) := dk_18 122 (dk_at dksJ7_newCapacity_1 21 rfl rfl)
theorem dJ7_newCapacity_47 : decode cJ7_newCapacity 47 = .ok (.invokespecial 124, 3) := dk_183 0 124 (dk_at dksJ7_newCapacity_2 0 rfl rfl)
theorem dJ7_newCapacity_50 : decode cJ7_newCapacity 50 = .ok (.athrow, 1) := dk_191 (dk_at dksJ7_newCapacity_2 3 rfl rfl)
theorem dJ7_newCapacity_51 : decode cJ7_newCapacity 51 = .ok (.iload 5, 2) := dk_21 5 (dk_at dksJ7_newCapacity_2 4 rfl rfl)
theorem dJ7_newCapacity_53 : decode cJ7_newCapacity 53 = .ok (.aload_n 0, 1) := dk_42 (dk_at dksJ7_newCapacity_2 6 rfl rfl)
theorem dJ7_newCapacity_54 : decode cJ7_newCapacity 54 = .ok (.getfield 22, 3) := dk_180 0 22 (dk_at dksJ7_newCapacity_2 7 rfl rfl)
theorem dJ7_newCapacity_57 : decode cJ7_newCapacity 57 = .ok (.ishr, 1) := dk_122 (dk_at dksJ7_newCapacity_2 10 rfl rfl)
theorem dJ7_newCapacity_58 : decode cJ7_newCapacity 58 = .ok (.ireturn, 1) := dk_172 (dk_at dksJ7_newCapacity_2 11 rfl rfl)
def dkwJ7_isLatin1_0 : List UInt8 := [178, 0, 18, 153, 0, 14, 42, 180, 0, 22, 154, 0, 7, 4, 167, 0, 4, 3, 172]
abbrev dktJ7_isLatin1_0 : List UInt8 := dkwJ7_isLatin1_0 ++ []
theorem dksJ7_isLatin1_0 : cJ7_isLatin1.data.toList.drop 0 = dktJ7_isLatin1_0 := by decide +kernel
theorem dJ7_isLatin1_0 : decode cJ7_isLatin1 0 = .ok (.getstatic 18, 3) := dk_178 0 18 (dk_at dksJ7_isLatin1_0 0 rfl rfl)
theorem dJ7_isLatin1_3 : decode cJ7_isLatin1 3 = .ok (.ifCond .eq 14, 3) := dk_153 0 14 (dk_at dksJ7_isLatin1_0 3 rfl rfl)
theorem dJ7_isLatin1_6 : decode cJ7_isLatin1 6 = .ok (.aload_n 0, 1) := dk_42 (dk_at dksJ7_isLatin1_0 6 rfl rfl)
theorem dJ7_isLatin1_7 : decode cJ7_isLatin1 7 = .ok (.getfield 22, 3) := dk_180 0 22 (dk_at dksJ7_isLatin1_0 7 rfl rfl)
theorem dJ7_isLatin1_10 : decode cJ7_isLatin1 10 = .ok (.ifCond .ne 7, 3) := dk_154 0 7 (dk_at dksJ7_isLatin1_0 10 rfl rfl)
theorem dJ7_isLatin1_13 : decode cJ7_isLatin1 13 = .ok (.iconst 1, 1) := dk_4 (dk_at dksJ7_isLatin1_0 13 rfl rfl)
theorem dJ7_isLatin1_14 : decode cJ7_isLatin1 14 = .ok (.goto 4, 3) := dk_167 0 4 (dk_at dksJ7_isLatin1_0 14 rfl rfl)
theorem dJ7_isLatin1_17 : decode cJ7_isLatin1 17 = .ok (.iconst 0, 1) := dk_3 (dk_at dksJ7_isLatin1_0 17 rfl rfl)
theorem dJ7_isLatin1_18 : decode cJ7_isLatin1 18 = .ok (.ireturn, 1) := dk_172 (dk_at dksJ7_isLatin1_0 18 rfl rfl)
def dkwJ7_putStringAt_0 : List UInt8 := [42, 44, 182, 1, 141, 44, 42, 180, 0, 15, 27, 42, 180, 0, 22, 182, 1, 143, 177]
abbrev dktJ7_putStringAt_0 : List UInt8 := dkwJ7_putStringAt_0 ++ []
theorem dksJ7_putStringAt_0 : cJ7_putStringAt.data.toList.drop 0 = dktJ7_putStringAt_0 := by decide +kernel
theorem dJ7_putStringAt_0 : decode cJ7_putStringAt 0 = .ok (.aload_n 0, 1) := dk_42 (dk_at dksJ7_putStringAt_0 0 rfl rfl)
theorem dJ7_putStringAt_1 : decode cJ7_putStringAt 1 = .ok (.aload_n 2, 1) := dk_44 (dk_at dksJ7_putStringAt_0 1 rfl rfl)
theorem dJ7_putStringAt_2 : decode cJ7_putStringAt 2 = .ok (.invokevirtual 397, 3) := dk_182 1 141 (dk_at dksJ7_putStringAt_0 2 rfl rfl)
theorem dJ7_putStringAt_5 : decode cJ7_putStringAt 5 = .ok (.aload_n 2, 1) := dk_44 (dk_at dksJ7_putStringAt_0 5 rfl rfl)
theorem dJ7_putStringAt_6 : decode cJ7_putStringAt 6 = .ok (.aload_n 0, 1) := dk_42 (dk_at dksJ7_putStringAt_0 6 rfl rfl)
theorem dJ7_putStringAt_7 : decode cJ7_putStringAt 7 = .ok (.getfield 15, 3) := dk_180 0 15 (dk_at dksJ7_putStringAt_0 7 rfl rfl)
theorem dJ7_putStringAt_10 : decode cJ7_putStringAt 10 = .ok (.iload_n 1, 1) := dk_27 (dk_at dksJ7_putStringAt_0 10 rfl rfl)
theorem dJ7_putStringAt_11 : decode cJ7_putStringAt 11 = .ok (.aload_n 0, 1) := dk_42 (dk_at dksJ7_putStringAt_0 11 rfl rfl)
theorem dJ7_putStringAt_12 : decode cJ7_putStringAt 12 = .ok (.getfield 22, 3) := dk_180 0 22 (dk_at dksJ7_putStringAt_0 12 rfl rfl)
theorem dJ7_putStringAt_15 : decode cJ7_putStringAt 15 = .ok (.invokevirtual 399, 3) := dk_182 1 143 (dk_at dksJ7_putStringAt_0 15 rfl rfl)
theorem dJ7_putStringAt_18 : decode cJ7_putStringAt 18 = .ok (.return_, 1) := dk_177 (dk_at dksJ7_putStringAt_0 18 rfl rfl)
def dkwJ7_inflateIfNeededFor_0 : List UInt8 := [178, 0, 18, 153, 0, 18, 42, 180, 0, 22, 43, 182, 0, 40, 159, 0, 7, 42, 182, 0, 195, 177]
abbrev dktJ7_inflateIfNeededFor_0 : List UInt8 := dkwJ7_inflateIfNeededFor_0 ++ []
theorem dksJ7_inflateIfNeededFor_0 : cJ7_inflateIfNeededFor.data.toList.drop 0 = dktJ7_inflateIfNeededFor_0 := by decide +kernel
theorem dJ7_inflateIfNeededFor_0 : decode cJ7_inflateIfNeededFor 0 = .ok (.getstatic 18, 3) := dk_178 0 18 (dk_at dksJ7_inflateIfNeededFor_0 0 rfl rfl)
theorem dJ7_inflateIfNeededFor_3 : decode cJ7_inflateIfNeededFor 3 = .ok (.ifCond .eq 18, 3) := dk_153 0 18 (dk_at dksJ7_inflateIfNeededFor_0 3 rfl rfl)
theorem dJ7_inflateIfNeededFor_6 : decode cJ7_inflateIfNeededFor 6 = .ok (.aload_n 0, 1) := dk_42 (dk_at dksJ7_inflateIfNeededFor_0 6 rfl rfl)
theorem dJ7_inflateIfNeededFor_7 : decode cJ7_inflateIfNeededFor 7 = .ok (.getfield 22, 3) := dk_180 0 22 (dk_at dksJ7_inflateIfNeededFor_0 7 rfl rfl)
theorem dJ7_inflateIfNeededFor_10 : decode cJ7_inflateIfNeededFor 10 = .ok (.aload_n 1, 1) := dk_43 (dk_at dksJ7_inflateIfNeededFor_0 10 rfl rfl)
theorem dJ7_inflateIfNeededFor_11 : decode cJ7_inflateIfNeededFor 11 = .ok (.invokevirtual 40, 3) := dk_182 0 40 (dk_at dksJ7_inflateIfNeededFor_0 11 rfl rfl)
theorem dJ7_inflateIfNeededFor_14 : decode cJ7_inflateIfNeededFor 14 = .ok (.if_icmp .eq 7, 3) := dk_159 0 7 (dk_at dksJ7_inflateIfNeededFor_0 14 rfl rfl)
theorem dJ7_inflateIfNeededFor_17 : decode cJ7_inflateIfNeededFor 17 = .ok (.aload_n 0, 1) := dk_42 (dk_at dksJ7_inflateIfNeededFor_0 17 rfl rfl)
theorem dJ7_inflateIfNeededFor_18 : decode cJ7_inflateIfNeededFor 18 = .ok (.invokevirtual 195, 3) := dk_182 0 195 (dk_at dksJ7_inflateIfNeededFor_0 18 rfl rfl)
theorem dJ7_inflateIfNeededFor_21 : decode cJ7_inflateIfNeededFor 21 = .ok (.return_, 1) := dk_177 (dk_at dksJ7_inflateIfNeededFor_0 21 rfl rfl)
def dkwJ7_inflate_1 : List UInt8 := [42, 180, 0, 79, 184, 0, 125, 42, 43, 181, 0, 15, 42, 4, 181, 0, 22, 177]
abbrev dktJ7_inflate_1 : List UInt8 := dkwJ7_inflate_1 ++ []
def dkwJ7_inflate_0 : List UInt8 := [42, 182, 0, 83, 154, 0, 4, 177, 42, 180, 0, 15, 190, 184, 0, 26, 76, 42, 180, 0, 15, 3, 43, 3]
abbrev dktJ7_inflate_0 : List UInt8 := dkwJ7_inflate_0 ++ dktJ7_inflate_1
theorem dksJ7_inflate_0 : cJ7_inflate.data.toList.drop 0 = dktJ7_inflate_0 := by decide +kernel
theorem dksJ7_inflate_1 : cJ7_inflate.data.toList.drop 24 = dktJ7_inflate_1 := dk_seg dksJ7_inflate_0 24 rfl rfl
theorem dJ7_inflate_0 : decode cJ7_inflate 0 = .ok (.aload_n 0, 1) := dk_42 (dk_at dksJ7_inflate_0 0 rfl rfl)
theorem dJ7_inflate_1 : decode cJ7_inflate 1 = .ok (.invokevirtual 83, 3) := dk_182 0 83 (dk_at dksJ7_inflate_0 1 rfl rfl)
theorem dJ7_inflate_4 : decode cJ7_inflate 4 = .ok (.ifCond .ne 4, 3) := dk_154 0 4 (dk_at dksJ7_inflate_0 4 rfl rfl)
theorem dJ7_inflate_7 : decode cJ7_inflate 7 = .ok (.return_, 1) := dk_177 (dk_at dksJ7_inflate_0 7 rfl rfl)
theorem dJ7_inflate_8 : decode cJ7_inflate 8 = .ok (.aload_n 0, 1) := dk_42 (dk_at dksJ7_inflate_0 8 rfl rfl)
theorem dJ7_inflate_9 : decode cJ7_inflate 9 = .ok (.getfield 15, 3) := dk_180 0 15 (dk_at dksJ7_inflate_0 9 rfl rfl)
theorem dJ7_inflate_12 : decode cJ7_inflate 12 = .ok (.arraylength, 1) := dk_190 (dk_at dksJ7_inflate_0 12 rfl rfl)
theorem dJ7_inflate_13 : decode cJ7_inflate 13 = .ok (.invokestatic 26, 3) := dk_184 0 26 (dk_at dksJ7_inflate_0 13 rfl rfl)
theorem dJ7_inflate_16 : decode cJ7_inflate 16 = .ok (.astore_n 1, 1) := dk_76 (dk_at dksJ7_inflate_0 16 rfl rfl)
theorem dJ7_inflate_17 : decode cJ7_inflate 17 = .ok (.aload_n 0, 1) := dk_42 (dk_at dksJ7_inflate_0 17 rfl rfl)
theorem dJ7_inflate_18 : decode cJ7_inflate 18 = .ok (.getfield 15, 3) := dk_180 0 15 (dk_at dksJ7_inflate_0 18 rfl rfl)
theorem dJ7_inflate_21 : decode cJ7_inflate 21 = .ok (.iconst 0, 1) := dk_3 (dk_at dksJ7_inflate_0 21 rfl rfl)
theorem dJ7_inflate_22 : decode cJ7_inflate 22 = .ok (.aload_n 1, 1) := dk_43 (dk_at dksJ7_inflate_0 22 rfl rfl)
theorem dJ7_inflate_23 : decode cJ7_inflate 23 = .ok (.iconst 0, 1) := dk_3 (dk_at dksJ7_inflate_0 23 rfl rfl)
theorem dJ7_inflate_24 : decode cJ7_inflate 24 = .ok (.aload_n 0, 1) := dk_42 (dk_at dksJ7_inflate_1 0 rfl rfl)
theorem dJ7_inflate_25 : decode cJ7_inflate 25 = .ok (.getfield 79, 3) := dk_180 0 79 (dk_at dksJ7_inflate_1 1 rfl rfl)
theorem dJ7_inflate_28 : decode cJ7_inflate 28 = .ok (.invokestatic 125, 3) := dk_184 0 125 (dk_at dksJ7_inflate_1 4 rfl rfl)
theorem dJ7_inflate_31 : decode cJ7_inflate 31 = .ok (.aload_n 0, 1) := dk_42 (dk_at dksJ7_inflate_1 7 rfl rfl)
theorem dJ7_inflate_32 : decode cJ7_inflate 32 = .ok (.aload_n 1, 1) := dk_43 (dk_at dksJ7_inflate_1 8 rfl rfl)
theorem dJ7_inflate_33 : decode cJ7_inflate 33 = .ok (.putfield 15, 3) := dk_181 0 15 (dk_at dksJ7_inflate_1 9 rfl rfl)
theorem dJ7_inflate_36 : decode cJ7_inflate 36 = .ok (.aload_n 0, 1) := dk_42 (dk_at dksJ7_inflate_1 12 rfl rfl)
theorem dJ7_inflate_37 : decode cJ7_inflate 37 = .ok (.iconst 1, 1) := dk_4 (dk_at dksJ7_inflate_1 13 rfl rfl)
theorem dJ7_inflate_38 : decode cJ7_inflate 38 = .ok (.putfield 22, 3) := dk_181 0 22 (dk_at dksJ7_inflate_1 14 rfl rfl)
theorem dJ7_inflate_41 : decode cJ7_inflate 41 = .ok (.return_, 1) := dk_177 (dk_at dksJ7_inflate_1 17 rfl rfl)
def dkwJ7_append_2_2 : List UInt8 := [42, 29, 181, 0, 79, 42, 176]
abbrev dktJ7_append_2_2 : List UInt8 := dkwJ7_append_2_2 ++ []
def dkwJ7_append_2_1 : List UInt8 := [27, 29, 42, 180, 0, 15, 184, 0, 248, 87, 167, 0, 14, 27, 28, 29, 42, 180, 0, 15, 184, 0, 251, 87]
abbrev dktJ7_append_2_1 : List UInt8 := dkwJ7_append_2_1 ++ dktJ7_append_2_2
def dkwJ7_append_2_0 : List UInt8 := [42, 180, 0, 79, 61, 28, 27, 184, 0, 245, 96, 62, 42, 29, 182, 0, 100, 42, 182, 0, 83, 153, 0, 16]
abbrev dktJ7_append_2_0 : List UInt8 := dkwJ7_append_2_0 ++ dktJ7_append_2_1
theorem dksJ7_append_2_0 : cJ7_append_2.data.toList.drop 0 = dktJ7_append_2_0 := by decide +kernel
theorem dksJ7_append_2_1 : cJ7_append_2.data.toList.drop 24 = dktJ7_append_2_1 := dk_seg dksJ7_append_2_0 24 rfl rfl
theorem dksJ7_append_2_2 : cJ7_append_2.data.toList.drop 48 = dktJ7_append_2_2 := dk_seg dksJ7_append_2_1 24 rfl rfl
theorem dJ7_append_2_0 : decode cJ7_append_2 0 = .ok (.aload_n 0, 1) := dk_42 (dk_at dksJ7_append_2_0 0 rfl rfl)
theorem dJ7_append_2_1 : decode cJ7_append_2 1 = .ok (.getfield 79, 3) := dk_180 0 79 (dk_at dksJ7_append_2_0 1 rfl rfl)
theorem dJ7_append_2_4 : decode cJ7_append_2 4 = .ok (.istore_n 2, 1) := dk_61 (dk_at dksJ7_append_2_0 4 rfl rfl)
theorem dJ7_append_2_5 : decode cJ7_append_2 5 = .ok (.iload_n 2, 1) := dk_28 (dk_at dksJ7_append_2_0 5 rfl rfl)
theorem dJ7_append_2_6 : decode cJ7_append_2 6 = .ok (.iload_n 1, 1) := dk_27 (dk_at dksJ7_append_2_0 6 rfl rfl)
theorem dJ7_append_2_7 : decode cJ7_append_2 7 = .ok (.invokestatic 245, 3) := dk_184 0 245 (dk_at dksJ7_append_2_0 7 rfl rfl)
theorem dJ7_append_2_10 : decode cJ7_append_2 10 = .ok (.iadd, 1) := dk_96 (dk_at dksJ7_append_2_0 10 rfl rfl)
theorem dJ7_append_2_11 : decode cJ7_append_2 11 = .ok (.istore_n 3, 1) := dk_62 (dk_at dksJ7_append_2_0 11 rfl rfl)
theorem dJ7_append_2_12 : decode cJ7_append_2 12 = .ok (.aload_n 0, 1) := dk_42 (dk_at dksJ7_append_2_0 12 rfl rfl)
theorem dJ7_append_2_13 : decode cJ7_append_2 13 = .ok (.iload_n 3, 1) := dk_29 (dk_at dksJ7_append_2_0 13 rfl rfl)
theorem dJ7_append_2_14 : decode cJ7_append_2 14 = .ok (.invokevirtual 100, 3) := dk_182 0 100 (dk_at dksJ7_append_2_0 14 rfl rfl)
theorem dJ7_append_2_17 : decode cJ7_append_2 17 = .ok (.aload_n 0, 1) := dk_42 (dk_at dksJ7_append_2_0 17 rfl rfl)
theorem dJ7_append_2_18 : decode cJ7_append_2 18 = .ok (.invokevirtual 83, 3) := dk_182 0 83 (dk_at dksJ7_append_2_0 18 rfl rfl)
theorem dJ7_append_2_21 : decode cJ7_append_2 21 = .ok (.ifCond .eq 16, 3) := dk_153 0 16 (dk_at dksJ7_append_2_0 21 rfl rfl)
theorem dJ7_append_2_24 : decode cJ7_append_2 24 = .ok (.iload_n 1, 1) := dk_27 (dk_at dksJ7_append_2_1 0 rfl rfl)
theorem dJ7_append_2_25 : decode cJ7_append_2 25 = .ok (.iload_n 3, 1) := dk_29 (dk_at dksJ7_append_2_1 1 rfl rfl)
theorem dJ7_append_2_26 : decode cJ7_append_2 26 = .ok (.aload_n 0, 1) := dk_42 (dk_at dksJ7_append_2_1 2 rfl rfl)
theorem dJ7_append_2_27 : decode cJ7_append_2 27 = .ok (.getfield 15, 3) := dk_180 0 15 (dk_at dksJ7_append_2_1 3 rfl rfl)
theorem dJ7_append_2_30 : decode cJ7_append_2 30 = .ok (.invokestatic 248, 3) := dk_184 0 248 (dk_at dksJ7_append_2_1 6 rfl rfl)
theorem dJ7_append_2_33 : decode cJ7_append_2 33 = .ok (.pop, 1) := dk_87 (dk_at dksJ7_append_2_1 9 rfl rfl)
theorem dJ7_append_2_34 : decode cJ7_append_2 34 = .ok (.goto 14, 3) := dk_167 0 14 (dk_at dksJ7_append_2_1 10 rfl rfl)
theorem dJ7_append_2_37 : decode cJ7_append_2 37 = .ok (.iload_n 1, 1) := dk_27 (dk_at dksJ7_append_2_1 13 rfl rfl)
theorem dJ7_append_2_38 : decode cJ7_append_2 38 = .ok (.iload_n 2, 1) := dk_28 (dk_at dksJ7_append_2_1 14 rfl rfl)
theorem dJ7_append_2_39 : decode cJ7_append_2 39 = .ok (.iload_n 3, 1) := dk_29 (dk_at dksJ7_append_2_1 15 rfl rfl)
theorem dJ7_append_2_40 : decode cJ7_append_2 40 = .ok (.aload_n 0, 1) := dk_42 (dk_at dksJ7_append_2_1 16 rfl rfl)
theorem dJ7_append_2_41 : decode cJ7_append_2 41 = .ok (.getfield 15, 3) := dk_180 0 15 (dk_at dksJ7_append_2_1 17 rfl rfl)
theorem dJ7_append_2_44 : decode cJ7_append_2 44 = .ok (.invokestatic 251, 3) := dk_184 0 251 (dk_at dksJ7_append_2_1 20 rfl rfl)
theorem dJ7_append_2_47 : decode cJ7_append_2 47 = .ok (.pop, 1) := dk_87 (dk_at dksJ7_append_2_1 23 rfl rfl)
theorem dJ7_append_2_48 : decode cJ7_append_2 48 = .ok (.aload_n 0, 1) := dk_42 (dk_at dksJ7_append_2_2 0 rfl rfl)
theorem dJ7_append_2_49 : decode cJ7_append_2 49 = .ok (.iload_n 3, 1) := dk_29 (dk_at dksJ7_append_2_2 1 rfl rfl)
theorem dJ7_append_2_50 : decode cJ7_append_2 50 = .ok (.putfield 79, 3) := dk_181 0 79 (dk_at dksJ7_append_2_2 2 rfl rfl)
theorem dJ7_append_2_53 : decode cJ7_append_2 53 = .ok (.aload_n 0, 1) := dk_42 (dk_at dksJ7_append_2_2 5 rfl rfl)
theorem dJ7_append_2_54 : decode cJ7_append_2 54 = .ok (.areturn, 1) := dk_176 (dk_at dksJ7_append_2_2 6 rfl rfl)
theorem dJ7_getValue_0 : decode cJ7_getValue 0 = .ok (.aload_n 0, 1) := by decide +kernel
theorem dJ7_getValue_1 : decode cJ7_getValue 1 = .ok (.getfield 15, 3) := by decide +kernel
theorem dJ7_getValue_4 : decode cJ7_getValue 4 = .ok (.areturn, 1) := by decide +kernel
theorem dJ7_length_0 : decode cJ7_length 0 = .ok (.aload_n 0, 1) := by decide +kernel
theorem dJ7_length_1 : decode cJ7_length 1 = .ok (.getfield 79, 3) := by decide +kernel
theorem dJ7_length_4 : decode cJ7_length 4 = .ok (.ireturn, 1) := by decide +kernel
def dkwJ7_compareTo_4 : List UInt8 := [184, 0, 97, 172]
abbrev dktJ7_compareTo_4 : List UInt8 := dkwJ7_compareTo_4 ++ []
def dkwJ7_compareTo_3 : List UInt8 := [182, 0, 83, 153, 0, 15, 44, 45, 21, 4, 21, 5, 184, 0, 94, 167, 0, 12, 44, 45, 21, 4, 21, 5]
abbrev dktJ7_compareTo_3 : List UInt8 := dkwJ7_compareTo_3 ++ dktJ7_compareTo_4
def dkwJ7_compareTo_2 : List UInt8 := [45, 21, 4, 21, 5, 184, 0, 87, 167, 0, 12, 44, 45, 21, 4, 21, 5, 184, 0, 93, 172, 42]
abbrev dktJ7_compareTo_2 : List UInt8 := dkwJ7_compareTo_2 ++ dktJ7_compareTo_3
def dkwJ7_compareTo_1 : List UInt8 := [180, 0, 79, 54, 5, 42, 180, 0, 22, 43, 180, 0, 22, 160, 0, 32, 42, 182, 0, 83, 153, 0, 15, 44]
abbrev dktJ7_compareTo_1 : List UInt8 := dkwJ7_compareTo_1 ++ dktJ7_compareTo_2
def dkwJ7_compareTo_0 : List UInt8 := [42, 43, 166, 0, 5, 3, 172, 42, 180, 0, 15, 77, 43, 180, 0, 15, 78, 42, 180, 0, 79, 54, 4, 43]
abbrev dktJ7_compareTo_0 : List UInt8 := dkwJ7_compareTo_0 ++ dktJ7_compareTo_1
theorem dksJ7_compareTo_0 : cJ7_compareTo.data.toList.drop 0 = dktJ7_compareTo_0 := by decide +kernel
theorem dksJ7_compareTo_1 : cJ7_compareTo.data.toList.drop 24 = dktJ7_compareTo_1 := dk_seg dksJ7_compareTo_0 24 rfl rfl
theorem dksJ7_compareTo_2 : cJ7_compareTo.data.toList.drop 48 = dktJ7_compareTo_2 := dk_seg dksJ7_compareTo_1 24 rfl rfl
theorem dksJ7_compareTo_3 : cJ7_compareTo.data.toList.drop 70 = dktJ7_compareTo_3 := dk_seg dksJ7_compareTo_2 22 rfl rfl
theorem dksJ7_compareTo_4 : cJ7_compareTo.data.toList.drop 94 = dktJ7_compareTo_4 := dk_seg dksJ7_compareTo_3 24 rfl rfl
theorem dJ7_compareTo_0 : decode cJ7_compareTo 0 = .ok (.aload_n 0, 1) := dk_42 (dk_at dksJ7_compareTo_0 0 rfl rfl)
theorem dJ7_compareTo_1 : decode cJ7_compareTo 1 = .ok (.aload_n 1, 1) := dk_43 (dk_at dksJ7_compareTo_0 1 rfl rfl)
theorem dJ7_compareTo_2 : decode cJ7_compareTo 2 = .ok (.if_acmp .ne 5, 3) := dk_166 0 5 (dk_at dksJ7_compareTo_0 2 rfl rfl)
theorem dJ7_compareTo_5 : decode cJ7_compareTo 5 = .ok (.iconst 0, 1) := dk_3 (dk_at dksJ7_compareTo_0 5 rfl rfl)
theorem dJ7_compareTo_6 : decode cJ7_compareTo 6 = .ok (.ireturn, 1) := dk_172 (dk_at dksJ7_compareTo_0 6 rfl rfl)
theorem dJ7_compareTo_7 : decode cJ7_compareTo 7 = .ok (.aload_n 0, 1) := dk_42 (dk_at dksJ7_compareTo_0 7 rfl rfl)
theorem dJ7_compareTo_8 : decode cJ7_compareTo 8 = .ok (.getfield 15, 3) := dk_180 0 15 (dk_at dksJ7_compareTo_0 8 rfl rfl)
theorem dJ7_compareTo_11 : decode cJ7_compareTo 11 = .ok (.astore_n 2, 1) := dk_77 (dk_at dksJ7_compareTo_0 11 rfl rfl)
theorem dJ7_compareTo_12 : decode cJ7_compareTo 12 = .ok (.aload_n 1, 1) := dk_43 (dk_at dksJ7_compareTo_0 12 rfl rfl)
theorem dJ7_compareTo_13 : decode cJ7_compareTo 13 = .ok (.getfield 15, 3) := dk_180 0 15 (dk_at dksJ7_compareTo_0 13 rfl rfl)
theorem dJ7_compareTo_16 : decode cJ7_compareTo 16 = .ok (.astore_n 3, 1) := dk_78 (dk_at dksJ7_compareTo_0 16 rfl rfl)
theorem dJ7_compareTo_17 : decode cJ7_compareTo 17 = .ok (.aload_n 0, 1) := dk_42 (dk_at dksJ7_compareTo_0 17 rfl rfl)
theorem dJ7_compareTo_18 : decode cJ7_compareTo 18 = .ok (.getfield 79, 3) := dk_180 0 79 (dk_at dksJ7_compareTo_0 18 rfl rfl)
theorem dJ7_compareTo_21 : decode cJ7_compareTo 21 = .ok (.istore 4, 2) := dk_54 4 (dk_at dksJ7_compareTo_0 21 rfl rfl)
theorem dJ7_compareTo_23 : decode cJ7_compareTo 23 = .ok (.aload_n 1, 1) := dk_43 (dk_at dksJ7_compareTo_0 23 rfl rfl)
theorem dJ7_compareTo_24 : decode cJ7_compareTo 24 = .ok (.getfield 79, 3) := dk_180 0 79 (dk_at dksJ7_compareTo_1 0 rfl rfl)
theorem dJ7_compareTo_27 : decode cJ7_compareTo 27 = .ok (.istore 5, 2) := dk_54 5 (dk_at dksJ7_compareTo_1 3 rfl rfl)
theorem dJ7_compareTo_29 : decode cJ7_compareTo 29 = .ok (.aload_n 0, 1) := dk_42 (dk_at dksJ7_compareTo_1 5 rfl rfl)
theorem dJ7_compareTo_30 : decode cJ7_compareTo 30 = .ok (.getfield 22, 3) := dk_180 0 22 (dk_at dksJ7_compareTo_1 6 rfl rfl)
theorem dJ7_compareTo_33 : decode cJ7_compareTo 33 = .ok (.aload_n 1, 1) := dk_43 (dk_at dksJ7_compareTo_1 9 rfl rfl)
theorem dJ7_compareTo_34 : decode cJ7_compareTo 34 = .ok (.getfield 22, 3) := dk_180 0 22 (dk_at dksJ7_compareTo_1 10 rfl rfl)
theorem dJ7_compareTo_37 : decode cJ7_compareTo 37 = .ok (.if_icmp .ne 32, 3) := dk_160 0 32 (dk_at dksJ7_compareTo_1 13 rfl rfl)
theorem dJ7_compareTo_40 : decode cJ7_compareTo 40 = .ok (.aload_n 0, 1) := dk_42 (dk_at dksJ7_compareTo_1 16 rfl rfl)
theorem dJ7_compareTo_41 : decode cJ7_compareTo 41 = .ok (.invokevirtual 83, 3) := dk_182 0 83 (dk_at dksJ7_compareTo_1 17 rfl rfl)
theorem dJ7_compareTo_44 : decode cJ7_compareTo 44 = .ok (.ifCond .eq 15, 3) := dk_153 0 15 (dk_at dksJ7_compareTo_1 20 rfl rfl)
theorem dJ7_compareTo_47 : decode cJ7_compareTo 47 = .ok (.aload_n 2, 1) := dk_44 (dk_at dksJ7_compareTo_1 23 rfl rfl)
theorem dJ7_compareTo_48 : decode cJ7_compareTo 48 = .ok (.aload_n 3, 1) := dk_45 (dk_at dksJ7_compareTo_2 0 rfl rfl)
theorem dJ7_compareTo_49 : decode cJ7_compareTo 49 = .ok (.iload 4, 2) := dk_21 4 (dk_at dksJ7_compareTo_2 1 rfl rfl)
theorem dJ7_compareTo_51 : decode cJ7_compareTo 51 = .ok (.iload 5, 2) := dk_21 5 (dk_at dksJ7_compareTo_2 3 rfl rfl)
theorem dJ7_compareTo_53 : decode cJ7_compareTo 53 = .ok (.invokestatic 87, 3) := dk_184 0 87 (dk_at dksJ7_compareTo_2 5 rfl rfl)
theorem dJ7_compareTo_56 : decode cJ7_compareTo 56 = .ok (.goto 12, 3) := dk_167 0 12 (dk_at dksJ7_compareTo_2 8 rfl rfl)
theorem dJ7_compareTo_59 : decode cJ7_compareTo 59 = .ok (.aload_n 2, 1) := dk_44 (dk_at dksJ7_compareTo_2 11 rfl rfl)
theorem dJ7_compareTo_60 : decode cJ7_compareTo 60 = .ok (.aload_n 3, 1) := dk_45 (dk_at dksJ7_compareTo_2 12 rfl rfl)
theorem dJ7_compareTo_61 : decode cJ7_compareTo 61 = .ok (.iload 4, 2) := dk_21 4 (dk_at dksJ7_compareTo_2 13 rfl rfl)
theorem dJ7_compareTo_63 : decode cJ7_compareTo 63 = .ok (.iload 5, 2) := dk_21 5 (dk_at dksJ7_compareTo_2 15 rfl rfl)
theorem dJ7_compareTo_65 : decode cJ7_compareTo 65 = .ok (.invokestatic 93, 3) := dk_184 0 93 (dk_at dksJ7_compareTo_2 17 rfl rfl)
theorem dJ7_compareTo_68 : decode cJ7_compareTo 68 = .ok (.ireturn, 1) := dk_172 (dk_at dksJ7_compareTo_2 20 rfl rfl)
theorem dJ7_compareTo_69 : decode cJ7_compareTo 69 = .ok (.aload_n 0, 1) := dk_42 (dk_at dksJ7_compareTo_2 21 rfl rfl)
theorem dJ7_compareTo_70 : decode cJ7_compareTo 70 = .ok (.invokevirtual 83, 3) := dk_182 0 83 (dk_at dksJ7_compareTo_3 0 rfl rfl)
theorem dJ7_compareTo_73 : decode cJ7_compareTo 73 = .ok (.ifCond .eq 15, 3) := dk_153 0 15 (dk_at dksJ7_compareTo_3 3 rfl rfl)
theorem dJ7_compareTo_76 : decode cJ7_compareTo 76 = .ok (.aload_n 2, 1) := dk_44 (dk_at dksJ7_compareTo_3 6 rfl rfl)
theorem dJ7_compareTo_77 : decode cJ7_compareTo 77 = .ok (.aload_n 3, 1) := dk_45 (dk_at dksJ7_compareTo_3 7 rfl rfl)
theorem dJ7_compareTo_78 : decode cJ7_compareTo 78 = .ok (.iload 4, 2) := dk_21 4 (dk_at dksJ7_compareTo_3 8 rfl rfl)
theorem dJ7_compareTo_80 : decode cJ7_compareTo 80 = .ok (.iload 5, 2) := dk_21 5 (dk_at dksJ7_compareTo_3 10 rfl rfl)
theorem dJ7_compareTo_82 : decode cJ7_compareTo 82 = .ok (.invokestatic 94, 3) := dk_184 0 94 (dk_at dksJ7_compareTo_3 12 rfl rfl)
theorem dJ7_compareTo_85 : decode cJ7_compareTo 85 = .ok (.goto 12, 3) := dk_167 0 12 (dk_at dksJ7_compareTo_3 15 rfl rfl)
theorem dJ7_compareTo_88 : decode cJ7_compareTo 88 = .ok (.aload_n 2, 1) := dk_44 (dk_at dksJ7_compareTo_3 18 rfl rfl)
theorem dJ7_compareTo_89 : decode cJ7_compareTo 89 = .ok (.aload_n 3, 1) := dk_45 (dk_at dksJ7_compareTo_3 19 rfl rfl)
theorem dJ7_compareTo_90 : decode cJ7_compareTo 90 = .ok (.iload 4, 2) := dk_21 4 (dk_at dksJ7_compareTo_3 20 rfl rfl)
theorem dJ7_compareTo_92 : decode cJ7_compareTo 92 = .ok (.iload 5, 2) := dk_21 5 (dk_at dksJ7_compareTo_3 22 rfl rfl)
theorem dJ7_compareTo_94 : decode cJ7_compareTo 94 = .ok (.invokestatic 97, 3) := dk_184 0 97 (dk_at dksJ7_compareTo_4 0 rfl rfl)
theorem dJ7_compareTo_97 : decode cJ7_compareTo 97 = .ok (.ireturn, 1) := dk_172 (dk_at dksJ7_compareTo_4 3 rfl rfl)
def dkwJ7_append_3_3 : List UInt8 := [181, 0, 79, 27, 184, 0, 197, 42, 176]
abbrev dktJ7_append_3_3 : List UInt8 := dkwJ7_append_3_3 ++ []
def dkwJ7_append_3_2 : List UInt8 := [182, 0, 83, 153, 0, 7, 42, 182, 0, 195, 42, 180, 0, 15, 42, 89, 180, 0, 79, 90, 4, 96]
abbrev dktJ7_append_3_2 : List UInt8 := dkwJ7_append_3_2 ++ dktJ7_append_3_3
def dkwJ7_append_3_1 : List UInt8 := [42, 180, 0, 15, 42, 89, 180, 0, 79, 90, 4, 96, 181, 0, 79, 27, 145, 84, 167, 0, 33, 42]
abbrev dktJ7_append_3_1 : List UInt8 := dkwJ7_append_3_1 ++ dktJ7_append_3_2
def dkwJ7_append_3_0 : List UInt8 := [42, 42, 180, 0, 79, 4, 96, 182, 0, 100, 42, 182, 0, 83, 153, 0, 31, 27, 184, 0, 191, 153, 0, 24]
abbrev dktJ7_append_3_0 : List UInt8 := dkwJ7_append_3_0 ++ dktJ7_append_3_1
theorem dksJ7_append_3_0 : cJ7_append_3.data.toList.drop 0 = dktJ7_append_3_0 := by decide +kernel
theorem dksJ7_append_3_1 : cJ7_append_3.data.toList.drop 24 = dktJ7_append_3_1 := dk_seg dksJ7_append_3_0 24 rfl rfl
theorem dksJ7_append_3_2 : cJ7_append_3.data.toList.drop 46 = dktJ7_append_3_2 := dk_seg dksJ7_append_3_1 22 rfl rfl
theorem dksJ7_append_3_3 : cJ7_append_3.data.toList.drop 68 = dktJ7_append_3_3 := dk_seg dksJ7_append_3_2 22 rfl rfl
theorem dJ7_append_3_0 : decode cJ7_append_3 0 = .ok (.aload_n 0, 1) := dk_42 (dk_at dksJ7_append_3_0 0 rfl rfl)
theorem dJ7_append_3_1 : decode cJ7_append_3 1 = .ok (.aload_n 0, 1) := dk_42 (dk_at dksJ7_append_3_0 1 rfl rfl)
theorem dJ7_append_3_2 : decode cJ7_append_3 2 = .ok (.getfield 79, 3) := dk_180 0 79 (dk_at dksJ7_append_3_0 2 rfl rfl)
theorem dJ7_append_3_5 : decode cJ7_append_3 5 = .ok (.iconst 1, 1) := dk_4 (dk_at dksJ7_append_3_0 5 rfl rfl)
theorem dJ7_append_3_6 : decode cJ7_append_3 6 = .ok (.iadd, 1) := dk_96 (dk_at dksJ7_append_3_0 6 rfl rfl)
theorem dJ7_append_3_7 : decode cJ7_append_3 7 = .ok (.invokevirtual 100, 3) := dk_182 0 100 (dk_at dksJ7_append_3_0 7 rfl rfl)
theorem dJ7_append_3_10 : decode cJ7_append_3 10 = .ok (.aload_n 0, 1) := dk_42 (dk_at dksJ7_append_3_0 10 rfl rfl)
theorem dJ7_append_3_11 : decode cJ7_append_3 11 = .ok (.invokevirtual 83, 3) := dk_182 0 83 (dk_at dksJ7_append_3_0 11 rfl rfl)
theorem dJ7_append_3_14 : decode cJ7_append_3 14 = .ok (.ifCond .eq 31, 3) := dk_153 0 31 (dk_at dksJ7_append_3_0 14 rfl rfl)
theorem dJ7_append_3_17 : decode cJ7_append_3 17 = .ok (.iload_n 1, 1) := dk_27 (dk_at dksJ7_append_3_0 17 rfl rfl)
theorem dJ7_append_3_18 : decode cJ7_append_3 18 = .ok (.invokestatic 191, 3) := dk_184 0 191 (dk_at dksJ7_append_3_0 18 rfl rfl)
theorem dJ7_append_3_21 : decode cJ7_append_3 21 = .ok (.ifCond .eq 24, 3) := dk_153 0 24 (dk_at dksJ7_append_3_0 21 rfl rfl)
theorem dJ7_append_3_24 : decode cJ7_append_3 24 = .ok (.aload_n 0, 1) := dk_42 (dk_at dksJ7_append_3_1 0 rfl rfl)
theorem dJ7_append_3_25 : decode cJ7_append_3 25 = .ok (.getfield 15, 3) := dk_180 0 15 (dk_at dksJ7_append_3_1 1 rfl rfl)
theorem dJ7_append_3_28 : decode cJ7_append_3 28 = .ok (.aload_n 0, 1) := dk_42 (dk_at dksJ7_append_3_1 4 rfl rfl)
theorem dJ7_append_3_29 : decode cJ7_append_3 29 = .ok (.dup, 1) := dk_89 (dk_at dksJ7_append_3_1 5 rfl rfl)
theorem dJ7_append_3_30 : decode cJ7_append_3 30 = .ok (.getfield 79, 3) := dk_180 0 79 (dk_at dksJ7_append_3_1 6 rfl rfl)
theorem dJ7_append_3_33 : decode cJ7_append_3 33 = .ok (.dup_x1, 1) := dk_90 (dk_at dksJ7_append_3_1 9 rfl rfl)
theorem dJ7_append_3_34 : decode cJ7_append_3 34 = .ok (.iconst 1, 1) := dk_4 (dk_at dksJ7_append_3_1 10 rfl rfl)
theorem dJ7_append_3_35 : decode cJ7_append_3 35 = .ok (.iadd, 1) := dk_96 (dk_at dksJ7_append_3_1 11 rfl rfl)
theorem dJ7_append_3_36 : decode cJ7_append_3 36 = .ok (.putfield 79, 3) := dk_181 0 79 (dk_at dksJ7_append_3_1 12 rfl rfl)
theorem dJ7_append_3_39 : decode cJ7_append_3 39 = .ok (.iload_n 1, 1) := dk_27 (dk_at dksJ7_append_3_1 15 rfl rfl)
theorem dJ7_append_3_40 : decode cJ7_append_3 40 = .ok (.i2b, 1) := dk_145 (dk_at dksJ7_append_3_1 16 rfl rfl)
theorem dJ7_append_3_41 : decode cJ7_append_3 41 = .ok (.bastore, 1) := dk_84 (dk_at dksJ7_append_3_1 17 rfl rfl)
theorem dJ7_append_3_42 : decode cJ7_append_3 42 = .ok (.goto 33, 3) := dk_167 0 33 (dk_at dksJ7_append_3_1 18 rfl rfl)
theorem dJ7_append_3_45 : decode cJ7_append_3 45 = .ok (.aload_n 0, 1) := dk_42 (dk_at dksJ7_append_3_1 21 rfl rfl)
theorem dJ7_append_3_46 : decode cJ7_append_3 46 = .ok (.invokevirtual 83, 3) := dk_182 0 83 (dk_at dksJ7_append_3_2 0 rfl rfl)
theorem dJ7_append_3_49 : decode cJ7_append_3 49 = .ok (.ifCond .eq 7, 3) := dk_153 0 7 (dk_at dksJ7_append_3_2 3 rfl rfl)
theorem dJ7_append_3_52 : decode cJ7_append_3 52 = .ok (.aload_n 0, 1) := dk_42 (dk_at dksJ7_append_3_2 6 rfl rfl)
theorem dJ7_append_3_53 : decode cJ7_append_3 53 = .ok (.invokevirtual 195, 3) := dk_182 0 195 (dk_at dksJ7_append_3_2 7 rfl rfl)
theorem dJ7_append_3_56 : decode cJ7_append_3 56 = .ok (.aload_n 0, 1) := dk_42 (dk_at dksJ7_append_3_2 10 rfl rfl)
theorem dJ7_append_3_57 : decode cJ7_append_3 57 = .ok (.getfield 15, 3) := dk_180 0 15 (dk_at dksJ7_append_3_2 11 rfl rfl)
theorem dJ7_append_3_60 : decode cJ7_append_3 60 = .ok (.aload_n 0, 1) := dk_42 (dk_at dksJ7_append_3_2 14 rfl rfl)
theorem dJ7_append_3_61 : decode cJ7_append_3 61 = .ok (.dup, 1) := dk_89 (dk_at dksJ7_append_3_2 15 rfl rfl)
theorem dJ7_append_3_62 : decode cJ7_append_3 62 = .ok (.getfield 79, 3) := dk_180 0 79 (dk_at dksJ7_append_3_2 16 rfl rfl)
theorem dJ7_append_3_65 : decode cJ7_append_3 65 = .ok (.dup_x1, 1) := dk_90 (dk_at dksJ7_append_3_2 19 rfl rfl)
theorem dJ7_append_3_66 : decode cJ7_append_3 66 = .ok (.iconst 1, 1) := dk_4 (dk_at dksJ7_append_3_2 20 rfl rfl)
theorem dJ7_append_3_67 : decode cJ7_append_3 67 = .ok (.iadd, 1) := dk_96 (dk_at dksJ7_append_3_2 21 rfl rfl)
theorem dJ7_append_3_68 : decode cJ7_append_3 68 = .ok (.putfield 79, 3) := dk_181 0 79 (dk_at dksJ7_append_3_3 0 rfl rfl)
theorem dJ7_append_3_71 : decode cJ7_append_3 71 = .ok (.iload_n 1, 1) := dk_27 (dk_at dksJ7_append_3_3 3 rfl rfl)
theorem dJ7_append_3_72 : decode cJ7_append_3 72 = .ok (.invokestatic 197, 3) := dk_184 0 197 (dk_at dksJ7_append_3_3 4 rfl rfl)
theorem dJ7_append_3_75 : decode cJ7_append_3 75 = .ok (.aload_n 0, 1) := dk_42 (dk_at dksJ7_append_3_3 7 rfl rfl)
theorem dJ7_append_3_76 : decode cJ7_append_3 76 = .ok (.areturn, 1) := dk_176 (dk_at dksJ7_append_3_3 8 rfl rfl)
def dkwJ7_charAt_1 : List UInt8 := [21, 4, 184, 0, 144, 28, 154, 0, 12, 45, 27, 51, 17, 0, 255, 126, 146, 172, 45, 27, 184, 0, 148, 172]
abbrev dktJ7_charAt_1 : List UInt8 := dkwJ7_charAt_1 ++ []
def dkwJ7_charAt_0 : List UInt8 := [42, 180, 0, 22, 61, 42, 180, 0, 15, 78, 42, 180, 0, 79, 45, 190, 28, 122, 184, 0, 138, 54, 4, 27]
abbrev dktJ7_charAt_0 : List UInt8 := dkwJ7_charAt_0 ++ dktJ7_charAt_1
theorem dksJ7_charAt_0 : cJ7_charAt.data.toList.drop 0 = dktJ7_charAt_0 := by decide +kernel
theorem dksJ7_charAt_1 : cJ7_charAt.data.toList.drop 24 = dktJ7_charAt_1 := dk_seg dksJ7_charAt_0 24 rfl rfl
theorem dJ7_charAt_0 : decode cJ7_charAt 0 = .ok (.aload_n 0, 1) := dk_42 (dk_at dksJ7_charAt_0 0 rfl rfl)
theorem dJ7_charAt_1 : decode cJ7_charAt 1 = .ok (.getfield 22, 3) := dk_180 0 22 (dk_at dksJ7_charAt_0 1 rfl rfl)
theorem dJ7_charAt_4 : decode cJ7_charAt 4 = .ok (.istore_n 2, 1) := dk_61 (dk_at dksJ7_charAt_0 4 rfl rfl)
theorem dJ7_charAt_5 : decode cJ7_charAt 5 = .ok (.aload_n 0, 1) := dk_42 (dk_at dksJ7_charAt_0 5 rfl rfl)
theorem dJ7_charAt_6 : decode cJ7_charAt 6 = .ok (.getfield 15, 3) := dk_180 0 15 (dk_at dksJ7_charAt_0 6 rfl rfl)
theorem dJ7_charAt_9 : decode cJ7_charAt 9 = .ok (.astore_n 3, 1) := dk_78 (dk_at dksJ7_charAt_0 9 rfl rfl)
theorem dJ7_charAt_10 : decode cJ7_charAt 10 = .ok (.aload_n 0, 1) := dk_42 (dk_at dksJ7_charAt_0 10 rfl rfl)
theorem dJ7_charAt_11 : decode cJ7_charAt 11 = .ok (.getfield 79, 3) := dk_180 0 79 (dk_at dksJ7_charAt_0 11 rfl rfl)
theorem dJ7_charAt_14 : decode cJ7_charAt 14 = .ok (.aload_n 3, 1) := dk_45 (dk_at dksJ7_charAt_0 14 rfl rfl)
theorem dJ7_charAt_15 : decode cJ7_charAt 15 = .ok (.arraylength, 1) := dk_190 (dk_at dksJ7_charAt_0 15 rfl rfl)
theorem dJ7_charAt_16 : decode cJ7_charAt 16 = .ok (.iload_n 2, 1) := dk_28 (dk_at dksJ7_charAt_0 16 rfl rfl)
theorem dJ7_charAt_17 : decode cJ7_charAt 17 = .ok (.ishr, 1) := dk_122 (dk_at dksJ7_charAt_0 17 rfl rfl)
theorem dJ7_charAt_18 : decode cJ7_charAt 18 = .ok (.invokestatic 138, 3) := dk_184 0 138 (dk_at dksJ7_charAt_0 18 rfl rfl)
theorem dJ7_charAt_21 : decode cJ7_charAt 21 = .ok (.istore 4, 2) := dk_54 4 (dk_at dksJ7_charAt_0 21 rfl rfl)
theorem dJ7_charAt_23 : decode cJ7_charAt 23 = .ok (.iload_n 1, 1) := dk_27 (dk_at dksJ7_charAt_0 23 rfl rfl)
theorem dJ7_charAt_24 : decode cJ7_charAt 24 = .ok (.iload 4, 2) := dk_21 4 (dk_at dksJ7_charAt_1 0 rfl rfl)
theorem dJ7_charAt_26 : decode cJ7_charAt 26 = .ok (.invokestatic 144, 3) := dk_184 0 144 (dk_at dksJ7_charAt_1 2 rfl rfl)
theorem dJ7_charAt_29 : decode cJ7_charAt 29 = .ok (.iload_n 2, 1) := dk_28 (dk_at dksJ7_charAt_1 5 rfl rfl)
theorem dJ7_charAt_30 : decode cJ7_charAt 30 = .ok (.ifCond .ne 12, 3) := dk_154 0 12 (dk_at dksJ7_charAt_1 6 rfl rfl)
theorem dJ7_charAt_33 : decode cJ7_charAt 33 = .ok (.aload_n 3, 1) := dk_45 (dk_at dksJ7_charAt_1 9 rfl rfl)
theorem dJ7_charAt_34 : decode cJ7_charAt 34 = .ok (.iload_n 1, 1) := dk_27 (dk_at dksJ7_charAt_1 10 rfl rfl)
theorem dJ7_charAt_35 : decode cJ7_charAt 35 = .ok (.baload, 1) := dk_51 (dk_at dksJ7_charAt_1 11 rfl rfl)
theorem dJ7_charAt_36 : decode cJ7_charAt 36 = .ok (.sipush 255, 3) := dk_17 0 255 (dk_at dksJ7_charAt_1 12 rfl rfl)
theorem dJ7_charAt_39 : decode cJ7_charAt 39 = .ok (.iand, 1) := dk_126 (dk_at dksJ7_charAt_1 15 rfl rfl)
theorem dJ7_charAt_40 : decode cJ7_charAt 40 = .ok (.i2c, 1) := dk_146 (dk_at dksJ7_charAt_1 16 rfl rfl)
theorem dJ7_charAt_41 : decode cJ7_charAt 41 = .ok (.ireturn, 1) := dk_172 (dk_at dksJ7_charAt_1 17 rfl rfl)
theorem dJ7_charAt_42 : decode cJ7_charAt 42 = .ok (.aload_n 3, 1) := dk_45 (dk_at dksJ7_charAt_1 18 rfl rfl)
theorem dJ7_charAt_43 : decode cJ7_charAt 43 = .ok (.iload_n 1, 1) := dk_27 (dk_at dksJ7_charAt_1 19 rfl rfl)
theorem dJ7_charAt_44 : decode cJ7_charAt 44 = .ok (.invokestatic 148, 3) := dk_184 0 148 (dk_at dksJ7_charAt_1 20 rfl rfl)
theorem dJ7_charAt_47 : decode cJ7_charAt 47 = .ok (.ireturn, 1) := dk_172 (dk_at dksJ7_charAt_1 23 rfl rfl)
def dkwJ7_setLength_3 : List UInt8 := [164, 0, 8, 42, 4, 181, 0, 73, 42, 27, 181, 0, 79, 177]
abbrev dktJ7_setLength_3 : List UInt8 := dkwJ7_setLength_3 ++ []
def dkwJ7_setLength_2 : List UInt8 := [167, 0, 31, 42, 180, 0, 15, 42, 180, 0, 79, 27, 184, 0, 137, 167, 0, 16, 42, 180, 0, 79, 27]
abbrev dktJ7_setLength_2 : List UInt8 := dkwJ7_setLength_2 ++ dktJ7_setLength_3
def dkwJ7_setLength_1 : List UInt8 := [162, 0, 40, 42, 182, 0, 83, 153, 0, 18, 42, 180, 0, 15, 42, 180, 0, 79, 27, 184, 0, 133]
abbrev dktJ7_setLength_1 : List UInt8 := dkwJ7_setLength_1 ++ dktJ7_setLength_2
def dkwJ7_setLength_0 : List UInt8 := [27, 156, 0, 12, 187, 0, 129, 89, 27, 183, 0, 131, 191, 42, 27, 182, 0, 100, 42, 180, 0, 79, 27]
abbrev dktJ7_setLength_0 : List UInt8 := dkwJ7_setLength_0 ++ dktJ7_setLength_1
theorem dksJ7_setLength_0 : cJ7_setLength.data.toList.drop 0 = dktJ7_setLength_0 := by decide +kernel
theorem dksJ7_setLength_1 : cJ7_setLength.data.toList.drop 23 = dktJ7_setLength_1 := dk_seg dksJ7_setLength_0 23 rfl rfl
theorem dksJ7_setLength_2 : cJ7_setLength.data.toList.drop 45 = dktJ7_setLength_2 := dk_seg dksJ7_setLength_1 22 rfl rfl
theorem dksJ7_setLength_3 : cJ7_setLength.data.toList.drop 68 = dktJ7_setLength_3 := dk_seg dksJ7_setLength_2 23 rfl rfl
theorem dJ7_setLength_0 : decode cJ7_setLength 0 = .ok (.iload_n 1, 1) := dk_27 (dk_at dksJ7_setLength_0 0 rfl rfl)
theorem dJ7_setLength_1 : decode cJ7_setLength 1 = .ok (.ifCond .ge 12, 3) := dk_156 0 12 (dk_at dksJ7_setLength_0 1 rfl rfl)
theorem dJ7_setLength_4 : decode cJ7_setLength 4 = .ok (.new 129, 3) := dk_187 0 129 (dk_at dksJ7_setLength_0 4 rfl rfl)
theorem dJ7_setLength_7 : decode cJ7_setLength 7 = .ok (.dup, 1) := dk_89 (dk_at dksJ7_setLength_0 7 rfl rfl)
theorem dJ7_setLength_8 : decode cJ7_setLength 8 = .ok (.iload_n 1, 1) := dk_27 (dk_at dksJ7_setLength_0 8 rfl rfl)
theorem dJ7_setLength_9 : decode cJ7_setLength 9 = .ok (.invokespecial 131, 3) := dk_183 0 131 (dk_at dksJ7_setLength_0 9 rfl rfl)
theorem dJ7_setLength_12 : decode cJ7_setLength 12 = .ok (.athrow, 1) := dk_191 (dk_at dksJ7_setLength_0 12 rfl rfl)
theorem dJ7_setLength_13 : decode cJ7_setLength 13 = .ok (.aload_n 0, 1) := dk_42 (dk_at dksJ7_setLength_0 13 rfl rfl)
theorem dJ7_setLength_14 : decode cJ7_setLength 14 = .ok (.iload_n 1, 1) := dk_27 (dk_at dksJ7_setLength_0 14 rfl rfl)
theorem dJ7_setLength_15 : decode cJ7_setLength 15 = .ok (.invokevirtual 100, 3) := dk_182 0 100 (dk_at dksJ7_setLength_0 15 rfl rfl)
theorem dJ7_setLength_18 : decode cJ7_setLength 18 = .ok (.aload_n 0, 1) := dk_42 (dk_at dksJ7_setLength_0 18 rfl rfl)
theorem dJ7_setLength_19 : decode cJ7_setLength 19 = .ok (.getfield 79, 3) := dk_180 0 79 (dk_at dksJ7_setLength_0 19 rfl rfl)
theorem dJ7_setLength_22 : decode cJ7_setLength 22 = .ok (.iload_n 1, 1) := dk_27 (dk_at dksJ7_setLength_0 22 rfl rfl)
theorem dJ7_setLength_23 : decode cJ7_setLength 23 = .ok (.if_icmp .ge 40, 3) := dk_162 0 40 (dk_at dksJ7_setLength_1 0 rfl rfl)
theorem dJ7_setLength_26 : decode cJ7_setLength 26 = .ok (.aload_n 0, 1) := dk_42 (dk_at dksJ7_setLength_1 3 rfl rfl)
theorem dJ7_setLength_27 : decode cJ7_setLength 27 = .ok (.invokevirtual 83, 3) := dk_182 0 83 (dk_at dksJ7_setLength_1 4 rfl rfl)
theorem dJ7_setLength_30 : decode cJ7_setLength 30 = .ok (.ifCond .eq 18, 3) := dk_153 0 18 (dk_at dksJ7_setLength_1 7 rfl rfl)
theorem dJ7_setLength_33 : decode cJ7_setLength 33 = .ok (.aload_n 0, 1) := dk_42 (dk_at dksJ7_setLength_1 10 rfl rfl)
theorem dJ7_setLength_34 : decode cJ7_setLength 34 = .ok (.getfield 15, 3) := dk_180 0 15 (dk_at dksJ7_setLength_1 11 rfl rfl)
theorem dJ7_setLength_37 : decode cJ7_setLength 37 = .ok (.aload_n 0, 1) := dk_42 (dk_at dksJ7_setLength_1 14 rfl rfl)
theorem dJ7_setLength_38 : decode cJ7_setLength 38 = .ok (.getfield 79, 3) := dk_180 0 79 (dk_at dksJ7_setLength_1 15 rfl rfl)
theorem dJ7_setLength_41 : decode cJ7_setLength 41 = .ok (.iload_n 1, 1) := dk_27 (dk_at dksJ7_setLength_1 18 rfl rfl)
theorem dJ7_setLength_42 : decode cJ7_setLength 42 = .ok (.invokestatic 133, 3) := dk_184 0 133 (dk_at dksJ7_setLength_1 19 rfl rfl)
theorem dJ7_setLength_45 : decode cJ7_setLength 45 = .ok (.goto 31, 3) := dk_167 0 31 (dk_at dksJ7_setLength_2 0 rfl rfl)
theorem dJ7_setLength_48 : decode cJ7_setLength 48 = .ok (.aload_n 0, 1) := dk_42 (dk_at dksJ7_setLength_2 3 rfl rfl)
theorem dJ7_setLength_49 : decode cJ7_setLength 49 = .ok (.getfield 15, 3) := dk_180 0 15 (dk_at dksJ7_setLength_2 4 rfl rfl)
theorem dJ7_setLength_52 : decode cJ7_setLength 52 = .ok (.aload_n 0, 1) := dk_42 (dk_at dksJ7_setLength_2 7 rfl rfl)
theorem dJ7_setLength_53 : decode cJ7_setLength 53 = .ok (.getfield 79, 3) := dk_180 0 79 (dk_at dksJ7_setLength_2 8 rfl rfl)
theorem dJ7_setLength_56 : decode cJ7_setLength 56 = .ok (.iload_n 1, 1) := dk_27 (dk_at dksJ7_setLength_2 11 rfl rfl)
theorem dJ7_setLength_57 : decode cJ7_setLength 57 = .ok (.invokestatic 137, 3) := dk_184 0 137 (dk_at dksJ7_setLength_2 12 rfl rfl)
theorem dJ7_setLength_60 : decode cJ7_setLength 60 = .ok (.goto 16, 3) := dk_167 0 16 (dk_at dksJ7_setLength_2 15 rfl rfl)
theorem dJ7_setLength_63 : decode cJ7_setLength 63 = .ok (.aload_n 0, 1) := dk_42 (dk_at dksJ7_setLength_2 18 rfl rfl)
theorem dJ7_setLength_64 : decode cJ7_setLength 64 = .ok (.getfield 79, 3) := dk_180 0 79 (dk_at dksJ7_setLength_2 19 rfl rfl)
theorem dJ7_setLength_67 : decode cJ7_setLength 67 = .ok (.iload_n 1, 1) := dk_27 (dk_at dksJ7_setLength_2 22 rfl rfl)
theorem dJ7_setLength_68 : decode cJ7_setLength 68 = .ok (.if_icmp .le 8, 3) := dk_164 0 8 (dk_at dksJ7_setLength_3 0 rfl rfl)
theorem dJ7_setLength_71 : decode cJ7_setLength 71 = .ok (.aload_n 0, 1) := dk_42 (dk_at dksJ7_setLength_3 3 rfl rfl)
theorem dJ7_setLength_72 : decode cJ7_setLength 72 = .ok (.iconst 1, 1) := dk_4 (dk_at dksJ7_setLength_3 4 rfl rfl)
theorem dJ7_setLength_73 : decode cJ7_setLength 73 = .ok (.putfield 73, 3) := dk_181 0 73 (dk_at dksJ7_setLength_3 5 rfl rfl)
theorem dJ7_setLength_76 : decode cJ7_setLength 76 = .ok (.aload_n 0, 1) := dk_42 (dk_at dksJ7_setLength_3 8 rfl rfl)
theorem dJ7_setLength_77 : decode cJ7_setLength 77 = .ok (.iload_n 1, 1) := dk_27 (dk_at dksJ7_setLength_3 9 rfl rfl)
theorem dJ7_setLength_78 : decode cJ7_setLength 78 = .ok (.putfield 79, 3) := dk_181 0 79 (dk_at dksJ7_setLength_3 10 rfl rfl)
theorem dJ7_setLength_81 : decode cJ7_setLength 81 = .ok (.return_, 1) := dk_177 (dk_at dksJ7_setLength_3 13 rfl rfl)
def dkwJ8_init_0 : List UInt8 := [42, 16, 16, 183, 0, 1, 177]
abbrev dktJ8_init_0 : List UInt8 := dkwJ8_init_0 ++ []
theorem dksJ8_init_0 : cJ8_init.data.toList.drop 0 = dktJ8_init_0 := by decide +kernel
theorem dJ8_init_0 : decode cJ8_init 0 = .ok (.aload_n 0, 1) := dk_42 (dk_at dksJ8_init_0 0 rfl rfl)
theorem dJ8_init_1 : decode cJ8_init 1 = .ok (.bipush 16, 2) := dk_16 16 (dk_at dksJ8_init_0 1 rfl rfl)
theorem dJ8_init_3 : decode cJ8_init 3 = .ok (.invokespecial 1, 3) := dk_183 0 1 (dk_at dksJ8_init_0 3 rfl rfl)
theorem dJ8_init_6 : decode cJ8_init 6 = .ok (.return_, 1) := dk_177 (dk_at dksJ8_init_0 6 rfl rfl)
def dkwJ8_append_0 : List UInt8 := [42, 43, 183, 0, 29, 87, 42, 176]
abbrev dktJ8_append_0 : List UInt8 := dkwJ8_append_0 ++ []
theorem dksJ8_append_0 : cJ8_append.data.toList.drop 0 = dktJ8_append_0 := by decide +kernel
theorem dJ8_append_0 : decode cJ8_append 0 = .ok (.aload_n 0, 1) := dk_42 (dk_at dksJ8_append_0 0 rfl rfl)
theorem dJ8_append_1 : decode cJ8_append 1 = .ok (.aload_n 1, 1) := dk_43 (dk_at dksJ8_append_0 1 rfl rfl)
theorem dJ8_append_2 : decode cJ8_append 2 = .ok (.invokespecial 29, 3) := dk_183 0 29 (dk_at dksJ8_append_0 2 rfl rfl)
theorem dJ8_append_5 : decode cJ8_append 5 = .ok (.pop, 1) := dk_87 (dk_at dksJ8_append_0 5 rfl rfl)
theorem dJ8_append_6 : decode cJ8_append 6 = .ok (.aload_n 0, 1) := dk_42 (dk_at dksJ8_append_0 6 rfl rfl)
theorem dJ8_append_7 : decode cJ8_append 7 = .ok (.areturn, 1) := dk_176 (dk_at dksJ8_append_0 7 rfl rfl)
def dkwJ8_append_2_0 : List UInt8 := [42, 27, 183, 0, 53, 87, 42, 176]
abbrev dktJ8_append_2_0 : List UInt8 := dkwJ8_append_2_0 ++ []
theorem dksJ8_append_2_0 : cJ8_append_2.data.toList.drop 0 = dktJ8_append_2_0 := by decide +kernel
theorem dJ8_append_2_0 : decode cJ8_append_2 0 = .ok (.aload_n 0, 1) := dk_42 (dk_at dksJ8_append_2_0 0 rfl rfl)
theorem dJ8_append_2_1 : decode cJ8_append_2 1 = .ok (.iload_n 1, 1) := dk_27 (dk_at dksJ8_append_2_0 1 rfl rfl)
theorem dJ8_append_2_2 : decode cJ8_append_2 2 = .ok (.invokespecial 53, 3) := dk_183 0 53 (dk_at dksJ8_append_2_0 2 rfl rfl)
theorem dJ8_append_2_5 : decode cJ8_append_2 5 = .ok (.pop, 1) := dk_87 (dk_at dksJ8_append_2_0 5 rfl rfl)
theorem dJ8_append_2_6 : decode cJ8_append_2 6 = .ok (.aload_n 0, 1) := dk_42 (dk_at dksJ8_append_2_0 6 rfl rfl)
theorem dJ8_append_2_7 : decode cJ8_append_2 7 = .ok (.areturn, 1) := dk_176 (dk_at dksJ8_append_2_0 7 rfl rfl)
def dkwJ8_toString_0 : List UInt8 := [187, 0, 18, 89, 42, 183, 0, 137, 176]
abbrev dktJ8_toString_0 : List UInt8 := dkwJ8_toString_0 ++ []
theorem dksJ8_toString_0 : cJ8_toString.data.toList.drop 0 = dktJ8_toString_0 := by decide +kernel
theorem dJ8_toString_0 : decode cJ8_toString 0 = .ok (.new 18, 3) := dk_187 0 18 (dk_at dksJ8_toString_0 0 rfl rfl)
theorem dJ8_toString_3 : decode cJ8_toString 3 = .ok (.dup, 1) := dk_89 (dk_at dksJ8_toString_0 3 rfl rfl)
theorem dJ8_toString_4 : decode cJ8_toString 4 = .ok (.aload_n 0, 1) := dk_42 (dk_at dksJ8_toString_0 4 rfl rfl)
theorem dJ8_toString_5 : decode cJ8_toString 5 = .ok (.invokespecial 137, 3) := dk_183 0 137 (dk_at dksJ8_toString_0 5 rfl rfl)
theorem dJ8_toString_8 : decode cJ8_toString 8 = .ok (.areturn, 1) := dk_176 (dk_at dksJ8_toString_0 8 rfl rfl)
theorem dJ8_length_0 : decode cJ8_length 0 = .ok (.aload_n 0, 1) := by decide +kernel
theorem dJ8_length_1 : decode cJ8_length 1 = .ok (.invokespecial 343, 3) := by decide +kernel
theorem dJ8_length_4 : decode cJ8_length 4 = .ok (.ireturn, 1) := by decide +kernel
def dkwJ8_compareTo_0 : List UInt8 := [42, 43, 192, 0, 24, 182, 1, 90, 172]
abbrev dktJ8_compareTo_0 : List UInt8 := dkwJ8_compareTo_0 ++ []
theorem dksJ8_compareTo_0 : cJ8_compareTo.data.toList.drop 0 = dktJ8_compareTo_0 := by decide +kernel
theorem dJ8_compareTo_0 : decode cJ8_compareTo 0 = .ok (.aload_n 0, 1) := dk_42 (dk_at dksJ8_compareTo_0 0 rfl rfl)
theorem dJ8_compareTo_1 : decode cJ8_compareTo 1 = .ok (.aload_n 1, 1) := dk_43 (dk_at dksJ8_compareTo_0 1 rfl rfl)
theorem dJ8_compareTo_2 : decode cJ8_compareTo 2 = .ok (.checkcast 24, 3) := dk_192 0 24 (dk_at dksJ8_compareTo_0 2 rfl rfl)
theorem dJ8_compareTo_5 : decode cJ8_compareTo 5 = .ok (.invokevirtual 346, 3) := dk_182 1 90 (dk_at dksJ8_compareTo_0 5 rfl rfl)
theorem dJ8_compareTo_8 : decode cJ8_compareTo 8 = .ok (.ireturn, 1) := dk_172 (dk_at dksJ8_compareTo_0 8 rfl rfl)
def dkwJ8_compareTo_2_0 : List UInt8 := [42, 43, 183, 0, 13, 172]
abbrev dktJ8_compareTo_2_0 : List UInt8 := dkwJ8_compareTo_2_0 ++ []
theorem dksJ8_compareTo_2_0 : cJ8_compareTo_2.data.toList.drop 0 = dktJ8_compareTo_2_0 := by decide +kernel
theorem dJ8_compareTo_2_0 : decode cJ8_compareTo_2 0 = .ok (.aload_n 0, 1) := dk_42 (dk_at dksJ8_compareTo_2_0 0 rfl rfl)
theorem dJ8_compareTo_2_1 : decode cJ8_compareTo_2 1 = .ok (.aload_n 1, 1) := dk_43 (dk_at dksJ8_compareTo_2_0 1 rfl rfl)
theorem dJ8_compareTo_2_2 : decode cJ8_compareTo_2 2 = .ok (.invokespecial 13, 3) := dk_183 0 13 (dk_at dksJ8_compareTo_2_0 2 rfl rfl)
theorem dJ8_compareTo_2_5 : decode cJ8_compareTo_2 5 = .ok (.ireturn, 1) := dk_172 (dk_at dksJ8_compareTo_2_0 5 rfl rfl)
def dkwJ8_append_3_0 : List UInt8 := [42, 27, 183, 0, 50, 87, 42, 176]
abbrev dktJ8_append_3_0 : List UInt8 := dkwJ8_append_3_0 ++ []
theorem dksJ8_append_3_0 : cJ8_append_3.data.toList.drop 0 = dktJ8_append_3_0 := by decide +kernel
theorem dJ8_append_3_0 : decode cJ8_append_3 0 = .ok (.aload_n 0, 1) := dk_42 (dk_at dksJ8_append_3_0 0 rfl rfl)
theorem dJ8_append_3_1 : decode cJ8_append_3 1 = .ok (.iload_n 1, 1) := dk_27 (dk_at dksJ8_append_3_0 1 rfl rfl)
theorem dJ8_append_3_2 : decode cJ8_append_3 2 = .ok (.invokespecial 50, 3) := dk_183 0 50 (dk_at dksJ8_append_3_0 2 rfl rfl)
theorem dJ8_append_3_5 : decode cJ8_append_3 5 = .ok (.pop, 1) := dk_87 (dk_at dksJ8_append_3_0 5 rfl rfl)
theorem dJ8_append_3_6 : decode cJ8_append_3 6 = .ok (.aload_n 0, 1) := dk_42 (dk_at dksJ8_append_3_0 6 rfl rfl)
theorem dJ8_append_3_7 : decode cJ8_append_3 7 = .ok (.areturn, 1) := dk_176 (dk_at dksJ8_append_3_0 7 rfl rfl)
def dkwJ8_charAt_0 : List UInt8 := [42, 27, 183, 1, 73, 172]
abbrev dktJ8_charAt_0 : List UInt8 := dkwJ8_charAt_0 ++ []
theorem dksJ8_charAt_0 : cJ8_charAt.data.toList.drop 0 = dktJ8_charAt_0 := by decide +kernel
theorem dJ8_charAt_0 : decode cJ8_charAt 0 = .ok (.aload_n 0, 1) := dk_42 (dk_at dksJ8_charAt_0 0 rfl rfl)
theorem dJ8_charAt_1 : decode cJ8_charAt 1 = .ok (.iload_n 1, 1) := dk_27 (dk_at dksJ8_charAt_0 1 rfl rfl)
theorem dJ8_charAt_2 : decode cJ8_charAt 2 = .ok (.invokespecial 329, 3) := dk_183 1 73 (dk_at dksJ8_charAt_0 2 rfl rfl)
theorem dJ8_charAt_5 : decode cJ8_charAt 5 = .ok (.ireturn, 1) := dk_172 (dk_at dksJ8_charAt_0 5 rfl rfl)
def dkwJ8_setLength_0 : List UInt8 := [42, 27, 183, 1, 77, 177]
abbrev dktJ8_setLength_0 : List UInt8 := dkwJ8_setLength_0 ++ []
theorem dksJ8_setLength_0 : cJ8_setLength.data.toList.drop 0 = dktJ8_setLength_0 := by decide +kernel
theorem dJ8_setLength_0 : decode cJ8_setLength 0 = .ok (.aload_n 0, 1) := dk_42 (dk_at dksJ8_setLength_0 0 rfl rfl)
theorem dJ8_setLength_1 : decode cJ8_setLength 1 = .ok (.iload_n 1, 1) := dk_27 (dk_at dksJ8_setLength_0 1 rfl rfl)
theorem dJ8_setLength_2 : decode cJ8_setLength 2 = .ok (.invokespecial 333, 3) := dk_183 1 77 (dk_at dksJ8_setLength_0 2 rfl rfl)
theorem dJ8_setLength_5 : decode cJ8_setLength 5 = .ok (.return_, 1) := dk_177 (dk_at dksJ8_setLength_0 5 rfl rfl)
def dkwJ9_checkBoundsBeginEnd_0 : List UInt8 := [26, 27, 28, 178, 4, 29, 184, 4, 38, 87, 177]
abbrev dktJ9_checkBoundsBeginEnd_0 : List UInt8 := dkwJ9_checkBoundsBeginEnd_0 ++ []
theorem dksJ9_checkBoundsBeginEnd_0 : cJ9_checkBoundsBeginEnd.data.toList.drop 0 = dktJ9_checkBoundsBeginEnd_0 := by decide +kernel
theorem dJ9_checkBoundsBeginEnd_0 : decode cJ9_checkBoundsBeginEnd 0 = .ok (.iload_n 0, 1) := dk_26 (dk_at dksJ9_checkBoundsBeginEnd_0 0 rfl rfl)
theorem dJ9_checkBoundsBeginEnd_1 : decode cJ9_checkBoundsBeginEnd 1 = .ok (.iload_n 1, 1) := dk_27 (dk_at dksJ9_checkBoundsBeginEnd_0 1 rfl rfl)
theorem dJ9_checkBoundsBeginEnd_2 : decode cJ9_checkBoundsBeginEnd 2 = .ok (.iload_n 2, 1) := dk_28 (dk_at dksJ9_checkBoundsBeginEnd_0 2 rfl rfl)
theorem dJ9_checkBoundsBeginEnd_3 : decode cJ9_checkBoundsBeginEnd 3 = .ok (.getstatic 1053, 3) := dk_178 4 29 (dk_at dksJ9_checkBoundsBeginEnd_0 3 rfl rfl)
theorem dJ9_checkBoundsBeginEnd_6 : decode cJ9_checkBoundsBeginEnd 6 = .ok (.invokestatic 1062, 3) := dk_184 4 38 (dk_at dksJ9_checkBoundsBeginEnd_0 6 rfl rfl)
theorem dJ9_checkBoundsBeginEnd_9 : decode cJ9_checkBoundsBeginEnd 9 = .ok (.pop, 1) := dk_87 (dk_at dksJ9_checkBoundsBeginEnd_0 9 rfl rfl)
theorem dJ9_checkBoundsBeginEnd_10 : decode cJ9_checkBoundsBeginEnd 10 = .ok (.return_, 1) := dk_177 (dk_at dksJ9_checkBoundsBeginEnd_0 10 rfl rfl)
def dkwJ9_length_0 : List UInt8 := [42, 180, 0, 9, 190, 42, 182, 1, 79, 122, 172]
abbrev dktJ9_length_0 : List UInt8 := dkwJ9_length_0 ++ []
theorem dksJ9_length_0 : cJ9_length.data.toList.drop 0 = dktJ9_length_0 := by decide +kernel
theorem dJ9_length_0 : decode cJ9_length 0 = .ok (.aload_n 0, 1) := dk_42 (dk_at dksJ9_length_0 0 rfl rfl)
theorem dJ9_length_1 : decode cJ9_length 1 = .ok (.getfield 9, 3) := dk_180 0 9 (dk_at dksJ9_length_0 1 rfl rfl)
theorem dJ9_length_4 : decode cJ9_length 4 = .ok (.arraylength, 1) := dk_190 (dk_at dksJ9_length_0 4 rfl rfl)
theorem dJ9_length_5 : decode cJ9_length 5 = .ok (.aload_n 0, 1) := dk_42 (dk_at dksJ9_length_0 5 rfl rfl)
theorem dJ9_length_6 : decode cJ9_length 6 = .ok (.invokevirtual 335, 3) := dk_182 1 79 (dk_at dksJ9_length_0 6 rfl rfl)
theorem dJ9_length_9 : decode cJ9_length 9 = .ok (.ishr, 1) := dk_122 (dk_at dksJ9_length_0 9 rfl rfl)
theorem dJ9_length_10 : decode cJ9_length 10 = .ok (.ireturn, 1) := dk_172 (dk_at dksJ9_length_0 10 rfl rfl)
def dkwJ9_coder_0 : List UInt8 := [178, 0, 38, 153, 0, 10, 42, 180, 0, 15, 167, 0, 4, 4, 172]
abbrev dktJ9_coder_0 : List UInt8 := dkwJ9_coder_0 ++ []
theorem dksJ9_coder_0 : cJ9_coder.data.toList.drop 0 = dktJ9_coder_0 := by decide +kernel
theorem dJ9_coder_0 : decode cJ9_coder 0 = .ok (.getstatic 38, 3) := dk_178 0 38 (dk_at dksJ9_coder_0 0 rfl rfl)
theorem dJ9_coder_3 : decode cJ9_coder 3 = .ok (.ifCond .eq 10, 3) := dk_153 0 10 (dk_at dksJ9_coder_0 3 rfl rfl)
theorem dJ9_coder_6 : decode cJ9_coder 6 = .ok (.aload_n 0, 1) := dk_42 (dk_at dksJ9_coder_0 6 rfl rfl)
theorem dJ9_coder_7 : decode cJ9_coder 7 = .ok (.getfield 15, 3) := dk_180 0 15 (dk_at dksJ9_coder_0 7 rfl rfl)
theorem dJ9_coder_10 : decode cJ9_coder 10 = .ok (.goto 4, 3) := dk_167 0 4 (dk_at dksJ9_coder_0 10 rfl rfl)
theorem dJ9_coder_13 : decode cJ9_coder 13 = .ok (.iconst 1, 1) := dk_4 (dk_at dksJ9_coder_0 13 rfl rfl)
theorem dJ9_coder_14 : decode cJ9_coder 14 = .ok (.ireturn, 1) := dk_172 (dk_at dksJ9_coder_0 14 rfl rfl)
def dkwJ9_checkBoundsOffCount_0 : List UInt8 := [26, 27, 28, 178, 4, 29, 184, 4, 41, 172]
abbrev dktJ9_checkBoundsOffCount_0 : List UInt8 := dkwJ9_checkBoundsOffCount_0 ++ []
theorem dksJ9_checkBoundsOffCount_0 : cJ9_checkBoundsOffCount.data.toList.drop 0 = dktJ9_checkBoundsOffCount_0 := by decide +kernel
theorem dJ9_checkBoundsOffCount_0 : decode cJ9_checkBoundsOffCount 0 = .ok (.iload_n 0, 1) := dk_26 (dk_at dksJ9_checkBoundsOffCount_0 0 rfl rfl)
theorem dJ9_checkBoundsOffCount_1 : decode cJ9_checkBoundsOffCount 1 = .ok (.iload_n 1, 1) := dk_27 (dk_at dksJ9_checkBoundsOffCount_0 1 rfl rfl)
theorem dJ9_checkBoundsOffCount_2 : decode cJ9_checkBoundsOffCount 2 = .ok (.iload_n 2, 1) := dk_28 (dk_at dksJ9_checkBoundsOffCount_0 2 rfl rfl)
theorem dJ9_checkBoundsOffCount_3 : decode cJ9_checkBoundsOffCount 3 = .ok (.getstatic 1053, 3) := dk_178 4 29 (dk_at dksJ9_checkBoundsOffCount_0 3 rfl rfl)
theorem dJ9_checkBoundsOffCount_6 : decode cJ9_checkBoundsOffCount 6 = .ok (.invokestatic 1065, 3) := dk_184 4 41 (dk_at dksJ9_checkBoundsOffCount_0 6 rfl rfl)
theorem dJ9_checkBoundsOffCount_9 : decode cJ9_checkBoundsOffCount 9 = .ok (.ireturn, 1) := dk_172 (dk_at dksJ9_checkBoundsOffCount_0 9 rfl rfl)
def dkwJ9_getBytes_1 : List UInt8 := [184, 0, 212, 167, 0, 18, 42, 180, 0, 9, 3, 43, 28, 42, 180, 0, 9, 190, 184, 0, 106, 177]
abbrev dktJ9_getBytes_1 : List UInt8 := dkwJ9_getBytes_1 ++ []
def dkwJ9_getBytes_0 : List UInt8 := [42, 182, 1, 79, 29, 160, 0, 23, 42, 180, 0, 9, 3, 43, 28, 29, 120, 42, 180, 0, 9, 190]
abbrev dktJ9_getBytes_0 : List UInt8 := dkwJ9_getBytes_0 ++ dktJ9_getBytes_1
theorem dksJ9_getBytes_0 : cJ9_getBytes.data.toList.drop 0 = dktJ9_getBytes_0 := by decide +kernel
theorem dksJ9_getBytes_1 : cJ9_getBytes.data.toList.drop 22 = dktJ9_getBytes_1 := dk_seg dksJ9_getBytes_0 22 rfl rfl
theorem dJ9_getBytes_0 : decode cJ9_getBytes 0 = .ok (.aload_n 0, 1) := dk_42 (dk_at dksJ9_getBytes_0 0 rfl rfl)
theorem dJ9_getBytes_1 : decode cJ9_getBytes 1 = .ok (.invokevirtual 335, 3) := dk_182 1 79 (dk_at dksJ9_getBytes_0 1 rfl rfl)
theorem dJ9_getBytes_4 : decode cJ9_getBytes 4 = .ok (.iload_n 3, 1) := dk_29 (dk_at dksJ9_getBytes_0 4 rfl rfl)
theorem dJ9_getBytes_5 : decode cJ9_getBytes 5 = .ok (.if_icmp .ne 23, 3) := dk_160 0 23 (dk_at dksJ9_getBytes_0 5 rfl rfl)
theorem dJ9_getBytes_8 : decode cJ9_getBytes 8 = .ok (.aload_n 0, 1) := dk_42 (dk_at dksJ9_getBytes_0 8 rfl rfl)
theorem dJ9_getBytes_9 : decode cJ9_getBytes 9 = .ok (.getfield 9, 3) := dk_180 0 9 (dk_at dksJ9_getBytes_0 9 rfl rfl)
theorem dJ9_getBytes_12 : decode cJ9_getBytes 12 = .ok (.iconst 0, 1) := dk_3 (dk_at dksJ9_getBytes_0 12 rfl rfl)
theorem dJ9_getBytes_13 : decode cJ9_getBytes 13 = .ok (.aload_n 1, 1) := dk_43 (dk_at dksJ9_getBytes_0 13 rfl rfl)
theorem dJ9_getBytes_14 : decode cJ9_getBytes 14 = .ok (.iload_n 2, 1) := dk_28 (dk_at dksJ9_getBytes_0 14 rfl rfl)
theorem dJ9_getBytes_15 : decode cJ9_getBytes 15 = .ok (.iload_n 3, 1) := dk_29 (dk_at dksJ9_getBytes_0 15 rfl rfl)
theorem dJ9_getBytes_16 : decode cJ9_getBytes 16 = .ok (.ishl, 1) := dk_120 (dk_at dksJ9_getBytes_0 16 rfl rfl)
theorem dJ9_getBytes_17 : decode cJ9_getBytes 17 = .ok (.aload_n 0, 1) := dk_42 (dk_at dksJ9_getBytes_0 17 rfl rfl)
theorem dJ9_getBytes_18 : decode cJ9_getBytes 18 = .ok (.getfield 9, 3) := dk_180 0 9 (dk_at dksJ9_getBytes_0 18 rfl rfl)
theorem dJ9_getBytes_21 : decode cJ9_getBytes 21 = .ok (.arraylength, 1) := dk_190 (dk_at dksJ9_getBytes_0 21 rfl rfl)
theorem dJ9_getBytes_22 : decode cJ9_getBytes 22 = .ok (.invokestatic 212, 3) := dk_184 0 212 (dk_at dksJ9_getBytes_1 0 rfl rfl)
theorem dJ9_getBytes_25 : decode cJ9_getBytes 25 = .ok (.goto 18, 3) := dk_167 0 18 (dk_at dksJ9_getBytes_1 3 rfl rfl)
theorem dJ9_getBytes_28 : decode cJ9_getBytes 28 = .ok (.aload_n 0, 1) := dk_42 (dk_at dksJ9_getBytes_1 6 rfl rfl)
theorem dJ9_getBytes_29 : decode cJ9_getBytes 29 = .ok (.getfield 9, 3) := dk_180 0 9 (dk_at dksJ9_getBytes_1 7 rfl rfl)
theorem dJ9_getBytes_32 : decode cJ9_getBytes 32 = .ok (.iconst 0, 1) := dk_3 (dk_at dksJ9_getBytes_1 10 rfl rfl)
theorem dJ9_getBytes_33 : decode cJ9_getBytes 33 = .ok (.aload_n 1, 1) := dk_43 (dk_at dksJ9_getBytes_1 11 rfl rfl)
theorem dJ9_getBytes_34 : decode cJ9_getBytes 34 = .ok (.iload_n 2, 1) := dk_28 (dk_at dksJ9_getBytes_1 12 rfl rfl)
theorem dJ9_getBytes_35 : decode cJ9_getBytes 35 = .ok (.aload_n 0, 1) := dk_42 (dk_at dksJ9_getBytes_1 13 rfl rfl)
theorem dJ9_getBytes_36 : decode cJ9_getBytes 36 = .ok (.getfield 9, 3) := dk_180 0 9 (dk_at dksJ9_getBytes_1 14 rfl rfl)
theorem dJ9_getBytes_39 : decode cJ9_getBytes 39 = .ok (.arraylength, 1) := dk_190 (dk_at dksJ9_getBytes_1 17 rfl rfl)
theorem dJ9_getBytes_40 : decode cJ9_getBytes 40 = .ok (.invokestatic 106, 3) := dk_184 0 106 (dk_at dksJ9_getBytes_1 18 rfl rfl)
theorem dJ9_getBytes_43 : decode cJ9_getBytes 43 = .ok (.return_, 1) := dk_177 (dk_at dksJ9_getBytes_1 21 rfl rfl)
def dkwJ9_init_0 : List UInt8 := [42, 43, 1, 183, 1, 233, 177]
abbrev dktJ9_init_0 : List UInt8 := dkwJ9_init_0 ++ []
theorem dksJ9_init_0 : cJ9_init.data.toList.drop 0 = dktJ9_init_0 := by decide +kernel
theorem dJ9_init_0 : decode cJ9_init 0 = .ok (.aload_n 0, 1) := dk_42 (dk_at dksJ9_init_0 0 rfl rfl)
theorem dJ9_init_1 : decode cJ9_init 1 = .ok (.aload_n 1, 1) := dk_43 (dk_at dksJ9_init_0 1 rfl rfl)
theorem dJ9_init_2 : decode cJ9_init 2 = .ok (.aconst_null, 1) := dk_1 (dk_at dksJ9_init_0 2 rfl rfl)
theorem dJ9_init_3 : decode cJ9_init 3 = .ok (.invokespecial 489, 3) := dk_183 1 233 (dk_at dksJ9_init_0 3 rfl rfl)
theorem dJ9_init_6 : decode cJ9_init 6 = .ok (.return_, 1) := dk_177 (dk_at dksJ9_init_0 6 rfl rfl)
def dkwJ9_init_2_4 : List UInt8 := [181, 0, 9, 177]
abbrev dktJ9_init_2_4 : List UInt8 := dkwJ9_init_2_4 ++ []
def dkwJ9_init_2_3 : List UInt8 := [184, 0, 47, 181, 0, 15, 177, 42, 4, 181, 0, 15, 42, 45, 3, 21, 4, 4, 120, 184, 0, 54]
abbrev dktJ9_init_2_3 : List UInt8 := dkwJ9_init_2_3 ++ dktJ9_init_2_4
def dkwJ9_init_2_2 : List UInt8 := [180, 4, 24, 153, 0, 28, 42, 45, 3, 21, 4, 184, 4, 27, 181, 0, 9, 42, 42, 180, 0, 9, 21, 4]
abbrev dktJ9_init_2_2 : List UInt8 := dkwJ9_init_2_2 ++ dktJ9_init_2_3
def dkwJ9_init_2_1 : List UInt8 := [181, 0, 15, 42, 45, 3, 21, 4, 184, 0, 54, 181, 0, 9, 167, 0, 59, 178, 0, 38, 153, 0, 35, 43]
abbrev dktJ9_init_2_1 : List UInt8 := dkwJ9_init_2_1 ++ dktJ9_init_2_2
def dkwJ9_init_2_0 : List UInt8 := [42, 183, 0, 1, 43, 182, 2, 40, 78, 43, 182, 2, 37, 54, 4, 43, 182, 4, 23, 153, 0, 22, 42, 3]
abbrev dktJ9_init_2_0 : List UInt8 := dkwJ9_init_2_0 ++ dktJ9_init_2_1
theorem dksJ9_init_2_0 : cJ9_init_2.data.toList.drop 0 = dktJ9_init_2_0 := by decide +kernel
theorem dksJ9_init_2_1 : cJ9_init_2.data.toList.drop 24 = dktJ9_init_2_1 := dk_seg dksJ9_init_2_0 24 rfl rfl
theorem dksJ9_init_2_2 : cJ9_init_2.data.toList.drop 48 = dktJ9_init_2_2 := dk_seg dksJ9_init_2_1 24 rfl rfl
theorem dksJ9_init_2_3 : cJ9_init_2.data.toList.drop 72 = dktJ9_init_2_3 := dk_seg dksJ9_init_2_2 24 rfl rfl
theorem dksJ9_init_2_4 : cJ9_init_2.data.toList.drop 94 = dktJ9_init_2_4 := dk_seg dksJ9_init_2_3 22 rfl rfl
theorem dJ9_init_2_0 : decode cJ9_init_2 0 = .ok (.aload_n 0, 1) := dk_42 (dk_at dksJ9_init_2_0 0 rfl rfl)
theorem dJ9_init_2_1 : decode cJ9_init_2 1 = .ok (.invokespecial 1, 3) := dk_183 0 1 (dk_at dksJ9_init_2_0 1 rfl rfl)
theorem dJ9_init_2_4 : decode cJ9_init_2 4 = .ok (.aload_n 1, 1) := dk_43 (dk_at dksJ9_init_2_0 4 rfl rfl)
theorem dJ9_init_2_5 : decode cJ9_init_2 5 = .ok (.invokevirtual 552, 3) := dk_182 2 40 (dk_at dksJ9_init_2_0 5 rfl rfl)
theorem dJ9_init_2_8 : decode cJ9_init_2 8 = .ok (.astore_n 3, 1) := dk_78 (dk_at dksJ9_init_2_0 8 rfl rfl)
theorem dJ9_init_2_9 : decode cJ9_init_2 9 = .ok (.aload_n 1, 1) := dk_43 (dk_at dksJ9_init_2_0 9 rfl rfl)
theorem dJ9_init_2_10 : decode cJ9_init_2 10 = .ok (.invokevirtual 549, 3) := dk_182 2 37 (dk_at dksJ9_init_2_0 10 rfl rfl)
theorem dJ9_init_2_13 : decode cJ9_init_2 13 = .ok (.istore 4, 2) := dk_54 4 (dk_at dksJ9_init_2_0 13 rfl rfl)
theorem dJ9_init_2_15 : decode cJ9_init_2 15 = .ok (.aload_n 1, 1) := dk_43 (dk_at dksJ9_init_2_0 15 rfl rfl)
theorem dJ9_init_2_16 : decode cJ9_init_2 16 = .ok (.invokevirtual 1047, 3) := dk_182 4 23 (dk_at dksJ9_init_2_0 16 rfl rfl)
theorem dJ9_init_2_19 : decode cJ9_init_2 19 = .ok (.ifCond .eq 22, 3) := dk_153 0 22 (dk_at dksJ9_init_2_0 19 rfl rfl)
theorem dJ9_init_2_22 : decode cJ9_init_2 22 = .ok (.aload_n 0, 1) := dk_42 (dk_at dksJ9_init_2_0 22 rfl rfl)
theorem dJ9_init_2_23 : decode cJ9_init_2 23 = .ok (.iconst 0, 1) := dk_3 (dk_at dksJ9_init_2_0 23 rfl rfl)
theorem dJ9_init_2_24 : decode cJ9_init_2 24 = .ok (.putfield 15, 3) := dk_181 0 15 (dk_at dksJ9_init_2_1 0 rfl rfl)
theorem dJ9_init_2_27 : decode cJ9_init_2 27 = .ok (.aload_n 0, 1) := dk_42 (dk_at dksJ9_init_2_1 3 rfl rfl)
theorem dJ9_init_2_28 : decode cJ9_init_2 28 = .ok (.aload_n 3, 1) := dk_45 (dk_at dksJ9_init_2_1 4 rfl rfl)
theorem dJ9_init_2_29 : decode cJ9_init_2 29 = .ok (.iconst 0, 1) := dk_3 (dk_at dksJ9_init_2_1 5 rfl rfl)
theorem dJ9_init_2_30 : decode cJ9_init_2 30 = .ok (.iload 4, 2) := dk_21 4 (dk_at dksJ9_init_2_1 6 rfl rfl)
theorem dJ9_init_2_32 : decode cJ9_init_2 32 = .ok (.invokestatic 54, 3) := dk_184 0 54 (dk_at dksJ9_init_2_1 8 rfl rfl)
theorem dJ9_init_2_35 : decode cJ9_init_2 35 = .ok (.putfield 9, 3) := dk_181 0 9 (dk_at dksJ9_init_2_1 11 rfl rfl)
theorem dJ9_init_2_38 : decode cJ9_init_2 38 = .ok (.goto 59, 3) := dk_167 0 59 (dk_at dksJ9_init_2_1 14 rfl rfl)
theorem dJ9_init_2_41 : decode cJ9_init_2 41 = .ok (.getstatic 38, 3) := dk_178 0 38 (dk_at dksJ9_init_2_1 17 rfl rfl)
theorem dJ9_init_2_44 : decode cJ9_init_2 44 = .ok (.ifCond .eq 35, 3) := dk_153 0 35 (dk_at dksJ9_init_2_1 20 rfl rfl)
theorem dJ9_init_2_47 : decode cJ9_init_2 47 = .ok (.aload_n 1, 1) := dk_43 (dk_at dksJ9_init_2_1 23 rfl rfl)
theorem dJ9_init_2_48 : decode cJ9_init_2 48 = .ok (.getfield 1048, 3) := dk_180 4 24 (dk_at dksJ9_init_2_2 0 rfl rfl)
theorem dJ9_init_2_51 : decode cJ9_init_2 51 = .ok (.ifCond .eq 28, 3) := dk_153 0 28 (dk_at dksJ9_init_2_2 3 rfl rfl)
theorem dJ9_init_2_54 : decode cJ9_init_2 54 = .ok (.aload_n 0, 1) := dk_42 (dk_at dksJ9_init_2_2 6 rfl rfl)
theorem dJ9_init_2_55 : decode cJ9_init_2 55 = .ok (.aload_n 3, 1) := dk_45 (dk_at dksJ9_init_2_2 7 rfl rfl)
theorem dJ9_init_2_56 : decode cJ9_init_2 56 = .ok (.iconst 0, 1) := dk_3 (dk_at dksJ9_init_2_2 8 rfl rfl)
theorem dJ9_init_2_57 : decode cJ9_init_2 57 = .ok (.iload 4, 2) := dk_21 4 (dk_at dksJ9_init_2_2 9 rfl rfl)
theorem dJ9_init_2_59 : decode cJ9_init_2 59 = .ok (.invokestatic 1051, 3) := dk_184 4 27 (dk_at dksJ9_init_2_2 11 rfl rfl)
theorem dJ9_init_2_62 : decode cJ9_init_2 62 = .ok (.putfield 9, 3) := dk_181 0 9 (dk_at dksJ9_init_2_2 14 rfl rfl)
theorem dJ9_init_2_65 : decode cJ9_init_2 65 = .ok (.aload_n 0, 1) := dk_42 (dk_at dksJ9_init_2_2 17 rfl rfl)
theorem dJ9_init_2_66 : decode cJ9_init_2 66 = .ok (.aload_n 0, 1) := dk_42 (dk_at dksJ9_init_2_2 18 rfl rfl)
theorem dJ9_init_2_67 : decode cJ9_init_2 67 = .ok (.getfield 9, 3) := dk_180 0 9 (dk_at dksJ9_init_2_2 19 rfl rfl)
theorem dJ9_init_2_70 : decode cJ9_init_2 70 = .ok (.iload 4, 2) := dk_21 4 (dk_at dksJ9_init_2_2 22 rfl rfl)
theorem dJ9_init_2_72 : decode cJ9_init_2 72 = .ok (.invokestatic 47, 3) := dk_184 0 47 (dk_at dksJ9_init_2_3 0 rfl rfl)
theorem dJ9_init_2_75 : decode cJ9_init_2 75 = .ok (.putfield 15, 3) := dk_181 0 15 (dk_at dksJ9_init_2_3 3 rfl rfl)
theorem dJ9_init_2_78 : decode cJ9_init_2 78 = .ok (.return_, 1) := dk_177 (dk_at dksJ9_init_2_3 6 rfl rfl)
theorem dJ9_init_2_79 : decode cJ9_init_2 79 = .ok (.aload_n 0, 1) := dk_42 (dk_at dksJ9_init_2_3 7 rfl rfl)
theorem dJ9_init_2_80 : decode cJ9_init_2 80 = .ok (.iconst 1, 1) := dk_4 (dk_at dksJ9_init_2_3 8 rfl rfl)
theorem dJ9_init_2_81 : decode cJ9_init_2 81 = .ok (.putfield 15, 3) := dk_181 0 15 (dk_at dksJ9_init_2_3 9 rfl rfl)
theorem dJ9_init_2_84 : decode cJ9_init_2 84 = .ok (.aload_n 0, 1) := dk_42 (dk_at dksJ9_init_2_3 12 rfl rfl)
theorem dJ9_init_2_85 : decode cJ9_init_2 85 = .ok (.aload_n 3, 1) := dk_45 (dk_at dksJ9_init_2_3 13 rfl rfl)
theorem dJ9_init_2_86 : decode cJ9_init_2 86 = .ok (.iconst 0, 1) := dk_3 (dk_at dksJ9_init_2_3 14 rfl rfl)
theorem dJ9_init_2_87 : decode cJ9_init_2 87 = .ok (.iload 4, 2) := dk_21 4 (dk_at dksJ9_init_2_3 15 rfl rfl)
theorem dJ9_init_2_89 : decode cJ9_init_2 89 = .ok (.iconst 1, 1) := dk_4 (dk_at dksJ9_init_2_3 17 rfl rfl)
theorem dJ9_init_2_90 : decode cJ9_init_2 90 = .ok (.ishl, 1) := dk_120 (dk_at dksJ9_init_2_3 18 rfl rfl)
theorem dJ9_init_2_91 : decode cJ9_init_2 91 = .ok (.invokestatic 54, 3) := dk_184 0 54 (dk_at dksJ9_init_2_3 19 rfl rfl)
theorem dJ9_init_2_94 : decode cJ9_init_2 94 = .ok (.putfield 9, 3) := dk_181 0 9 (dk_at dksJ9_init_2_4 0 rfl rfl)
theorem dJ9_init_2_97 : decode cJ9_init_2 97 = .ok (.return_, 1) := dk_177 (dk_at dksJ9_init_2_4 3 rfl rfl)
def dkwJ9_hashCode_2 : List UInt8 := [181, 0, 23, 167, 0, 8, 42, 27, 181, 0, 19, 27, 172]
abbrev dktJ9_hashCode_2 : List UInt8 := dkwJ9_hashCode_2 ++ []
def dkwJ9_hashCode_1 : List UInt8 := [180, 0, 9, 184, 2, 116, 167, 0, 10, 42, 180, 0, 9, 184, 2, 120, 60, 27, 154, 0, 11, 42, 4]
abbrev dktJ9_hashCode_1 : List UInt8 := dkwJ9_hashCode_1 ++ dktJ9_hashCode_2
def dkwJ9_hashCode_0 : List UInt8 := [42, 180, 0, 19, 60, 27, 154, 0, 52, 42, 180, 0, 23, 154, 0, 45, 42, 182, 1, 236, 153, 0, 13, 42]
abbrev dktJ9_hashCode_0 : List UInt8 := dkwJ9_hashCode_0 ++ dktJ9_hashCode_1
theorem dksJ9_hashCode_0 : cJ9_hashCode.data.toList.drop 0 = dktJ9_hashCode_0 := by decide +kernel
theorem dksJ9_hashCode_1 : cJ9_hashCode.data.toList.drop 24 = dktJ9_hashCode_1 := dk_seg dksJ9_hashCode_0 24 rfl rfl
theorem dksJ9_hashCode_2 : cJ9_hashCode.data.toList.drop 47 = dktJ9_hashCode_2 := dk_seg dksJ9_hashCode_1 23 rfl rfl
theorem dJ9_hashCode_0 : decode cJ9_hashCode 0 = .ok (.aload_n 0, 1) := dk_42 (dk_at dksJ9_hashCode_0 0 rfl rfl)
theorem dJ9_hashCode_1 : decode cJ9_hashCode 1 = .ok (.getfield 19, 3) := dk_180 0 19 (dk_at dksJ9_hashCode_0 1 rfl rfl)
theorem dJ9_hashCode_4 : decode cJ9_hashCode 4 = .ok (.istore_n 1, 1) := dk_60 (dk_at dksJ9_hashCode_0 4 rfl rfl)
theorem dJ9_hashCode_5 : decode cJ9_hashCode 5 = .ok (.iload_n 1, 1) := dk_27 (dk_at dksJ9_hashCode_0 5 rfl rfl)
theorem dJ9_hashCode_6 : decode cJ9_hashCode 6 = .ok (.ifCond .ne 52, 3) := dk_154 0 52 (dk_at dksJ9_hashCode_0 6 rfl rfl)
theorem dJ9_hashCode_9 : decode cJ9_hashCode 9 = .ok (.aload_n 0, 1) := dk_42 (dk_at dksJ9_hashCode_0 9 rfl rfl)
theorem dJ9_hashCode_10 : decode cJ9_hashCode 10 = .ok (.getfield 23, 3) := dk_180 0 23 (dk_at dksJ9_hashCode_0 10 rfl rfl)
theorem dJ9_hashCode_13 : decode cJ9_hashCode 13 = .ok (.ifCond .ne 45, 3) := dk_154 0 45 (dk_at dksJ9_hashCode_0 13 rfl rfl)
theorem dJ9_hashCode_16 : decode cJ9_hashCode 16 = .ok (.aload_n 0, 1) := dk_42 (dk_at dksJ9_hashCode_0 16 rfl rfl)
theorem dJ9_hashCode_17 : decode cJ9_hashCode 17 = .ok (.invokevirtual 492, 3) := dk_182 1 236 (dk_at dksJ9_hashCode_0 17 rfl rfl)
theorem dJ9_hashCode_20 : decode cJ9_hashCode 20 = .ok (.ifCond .eq 13, 3) := dk_153 0 13 (dk_at dksJ9_hashCode_0 20 rfl rfl)
theorem dJ9_hashCode_23 : decode cJ9_hashCode 23 = .ok (.aload_n 0, 1) := dk_42 (dk_at dksJ9_hashCode_0 23 rfl rfl)
theorem dJ9_hashCode_24 : decode cJ9_hashCode 24 = .ok (.getfield 9, 3) := dk_180 0 9 (dk_at dksJ9_hashCode_1 0 rfl rfl)
theorem dJ9_hashCode_27 : decode cJ9_hashCode 27 = .ok (.invokestatic 628, 3) := dk_184 2 116 (dk_at dksJ9_hashCode_1 3 rfl rfl)
theorem dJ9_hashCode_30 : decode cJ9_hashCode 30 = .ok (.goto 10, 3) := dk_167 0 10 (dk_at dksJ9_hashCode_1 6 rfl rfl)
theorem dJ9_hashCode_33 : decode cJ9_hashCode 33 = .ok (.aload_n 0, 1) := dk_42 (dk_at dksJ9_hashCode_1 9 rfl rfl)
theorem dJ9_hashCode_34 : decode cJ9_hashCode 34 = .ok (.getfield 9, 3) := dk_180 0 9 (dk_at dksJ9_hashCode_1 10 rfl rfl)
theorem dJ9_hashCode_37 : decode cJ9_hashCode 37 = .ok (.invokestatic 632, 3) := dk_184 2 120 (dk_at dksJ9_hashCode_1 13 rfl rfl)
theorem dJ9_hashCode_40 : decode cJ9_hashCode 40 = .ok (.istore_n 1, 1) := dk_60 (dk_at dksJ9_hashCode_1 16 rfl rfl)
theorem dJ9_hashCode_41 : decode cJ9_hashCode 41 = .ok (.iload_n 1, 1) := dk_27 (dk_at dksJ9_hashCode_1 17 rfl rfl)
theorem dJ9_hashCode_42 : decode cJ9_hashCode 42 = .ok (.ifCond .ne 11, 3) := dk_154 0 11 (dk_at dksJ9_hashCode_1 18 rfl rfl)
theorem dJ9_hashCode_45 : decode cJ9_hashCode 45 = .ok (.aload_n 0, 1) := dk_42 (dk_at dksJ9_hashCode_1 21 rfl rfl)
theorem dJ9_hashCode_46 : decode cJ9_hashCode 46 = .ok (.iconst 1, 1) := dk_4 (dk_at dksJ9_hashCode_1 22 rfl rfl)
theorem dJ9_hashCode_47 : decode cJ9_hashCode 47 = .ok (.putfield 23, 3) := dk_181 0 23 (dk_at dksJ9_hashCode_2 0 rfl rfl)
theorem dJ9_hashCode_50 : decode cJ9_hashCode 50 = .ok (.goto 8, 3) := dk_167 0 8 (dk_at dksJ9_hashCode_2 3 rfl rfl)
theorem dJ9_hashCode_53 : decode cJ9_hashCode 53 = .ok (.aload_n 0, 1) := dk_42 (dk_at dksJ9_hashCode_2 6 rfl rfl)
theorem dJ9_hashCode_54 : decode cJ9_hashCode 54 = .ok (.iload_n 1, 1) := dk_27 (dk_at dksJ9_hashCode_2 7 rfl rfl)
theorem dJ9_hashCode_55 : decode cJ9_hashCode 55 = .ok (.putfield 19, 3) := dk_181 0 19 (dk_at dksJ9_hashCode_2 8 rfl rfl)
theorem dJ9_hashCode_58 : decode cJ9_hashCode 58 = .ok (.iload_n 1, 1) := dk_27 (dk_at dksJ9_hashCode_2 11 rfl rfl)
theorem dJ9_hashCode_59 : decode cJ9_hashCode 59 = .ok (.ireturn, 1) := dk_172 (dk_at dksJ9_hashCode_2 12 rfl rfl)
def dkwJ9_isLatin1_0 : List UInt8 := [178, 0, 38, 153, 0, 14, 42, 180, 0, 15, 154, 0, 7, 4, 167, 0, 4, 3, 172]
abbrev dktJ9_isLatin1_0 : List UInt8 := dkwJ9_isLatin1_0 ++ []
theorem dksJ9_isLatin1_0 : cJ9_isLatin1.data.toList.drop 0 = dktJ9_isLatin1_0 := by decide +kernel
theorem dJ9_isLatin1_0 : decode cJ9_isLatin1 0 = .ok (.getstatic 38, 3) := dk_178 0 38 (dk_at dksJ9_isLatin1_0 0 rfl rfl)
theorem dJ9_isLatin1_3 : decode cJ9_isLatin1 3 = .ok (.ifCond .eq 14, 3) := dk_153 0 14 (dk_at dksJ9_isLatin1_0 3 rfl rfl)
theorem dJ9_isLatin1_6 : decode cJ9_isLatin1 6 = .ok (.aload_n 0, 1) := dk_42 (dk_at dksJ9_isLatin1_0 6 rfl rfl)
theorem dJ9_isLatin1_7 : decode cJ9_isLatin1 7 = .ok (.getfield 15, 3) := dk_180 0 15 (dk_at dksJ9_isLatin1_0 7 rfl rfl)
theorem dJ9_isLatin1_10 : decode cJ9_isLatin1 10 = .ok (.ifCond .ne 7, 3) := dk_154 0 7 (dk_at dksJ9_isLatin1_0 10 rfl rfl)
theorem dJ9_isLatin1_13 : decode cJ9_isLatin1 13 = .ok (.iconst 1, 1) := dk_4 (dk_at dksJ9_isLatin1_0 13 rfl rfl)
theorem dJ9_isLatin1_14 : decode cJ9_isLatin1 14 = .ok (.goto 4, 3) := dk_167 0 4 (dk_at dksJ9_isLatin1_0 14 rfl rfl)
theorem dJ9_isLatin1_17 : decode cJ9_isLatin1 17 = .ok (.iconst 0, 1) := dk_3 (dk_at dksJ9_isLatin1_0 17 rfl rfl)
theorem dJ9_isLatin1_18 : decode cJ9_isLatin1 18 = .ok (.ireturn, 1) := dk_172 (dk_at dksJ9_isLatin1_0 18 rfl rfl)
def dkwJ9_equals_2 : List UInt8 := [184, 2, 29, 153, 0, 7, 4, 167, 0, 4, 3, 172]
abbrev dktJ9_equals_2 : List UInt8 := dkwJ9_equals_2 ++ []
def dkwJ9_equals_1 : List UInt8 := [153, 0, 14, 42, 180, 0, 15, 44, 180, 0, 15, 160, 0, 21, 42, 180, 0, 9, 44, 180, 0, 9]
abbrev dktJ9_equals_1 : List UInt8 := dkwJ9_equals_1 ++ dktJ9_equals_2
def dkwJ9_equals_0 : List UInt8 := [42, 43, 166, 0, 5, 4, 172, 43, 193, 0, 10, 153, 0, 43, 43, 192, 0, 10, 77, 178, 0, 38]
abbrev dktJ9_equals_0 : List UInt8 := dkwJ9_equals_0 ++ dktJ9_equals_1
theorem dksJ9_equals_0 : cJ9_equals.data.toList.drop 0 = dktJ9_equals_0 := by decide +kernel
theorem dksJ9_equals_1 : cJ9_equals.data.toList.drop 22 = dktJ9_equals_1 := dk_seg dksJ9_equals_0 22 rfl rfl
theorem dksJ9_equals_2 : cJ9_equals.data.toList.drop 44 = dktJ9_equals_2 := dk_seg dksJ9_equals_1 22 rfl rfl
theorem dJ9_equals_0 : decode cJ9_equals 0 = .ok (.aload_n 0, 1) := dk_42 (dk_at dksJ9_equals_0 0 rfl rfl)
theorem dJ9_equals_1 : decode cJ9_equals 1 = .ok (.aload_n 1, 1) := dk_43 (dk_at dksJ9_equals_0 1 rfl rfl)
theorem dJ9_equals_2 : decode cJ9_equals 2 = .ok (.if_acmp .ne 5, 3) := dk_166 0 5 (dk_at dksJ9_equals_0 2 rfl rfl)
theorem dJ9_equals_5 : decode cJ9_equals 5 = .ok (.iconst 1, 1) := dk_4 (dk_at dksJ9_equals_0 5 rfl rfl)
theorem dJ9_equals_6 : decode cJ9_equals 6 = .ok (.ireturn, 1) := dk_172 (dk_at dksJ9_equals_0 6 rfl rfl)
theorem dJ9_equals_7 : decode cJ9_equals 7 = .ok (.aload_n 1, 1) := dk_43 (dk_at dksJ9_equals_0 7 rfl rfl)
theorem dJ9_equals_8 : decode cJ9_equals 8 = .ok (.instanceof 10, 3) := dk_193 0 10 (dk_at dksJ9_equals_0 8 rfl rfl)
theorem dJ9_equals_11 : decode cJ9_equals 11 = .ok (.ifCond .eq 43, 3) := dk_153 0 43 (dk_at dksJ9_equals_0 11 rfl rfl)
theorem dJ9_equals_14 : decode cJ9_equals 14 = .ok (.aload_n 1, 1) := dk_43 (dk_at dksJ9_equals_0 14 rfl rfl)
theorem dJ9_equals_15 : decode cJ9_equals 15 = .ok (.checkcast 10, 3) := dk_192 0 10 (dk_at dksJ9_equals_0 15 rfl rfl)
theorem dJ9_equals_18 : decode cJ9_equals 18 = .ok (.astore_n 2, 1) := dk_77 (dk_at dksJ9_equals_0 18 rfl rfl)
theorem dJ9_equals_19 : decode cJ9_equals 19 = .ok (.getstatic 38, 3) := dk_178 0 38 (dk_at dksJ9_equals_0 19 rfl rfl)
theorem dJ9_equals_22 : decode cJ9_equals 22 = .ok (.ifCond .eq 14, 3) := dk_153 0 14 (dk_at dksJ9_equals_1 0 rfl rfl)
theorem dJ9_equals_25 : decode cJ9_equals 25 = .ok (.aload_n 0, 1) := dk_42 (dk_at dksJ9_equals_1 3 rfl rfl)
theorem dJ9_equals_26 : decode cJ9_equals 26 = .ok (.getfield 15, 3) := dk_180 0 15 (dk_at dksJ9_equals_1 4 rfl rfl)
theorem dJ9_equals_29 : decode cJ9_equals 29 = .ok (.aload_n 2, 1) := dk_44 (dk_at dksJ9_equals_1 7 rfl rfl)
theorem dJ9_equals_30 : decode cJ9_equals 30 = .ok (.getfield 15, 3) := dk_180 0 15 (dk_at dksJ9_equals_1 8 rfl rfl)
theorem dJ9_equals_33 : decode cJ9_equals 33 = .ok (.if_icmp .ne 21, 3) := dk_160 0 21 (dk_at dksJ9_equals_1 11 rfl rfl)
theorem dJ9_equals_36 : decode cJ9_equals 36 = .ok (.aload_n 0, 1) := dk_42 (dk_at dksJ9_equals_1 14 rfl rfl)
theorem dJ9_equals_37 : decode cJ9_equals 37 = .ok (.getfield 9, 3) := dk_180 0 9 (dk_at dksJ9_equals_1 15 rfl rfl)
theorem dJ9_equals_40 : decode cJ9_equals 40 = .ok (.aload_n 2, 1) := dk_44 (dk_at dksJ9_equals_1 18 rfl rfl)
theorem dJ9_equals_41 : decode cJ9_equals 41 = .ok (.getfield 9, 3) := dk_180 0 9 (dk_at dksJ9_equals_1 19 rfl rfl)
theorem dJ9_equals_44 : decode cJ9_equals 44 = .ok (.invokestatic 541, 3) := dk_184 2 29 (dk_at dksJ9_equals_2 0 rfl rfl)
theorem dJ9_equals_47 : decode cJ9_equals 47 = .ok (.ifCond .eq 7, 3) := dk_153 0 7 (dk_at dksJ9_equals_2 3 rfl rfl)
theorem dJ9_equals_50 : decode cJ9_equals 50 = .ok (.iconst 1, 1) := dk_4 (dk_at dksJ9_equals_2 6 rfl rfl)
theorem dJ9_equals_51 : decode cJ9_equals 51 = .ok (.goto 4, 3) := dk_167 0 4 (dk_at dksJ9_equals_2 7 rfl rfl)
theorem dJ9_equals_54 : decode cJ9_equals 54 = .ok (.iconst 0, 1) := dk_3 (dk_at dksJ9_equals_2 10 rfl rfl)
theorem dJ9_equals_55 : decode cJ9_equals 55 = .ok (.ireturn, 1) := dk_172 (dk_at dksJ9_equals_2 11 rfl rfl)
def dkwJ9_compareTo_0 : List UInt8 := [42, 43, 192, 0, 10, 182, 4, 60, 172]
abbrev dktJ9_compareTo_0 : List UInt8 := dkwJ9_compareTo_0 ++ []
theorem dksJ9_compareTo_0 : cJ9_compareTo.data.toList.drop 0 = dktJ9_compareTo_0 := by decide +kernel
theorem dJ9_compareTo_0 : decode cJ9_compareTo 0 = .ok (.aload_n 0, 1) := dk_42 (dk_at dksJ9_compareTo_0 0 rfl rfl)
theorem dJ9_compareTo_1 : decode cJ9_compareTo 1 = .ok (.aload_n 1, 1) := dk_43 (dk_at dksJ9_compareTo_0 1 rfl rfl)
theorem dJ9_compareTo_2 : decode cJ9_compareTo 2 = .ok (.checkcast 10, 3) := dk_192 0 10 (dk_at dksJ9_compareTo_0 2 rfl rfl)
theorem dJ9_compareTo_5 : decode cJ9_compareTo 5 = .ok (.invokevirtual 1084, 3) := dk_182 4 60 (dk_at dksJ9_compareTo_0 5 rfl rfl)
theorem dJ9_compareTo_8 : decode cJ9_compareTo 8 = .ok (.ireturn, 1) := dk_172 (dk_at dksJ9_compareTo_0 8 rfl rfl)
def dkwJ9_compareTo_2_2 : List UInt8 := [154, 0, 11, 44, 45, 184, 2, 79, 167, 0, 8, 44, 45, 184, 2, 82, 172]
abbrev dktJ9_compareTo_2_2 : List UInt8 := dkwJ9_compareTo_2_2 ++ []
def dkwJ9_compareTo_2_1 : List UInt8 := [160, 0, 22, 21, 4, 154, 0, 11, 44, 45, 184, 2, 74, 167, 0, 8, 44, 45, 184, 2, 78, 172, 21, 4]
abbrev dktJ9_compareTo_2_1 : List UInt8 := dkwJ9_compareTo_2_1 ++ dktJ9_compareTo_2_2
def dkwJ9_compareTo_2_0 : List UInt8 := [42, 180, 0, 9, 77, 43, 180, 0, 9, 78, 42, 182, 1, 79, 54, 4, 21, 4, 43, 182, 1, 79]
abbrev dktJ9_compareTo_2_0 : List UInt8 := dkwJ9_compareTo_2_0 ++ dktJ9_compareTo_2_1
theorem dksJ9_compareTo_2_0 : cJ9_compareTo_2.data.toList.drop 0 = dktJ9_compareTo_2_0 := by decide +kernel
theorem dksJ9_compareTo_2_1 : cJ9_compareTo_2.data.toList.drop 22 = dktJ9_compareTo_2_1 := dk_seg dksJ9_compareTo_2_0 22 rfl rfl
theorem dksJ9_compareTo_2_2 : cJ9_compareTo_2.data.toList.drop 46 = dktJ9_compareTo_2_2 := dk_seg dksJ9_compareTo_2_1 24 rfl rfl
theorem dJ9_compareTo_2_0 : decode cJ9_compareTo_2 0 = .ok (.aload_n 0, 1) := dk_42 (dk_at dksJ9_compareTo_2_0 0 rfl rfl)
theorem dJ9_compareTo_2_1 : decode cJ9_compareTo_2 1 = .ok (.getfield 9, 3) := dk_180 0 9 (dk_at dksJ9_compareTo_2_0 1 rfl rfl)
theorem dJ9_compareTo_2_4 : decode cJ9_compareTo_2 4 = .ok (.astore_n 2, 1) := dk_77 (dk_at dksJ9_compareTo_2_0 4 rfl rfl)
theorem dJ9_compareTo_2_5 : decode cJ9_compareTo_2 5 = .ok (.aload_n 1, 1) := dk_43 (dk_at dksJ9_compareTo_2_0 5 rfl rfl)
theorem dJ9_compareTo_2_6 : decode cJ9_compareTo_2 6 = .ok (.getfield 9, 3) := dk_180 0 9 (dk_at dksJ9_compareTo_2_0 6 rfl rfl)
theorem dJ9_compareTo_2_9 : decode cJ9_compareTo_2 9 = .ok (.astore_n 3, 1) := dk_78 (dk_at dksJ9_compareTo_2_0 9 rfl rfl)
theorem dJ9_compareTo_2_10 : decode cJ9_compareTo_2 10 = .ok (.aload_n 0, 1) := dk_42 (dk_at dksJ9_compareTo_2_0 10 rfl rfl)
theorem dJ9_compareTo_2_11 : decode cJ9_compareTo_2 11 = .ok (.invokevirtual 335, 3) := dk_182 1 79 (dk_at dksJ9_compareTo_2_0 11 rfl rfl)
theorem dJ9_compareTo_2_14 : decode cJ9_compareTo_2 14 = .ok (.istore 4, 2) := dk_54 4 (dk_at dksJ9_compareTo_2_0 14 rfl rfl)
theorem dJ9_compareTo_2_16 : decode cJ9_compareTo_2 16 = .ok (.iload 4, 2) := dk_21 4 (dk_at dksJ9_compareTo_2_0 16 rfl rfl)
theorem dJ9_compareTo_2_18 : decode cJ9_compareTo_2 18 = .ok (.aload_n 1, 1) := dk_43 (dk_at dksJ9_compareTo_2_0 18 rfl rfl)
theorem dJ9_compareTo_2_19 : decode cJ9_compareTo_2 19 = .ok (.invokevirtual 335, 3) := dk_182 1 79 (dk_at dksJ9_compareTo_2_0 19 rfl rfl)
theorem dJ9_compareTo_2_22 : decode cJ9_compareTo_2 22 = .ok (.if_icmp .ne 22, 3) := dk_160 0 22 (dk_at dksJ9_compareTo_2_1 0 rfl rfl)
theorem dJ9_compareTo_2_25 : decode cJ9_compareTo_2 25 = .ok (.iload 4, 2) := dk_21 4 (dk_at dksJ9_compareTo_2_1 3 rfl rfl)
theorem dJ9_compareTo_2_27 : decode cJ9_compareTo_2 27 = .ok (.ifCond .ne 11, 3) := dk_154 0 11 (dk_at dksJ9_compareTo_2_1 5 rfl rfl)
theorem dJ9_compareTo_2_30 : decode cJ9_compareTo_2 30 = .ok (.aload_n 2, 1) := dk_44 (dk_at dksJ9_compareTo_2_1 8 rfl rfl)
theorem dJ9_compareTo_2_31 : decode cJ9_compareTo_2 31 = .ok (.aload_n 3, 1) := dk_45 (dk_at dksJ9_compareTo_2_1 9 rfl rfl)
theorem dJ9_compareTo_2_32 : decode cJ9_compareTo_2 32 = .ok (.invokestatic 586, 3) := dk_184 2 74 (dk_at dksJ9_compareTo_2_1 10 rfl rfl)
theorem dJ9_compareTo_2_35 : decode cJ9_compareTo_2 35 = .ok (.goto 8, 3) := dk_167 0 8 (dk_at dksJ9_compareTo_2_1 13 rfl rfl)
theorem dJ9_compareTo_2_38 : decode cJ9_compareTo_2 38 = .ok (.aload_n 2, 1) := dk_44 (dk_at dksJ9_compareTo_2_1 16 rfl rfl)
theorem dJ9_compareTo_2_39 : decode cJ9_compareTo_2 39 = .ok (.aload_n 3, 1) := dk_45 (dk_at dksJ9_compareTo_2_1 17 rfl rfl)
theorem dJ9_compareTo_2_40 : decode cJ9_compareTo_2 40 = .ok (.invokestatic 590, 3) := dk_184 2 78 (dk_at dksJ9_compareTo_2_1 18 rfl rfl)
theorem dJ9_compareTo_2_43 : decode cJ9_compareTo_2 43 = .ok (.ireturn, 1) := dk_172 (dk_at dksJ9_compareTo_2_1 21 rfl rfl)
theorem dJ9_compareTo_2_44 : decode cJ9_compareTo_2 44 = .ok (.iload 4, 2) := dk_21 4 (dk_at dksJ9_compareTo_2_1 22 rfl rfl)
theorem dJ9_compareTo_2_46 : decode cJ9_compareTo_2 46 = .ok (.ifCond .ne 11, 3) := dk_154 0 11 (dk_at dksJ9_compareTo_2_2 0 rfl rfl)
theorem dJ9_compareTo_2_49 : decode cJ9_compareTo_2 49 = .ok (.aload_n 2, 1) := dk_44 (dk_at dksJ9_compareTo_2_2 3 rfl rfl)
theorem dJ9_compareTo_2_50 : decode cJ9_compareTo_2 50 = .ok (.aload_n 3, 1) := dk_45 (dk_at dksJ9_compareTo_2_2 4 rfl rfl)
theorem dJ9_compareTo_2_51 : decode cJ9_compareTo_2 51 = .ok (.invokestatic 591, 3) := dk_184 2 79 (dk_at dksJ9_compareTo_2_2 5 rfl rfl)
theorem dJ9_compareTo_2_54 : decode cJ9_compareTo_2 54 = .ok (.goto 8, 3) := dk_167 0 8 (dk_at dksJ9_compareTo_2_2 8 rfl rfl)
theorem dJ9_compareTo_2_57 : decode cJ9_compareTo_2 57 = .ok (.aload_n 2, 1) := dk_44 (dk_at dksJ9_compareTo_2_2 11 rfl rfl)
theorem dJ9_compareTo_2_58 : decode cJ9_compareTo_2 58 = .ok (.aload_n 3, 1) := dk_45 (dk_at dksJ9_compareTo_2_2 12 rfl rfl)
theorem dJ9_compareTo_2_59 : decode cJ9_compareTo_2 59 = .ok (.invokestatic 594, 3) := dk_184 2 82 (dk_at dksJ9_compareTo_2_2 13 rfl rfl)
theorem dJ9_compareTo_2_62 : decode cJ9_compareTo_2 62 = .ok (.ireturn, 1) := dk_172 (dk_at dksJ9_compareTo_2_2 16 rfl rfl)
def dkwJ9_checkOffset_0 : List UInt8 := [26, 27, 27, 178, 4, 29, 184, 4, 38, 87, 177]
abbrev dktJ9_checkOffset_0 : List UInt8 := dkwJ9_checkOffset_0 ++ []
theorem dksJ9_checkOffset_0 : cJ9_checkOffset.data.toList.drop 0 = dktJ9_checkOffset_0 := by decide +kernel
theorem dJ9_checkOffset_0 : decode cJ9_checkOffset 0 = .ok (.iload_n 0, 1) := dk_26 (dk_at dksJ9_checkOffset_0 0 rfl rfl)
theorem dJ9_checkOffset_1 : decode cJ9_checkOffset 1 = .ok (.iload_n 1, 1) := dk_27 (dk_at dksJ9_checkOffset_0 1 rfl rfl)
theorem dJ9_checkOffset_2 : decode cJ9_checkOffset 2 = .ok (.iload_n 1, 1) := dk_27 (dk_at dksJ9_checkOffset_0 2 rfl rfl)
theorem dJ9_checkOffset_3 : decode cJ9_checkOffset 3 = .ok (.getstatic 1053, 3) := dk_178 4 29 (dk_at dksJ9_checkOffset_0 3 rfl rfl)
theorem dJ9_checkOffset_6 : decode cJ9_checkOffset 6 = .ok (.invokestatic 1062, 3) := dk_184 4 38 (dk_at dksJ9_checkOffset_0 6 rfl rfl)
theorem dJ9_checkOffset_9 : decode cJ9_checkOffset 9 = .ok (.pop, 1) := dk_87 (dk_at dksJ9_checkOffset_0 9 rfl rfl)
theorem dJ9_checkOffset_10 : decode cJ9_checkOffset 10 = .ok (.return_, 1) := dk_177 (dk_at dksJ9_checkOffset_0 10 rfl rfl)
def dkwJ9_checkIndex_0 : List UInt8 := [26, 27, 178, 4, 29, 184, 4, 35, 87, 177]
abbrev dktJ9_checkIndex_0 : List UInt8 := dkwJ9_checkIndex_0 ++ []
theorem dksJ9_checkIndex_0 : cJ9_checkIndex.data.toList.drop 0 = dktJ9_checkIndex_0 := by decide +kernel
theorem dJ9_checkIndex_0 : decode cJ9_checkIndex 0 = .ok (.iload_n 0, 1) := dk_26 (dk_at dksJ9_checkIndex_0 0 rfl rfl)
theorem dJ9_checkIndex_1 : decode cJ9_checkIndex 1 = .ok (.iload_n 1, 1) := dk_27 (dk_at dksJ9_checkIndex_0 1 rfl rfl)
theorem dJ9_checkIndex_2 : decode cJ9_checkIndex 2 = .ok (.getstatic 1053, 3) := dk_178 4 29 (dk_at dksJ9_checkIndex_0 2 rfl rfl)
theorem dJ9_checkIndex_5 : decode cJ9_checkIndex 5 = .ok (.invokestatic 1059, 3) := dk_184 4 35 (dk_at dksJ9_checkIndex_0 5 rfl rfl)
theorem dJ9_checkIndex_8 : decode cJ9_checkIndex 8 = .ok (.pop, 1) := dk_87 (dk_at dksJ9_checkIndex_0 8 rfl rfl)
theorem dJ9_checkIndex_9 : decode cJ9_checkIndex 9 = .ok (.return_, 1) := dk_177 (dk_at dksJ9_checkIndex_0 9 rfl rfl)
def dkwJ9_charAt_1 : List UInt8 := [172]
abbrev dktJ9_charAt_1 : List UInt8 := dkwJ9_charAt_1 ++ []
def dkwJ9_charAt_0 : List UInt8 := [42, 182, 1, 236, 153, 0, 12, 42, 180, 0, 9, 27, 184, 1, 239, 172, 42, 180, 0, 9, 27, 184, 1, 242]
abbrev dktJ9_charAt_0 : List UInt8 := dkwJ9_charAt_0 ++ dktJ9_charAt_1
theorem dksJ9_charAt_0 : cJ9_charAt.data.toList.drop 0 = dktJ9_charAt_0 := by decide +kernel
theorem dksJ9_charAt_1 : cJ9_charAt.data.toList.drop 24 = dktJ9_charAt_1 := dk_seg dksJ9_charAt_0 24 rfl rfl
theorem dJ9_charAt_0 : decode cJ9_charAt 0 = .ok (.aload_n 0, 1) := dk_42 (dk_at dksJ9_charAt_0 0 rfl rfl)
theorem dJ9_charAt_1 : decode cJ9_charAt 1 = .ok (.invokevirtual 492, 3) := dk_182 1 236 (dk_at dksJ9_charAt_0 1 rfl rfl)
theorem dJ9_charAt_4 : decode cJ9_charAt 4 = .ok (.ifCond .eq 12, 3) := dk_153 0 12 (dk_at dksJ9_charAt_0 4 rfl rfl)
theorem dJ9_charAt_7 : decode cJ9_charAt 7 = .ok (.aload_n 0, 1) := dk_42 (dk_at dksJ9_charAt_0 7 rfl rfl)
theorem dJ9_charAt_8 : decode cJ9_charAt 8 = .ok (.getfield 9, 3) := dk_180 0 9 (dk_at dksJ9_charAt_0 8 rfl rfl)
theorem dJ9_charAt_11 : decode cJ9_charAt 11 = .ok (.iload_n 1, 1) := dk_27 (dk_at dksJ9_charAt_0 11 rfl rfl)
theorem dJ9_charAt_12 : decode cJ9_charAt 12 = .ok (.invokestatic 495, 3) := dk_184 1 239 (dk_at dksJ9_charAt_0 12 rfl rfl)
theorem dJ9_charAt_15 : decode cJ9_charAt 15 = .ok (.ireturn, 1) := dk_172 (dk_at dksJ9_charAt_0 15 rfl rfl)
theorem dJ9_charAt_16 : decode cJ9_charAt 16 = .ok (.aload_n 0, 1) := dk_42 (dk_at dksJ9_charAt_0 16 rfl rfl)
theorem dJ9_charAt_17 : decode cJ9_charAt 17 = .ok (.getfield 9, 3) := dk_180 0 9 (dk_at dksJ9_charAt_0 17 rfl rfl)
theorem dJ9_charAt_20 : decode cJ9_charAt 20 = .ok (.iload_n 1, 1) := dk_27 (dk_at dksJ9_charAt_0 20 rfl rfl)
theorem dJ9_charAt_21 : decode cJ9_charAt 21 = .ok (.invokestatic 498, 3) := dk_184 1 242 (dk_at dksJ9_charAt_0 21 rfl rfl)
theorem dJ9_charAt_24 : decode cJ9_charAt 24 = .ok (.ireturn, 1) := dk_172 (dk_at dksJ9_charAt_1 0 rfl rfl)
def dkwJ11_min_0 : List UInt8 := [26, 27, 163, 0, 7, 26, 167, 0, 4, 27, 172]
abbrev dktJ11_min_0 : List UInt8 := dkwJ11_min_0 ++ []
theorem dksJ11_min_0 : cJ11_min.data.toList.drop 0 = dktJ11_min_0 := by decide +kernel
theorem dJ11_min_0 : decode cJ11_min 0 = .ok (.iload_n 0, 1) := dk_26 (dk_at dksJ11_min_0 0 rfl rfl)
theorem dJ11_min_1 : decode cJ11_min 1 = .ok (.iload_n 1, 1) := dk_27 (dk_at dksJ11_min_0 1 rfl rfl)
theorem dJ11_min_2 : decode cJ11_min 2 = .ok (.if_icmp .gt 7, 3) := dk_163 0 7 (dk_at dksJ11_min_0 2 rfl rfl)
theorem dJ11_min_5 : decode cJ11_min 5 = .ok (.iload_n 0, 1) := dk_26 (dk_at dksJ11_min_0 5 rfl rfl)
theorem dJ11_min_6 : decode cJ11_min 6 = .ok (.goto 4, 3) := dk_167 0 4 (dk_at dksJ11_min_0 6 rfl rfl)
theorem dJ11_min_9 : decode cJ11_min 9 = .ok (.iload_n 1, 1) := dk_27 (dk_at dksJ11_min_0 9 rfl rfl)
theorem dJ11_min_10 : decode cJ11_min 10 = .ok (.ireturn, 1) := dk_172 (dk_at dksJ11_min_0 10 rfl rfl)
def dkwJ11_max_0 : List UInt8 := [26, 27, 161, 0, 7, 26, 167, 0, 4, 27, 172]
abbrev dktJ11_max_0 : List UInt8 := dkwJ11_max_0 ++ []
theorem dksJ11_max_0 : cJ11_max.data.toList.drop 0 = dktJ11_max_0 := by decide +kernel
theorem dJ11_max_0 : decode cJ11_max 0 = .ok (.iload_n 0, 1) := dk_26 (dk_at dksJ11_max_0 0 rfl rfl)
theorem dJ11_max_1 : decode cJ11_max 1 = .ok (.iload_n 1, 1) := dk_27 (dk_at dksJ11_max_0 1 rfl rfl)
theorem dJ11_max_2 : decode cJ11_max 2 = .ok (.if_icmp .lt 7, 3) := dk_161 0 7 (dk_at dksJ11_max_0 2 rfl rfl)
theorem dJ11_max_5 : decode cJ11_max 5 = .ok (.iload_n 0, 1) := dk_26 (dk_at dksJ11_max_0 5 rfl rfl)
theorem dJ11_max_6 : decode cJ11_max 6 = .ok (.goto 4, 3) := dk_167 0 4 (dk_at dksJ11_max_0 6 rfl rfl)
theorem dJ11_max_9 : decode cJ11_max 9 = .ok (.iload_n 1, 1) := dk_27 (dk_at dksJ11_max_0 9 rfl rfl)
theorem dJ11_max_10 : decode cJ11_max 10 = .ok (.ireturn, 1) := dk_172 (dk_at dksJ11_max_0 10 rfl rfl)
def dkwJ11_abs_0 : List UInt8 := [26, 156, 0, 8, 26, 116, 167, 0, 4, 26, 172]
abbrev dktJ11_abs_0 : List UInt8 := dkwJ11_abs_0 ++ []
theorem dksJ11_abs_0 : cJ11_abs.data.toList.drop 0 = dktJ11_abs_0 := by decide +kernel
theorem dJ11_abs_0 : decode cJ11_abs 0 = .ok (.iload_n 0, 1) := dk_26 (dk_at dksJ11_abs_0 0 rfl rfl)
theorem dJ11_abs_1 : decode cJ11_abs 1 = .ok (.ifCond .ge 8, 3) := dk_156 0 8 (dk_at dksJ11_abs_0 1 rfl rfl)
theorem dJ11_abs_4 : decode cJ11_abs 4 = .ok (.iload_n 0, 1) := dk_26 (dk_at dksJ11_abs_0 4 rfl rfl)
theorem dJ11_abs_5 : decode cJ11_abs 5 = .ok (.ineg, 1) := dk_116 (dk_at dksJ11_abs_0 5 rfl rfl)
theorem dJ11_abs_6 : decode cJ11_abs 6 = .ok (.goto 4, 3) := dk_167 0 4 (dk_at dksJ11_abs_0 6 rfl rfl)
theorem dJ11_abs_9 : decode cJ11_abs 9 = .ok (.iload_n 0, 1) := dk_26 (dk_at dksJ11_abs_0 9 rfl rfl)
theorem dJ11_abs_10 : decode cJ11_abs 10 = .ok (.ireturn, 1) := dk_172 (dk_at dksJ11_abs_0 10 rfl rfl)
def dkwJ12_init_2 : List UInt8 := [27, 182, 0, 27, 42, 4, 181, 0, 24, 177]
abbrev dktJ12_init_2 : List UInt8 := dkwJ12_init_2 ++ []
def dkwJ12_init_1 : List UInt8 := [187, 0, 33, 89, 183, 0, 35, 18, 36, 182, 0, 38, 27, 182, 0, 42, 182, 0, 45, 183, 0, 49, 191, 42]
abbrev dktJ12_init_1 : List UInt8 := dkwJ12_init_1 ++ dktJ12_init_2
def dkwJ12_init_0 : List UInt8 := [42, 183, 0, 21, 42, 3, 181, 0, 7, 42, 3, 181, 0, 24, 27, 156, 0, 30, 187, 0, 31, 89]
abbrev dktJ12_init_0 : List UInt8 := dkwJ12_init_0 ++ dktJ12_init_1
theorem dksJ12_init_0 : cJ12_init.data.toList.drop 0 = dktJ12_init_0 := by decide +kernel
theorem dksJ12_init_1 : cJ12_init.data.toList.drop 22 = dktJ12_init_1 := dk_seg dksJ12_init_0 22 rfl rfl
theorem dksJ12_init_2 : cJ12_init.data.toList.drop 46 = dktJ12_init_2 := dk_seg dksJ12_init_1 24 rfl rfl
theorem dJ12_init_0 : decode cJ12_init 0 = .ok (.aload_n 0, 1) := dk_42 (dk_at dksJ12_init_0 0 rfl rfl)
theorem dJ12_init_1 : decode cJ12_init 1 = .ok (.invokespecial 21, 3) := dk_183 0 21 (dk_at dksJ12_init_0 1 rfl rfl)
theorem dJ12_init_4 : decode cJ12_init 4 = .ok (.aload_n 0, 1) := dk_42 (dk_at dksJ12_init_0 4 rfl rfl)
theorem dJ12_init_5 : decode cJ12_init 5 = .ok (.iconst 0, 1) := dk_3 (dk_at dksJ12_init_0 5 rfl rfl)
theorem dJ12_init_6 : decode cJ12_init 6 = .ok (.putfield 7, 3) := dk_181 0 7 (dk_at dksJ12_init_0 6 rfl rfl)
theorem dJ12_init_9 : decode cJ12_init 9 = .ok (.aload_n 0, 1) := dk_42 (dk_at dksJ12_init_0 9 rfl rfl)
theorem dJ12_init_10 : decode cJ12_init 10 = .ok (.iconst 0, 1) := dk_3 (dk_at dksJ12_init_0 10 rfl rfl)
theorem dJ12_init_11 : decode cJ12_init 11 = .ok (.putfield 24, 3) := dk_181 0 24 (dk_at dksJ12_init_0 11 rfl rfl)
theorem dJ12_init_14 : decode cJ12_init 14 = .ok (.iload_n 1, 1) := dk_27 (dk_at dksJ12_init_0 14 rfl rfl)
theorem dJ12_init_15 : decode cJ12_init 15 = .ok (.ifCond .ge 30, 3) := dk_156 0 30 (dk_at dksJ12_init_0 15 rfl rfl)
theorem dJ12_init_18 : decode cJ12_init 18 = .ok (.new 31, 3) := dk_187 0 31 (dk_at dksJ12_init_0 18 rfl rfl)
theorem dJ12_init_21 : decode cJ12_init 21 = .ok (.dup, 1) := dk_89 (dk_at dksJ12_init_0 21 rfl rfl)
theorem dJ12_init_22 : decode cJ12_init 22 = .ok (.new 33, 3) := dk_187 0 33 (dk_at dksJ12_init_1 0 rfl rfl)
theorem dJ12_init_25 : decode cJ12_init 25 = .ok (.dup, 1) := dk_89 (dk_at dksJ12_init_1 3 rfl rfl)
theorem dJ12_init_26 : decode cJ12_init 26 = .ok (.invokespecial 35, 3) := dk_183 0 35 (dk_at dksJ12_init_1 4 rfl rfl)
theorem dJ12_init_29 : decode cJ12_init 29 = .ok (.ldc 36, 2) := dk_18 36 (dk_at dksJ12_init_1 7 rfl rfl)
theorem dJ12_init_31 : decode cJ12_init 31 = .ok (.invokevirtual 38, 3) := dk_182 0 38 (dk_at dksJ12_init_1 9 rfl rfl)
theorem dJ12_init_34 : decode cJ12_init 34 = .ok (.iload_n 1, 1) := dk_27 (dk_at dksJ12_init_1 12 rfl rfl)
theorem dJ12_init_35 : decode cJ12_init 35 = .ok (.invokevirtual 42, 3) := dk_182 0 42 (dk_at dksJ12_init_1 13 rfl rfl)
theorem dJ12_init_38 : decode cJ12_init 38 = .ok (.invokevirtual 45, 3) := dk_182 0 45 (dk_at dksJ12_init_1 16 rfl rfl)
theorem dJ12_init_41 : decode cJ12_init 41 = .ok (.invokespecial 49, 3) := dk_183 0 49 (dk_at dksJ12_init_1 19 rfl rfl)
theorem dJ12_init_44 : decode cJ12_init 44 = .ok (.athrow, 1) := dk_191 (dk_at dksJ12_init_1 22 rfl rfl)
theorem dJ12_init_45 : decode cJ12_init 45 = .ok (.aload_n 0, 1) := dk_42 (dk_at dksJ12_init_1 23 rfl rfl)
theorem dJ12_init_46 : decode cJ12_init 46 = .ok (.iload_n 1, 1) := dk_27 (dk_at dksJ12_init_2 0 rfl rfl)
theorem dJ12_init_47 : decode cJ12_init 47 = .ok (.invokevirtual 27, 3) := dk_182 0 27 (dk_at dksJ12_init_2 1 rfl rfl)
theorem dJ12_init_50 : decode cJ12_init 50 = .ok (.aload_n 0, 1) := dk_42 (dk_at dksJ12_init_2 4 rfl rfl)
theorem dJ12_init_51 : decode cJ12_init 51 = .ok (.iconst 1, 1) := dk_4 (dk_at dksJ12_init_2 5 rfl rfl)
theorem dJ12_init_52 : decode cJ12_init 52 = .ok (.putfield 24, 3) := dk_181 0 24 (dk_at dksJ12_init_2 6 rfl rfl)
theorem dJ12_init_55 : decode cJ12_init 55 = .ok (.return_, 1) := dk_177 (dk_at dksJ12_init_2 9 rfl rfl)
def dkwJ12_initWords_0 : List UInt8 := [42, 27, 4, 100, 184, 0, 52, 4, 96, 188, 11, 181, 0, 11, 177]
abbrev dktJ12_initWords_0 : List UInt8 := dkwJ12_initWords_0 ++ []
theorem dksJ12_initWords_0 : cJ12_initWords.data.toList.drop 0 = dktJ12_initWords_0 := by decide +kernel
theorem dJ12_initWords_0 : decode cJ12_initWords 0 = .ok (.aload_n 0, 1) := dk_42 (dk_at dksJ12_initWords_0 0 rfl rfl)
theorem dJ12_initWords_1 : decode cJ12_initWords 1 = .ok (.iload_n 1, 1) := dk_27 (dk_at dksJ12_initWords_0 1 rfl rfl)
theorem dJ12_initWords_2 : decode cJ12_initWords 2 = .ok (.iconst 1, 1) := dk_4 (dk_at dksJ12_initWords_0 2 rfl rfl)
theorem dJ12_initWords_3 : decode cJ12_initWords 3 = .ok (.isub, 1) := dk_100 (dk_at dksJ12_initWords_0 3 rfl rfl)
theorem dJ12_initWords_4 : decode cJ12_initWords 4 = .ok (.invokestatic 52, 3) := dk_184 0 52 (dk_at dksJ12_initWords_0 4 rfl rfl)
theorem dJ12_initWords_7 : decode cJ12_initWords 7 = .ok (.iconst 1, 1) := dk_4 (dk_at dksJ12_initWords_0 7 rfl rfl)
theorem dJ12_initWords_8 : decode cJ12_initWords 8 = .ok (.iadd, 1) := dk_96 (dk_at dksJ12_initWords_0 8 rfl rfl)
theorem dJ12_initWords_9 : decode cJ12_initWords 9 = .ok (.newarray .long, 2) := dk_188_11 (dk_at dksJ12_initWords_0 9 rfl rfl)
theorem dJ12_initWords_11 : decode cJ12_initWords 11 = .ok (.putfield 11, 3) := dk_181 0 11 (dk_at dksJ12_initWords_0 11 rfl rfl)
theorem dJ12_initWords_14 : decode cJ12_initWords 14 = .ok (.return_, 1) := dk_177 (dk_at dksJ12_initWords_0 14 rfl rfl)
def dkwJ12_wordIndex_0 : List UInt8 := [26, 16, 6, 122, 172]
abbrev dktJ12_wordIndex_0 : List UInt8 := dkwJ12_wordIndex_0 ++ []
theorem dksJ12_wordIndex_0 : cJ12_wordIndex.data.toList.drop 0 = dktJ12_wordIndex_0 := by decide +kernel
theorem dJ12_wordIndex_0 : decode cJ12_wordIndex 0 = .ok (.iload_n 0, 1) := dk_26 (dk_at dksJ12_wordIndex_0 0 rfl rfl)
theorem dJ12_wordIndex_1 : decode cJ12_wordIndex 1 = .ok (.bipush 6, 2) := dk_16 6 (dk_at dksJ12_wordIndex_0 1 rfl rfl)
theorem dJ12_wordIndex_3 : decode cJ12_wordIndex 3 = .ok (.ishr, 1) := dk_122 (dk_at dksJ12_wordIndex_0 3 rfl rfl)
theorem dJ12_wordIndex_4 : decode cJ12_wordIndex 4 = .ok (.ireturn, 1) := dk_172 (dk_at dksJ12_wordIndex_0 4 rfl rfl)
def dkwJ12_set_5 : List UInt8 := [42, 182, 0, 56, 177]
abbrev dktJ12_set_5 : List UInt8 := dkwJ12_set_5 ++ []
def dkwJ12_set_4 : List UInt8 := [21, 9, 20, 0, 165, 80, 132, 9, 1, 167, 255, 236, 42, 180, 0, 11, 21, 4, 92, 47, 22, 7, 129, 80]
abbrev dktJ12_set_4 : List UInt8 := dkwJ12_set_4 ++ dktJ12_set_5
def dkwJ12_set_3 : List UInt8 := [29, 92, 47, 22, 5, 129, 80, 29, 4, 96, 54, 9, 21, 9, 21, 4, 162, 0, 19, 42, 180, 0, 11]
abbrev dktJ12_set_3 : List UInt8 := dkwJ12_set_3 ++ dktJ12_set_4
def dkwJ12_set_2 : List UInt8 := [160, 0, 20, 42, 180, 0, 11, 29, 92, 47, 22, 5, 22, 7, 127, 129, 80, 167, 0, 54, 42, 180, 0, 11]
abbrev dktJ12_set_2 : List UInt8 := dkwJ12_set_2 ++ dktJ12_set_3
def dkwJ12_set_1 : List UInt8 := [42, 21, 4, 182, 0, 155, 20, 0, 165, 27, 121, 55, 5, 20, 0, 165, 28, 116, 125, 55, 7, 29, 21, 4]
abbrev dktJ12_set_1 : List UInt8 := dkwJ12_set_1 ++ dktJ12_set_2
def dkwJ12_set_0 : List UInt8 := [27, 28, 184, 0, 161, 27, 28, 160, 0, 4, 177, 27, 184, 0, 52, 62, 28, 4, 100, 184, 0, 52, 54, 4]
abbrev dktJ12_set_0 : List UInt8 := dkwJ12_set_0 ++ dktJ12_set_1
theorem dksJ12_set_0 : cJ12_set.data.toList.drop 0 = dktJ12_set_0 := by decide +kernel
theorem dksJ12_set_1 : cJ12_set.data.toList.drop 24 = dktJ12_set_1 := dk_seg dksJ12_set_0 24 rfl rfl
theorem dksJ12_set_2 : cJ12_set.data.toList.drop 48 = dktJ12_set_2 := dk_seg dksJ12_set_1 24 rfl rfl
theorem dksJ12_set_3 : cJ12_set.data.toList.drop 72 = dktJ12_set_3 := dk_seg dksJ12_set_2 24 rfl rfl
theorem dksJ12_set_4 : cJ12_set.data.toList.drop 95 = dktJ12_set_4 := dk_seg dksJ12_set_3 23 rfl rfl
theorem dksJ12_set_5 : cJ12_set.data.toList.drop 119 = dktJ12_set_5 := dk_seg dksJ12_set_4 24 rfl rfl
theorem dJ12_set_0 : decode cJ12_set 0 = .ok (.iload_n 1, 1) := dk_27 (dk_at dksJ12_set_0 0 rfl rfl)
theorem dJ12_set_1 : decode cJ12_set 1 = .ok (.iload_n 2, 1) := dk_28 (dk_at dksJ12_set_0 1 rfl rfl)
theorem dJ12_set_2 : decode cJ12_set 2 = .ok (.invokestatic 161, 3) := dk_184 0 161 (dk_at dksJ12_set_0 2 rfl rfl)
theorem dJ12_set_5 : decode cJ12_set 5 = .ok (.iload_n 1, 1) := dk_27 (dk_at dksJ12_set_0 5 rfl rfl)
theorem dJ12_set_6 : decode cJ12_set 6 = .ok (.iload_n 2, 1) := dk_28 (dk_at dksJ12_set_0 6 rfl rfl)
theorem dJ12_set_7 : decode cJ12_set 7 = .ok (.if_icmp .ne 4, 3) := dk_160 0 4 (dk_at dksJ12_set_0 7 rfl rfl)
theorem dJ12_set_10 : decode cJ12_set 10 = .ok (.return_, 1) := dk_177 (dk_at dksJ12_set_0 10 rfl rfl)
theorem dJ12_set_11 : decode cJ12_set 11 = .ok (.iload_n 1, 1) := dk_27 (dk_at dksJ12_set_0 11 rfl rfl)
theorem dJ12_set_12 : decode cJ12_set 12 = .ok (.invokestatic 52, 3) := dk_184 0 52 (dk_at dksJ12_set_0 12 rfl rfl)
theorem dJ12_set_15 : decode cJ12_set 15 = .ok (.istore_n 3, 1) := dk_62 (dk_at dksJ12_set_0 15 rfl rfl)
theorem dJ12_set_16 : decode cJ12_set 16 = .ok (.iload_n 2, 1) := dk_28 (dk_at dksJ12_set_0 16 rfl rfl)
theorem dJ12_set_17 : decode cJ12_set 17 = .ok (.iconst 1, 1) := dk_4 (dk_at dksJ12_set_0 17 rfl rfl)
theorem dJ12_set_18 : decode cJ12_set 18 = .ok (.isub, 1) := dk_100 (dk_at dksJ12_set_0 18 rfl rfl)
theorem dJ12_set_19 : decode cJ12_set 19 = .ok (.invokestatic 52, 3) := dk_184 0 52 (dk_at dksJ12_set_0 19 rfl rfl)
theorem dJ12_set_22 : decode cJ12_set 22 = .ok (.istore 4, 2) := dk_54 4 (dk_at dksJ12_set_0 22 rfl rfl)
theorem dJ12_set_24 : decode cJ12_set 24 = .ok (.aload_n 0, 1) := dk_42 (dk_at dksJ12_set_1 0 rfl rfl)
theorem dJ12_set_25 : decode cJ12_set 25 = .ok (.iload 4, 2) := dk_21 4 (dk_at dksJ12_set_1 1 rfl rfl)
theorem dJ12_set_27 : decode cJ12_set 27 = .ok (.invokevirtual 155, 3) := dk_182 0 155 (dk_at dksJ12_set_1 3 rfl rfl)
theorem dJ12_set_30 : decode cJ12_set 30 = .ok (.ldc2_w 165, 3) := dk_20 0 165 (dk_at dksJ12_set_1 6 rfl rfl)
theorem dJ12_set_33 : decode cJ12_set 33 = .ok (.iload_n 1, 1) := dk_27 (dk_at dksJ12_set_1 9 rfl rfl)
theorem dJ12_set_34 : decode cJ12_set 34 = .ok (.lshl, 1) := dk_121 (dk_at dksJ12_set_1 10 rfl rfl)
theorem dJ12_set_35 : decode cJ12_set 35 = .ok (.lstore 5, 2) := dk_55 5 (dk_at dksJ12_set_1 11 rfl rfl)
theorem dJ12_set_37 : decode cJ12_set 37 = .ok (.ldc2_w 165, 3) := dk_20 0 165 (dk_at dksJ12_set_1 13 rfl rfl)
theorem dJ12_set_40 : decode cJ12_set 40 = .ok (.iload_n 2, 1) := dk_28 (dk_at dksJ12_set_1 16 rfl rfl)
theorem dJ12_set_41 : decode cJ12_set 41 = .ok (.ineg, 1) := dk_116 (dk_at dksJ12_set_1 17 rfl rfl)
theorem dJ12_set_42 : decode cJ12_set 42 = .ok (.lushr, 1) := dk_125 (dk_at dksJ12_set_1 18 rfl rfl)
theorem dJ12_set_43 : decode cJ12_set 43 = .ok (.lstore 7, 2) := dk_55 7 (dk_at dksJ12_set_1 19 rfl rfl)
theorem dJ12_set_45 : decode cJ12_set 45 = .ok (.iload_n 3, 1) := dk_29 (dk_at dksJ12_set_1 21 rfl rfl)
theorem dJ12_set_46 : decode cJ12_set 46 = .ok (.iload 4, 2) := dk_21 4 (dk_at dksJ12_set_1 22 rfl rfl)
theorem dJ12_set_48 : decode cJ12_set 48 = .ok (.if_icmp .ne 20, 3) := dk_160 0 20 (dk_at dksJ12_set_2 0 rfl rfl)
theorem dJ12_set_51 : decode cJ12_set 51 = .ok (.aload_n 0, 1) := dk_42 (dk_at dksJ12_set_2 3 rfl rfl)
theorem dJ12_set_52 : decode cJ12_set 52 = .ok (.getfield 11, 3) := dk_180 0 11 (dk_at dksJ12_set_2 4 rfl rfl)
theorem dJ12_set_55 : decode cJ12_set 55 = .ok (.iload_n 3, 1) := dk_29 (dk_at dksJ12_set_2 7 rfl rfl)
theorem dJ12_set_56 : decode cJ12_set 56 = .ok (.dup2, 1) := dk_92 (dk_at dksJ12_set_2 8 rfl rfl)
theorem dJ12_set_57 : decode cJ12_set 57 = .ok (.laload, 1) := dk_47 (dk_at dksJ12_set_2 9 rfl rfl)
theorem dJ12_set_58 : decode cJ12_set 58 = .ok (.lload 5, 2) := dk_22 5 (dk_at dksJ12_set_2 10 rfl rfl)
theorem dJ12_set_60 : decode cJ12_set 60 = .ok (.lload 7, 2) := dk_22 7 (dk_at dksJ12_set_2 12 rfl rfl)
theorem dJ12_set_62 : decode cJ12_set 62 = .ok (.land, 1) := dk_127 (dk_at dksJ12_set_2 14 rfl rfl)
theorem dJ12_set_63 : decode cJ12_set 63 = .ok (.lor, 1) := dk_129 (dk_at dksJ12_set_2 15 rfl rfl)
theorem dJ12_set_64 : decode cJ12_set 64 = .ok (.lastore, 1) := dk_80 (dk_at dksJ12_set_2 16 rfl rfl)
theorem dJ12_set_65 : decode cJ12_set 65 = .ok (.goto 54, 3) := dk_167 0 54 (dk_at dksJ12_set_2 17 rfl rfl)
theorem dJ12_set_68 : decode cJ12_set 68 = .ok (.aload_n 0, 1) := dk_42 (dk_at dksJ12_set_2 20 rfl rfl)
theorem dJ12_set_69 : decode cJ12_set 69 = .ok (.getfield 11, 3) := dk_180 0 11 (dk_at dksJ12_set_2 21 rfl rfl)
theorem dJ12_set_72 : decode cJ12_set 72 = .ok (.iload_n 3, 1) := dk_29 (dk_at dksJ12_set_3 0 rfl rfl)
theorem dJ12_set_73 : decode cJ12_set 73 = .ok (.dup2, 1) := dk_92 (dk_at dksJ12_set_3 1 rfl rfl)
theorem dJ12_set_74 : decode cJ12_set 74 = .ok (.laload, 1) := dk_47 (dk_at dksJ12_set_3 2 rfl rfl)
theorem dJ12_set_75 : decode cJ12_set 75 = .ok (.lload 5, 2) := dk_22 5 (dk_at dksJ12_set_3 3 rfl rfl)
theorem dJ12_set_77 : decode cJ12_set 77 = .ok (.lor, 1) := dk_129 (dk_at dksJ12_set_3 5 rfl rfl)
theorem dJ12_set_78 : decode cJ12_set 78 = .ok (.lastore, 1) := dk_80 (dk_at dksJ12_set_3 6 rfl rfl)
theorem dJ12_set_79 : decode cJ12_set 79 = .ok (.iload_n 3, 1) := dk_29 (dk_at dksJ12_set_3 7 rfl rfl)
theorem dJ12_set_80 : decode cJ12_set 80 = .ok (.iconst 1, 1) := dk_4 (dk_at dksJ12_set_3 8 rfl rfl)
theorem dJ12_set_81 : decode cJ12_set 81 = .ok (.iadd, 1) := dk_96 (dk_at dksJ12_set_3 9 rfl rfl)
theorem dJ12_set_82 : decode cJ12_set 82 = .ok (.istore 9, 2) := dk_54 9 (dk_at dksJ12_set_3 10 rfl rfl)
theorem dJ12_set_84 : decode cJ12_set 84 = .ok (.iload 9, 2) := dk_21 9 (dk_at dksJ12_set_3 12 rfl rfl)
theorem dJ12_set_86 : decode cJ12_set 86 = .ok (.iload 4, 2) := dk_21 4 (dk_at dksJ12_set_3 14 rfl rfl)
theorem dJ12_set_88 : decode cJ12_set 88 = .ok (.if_icmp .ge 19, 3) := dk_162 0 19 (dk_at dksJ12_set_3 16 rfl rfl)
theorem dJ12_set_91 : decode cJ12_set 91 = .ok (.aload_n 0, 1) := dk_42 (dk_at dksJ12_set_3 19 rfl rfl)
theorem dJ12_set_92 : decode cJ12_set 92 = .ok (.getfield 11, 3) := dk_180 0 11 (dk_at dksJ12_set_3 20 rfl rfl)
theorem dJ12_set_95 : decode cJ12_set 95 = .ok (.iload 9, 2) := dk_21 9 (dk_at dksJ12_set_4 0 rfl rfl)
theorem dJ12_set_97 : decode cJ12_set 97 = .ok (.ldc2_w 165, 3) := dk_20 0 165 (dk_at dksJ12_set_4 2 rfl rfl)
theorem dJ12_set_100 : decode cJ12_set 100 = .ok (.lastore, 1) := dk_80 (dk_at dksJ12_set_4 5 rfl rfl)
theorem dJ12_set_101 : decode cJ12_set 101 = .ok (.iinc 9 1, 3) := dk_132 9 1 (dk_at dksJ12_set_4 6 rfl rfl)
theorem dJ12_set_104 : decode cJ12_set 104 = .ok (.goto (-20), 3) := dk_167 255 236 (dk_at dksJ12_set_4 9 rfl rfl)
theorem dJ12_set_107 : decode cJ12_set 107 = .ok (.aload_n 0, 1) := dk_42 (dk_at dksJ12_set_4 12 rfl rfl)
theorem dJ12_set_108 : decode cJ12_set 108 = .ok (.getfield 11, 3) := dk_180 0 11 (dk_at dksJ12_set_4 13 rfl rfl)
theorem dJ12_set_111 : decode cJ12_set 111 = .ok (.iload 4, 2) := dk_21 4 (dk_at dksJ12_set_4 16 rfl rfl)
theorem dJ12_set_113 : decode cJ12_set 113 = .ok (.dup2, 1) := dk_92 (dk_at dksJ12_set_4 18 rfl rfl)
theorem dJ12_set_114 : decode cJ12_set 114 = .ok (.laload, 1) := dk_47 (dk_at dksJ12_set_4 19 rfl rfl)
theorem dJ12_set_115 : decode cJ12_set 115 = .ok (.lload 7, 2) := dk_22 7 (dk_at dksJ12_set_4 20 rfl rfl)
theorem dJ12_set_117 : decode cJ12_set 117 = .ok (.lor, 1) := dk_129 (dk_at dksJ12_set_4 22 rfl rfl)
theorem dJ12_set_118 : decode cJ12_set 118 = .ok (.lastore, 1) := dk_80 (dk_at dksJ12_set_4 23 rfl rfl)
theorem dJ12_set_119 : decode cJ12_set 119 = .ok (.aload_n 0, 1) := dk_42 (dk_at dksJ12_set_5 0 rfl rfl)
theorem dJ12_set_120 : decode cJ12_set 120 = .ok (.invokevirtual 56, 3) := dk_182 0 56 (dk_at dksJ12_set_5 1 rfl rfl)
theorem dJ12_set_123 : decode cJ12_set 123 = .ok (.return_, 1) := dk_177 (dk_at dksJ12_set_5 4 rfl rfl)
def dkwJ12_checkRange_4 : List UInt8 := [182, 0, 42, 182, 0, 45, 183, 0, 146, 191, 177]
abbrev dktJ12_checkRange_4 : List UInt8 := dkwJ12_checkRange_4 ++ []
def dkwJ12_checkRange_3 : List UInt8 := [187, 0, 33, 89, 183, 0, 35, 18, 149, 182, 0, 38, 26, 182, 0, 42, 18, 151, 182, 0, 38, 27]
abbrev dktJ12_checkRange_3 : List UInt8 := dkwJ12_checkRange_3 ++ dktJ12_checkRange_4
def dkwJ12_checkRange_2 : List UInt8 := [182, 0, 38, 27, 182, 0, 42, 182, 0, 45, 183, 0, 146, 191, 26, 27, 164, 0, 39, 187, 0, 142, 89]
abbrev dktJ12_checkRange_2 : List UInt8 := dkwJ12_checkRange_2 ++ dktJ12_checkRange_3
def dkwJ12_checkRange_1 : List UInt8 := [182, 0, 45, 183, 0, 146, 191, 27, 156, 0, 30, 187, 0, 142, 89, 187, 0, 33, 89, 183, 0, 35, 18, 147]
abbrev dktJ12_checkRange_1 : List UInt8 := dkwJ12_checkRange_1 ++ dktJ12_checkRange_2
def dkwJ12_checkRange_0 : List UInt8 := [26, 156, 0, 30, 187, 0, 142, 89, 187, 0, 33, 89, 183, 0, 35, 18, 144, 182, 0, 38, 26, 182, 0, 42]
abbrev dktJ12_checkRange_0 : List UInt8 := dkwJ12_checkRange_0 ++ dktJ12_checkRange_1
theorem dksJ12_checkRange_0 : cJ12_checkRange.data.toList.drop 0 = dktJ12_checkRange_0 := by decide +kernel
theorem dksJ12_checkRange_1 : cJ12_checkRange.data.toList.drop 24 = dktJ12_checkRange_1 := dk_seg dksJ12_checkRange_0 24 rfl rfl
theorem dksJ12_checkRange_2 : cJ12_checkRange.data.toList.drop 48 = dktJ12_checkRange_2 := dk_seg dksJ12_checkRange_1 24 rfl rfl
theorem dksJ12_checkRange_3 : cJ12_checkRange.data.toList.drop 71 = dktJ12_checkRange_3 := dk_seg dksJ12_checkRange_2 23 rfl rfl
theorem dksJ12_checkRange_4 : cJ12_checkRange.data.toList.drop 93 = dktJ12_checkRange_4 := dk_seg dksJ12_checkRange_3 22 rfl rfl
theorem dJ12_checkRange_0 : decode cJ12_checkRange 0 = .ok (.iload_n 0, 1) := dk_26 (dk_at dksJ12_checkRange_0 0 rfl rfl)
theorem dJ12_checkRange_1 : decode cJ12_checkRange 1 = .ok (.ifCond .ge 30, 3) := dk_156 0 30 (dk_at dksJ12_checkRange_0 1 rfl rfl)
theorem dJ12_checkRange_4 : decode cJ12_checkRange 4 = .ok (.new 142, 3) := dk_187 0 142 (dk_at dksJ12_checkRange_0 4 rfl rfl)
theorem dJ12_checkRange_7 : decode cJ12_checkRange 7 = .ok (.dup, 1) := dk_89 (dk_at dksJ12_checkRange_0 7 rfl rfl)
theorem dJ12_checkRange_8 : decode cJ12_checkRange 8 = .ok (.new 33, 3) := dk_187 0 33 (dk_at dksJ12_checkRange_0 8 rfl rfl)
theorem dJ12_checkRange_11 : decode cJ12_checkRange 11 = .ok (.dup, 1) := dk_89 (dk_at dksJ12_checkRange_0 11 rfl rfl)
theorem dJ12_checkRange_12 : decode cJ12_checkRange 12 = .ok (.invokespecial 35, 3) := dk_183 0 35 (dk_at dksJ12_checkRange_0 12 rfl rfl)
theorem dJ12_checkRange_15 : decode cJ12_checkRange 15 = .ok (.ldc 144, 2) := dk_18 144 (dk_at dksJ12_checkRange_0 15 rfl rfl)
theorem dJ12_checkRange_17 : decode cJ12_checkRange 17 = .ok (.invokevirtual 38, 3) := dk_182 0 38 (dk_at dksJ12_checkRange_0 17 rfl rfl)
theorem dJ12_checkRange_20 : decode cJ12_checkRange 20 = .ok (.iload_n 0, 1) := dk_26 (dk_at dksJ12_checkRange_0 20 rfl rfl)
theorem dJ12_checkRange_21 : decode cJ12_checkRange 21 = .ok (.invokevirtual 42, 3) := dk_182 0 42 (dk_at dksJ12_checkRange_0 21 rfl rfl)
theorem dJ12_checkRange_24 : decode cJ12_checkRange 24 = .ok (.invokevirtual 45, 3) := dk_182 0 45 (dk_at dksJ12_checkRange_1 0 rfl rfl)
theorem dJ12_checkRange_27 : decode cJ12_checkRange 27 = .ok (.invokespecial 146, 3) := dk_183 0 146 (dk_at dksJ12_checkRange_1 3 rfl rfl)
theorem dJ12_checkRange_30 : decode cJ12_checkRange 30 = .ok (.athrow, 1) := dk_191 (dk_at dksJ12_checkRange_1 6 rfl rfl)
theorem dJ12_checkRange_31 : decode cJ12_checkRange 31 = .ok (.iload_n 1, 1) := dk_27 (dk_at dksJ12_checkRange_1 7 rfl rfl)
theorem dJ12_checkRange_32 : decode cJ12_checkRange 32 = .ok (.ifCond .ge 30, 3) := dk_156 0 30 (dk_at dksJ12_checkRange_1 8 rfl rfl)
theorem dJ12_checkRange_35 : decode cJ12_checkRange 35 = .ok (.new 142, 3) := dk_187 0 142 (dk_at dksJ12_checkRange_1 11 rfl rfl)
theorem dJ12_checkRange_38 : decode cJ12_checkRange 38 = .ok (.dup, 1) := dk_89 (dk_at dksJ12_checkRange_1 14 rfl rfl)
theorem dJ12_checkRange_39 : decode cJ12_checkRange 39 = .ok (.new 33, 3) := dk_187 0 33 (dk_at dksJ12_checkRange_1 15 rfl rfl)
theorem dJ12_checkRange_42 : decode cJ12_checkRange 42 = .ok (.dup, 1) := dk_89 (dk_at dksJ12_checkRange_1 18 rfl rfl)
theorem dJ12_checkRange_43 : decode cJ12_checkRange 43 = .ok (.invokespecial 35, 3) := dk_183 0 35 (dk_at dksJ12_checkRange_1 19 rfl rfl)
theorem dJ12_checkRange_46 : decode cJ12_checkRange 46 = .ok (.ldc 147, 2) := dk_18 147 (dk_at dksJ12_checkRange_1 22 rfl rfl)
theorem dJ12_checkRange_48 : decode cJ12_checkRange 48 = .ok (.invokevirtual 38, 3) := dk_182 0 38 (dk_at dksJ12_checkRange_2 0 rfl rfl)
theorem dJ12_checkRange_51 : decode cJ12_checkRange 51 = .ok (.iload_n 1, 1) := dk_27 (dk_at dksJ12_checkRange_2 3 rfl rfl)
theorem dJ12_checkRange_52 : decode cJ12_checkRange 52 = .ok (.invokevirtual 42, 3) := dk_182 0 42 (dk_at dksJ12_checkRange_2 4 rfl rfl)
theorem dJ12_checkRange_55 : decode cJ12_checkRange 55 = .ok (.invokevirtual 45, 3) := dk_182 0 45 (dk_at dksJ12_checkRange_2 7 rfl rfl)
theorem dJ12_checkRange_58 : decode cJ12_checkRange 58 = .ok (.invokespecial 146, 3) := dk_183 0 146 (dk_at dksJ12_checkRange_2 10 rfl rfl)
theorem dJ12_checkRange_61 : decode cJ12_checkRange 61 = .ok (.athrow, 1) := dk_191 (dk_at dksJ12_checkRange_2 13 rfl rfl)
theorem dJ12_checkRange_62 : decode cJ12_checkRange 62 = .ok (.iload_n 0, 1) := dk_26 (dk_at dksJ12_checkRange_2 14 rfl rfl)
theorem dJ12_checkRange_63 : decode cJ12_checkRange 63 = .ok (.iload_n 1, 1) := dk_27 (dk_at dksJ12_checkRange_2 15 rfl rfl)
theorem dJ12_checkRange_64 : decode cJ12_checkRange 64 = .ok (.if_icmp .le 39, 3) := dk_164 0 39 (dk_at dksJ12_checkRange_2 16 rfl rfl)
theorem dJ12_checkRange_67 : decode cJ12_checkRange 67 = .ok (.new 142, 3) := dk_187 0 142 (dk_at dksJ12_checkRange_2 19 rfl rfl)
theorem dJ12_checkRange_70 : decode cJ12_checkRange 70 = .ok (.dup, 1) := dk_89 (dk_at dksJ12_checkRange_2 22 rfl rfl)
theorem dJ12_checkRange_71 : decode cJ12_checkRange 71 = .ok (.new 33, 3) := dk_187 0 33 (dk_at dksJ12_checkRange_3 0 rfl rfl)
theorem dJ12_checkRange_74 : decode cJ12_checkRange 74 = .ok (.dup, 1) := dk_89 (dk_at dksJ12_checkRange_3 3 rfl rfl)
theorem dJ12_checkRange_75 : decode cJ12_checkRange 75 = .ok (.invokespecial 35, 3) := dk_183 0 35 (dk_at dksJ12_checkRange_3 4 rfl rfl)
theorem dJ12_checkRange_78 : decode cJ12_checkRange 78 = .ok (.ldc 149, 2) := dk_18 149 (dk_at dksJ12_checkRange_3 7 rfl rfl)
theorem dJ12_checkRange_80 : decode cJ12_checkRange 80 = .ok (.invokevirtual 38, 3) := dk_182 0 38 (dk_at dksJ12_checkRange_3 9 rfl rfl)
theorem dJ12_checkRange_83 : decode cJ12_checkRange 83 = .ok (.iload_n 0, 1) := dk_26 (dk_at dksJ12_checkRange_3 12 rfl rfl)
theorem dJ12_checkRange_84 : decode cJ12_checkRange 84 = .ok (.invokevirtual 42, 3) := dk_182 0 42 (dk_at dksJ12_checkRange_3 13 rfl rfl)
theorem dJ12_checkRange_87 : decode cJ12_checkRange 87 = .ok (.ldc 151, 2) := dk_18 151 (dk_at dksJ12_checkRange_3 16 rfl rfl)
theorem dJ12_checkRange_89 : decode cJ12_checkRange 89 = .ok (.invokevirtual 38, 3) := dk_182 0 38 (dk_at dksJ12_checkRange_3 18 rfl rfl)
theorem dJ12_checkRange_92 : decode cJ12_checkRange 92 = .ok (.iload_n 1, 1) := dk_27 (dk_at dksJ12_checkRange_3 21 rfl rfl)
theorem dJ12_checkRange_93 : decode cJ12_checkRange 93 = .ok (.invokevirtual 42, 3) := dk_182 0 42 (dk_at dksJ12_checkRange_4 0 rfl rfl)
theorem dJ12_checkRange_96 : decode cJ12_checkRange 96 = .ok (.invokevirtual 45, 3) := dk_182 0 45 (dk_at dksJ12_checkRange_4 3 rfl rfl)
theorem dJ12_checkRange_99 : decode cJ12_checkRange 99 = .ok (.invokespecial 146, 3) := dk_183 0 146 (dk_at dksJ12_checkRange_4 6 rfl rfl)
theorem dJ12_checkRange_102 : decode cJ12_checkRange 102 = .ok (.athrow, 1) := dk_191 (dk_at dksJ12_checkRange_4 9 rfl rfl)
theorem dJ12_checkRange_103 : decode cJ12_checkRange 103 = .ok (.return_, 1) := dk_177 (dk_at dksJ12_checkRange_4 10 rfl rfl)
def dkwJ12_expandTo_0 : List UInt8 := [27, 4, 96, 61, 42, 180, 0, 7, 28, 162, 0, 13, 42, 28, 182, 0, 139, 42, 28, 181, 0, 7, 177]
abbrev dktJ12_expandTo_0 : List UInt8 := dkwJ12_expandTo_0 ++ []
theorem dksJ12_expandTo_0 : cJ12_expandTo.data.toList.drop 0 = dktJ12_expandTo_0 := by decide +kernel
theorem dJ12_expandTo_0 : decode cJ12_expandTo 0 = .ok (.iload_n 1, 1) := dk_27 (dk_at dksJ12_expandTo_0 0 rfl rfl)
theorem dJ12_expandTo_1 : decode cJ12_expandTo 1 = .ok (.iconst 1, 1) := dk_4 (dk_at dksJ12_expandTo_0 1 rfl rfl)
theorem dJ12_expandTo_2 : decode cJ12_expandTo 2 = .ok (.iadd, 1) := dk_96 (dk_at dksJ12_expandTo_0 2 rfl rfl)
theorem dJ12_expandTo_3 : decode cJ12_expandTo 3 = .ok (.istore_n 2, 1) := dk_61 (dk_at dksJ12_expandTo_0 3 rfl rfl)
theorem dJ12_expandTo_4 : decode cJ12_expandTo 4 = .ok (.aload_n 0, 1) := dk_42 (dk_at dksJ12_expandTo_0 4 rfl rfl)
theorem dJ12_expandTo_5 : decode cJ12_expandTo 5 = .ok (.getfield 7, 3) := dk_180 0 7 (dk_at dksJ12_expandTo_0 5 rfl rfl)
theorem dJ12_expandTo_8 : decode cJ12_expandTo 8 = .ok (.iload_n 2, 1) := dk_28 (dk_at dksJ12_expandTo_0 8 rfl rfl)
theorem dJ12_expandTo_9 : decode cJ12_expandTo 9 = .ok (.if_icmp .ge 13, 3) := dk_162 0 13 (dk_at dksJ12_expandTo_0 9 rfl rfl)
theorem dJ12_expandTo_12 : decode cJ12_expandTo 12 = .ok (.aload_n 0, 1) := dk_42 (dk_at dksJ12_expandTo_0 12 rfl rfl)
theorem dJ12_expandTo_13 : decode cJ12_expandTo 13 = .ok (.iload_n 2, 1) := dk_28 (dk_at dksJ12_expandTo_0 13 rfl rfl)
theorem dJ12_expandTo_14 : decode cJ12_expandTo 14 = .ok (.invokevirtual 139, 3) := dk_182 0 139 (dk_at dksJ12_expandTo_0 14 rfl rfl)
theorem dJ12_expandTo_17 : decode cJ12_expandTo 17 = .ok (.aload_n 0, 1) := dk_42 (dk_at dksJ12_expandTo_0 17 rfl rfl)
theorem dJ12_expandTo_18 : decode cJ12_expandTo 18 = .ok (.iload_n 2, 1) := dk_28 (dk_at dksJ12_expandTo_0 18 rfl rfl)
theorem dJ12_expandTo_19 : decode cJ12_expandTo 19 = .ok (.putfield 7, 3) := dk_181 0 7 (dk_at dksJ12_expandTo_0 19 rfl rfl)
theorem dJ12_expandTo_22 : decode cJ12_expandTo 22 = .ok (.return_, 1) := dk_177 (dk_at dksJ12_expandTo_0 22 rfl rfl)
def dkwJ12_ensureCapacity_1 : List UInt8 := [180, 0, 11, 28, 184, 0, 59, 181, 0, 11, 42, 3, 181, 0, 24, 177]
abbrev dktJ12_ensureCapacity_1 : List UInt8 := dkwJ12_ensureCapacity_1 ++ []
def dkwJ12_ensureCapacity_0 : List UInt8 := [42, 180, 0, 11, 190, 27, 162, 0, 32, 5, 42, 180, 0, 11, 190, 104, 27, 184, 0, 133, 61, 42, 42]
abbrev dktJ12_ensureCapacity_0 : List UInt8 := dkwJ12_ensureCapacity_0 ++ dktJ12_ensureCapacity_1
theorem dksJ12_ensureCapacity_0 : cJ12_ensureCapacity.data.toList.drop 0 = dktJ12_ensureCapacity_0 := by decide +kernel
theorem dksJ12_ensureCapacity_1 : cJ12_ensureCapacity.data.toList.drop 23 = dktJ12_ensureCapacity_1 := dk_seg dksJ12_ensureCapacity_0 23 rfl rfl
theorem dJ12_ensureCapacity_0 : decode cJ12_ensureCapacity 0 = .ok (.aload_n 0, 1) := dk_42 (dk_at dksJ12_ensureCapacity_0 0 rfl rfl)
theorem dJ12_ensureCapacity_1 : decode cJ12_ensureCapacity 1 = .ok (.getfield 11, 3) := dk_180 0 11 (dk_at dksJ12_ensureCapacity_0 1 rfl rfl)
theorem dJ12_ensureCapacity_4 : decode cJ12_ensureCapacity 4 = .ok (.arraylength, 1) := dk_190 (dk_at dksJ12_ensureCapacity_0 4 rfl rfl)
theorem dJ12_ensureCapacity_5 : decode cJ12_ensureCapacity 5 = .ok (.iload_n 1, 1) := dk_27 (dk_at dksJ12_ensureCapacity_0 5 rfl rfl)
theorem dJ12_ensureCapacity_6 : decode cJ12_ensureCapacity 6 = .ok (.if_icmp .ge 32, 3) := dk_162 0 32 (dk_at dksJ12_ensureCapacity_0 6 rfl rfl)
theorem dJ12_ensureCapacity_9 : decode cJ12_ensureCapacity 9 = .ok (.iconst 2, 1) := dk_5 (dk_at dksJ12_ensureCapacity_0 9 rfl rfl)
theorem dJ12_ensureCapacity_10 : decode cJ12_ensureCapacity 10 = .ok (.aload_n 0, 1) := dk_42 (dk_at dksJ12_ensureCapacity_0 10 rfl rfl)
theorem dJ12_ensureCapacity_11 : decode cJ12_ensureCapacity 11 = .ok (.getfield 11, 3) := dk_180 0 11 (dk_at dksJ12_ensureCapacity_0 11 rfl rfl)
theorem dJ12_ensureCapacity_14 : decode cJ12_ensureCapacity 14 = .ok (.arraylength, 1) := dk_190 (dk_at dksJ12_ensureCapacity_0 14 rfl rfl)
theorem dJ12_ensureCapacity_15 : decode cJ12_ensureCapacity 15 = .ok (.imul, 1) := dk_104 (dk_at dksJ12_ensureCapacity_0 15 rfl rfl)
theorem dJ12_ensureCapacity_16 : decode cJ12_ensureCapacity 16 = .ok (.iload_n 1, 1) := dk_27 (dk_at dksJ12_ensureCapacity_0 16 rfl rfl)
theorem dJ12_ensureCapacity_17 : decode cJ12_ensureCapacity 17 = .ok (.invokestatic 133, 3) := dk_184 0 133 (dk_at dksJ12_ensureCapacity_0 17 rfl rfl)
theorem dJ12_ensureCapacity_20 : decode cJ12_ensureCapacity 20 = .ok (.istore_n 2, 1) := dk_61 (dk_at dksJ12_ensureCapacity_0 20 rfl rfl)
theorem dJ12_ensureCapacity_21 : decode cJ12_ensureCapacity 21 = .ok (.aload_n 0, 1) := dk_42 (dk_at dksJ12_ensureCapacity_0 21 rfl rfl)
theorem dJ12_ensureCapacity_22 : decode cJ12_ensureCapacity 22 = .ok (.aload_n 0, 1) := dk_42 (dk_at dksJ12_ensureCapacity_0 22 rfl rfl)
theorem dJ12_ensureCapacity_23 : decode cJ12_ensureCapacity 23 = .ok (.getfield 11, 3) := dk_180 0 11 (dk_at dksJ12_ensureCapacity_1 0 rfl rfl)
theorem dJ12_ensureCapacity_26 : decode cJ12_ensureCapacity 26 = .ok (.iload_n 2, 1) := dk_28 (dk_at dksJ12_ensureCapacity_1 3 rfl rfl)
theorem dJ12_ensureCapacity_27 : decode cJ12_ensureCapacity 27 = .ok (.invokestatic 59, 3) := dk_184 0 59 (dk_at dksJ12_ensureCapacity_1 4 rfl rfl)
theorem dJ12_ensureCapacity_30 : decode cJ12_ensureCapacity 30 = .ok (.putfield 11, 3) := dk_181 0 11 (dk_at dksJ12_ensureCapacity_1 7 rfl rfl)
theorem dJ12_ensureCapacity_33 : decode cJ12_ensureCapacity 33 = .ok (.aload_n 0, 1) := dk_42 (dk_at dksJ12_ensureCapacity_1 10 rfl rfl)
theorem dJ12_ensureCapacity_34 : decode cJ12_ensureCapacity 34 = .ok (.iconst 0, 1) := dk_3 (dk_at dksJ12_ensureCapacity_1 11 rfl rfl)
theorem dJ12_ensureCapacity_35 : decode cJ12_ensureCapacity 35 = .ok (.putfield 24, 3) := dk_181 0 24 (dk_at dksJ12_ensureCapacity_1 12 rfl rfl)
theorem dJ12_ensureCapacity_38 : decode cJ12_ensureCapacity 38 = .ok (.return_, 1) := dk_177 (dk_at dksJ12_ensureCapacity_1 15 rfl rfl)
def dkwJ12_checkInvariants_4 : List UInt8 := [180, 0, 7, 47, 9, 148, 153, 0, 11, 187, 0, 15, 89, 183, 0, 17, 191, 177]
abbrev dktJ12_checkInvariants_4 : List UInt8 := dkwJ12_checkInvariants_4 ++ []
def dkwJ12_checkInvariants_3 : List UInt8 := [178, 0, 3, 154, 0, 37, 42, 180, 0, 7, 42, 180, 0, 11, 190, 159, 0, 25, 42, 180, 0, 11, 42]
abbrev dktJ12_checkInvariants_3 : List UInt8 := dkwJ12_checkInvariants_3 ++ dktJ12_checkInvariants_4
def dkwJ12_checkInvariants_2 : List UInt8 := [155, 0, 15, 42, 180, 0, 7, 42, 180, 0, 11, 190, 164, 0, 11, 187, 0, 15, 89, 183, 0, 17, 191]
abbrev dktJ12_checkInvariants_2 : List UInt8 := dkwJ12_checkInvariants_2 ++ dktJ12_checkInvariants_3
def dkwJ12_checkInvariants_1 : List UInt8 := [9, 148, 154, 0, 11, 187, 0, 15, 89, 183, 0, 17, 191, 178, 0, 3, 154, 0, 30, 42, 180, 0, 7]
abbrev dktJ12_checkInvariants_1 : List UInt8 := dkwJ12_checkInvariants_1 ++ dktJ12_checkInvariants_2
def dkwJ12_checkInvariants_0 : List UInt8 := [178, 0, 3, 154, 0, 34, 42, 180, 0, 7, 153, 0, 27, 42, 180, 0, 11, 42, 180, 0, 7, 4, 100, 47]
abbrev dktJ12_checkInvariants_0 : List UInt8 := dkwJ12_checkInvariants_0 ++ dktJ12_checkInvariants_1
theorem dksJ12_checkInvariants_0 : cJ12_checkInvariants.data.toList.drop 0 = dktJ12_checkInvariants_0 := by decide +kernel
theorem dksJ12_checkInvariants_1 : cJ12_checkInvariants.data.toList.drop 24 = dktJ12_checkInvariants_1 := dk_seg dksJ12_checkInvariants_0 24 rfl rfl
theorem dksJ12_checkInvariants_2 : cJ12_checkInvariants.data.toList.drop 47 = dktJ12_checkInvariants_2 := dk_seg dksJ12_checkInvariants_1 23 rfl rfl
theorem dksJ12_checkInvariants_3 : cJ12_checkInvariants.data.toList.drop 70 = dktJ12_checkInvariants_3 := dk_seg dksJ12_checkInvariants_2 23 rfl rfl
theorem dksJ12_checkInvariants_4 : cJ12_checkInvariants.data.toList.drop 93 = dktJ12_checkInvariants_4 := dk_seg dksJ12_checkInvariants_3 23 rfl rfl
theorem dJ12_checkInvariants_0 : decode cJ12_checkInvariants 0 = .ok (.getstatic 3, 3) := dk_178 0 3 (dk_at dksJ12_checkInvariants_0 0 rfl rfl)
theorem dJ12_checkInvariants_3 : decode cJ12_checkInvariants 3 = .ok (.ifCond .ne 34, 3) := dk_154 0 34 (dk_at dksJ12_checkInvariants_0 3 rfl rfl)
theorem dJ12_checkInvariants_6 : decode cJ12_checkInvariants 6 = .ok (.aload_n 0, 1) := dk_42 (dk_at dksJ12_checkInvariants_0 6 rfl rfl)
theorem dJ12_checkInvariants_7 : decode cJ12_checkInvariants 7 = .ok (.getfield 7, 3) := dk_180 0 7 (dk_at dksJ12_checkInvariants_0 7 rfl rfl)
theorem dJ12_checkInvariants_10 : decode cJ12_checkInvariants 10 = .ok (.ifCond .eq 27, 3) := dk_153 0 27 (dk_at dksJ12_checkInvariants_0 10 rfl rfl)
theorem dJ12_checkInvariants_13 : decode cJ12_checkInvariants 13 = .ok (.aload_n 0, 1) := dk_42 (dk_at dksJ12_checkInvariants_0 13 rfl rfl)
theorem dJ12_checkInvariants_14 : decode cJ12_checkInvariants 14 = .ok (.getfield 11, 3) := dk_180 0 11 (dk_at dksJ12_checkInvariants_0 14 rfl rfl)
theorem dJ12_checkInvariants_17 : decode cJ12_checkInvariants 17 = .ok (.aload_n 0, 1) := dk_42 (dk_at dksJ12_checkInvariants_0 17 rfl rfl)
theorem dJ12_checkInvariants_18 : decode cJ12_checkInvariants 18 = .ok (.getfield 7, 3) := dk_180 0 7 (dk_at dksJ12_checkInvariants_0 18 rfl rfl)
theorem dJ12_checkInvariants_21 : decode cJ12_checkInvariants 21 = .ok (.iconst 1, 1) := dk_4 (dk_at dksJ12_checkInvariants_0 21 rfl rfl)
theorem dJ12_checkInvariants_22 : decode cJ12_checkInvariants 22 = .ok (.isub, 1) := dk_100 (dk_at dksJ12_checkInvariants_0 22 rfl rfl)
theorem dJ12_checkInvariants_23 : decode cJ12_checkInvariants 23 = .ok (.laload, 1) := dk_47 (dk_at dksJ12_checkInvariants_0 23 rfl rfl)
theorem dJ12_checkInvariants_24 : decode cJ12_checkInvariants 24 = .ok (.lconst 0, 1) := dk_9 (dk_at dksJ12_checkInvariants_1 0 rfl rfl)
theorem dJ12_checkInvariants_25 : decode cJ12_checkInvariants 25 = .ok (.lcmp, 1) := dk_148 (dk_at dksJ12_checkInvariants_1 1 rfl rfl)
theorem dJ12_checkInvariants_26 : decode cJ12_checkInvariants 26 = .ok (.ifCond .ne 11, 3) := dk_154 0 11 (dk_at dksJ12_checkInvariants_1 2 rfl rfl)
theorem dJ12_checkInvariants_29 : decode cJ12_checkInvariants 29 = .ok (.new 15, 3) := dk_187 0 15 (dk_at dksJ12_checkInvariants_1 5 rfl rfl)
theorem dJ12_checkInvariants_32 : decode cJ12_checkInvariants 32 = .ok (.dup, 1) := dk_89 (dk_at dksJ12_checkInvariants_1 8 rfl rfl)
theorem dJ12_checkInvariants_33 : decode cJ12_checkInvariants 33 = .ok (.invokespecial 17, 3) := dk_183 0 17 (dk_at dksJ12_checkInvariants_1 9 rfl rfl)
theorem dJ12_checkInvariants_36 : decode cJ12_checkInvariants 36 = .ok (.athrow, 1) := dk_191 (dk_at dksJ12_checkInvariants_1 12 rfl rfl)
theorem dJ12_checkInvariants_37 : decode cJ12_checkInvariants 37 = .ok (.getstatic 3, 3) := dk_178 0 3 (dk_at dksJ12_checkInvariants_1 13 rfl rfl)
theorem dJ12_checkInvariants_40 : decode cJ12_checkInvariants 40 = .ok (.ifCond .ne 30, 3) := dk_154 0 30 (dk_at dksJ12_checkInvariants_1 16 rfl rfl)
theorem dJ12_checkInvariants_43 : decode cJ12_checkInvariants 43 = .ok (.aload_n 0, 1) := dk_42 (dk_at dksJ12_checkInvariants_1 19 rfl rfl)
theorem dJ12_checkInvariants_44 : decode cJ12_checkInvariants 44 = .ok (.getfield 7, 3) := dk_180 0 7 (dk_at dksJ12_checkInvariants_1 20 rfl rfl)
theorem dJ12_checkInvariants_47 : decode cJ12_checkInvariants 47 = .ok (.ifCond .lt 15, 3) := dk_155 0 15 (dk_at dksJ12_checkInvariants_2 0 rfl rfl)
theorem dJ12_checkInvariants_50 : decode cJ12_checkInvariants 50 = .ok (.aload_n 0, 1) := dk_42 (dk_at dksJ12_checkInvariants_2 3 rfl rfl)
theorem dJ12_checkInvariants_51 : decode cJ12_checkInvariants 51 = .ok (.getfield 7, 3) := dk_180 0 7 (dk_at dksJ12_checkInvariants_2 4 rfl rfl)
theorem dJ12_checkInvariants_54 : decode cJ12_checkInvariants 54 = .ok (.aload_n 0, 1) := dk_42 (dk_at dksJ12_checkInvariants_2 7 rfl rfl)
theorem dJ12_checkInvariants_55 : decode cJ12_checkInvariants 55 = .ok (.getfield 11, 3) := dk_180 0 11 (dk_at dksJ12_checkInvariants_2 8 rfl rfl)
theorem dJ12_checkInvariants_58 : decode cJ12_checkInvariants 58 = .ok (.arraylength, 1) := dk_190 (dk_at dksJ12_checkInvariants_2 11 rfl rfl)
theorem dJ12_checkInvariants_59 : decode cJ12_checkInvariants 59 = .ok (.if_icmp .le 11, 3) := dk_164 0 11 (dk_at dksJ12_checkInvariants_2 12 rfl rfl)
theorem dJ12_checkInvariants_62 : decode cJ12_checkInvariants 62 = .ok (.new 15, 3) := dk_187 0 15 (dk_at dksJ12_checkInvariants_2 15 rfl rfl)
theorem dJ12_checkInvariants_65 : decode cJ12_checkInvariants 65 = .ok (.dup, 1) := dk_89 (dk_at dksJ12_checkInvariants_2 18 rfl rfl)
theorem dJ12_checkInvariants_66 : decode cJ12_checkInvariants 66 = .ok (.invokespecial 17, 3) := dk_183 0 17 (dk_at dksJ12_checkInvariants_2 19 rfl rfl)
theorem dJ12_checkInvariants_69 : decode cJ12_checkInvariants 69 = .ok (.athrow, 1) := dk_191 (dk_at dksJ12_checkInvariants_2 22 rfl rfl)
theorem dJ12_checkInvariants_70 : decode cJ12_checkInvariants 70 = .ok (.getstatic 3, 3) := dk_178 0 3 (dk_at dksJ12_checkInvariants_3 0 rfl rfl)
theorem dJ12_checkInvariants_73 : decode cJ12_checkInvariants 73 = .ok (.ifCond .ne 37, 3) := dk_154 0 37 (dk_at dksJ12_checkInvariants_3 3 rfl rfl)
theorem dJ12_checkInvariants_76 : decode cJ12_checkInvariants 76 = .ok (.aload_n 0, 1) := dk_42 (dk_at dksJ12_checkInvariants_3 6 rfl rfl)
theorem dJ12_checkInvariants_77 : decode cJ12_checkInvariants 77 = .ok (.getfield 7, 3) := dk_180 0 7 (dk_at dksJ12_checkInvariants_3 7 rfl rfl)
theorem dJ12_checkInvariants_80 : decode cJ12_checkInvariants 80 = .ok (.aload_n 0, 1) := dk_42 (dk_at dksJ12_checkInvariants_3 10 rfl rfl)
theorem dJ12_checkInvariants_81 : decode cJ12_checkInvariants 81 = .ok (.getfield 11, 3) := dk_180 0 11 (dk_at dksJ12_checkInvariants_3 11 rfl rfl)
theorem dJ12_checkInvariants_84 : decode cJ12_checkInvariants 84 = .ok (.arraylength, 1) := dk_190 (dk_at dksJ12_checkInvariants_3 14 rfl rfl)
theorem dJ12_checkInvariants_85 : decode cJ12_checkInvariants 85 = .ok (.if_icmp .eq 25, 3) := dk_159 0 25 (dk_at dksJ12_checkInvariants_3 15 rfl rfl)
theorem dJ12_checkInvariants_88 : decode cJ12_checkInvariants 88 = .ok (.aload_n 0, 1) := dk_42 (dk_at dksJ12_checkInvariants_3 18 rfl rfl)
theorem dJ12_checkInvariants_89 : decode cJ12_checkInvariants 89 = .ok (.getfield 11, 3) := dk_180 0 11 (dk_at dksJ12_checkInvariants_3 19 rfl rfl)
theorem dJ12_checkInvariants_92 : decode cJ12_checkInvariants 92 = .ok (.aload_n 0, 1) := dk_42 (dk_at dksJ12_checkInvariants_3 22 rfl rfl)
theorem dJ12_checkInvariants_93 : decode cJ12_checkInvariants 93 = .ok (.getfield 7, 3) := dk_180 0 7 (dk_at dksJ12_checkInvariants_4 0 rfl rfl)
theorem dJ12_checkInvariants_96 : decode cJ12_checkInvariants 96 = .ok (.laload, 1) := dk_47 (dk_at dksJ12_checkInvariants_4 3 rfl rfl)
theorem dJ12_checkInvariants_97 : decode cJ12_checkInvariants 97 = .ok (.lconst 0, 1) := dk_9 (dk_at dksJ12_checkInvariants_4 4 rfl rfl)
theorem dJ12_checkInvariants_98 : decode cJ12_checkInvariants 98 = .ok (.lcmp, 1) := dk_148 (dk_at dksJ12_checkInvariants_4 5 rfl rfl)
theorem dJ12_checkInvariants_99 : decode cJ12_checkInvariants 99 = .ok (.ifCond .eq 11, 3) := dk_153 0 11 (dk_at dksJ12_checkInvariants_4 6 rfl rfl)
theorem dJ12_checkInvariants_102 : decode cJ12_checkInvariants 102 = .ok (.new 15, 3) := dk_187 0 15 (dk_at dksJ12_checkInvariants_4 9 rfl rfl)
theorem dJ12_checkInvariants_105 : decode cJ12_checkInvariants 105 = .ok (.dup, 1) := dk_89 (dk_at dksJ12_checkInvariants_4 12 rfl rfl)
theorem dJ12_checkInvariants_106 : decode cJ12_checkInvariants 106 = .ok (.invokespecial 17, 3) := dk_183 0 17 (dk_at dksJ12_checkInvariants_4 13 rfl rfl)
theorem dJ12_checkInvariants_109 : decode cJ12_checkInvariants 109 = .ok (.athrow, 1) := dk_191 (dk_at dksJ12_checkInvariants_4 16 rfl rfl)
theorem dJ12_checkInvariants_110 : decode cJ12_checkInvariants 110 = .ok (.return_, 1) := dk_177 (dk_at dksJ12_checkInvariants_4 17 rfl rfl)
def dkwJ12_nextSetBit_4 : List UInt8 := [28, 47, 66, 167, 255, 220]
abbrev dktJ12_nextSetBit_4 : List UInt8 := dkwJ12_nextSetBit_4 ++ []
def dkwJ12_nextSetBit_3 : List UInt8 := [104, 33, 184, 0, 182, 96, 172, 132, 2, 1, 28, 42, 180, 0, 7, 160, 0, 5, 2, 172, 42, 180, 0, 11]
abbrev dktJ12_nextSetBit_3 : List UInt8 := dkwJ12_nextSetBit_3 ++ dktJ12_nextSetBit_4
def dkwJ12_nextSetBit_2 : List UInt8 := [2, 172, 42, 180, 0, 11, 28, 47, 20, 0, 165, 27, 121, 127, 66, 33, 9, 148, 153, 0, 13, 28, 16, 64]
abbrev dktJ12_nextSetBit_2 : List UInt8 := dkwJ12_nextSetBit_2 ++ dktJ12_nextSetBit_3
def dkwJ12_nextSetBit_1 : List UInt8 := [182, 0, 45, 183, 0, 146, 191, 42, 182, 0, 56, 27, 184, 0, 52, 61, 28, 42, 180, 0, 7, 161, 0, 5]
abbrev dktJ12_nextSetBit_1 : List UInt8 := dkwJ12_nextSetBit_1 ++ dktJ12_nextSetBit_2
def dkwJ12_nextSetBit_0 : List UInt8 := [27, 156, 0, 30, 187, 0, 142, 89, 187, 0, 33, 89, 183, 0, 35, 18, 144, 182, 0, 38, 27, 182, 0, 42]
abbrev dktJ12_nextSetBit_0 : List UInt8 := dkwJ12_nextSetBit_0 ++ dktJ12_nextSetBit_1
theorem dksJ12_nextSetBit_0 : cJ12_nextSetBit.data.toList.drop 0 = dktJ12_nextSetBit_0 := by decide +kernel
theorem dksJ12_nextSetBit_1 : cJ12_nextSetBit.data.toList.drop 24 = dktJ12_nextSetBit_1 := dk_seg dksJ12_nextSetBit_0 24 rfl rfl
theorem dksJ12_nextSetBit_2 : cJ12_nextSetBit.data.toList.drop 48 = dktJ12_nextSetBit_2 := dk_seg dksJ12_nextSetBit_1 24 rfl rfl
theorem dksJ12_nextSetBit_3 : cJ12_nextSetBit.data.toList.drop 72 = dktJ12_nextSetBit_3 := dk_seg dksJ12_nextSetBit_2 24 rfl rfl
theorem dksJ12_nextSetBit_4 : cJ12_nextSetBit.data.toList.drop 96 = dktJ12_nextSetBit_4 := dk_seg dksJ12_nextSetBit_3 24 rfl rfl
theorem dJ12_nextSetBit_0 : decode cJ12_nextSetBit 0 = .ok (.iload_n 1, 1) := dk_27 (dk_at dksJ12_nextSetBit_0 0 rfl rfl)
theorem dJ12_nextSetBit_1 : decode cJ12_nextSetBit 1 = .ok (.ifCond .ge 30, 3) := dk_156 0 30 (dk_at dksJ12_nextSetBit_0 1 rfl rfl)
theorem dJ12_nextSetBit_4 : decode cJ12_nextSetBit 4 = .ok (.new 142, 3) := dk_187 0 142 (dk_at dksJ12_nextSetBit_0 4 rfl rfl)
theorem dJ12_nextSetBit_7 : decode cJ12_nextSetBit 7 = .ok (.dup, 1) := dk_89 (dk_at dksJ12_nextSetBit_0 7 rfl rfl)
theorem dJ12_nextSetBit_8 : decode cJ12_nextSetBit 8 = .ok (.new 33, 3) := dk_187 0 33 (dk_at dksJ12_nextSetBit_0 8 rfl rfl)
theorem dJ12_nextSetBit_11 : decode cJ12_nextSetBit 11 = .ok (.dup, 1) := dk_89 (dk_at dksJ12_nextSetBit_0 11 rfl rfl)
theorem dJ12_nextSetBit_12 : decode cJ12_nextSetBit 12 = .ok (.invokespecial 35, 3) := dk_183 0 35 (dk_at dksJ12_nextSetBit_0 12 rfl rfl)
theorem dJ12_nextSetBit_15 : decode cJ12_nextSetBit 15 = .ok (.ldc 144, 2) := dk_18 144 (dk_at dksJ12_nextSetBit_0 15 rfl rfl)
theorem dJ12_nextSetBit_17 : decode cJ12_nextSetBit 17 = .ok (.invokevirtual 38, 3) := dk_182 0 38 (dk_at dksJ12_nextSetBit_0 17 rfl rfl)
theorem dJ12_nextSetBit_20 : decode cJ12_nextSetBit 20 = .ok (.iload_n 1, 1) := dk_27 (dk_at dksJ12_nextSetBit_0 20 rfl rfl)
theorem dJ12_nextSetBit_21 : decode cJ12_nextSetBit 21 = .ok (.invokevirtual 42, 3) := dk_182 0 42 (dk_at dksJ12_nextSetBit_0 21 rfl rfl)
theorem dJ12_nextSetBit_24 : decode cJ12_nextSetBit 24 = .ok (.invokevirtual 45, 3) := dk_182 0 45 (dk_at dksJ12_nextSetBit_1 0 rfl rfl)
theorem dJ12_nextSetBit_27 : decode cJ12_nextSetBit 27 = .ok (.invokespecial 146, 3) := dk_183 0 146 (dk_at dksJ12_nextSetBit_1 3 rfl rfl)
theorem dJ12_nextSetBit_30 : decode cJ12_nextSetBit 30 = .ok (.athrow, 1) := dk_191 (dk_at dksJ12_nextSetBit_1 6 rfl rfl)
theorem dJ12_nextSetBit_31 : decode cJ12_nextSetBit 31 = .ok (.aload_n 0, 1) := dk_42 (dk_at dksJ12_nextSetBit_1 7 rfl rfl)
theorem dJ12_nextSetBit_32 : decode cJ12_nextSetBit 32 = .ok (.invokevirtual 56, 3) := dk_182 0 56 (dk_at dksJ12_nextSetBit_1 8 rfl rfl)
theorem dJ12_nextSetBit_35 : decode cJ12_nextSetBit 35 = .ok (.iload_n 1, 1) := dk_27 (dk_at dksJ12_nextSetBit_1 11 rfl rfl)
theorem dJ12_nextSetBit_36 : decode cJ12_nextSetBit 36 = .ok (.invokestatic 52, 3) := dk_184 0 52 (dk_at dksJ12_nextSetBit_1 12 rfl rfl)
theorem dJ12_nextSetBit_39 : decode cJ12_nextSetBit 39 = .ok (.istore_n 2, 1) := dk_61 (dk_at dksJ12_nextSetBit_1 15 rfl rfl)
theorem dJ12_nextSetBit_40 : decode cJ12_nextSetBit 40 = .ok (.iload_n 2, 1) := dk_28 (dk_at dksJ12_nextSetBit_1 16 rfl rfl)
theorem dJ12_nextSetBit_41 : decode cJ12_nextSetBit 41 = .ok (.aload_n 0, 1) := dk_42 (dk_at dksJ12_nextSetBit_1 17 rfl rfl)
theorem dJ12_nextSetBit_42 : decode cJ12_nextSetBit 42 = .ok (.getfield 7, 3) := dk_180 0 7 (dk_at dksJ12_nextSetBit_1 18 rfl rfl)
theorem dJ12_nextSetBit_45 : decode cJ12_nextSetBit 45 = .ok (.if_icmp .lt 5, 3) := dk_161 0 5 (dk_at dksJ12_nextSetBit_1 21 rfl rfl)
theorem dJ12_nextSetBit_48 : decode cJ12_nextSetBit 48 = .ok (.iconst (-1), 1) := dk_2 (dk_at dksJ12_nextSetBit_2 0 rfl rfl)
theorem dJ12_nextSetBit_49 : decode cJ12_nextSetBit 49 = .ok (.ireturn, 1) := dk_172 (dk_at dksJ12_nextSetBit_2 1 rfl rfl)
theorem dJ12_nextSetBit_50 : decode cJ12_nextSetBit 50 = .ok (.aload_n 0, 1) := dk_42 (dk_at dksJ12_nextSetBit_2 2 rfl rfl)
theorem dJ12_nextSetBit_51 : decode cJ12_nextSetBit 51 = .ok (.getfield 11, 3) := dk_180 0 11 (dk_at dksJ12_nextSetBit_2 3 rfl rfl)
theorem dJ12_nextSetBit_54 : decode cJ12_nextSetBit 54 = .ok (.iload_n 2, 1) := dk_28 (dk_at dksJ12_nextSetBit_2 6 rfl rfl)
theorem dJ12_nextSetBit_55 : decode cJ12_nextSetBit 55 = .ok (.laload, 1) := dk_47 (dk_at dksJ12_nextSetBit_2 7 rfl rfl)
theorem dJ12_nextSetBit_56 : decode cJ12_nextSetBit 56 = .ok (.ldc2_w 165, 3) := dk_20 0 165 (dk_at dksJ12_nextSetBit_2 8 rfl rfl)
theorem dJ12_nextSetBit_59 : decode cJ12_nextSetBit 59 = .ok (.iload_n 1, 1) := dk_27 (dk_at dksJ12_nextSetBit_2 11 rfl rfl)
theorem dJ12_nextSetBit_60 : decode cJ12_nextSetBit 60 = .ok (.lshl, 1) := dk_121 (dk_at dksJ12_nextSetBit_2 12 rfl rfl)
theorem dJ12_nextSetBit_61 : decode cJ12_nextSetBit 61 = .ok (.land, 1) := dk_127 (dk_at dksJ12_nextSetBit_2 13 rfl rfl)
theorem dJ12_nextSetBit_62 : decode cJ12_nextSetBit 62 = .ok (.lstore_n 3, 1) := dk_66 (dk_at dksJ12_nextSetBit_2 14 rfl rfl)
theorem dJ12_nextSetBit_63 : decode cJ12_nextSetBit 63 = .ok (.lload_n 3, 1) := dk_33 (dk_at dksJ12_nextSetBit_2 15 rfl rfl)
theorem dJ12_nextSetBit_64 : decode cJ12_nextSetBit 64 = .ok (.lconst 0, 1) := dk_9 (dk_at dksJ12_nextSetBit_2 16 rfl rfl)
theorem dJ12_nextSetBit_65 : decode cJ12_nextSetBit 65 = .ok (.lcmp, 1) := dk_148 (dk_at dksJ12_nextSetBit_2 17 rfl rfl)
theorem dJ12_nextSetBit_66 : decode cJ12_nextSetBit 66 = .ok (.ifCond .eq 13, 3) := dk_153 0 13 (dk_at dksJ12_nextSetBit_2 18 rfl rfl)
theorem dJ12_nextSetBit_69 : decode cJ12_nextSetBit 69 = .ok (.iload_n 2, 1) := dk_28 (dk_at dksJ12_nextSetBit_2 21 rfl rfl)
theorem dJ12_nextSetBit_70 : decode cJ12_nextSetBit 70 = .ok (.bipush 64, 2) := dk_16 64 (dk_at dksJ12_nextSetBit_2 22 rfl rfl)
theorem dJ12_nextSetBit_72 : decode cJ12_nextSetBit 72 = .ok (.imul, 1) := dk_104 (dk_at dksJ12_nextSetBit_3 0 rfl rfl)
theorem dJ12_nextSetBit_73 : decode cJ12_nextSetBit 73 = .ok (.lload_n 3, 1) := dk_33 (dk_at dksJ12_nextSetBit_3 1 rfl rfl)
theorem dJ12_nextSetBit_74 : decode cJ12_nextSetBit 74 = .ok (.invokestatic 182, 3) := dk_184 0 182 (dk_at dksJ12_nextSetBit_3 2 rfl rfl)
theorem dJ12_nextSetBit_77 : decode cJ12_nextSetBit 77 = .ok (.iadd, 1) := dk_96 (dk_at dksJ12_nextSetBit_3 5 rfl rfl)
theorem dJ12_nextSetBit_78 : decode cJ12_nextSetBit 78 = .ok (.ireturn, 1) := dk_172 (dk_at dksJ12_nextSetBit_3 6 rfl rfl)
theorem dJ12_nextSetBit_79 : decode cJ12_nextSetBit 79 = .ok (.iinc 2 1, 3) := dk_132 2 1 (dk_at dksJ12_nextSetBit_3 7 rfl rfl)
theorem dJ12_nextSetBit_82 : decode cJ12_nextSetBit 82 = .ok (.iload_n 2, 1) := dk_28 (dk_at dksJ12_nextSetBit_3 10 rfl rfl)
theorem dJ12_nextSetBit_83 : decode cJ12_nextSetBit 83 = .ok (.aload_n 0, 1) := dk_42 (dk_at dksJ12_nextSetBit_3 11 rfl rfl)
theorem dJ12_nextSetBit_84 : decode cJ12_nextSetBit 84 = .ok (.getfield 7, 3) := dk_180 0 7 (dk_at dksJ12_nextSetBit_3 12 rfl rfl)
theorem dJ12_nextSetBit_87 : decode cJ12_nextSetBit 87 = .ok (.if_icmp .ne 5, 3) := dk_160 0 5 (dk_at dksJ12_nextSetBit_3 15 rfl rfl)
theorem dJ12_nextSetBit_90 : decode cJ12_nextSetBit 90 = .ok (.iconst (-1), 1) := dk_2 (dk_at dksJ12_nextSetBit_3 18 rfl rfl)
theorem dJ12_nextSetBit_91 : decode cJ12_nextSetBit 91 = .ok (.ireturn, 1) := dk_172 (dk_at dksJ12_nextSetBit_3 19 rfl rfl)
theorem dJ12_nextSetBit_92 : decode cJ12_nextSetBit 92 = .ok (.aload_n 0, 1) := dk_42 (dk_at dksJ12_nextSetBit_3 20 rfl rfl)
theorem dJ12_nextSetBit_93 : decode cJ12_nextSetBit 93 = .ok (.getfield 11, 3) := dk_180 0 11 (dk_at dksJ12_nextSetBit_3 21 rfl rfl)
theorem dJ12_nextSetBit_96 : decode cJ12_nextSetBit 96 = .ok (.iload_n 2, 1) := dk_28 (dk_at dksJ12_nextSetBit_4 0 rfl rfl)
theorem dJ12_nextSetBit_97 : decode cJ12_nextSetBit 97 = .ok (.laload, 1) := dk_47 (dk_at dksJ12_nextSetBit_4 1 rfl rfl)
theorem dJ12_nextSetBit_98 : decode cJ12_nextSetBit 98 = .ok (.lstore_n 3, 1) := dk_66 (dk_at dksJ12_nextSetBit_4 2 rfl rfl)
theorem dJ12_nextSetBit_99 : decode cJ12_nextSetBit 99 = .ok (.goto (-36), 3) := dk_167 255 220 (dk_at dksJ12_nextSetBit_4 3 rfl rfl)
def dkwJ12_cardinality_1 : List UInt8 := [132, 2, 1, 167, 255, 233, 27, 172]
abbrev dktJ12_cardinality_1 : List UInt8 := dkwJ12_cardinality_1 ++ []
def dkwJ12_cardinality_0 : List UInt8 := [3, 60, 3, 61, 28, 42, 180, 0, 7, 162, 0, 21, 27, 42, 180, 0, 11, 28, 47, 184, 0, 196, 96, 60]
abbrev dktJ12_cardinality_0 : List UInt8 := dkwJ12_cardinality_0 ++ dktJ12_cardinality_1
theorem dksJ12_cardinality_0 : cJ12_cardinality.data.toList.drop 0 = dktJ12_cardinality_0 := by decide +kernel
theorem dksJ12_cardinality_1 : cJ12_cardinality.data.toList.drop 24 = dktJ12_cardinality_1 := dk_seg dksJ12_cardinality_0 24 rfl rfl
theorem dJ12_cardinality_0 : decode cJ12_cardinality 0 = .ok (.iconst 0, 1) := dk_3 (dk_at dksJ12_cardinality_0 0 rfl rfl)
theorem dJ12_cardinality_1 : decode cJ12_cardinality 1 = .ok (.istore_n 1, 1) := dk_60 (dk_at dksJ12_cardinality_0 1 rfl rfl)
theorem dJ12_cardinality_2 : decode cJ12_cardinality 2 = .ok (.iconst 0, 1) := dk_3 (dk_at dksJ12_cardinality_0 2 rfl rfl)
theorem dJ12_cardinality_3 : decode cJ12_cardinality 3 = .ok (.istore_n 2, 1) := dk_61 (dk_at dksJ12_cardinality_0 3 rfl rfl)
theorem dJ12_cardinality_4 : decode cJ12_cardinality 4 = .ok (.iload_n 2, 1) := dk_28 (dk_at dksJ12_cardinality_0 4 rfl rfl)
theorem dJ12_cardinality_5 : decode cJ12_cardinality 5 = .ok (.aload_n 0, 1) := dk_42 (dk_at dksJ12_cardinality_0 5 rfl rfl)
theorem dJ12_cardinality_6 : decode cJ12_cardinality 6 = .ok (.getfield 7, 3) := dk_180 0 7 (dk_at dksJ12_cardinality_0 6 rfl rfl)
theorem dJ12_cardinality_9 : decode cJ12_cardinality 9 = .ok (.if_icmp .ge 21, 3) := dk_162 0 21 (dk_at dksJ12_cardinality_0 9 rfl rfl)
theorem dJ12_cardinality_12 : decode cJ12_cardinality 12 = .ok (.iload_n 1, 1) := dk_27 (dk_at dksJ12_cardinality_0 12 rfl rfl)
theorem dJ12_cardinality_13 : decode cJ12_cardinality 13 = .ok (.aload_n 0, 1) := dk_42 (dk_at dksJ12_cardinality_0 13 rfl rfl)
theorem dJ12_cardinality_14 : decode cJ12_cardinality 14 = .ok (.getfield 11, 3) := dk_180 0 11 (dk_at dksJ12_cardinality_0 14 rfl rfl)
theorem dJ12_cardinality_17 : decode cJ12_cardinality 17 = .ok (.iload_n 2, 1) := dk_28 (dk_at dksJ12_cardinality_0 17 rfl rfl)
theorem dJ12_cardinality_18 : decode cJ12_cardinality 18 = .ok (.laload, 1) := dk_47 (dk_at dksJ12_cardinality_0 18 rfl rfl)
theorem dJ12_cardinality_19 : decode cJ12_cardinality 19 = .ok (.invokestatic 196, 3) := dk_184 0 196 (dk_at dksJ12_cardinality_0 19 rfl rfl)
theorem dJ12_cardinality_22 : decode cJ12_cardinality 22 = .ok (.iadd, 1) := dk_96 (dk_at dksJ12_cardinality_0 22 rfl rfl)
theorem dJ12_cardinality_23 : decode cJ12_cardinality 23 = .ok (.istore_n 1, 1) := dk_60 (dk_at dksJ12_cardinality_0 23 rfl rfl)
theorem dJ12_cardinality_24 : decode cJ12_cardinality 24 = .ok (.iinc 2 1, 3) := dk_132 2 1 (dk_at dksJ12_cardinality_1 0 rfl rfl)
theorem dJ12_cardinality_27 : decode cJ12_cardinality 27 = .ok (.goto (-23), 3) := dk_167 255 233 (dk_at dksJ12_cardinality_1 3 rfl rfl)
theorem dJ12_cardinality_30 : decode cJ12_cardinality 30 = .ok (.iload_n 1, 1) := dk_27 (dk_at dksJ12_cardinality_1 6 rfl rfl)
theorem dJ12_cardinality_31 : decode cJ12_cardinality 31 = .ok (.ireturn, 1) := dk_172 (dk_at dksJ12_cardinality_1 7 rfl rfl)
def dkwJ13_init_0 : List UInt8 := [42, 43, 181, 0, 1, 42, 183, 0, 7, 42, 28, 181, 0, 13, 177]
abbrev dktJ13_init_0 : List UInt8 := dkwJ13_init_0 ++ []
theorem dksJ13_init_0 : cJ13_init.data.toList.drop 0 = dktJ13_init_0 := by decide +kernel
theorem dJ13_init_0 : decode cJ13_init 0 = .ok (.aload_n 0, 1) := dk_42 (dk_at dksJ13_init_0 0 rfl rfl)
theorem dJ13_init_1 : decode cJ13_init 1 = .ok (.aload_n 1, 1) := dk_43 (dk_at dksJ13_init_0 1 rfl rfl)
theorem dJ13_init_2 : decode cJ13_init 2 = .ok (.putfield 1, 3) := dk_181 0 1 (dk_at dksJ13_init_0 2 rfl rfl)
theorem dJ13_init_5 : decode cJ13_init 5 = .ok (.aload_n 0, 1) := dk_42 (dk_at dksJ13_init_0 5 rfl rfl)
theorem dJ13_init_6 : decode cJ13_init 6 = .ok (.invokespecial 7, 3) := dk_183 0 7 (dk_at dksJ13_init_0 6 rfl rfl)
theorem dJ13_init_9 : decode cJ13_init 9 = .ok (.aload_n 0, 1) := dk_42 (dk_at dksJ13_init_0 9 rfl rfl)
theorem dJ13_init_10 : decode cJ13_init 10 = .ok (.iload_n 2, 1) := dk_28 (dk_at dksJ13_init_0 10 rfl rfl)
theorem dJ13_init_11 : decode cJ13_init 11 = .ok (.putfield 13, 3) := dk_181 0 13 (dk_at dksJ13_init_0 11 rfl rfl)
theorem dJ13_init_14 : decode cJ13_init 14 = .ok (.return_, 1) := dk_177 (dk_at dksJ13_init_0 14 rfl rfl)
def dkwJ13_iterator_0 : List UInt8 := [187, 0, 26, 89, 42, 180, 0, 1, 42, 180, 0, 13, 183, 0, 28, 176]
abbrev dktJ13_iterator_0 : List UInt8 := dkwJ13_iterator_0 ++ []
theorem dksJ13_iterator_0 : cJ13_iterator.data.toList.drop 0 = dktJ13_iterator_0 := by decide +kernel
theorem dJ13_iterator_0 : decode cJ13_iterator 0 = .ok (.new 26, 3) := dk_187 0 26 (dk_at dksJ13_iterator_0 0 rfl rfl)
theorem dJ13_iterator_3 : decode cJ13_iterator 3 = .ok (.dup, 1) := dk_89 (dk_at dksJ13_iterator_0 3 rfl rfl)
theorem dJ13_iterator_4 : decode cJ13_iterator 4 = .ok (.aload_n 0, 1) := dk_42 (dk_at dksJ13_iterator_0 4 rfl rfl)
theorem dJ13_iterator_5 : decode cJ13_iterator 5 = .ok (.getfield 1, 3) := dk_180 0 1 (dk_at dksJ13_iterator_0 5 rfl rfl)
theorem dJ13_iterator_8 : decode cJ13_iterator 8 = .ok (.aload_n 0, 1) := dk_42 (dk_at dksJ13_iterator_0 8 rfl rfl)
theorem dJ13_iterator_9 : decode cJ13_iterator 9 = .ok (.getfield 13, 3) := dk_180 0 13 (dk_at dksJ13_iterator_0 9 rfl rfl)
theorem dJ13_iterator_12 : decode cJ13_iterator 12 = .ok (.invokespecial 28, 3) := dk_183 0 28 (dk_at dksJ13_iterator_0 12 rfl rfl)
theorem dJ13_iterator_15 : decode cJ13_iterator 15 = .ok (.areturn, 1) := dk_176 (dk_at dksJ13_iterator_0 15 rfl rfl)
def dkwJ15_init_1 : List UInt8 := [181, 0, 22, 177]
abbrev dktJ15_init_1 : List UInt8 := dkwJ15_init_1 ++ []
def dkwJ15_init_0 : List UInt8 := [42, 43, 181, 0, 1, 42, 183, 0, 7, 42, 2, 181, 0, 13, 42, 42, 180, 0, 1, 180, 0, 17]
abbrev dktJ15_init_0 : List UInt8 := dkwJ15_init_0 ++ dktJ15_init_1
theorem dksJ15_init_0 : cJ15_init.data.toList.drop 0 = dktJ15_init_0 := by decide +kernel
theorem dksJ15_init_1 : cJ15_init.data.toList.drop 22 = dktJ15_init_1 := dk_seg dksJ15_init_0 22 rfl rfl
theorem dJ15_init_0 : decode cJ15_init 0 = .ok (.aload_n 0, 1) := dk_42 (dk_at dksJ15_init_0 0 rfl rfl)
theorem dJ15_init_1 : decode cJ15_init 1 = .ok (.aload_n 1, 1) := dk_43 (dk_at dksJ15_init_0 1 rfl rfl)
theorem dJ15_init_2 : decode cJ15_init 2 = .ok (.putfield 1, 3) := dk_181 0 1 (dk_at dksJ15_init_0 2 rfl rfl)
theorem dJ15_init_5 : decode cJ15_init 5 = .ok (.aload_n 0, 1) := dk_42 (dk_at dksJ15_init_0 5 rfl rfl)
theorem dJ15_init_6 : decode cJ15_init 6 = .ok (.invokespecial 7, 3) := dk_183 0 7 (dk_at dksJ15_init_0 6 rfl rfl)
theorem dJ15_init_9 : decode cJ15_init 9 = .ok (.aload_n 0, 1) := dk_42 (dk_at dksJ15_init_0 9 rfl rfl)
theorem dJ15_init_10 : decode cJ15_init 10 = .ok (.iconst (-1), 1) := dk_2 (dk_at dksJ15_init_0 10 rfl rfl)
theorem dJ15_init_11 : decode cJ15_init 11 = .ok (.putfield 13, 3) := dk_181 0 13 (dk_at dksJ15_init_0 11 rfl rfl)
theorem dJ15_init_14 : decode cJ15_init 14 = .ok (.aload_n 0, 1) := dk_42 (dk_at dksJ15_init_0 14 rfl rfl)
theorem dJ15_init_15 : decode cJ15_init 15 = .ok (.aload_n 0, 1) := dk_42 (dk_at dksJ15_init_0 15 rfl rfl)
theorem dJ15_init_16 : decode cJ15_init 16 = .ok (.getfield 1, 3) := dk_180 0 1 (dk_at dksJ15_init_0 16 rfl rfl)
theorem dJ15_init_19 : decode cJ15_init 19 = .ok (.getfield 17, 3) := dk_180 0 17 (dk_at dksJ15_init_0 19 rfl rfl)
theorem dJ15_init_22 : decode cJ15_init 22 = .ok (.putfield 22, 3) := dk_181 0 22 (dk_at dksJ15_init_1 0 rfl rfl)
theorem dJ15_init_25 : decode cJ15_init 25 = .ok (.return_, 1) := dk_177 (dk_at dksJ15_init_1 3 rfl rfl)
def dkwJ15_hasNext_0 : List UInt8 := [42, 180, 0, 25, 42, 180, 0, 1, 180, 0, 28, 159, 0, 7, 4, 167, 0, 4, 3, 172]
abbrev dktJ15_hasNext_0 : List UInt8 := dkwJ15_hasNext_0 ++ []
theorem dksJ15_hasNext_0 : cJ15_hasNext.data.toList.drop 0 = dktJ15_hasNext_0 := by decide +kernel
theorem dJ15_hasNext_0 : decode cJ15_hasNext 0 = .ok (.aload_n 0, 1) := dk_42 (dk_at dksJ15_hasNext_0 0 rfl rfl)
theorem dJ15_hasNext_1 : decode cJ15_hasNext 1 = .ok (.getfield 25, 3) := dk_180 0 25 (dk_at dksJ15_hasNext_0 1 rfl rfl)
theorem dJ15_hasNext_4 : decode cJ15_hasNext 4 = .ok (.aload_n 0, 1) := dk_42 (dk_at dksJ15_hasNext_0 4 rfl rfl)
theorem dJ15_hasNext_5 : decode cJ15_hasNext 5 = .ok (.getfield 1, 3) := dk_180 0 1 (dk_at dksJ15_hasNext_0 5 rfl rfl)
theorem dJ15_hasNext_8 : decode cJ15_hasNext 8 = .ok (.getfield 28, 3) := dk_180 0 28 (dk_at dksJ15_hasNext_0 8 rfl rfl)
theorem dJ15_hasNext_11 : decode cJ15_hasNext 11 = .ok (.if_icmp .eq 7, 3) := dk_159 0 7 (dk_at dksJ15_hasNext_0 11 rfl rfl)
theorem dJ15_hasNext_14 : decode cJ15_hasNext 14 = .ok (.iconst 1, 1) := dk_4 (dk_at dksJ15_hasNext_0 14 rfl rfl)
theorem dJ15_hasNext_15 : decode cJ15_hasNext 15 = .ok (.goto 4, 3) := dk_167 0 4 (dk_at dksJ15_hasNext_0 15 rfl rfl)
theorem dJ15_hasNext_18 : decode cJ15_hasNext 18 = .ok (.iconst 0, 1) := dk_3 (dk_at dksJ15_hasNext_0 18 rfl rfl)
theorem dJ15_hasNext_19 : decode cJ15_hasNext 19 = .ok (.ireturn, 1) := dk_172 (dk_at dksJ15_hasNext_0 19 rfl rfl)
def dkwJ15_next_2 : List UInt8 := [183, 0, 43, 191, 42, 27, 4, 96, 181, 0, 25, 44, 42, 27, 90, 181, 0, 13, 50, 176]
abbrev dktJ15_next_2 : List UInt8 := dkwJ15_next_2 ++ []
def dkwJ15_next_1 : List UInt8 := [183, 0, 36, 191, 42, 180, 0, 1, 180, 0, 37, 77, 27, 44, 190, 161, 0, 11, 187, 0, 41, 89]
abbrev dktJ15_next_1 : List UInt8 := dkwJ15_next_1 ++ dktJ15_next_2
def dkwJ15_next_0 : List UInt8 := [42, 182, 0, 31, 42, 180, 0, 25, 60, 27, 42, 180, 0, 1, 180, 0, 28, 161, 0, 11, 187, 0, 34, 89]
abbrev dktJ15_next_0 : List UInt8 := dkwJ15_next_0 ++ dktJ15_next_1
theorem dksJ15_next_0 : cJ15_next.data.toList.drop 0 = dktJ15_next_0 := by decide +kernel
theorem dksJ15_next_1 : cJ15_next.data.toList.drop 24 = dktJ15_next_1 := dk_seg dksJ15_next_0 24 rfl rfl
theorem dksJ15_next_2 : cJ15_next.data.toList.drop 46 = dktJ15_next_2 := dk_seg dksJ15_next_1 22 rfl rfl
theorem dJ15_next_0 : decode cJ15_next 0 = .ok (.aload_n 0, 1) := dk_42 (dk_at dksJ15_next_0 0 rfl rfl)
theorem dJ15_next_1 : decode cJ15_next 1 = .ok (.invokevirtual 31, 3) := dk_182 0 31 (dk_at dksJ15_next_0 1 rfl rfl)
theorem dJ15_next_4 : decode cJ15_next 4 = .ok (.aload_n 0, 1) := dk_42 (dk_at dksJ15_next_0 4 rfl rfl)
theorem dJ15_next_5 : decode cJ15_next 5 = .ok (.getfield 25, 3) := dk_180 0 25 (dk_at dksJ15_next_0 5 rfl rfl)
theorem dJ15_next_8 : decode cJ15_next 8 = .ok (.istore_n 1, 1) := dk_60 (dk_at dksJ15_next_0 8 rfl rfl)
theorem dJ15_next_9 : decode cJ15_next 9 = .ok (.iload_n 1, 1) := dk_27 (dk_at dksJ15_next_0 9 rfl rfl)
theorem dJ15_next_10 : decode cJ15_next 10 = .ok (.aload_n 0, 1) := dk_42 (dk_at dksJ15_next_0 10 rfl rfl)
theorem dJ15_next_11 : decode cJ15_next 11 = .ok (.getfield 1, 3) := dk_180 0 1 (dk_at dksJ15_next_0 11 rfl rfl)
theorem dJ15_next_14 : decode cJ15_next 14 = .ok (.getfield 28, 3) := dk_180 0 28 (dk_at dksJ15_next_0 14 rfl rfl)
theorem dJ15_next_17 : decode cJ15_next 17 = .ok (.if_icmp .lt 11, 3) := dk_161 0 11 (dk_at dksJ15_next_0 17 rfl rfl)
theorem dJ15_next_20 : decode cJ15_next 20 = .ok (.new 34, 3) := dk_187 0 34 (dk_at dksJ15_next_0 20 rfl rfl)
theorem dJ15_next_23 : decode cJ15_next 23 = .ok (.dup, 1) := dk_89 (dk_at dksJ15_next_0 23 rfl rfl)
theorem dJ15_next_24 : decode cJ15_next 24 = .ok (.invokespecial 36, 3) := dk_183 0 36 (dk_at dksJ15_next_1 0 rfl rfl)
theorem dJ15_next_27 : decode cJ15_next 27 = .ok (.athrow, 1) := dk_191 (dk_at dksJ15_next_1 3 rfl rfl)
theorem dJ15_next_28 : decode cJ15_next 28 = .ok (.aload_n 0, 1) := dk_42 (dk_at dksJ15_next_1 4 rfl rfl)
theorem dJ15_next_29 : decode cJ15_next 29 = .ok (.getfield 1, 3) := dk_180 0 1 (dk_at dksJ15_next_1 5 rfl rfl)
theorem dJ15_next_32 : decode cJ15_next 32 = .ok (.getfield 37, 3) := dk_180 0 37 (dk_at dksJ15_next_1 8 rfl rfl)
theorem dJ15_next_35 : decode cJ15_next 35 = .ok (.astore_n 2, 1) := dk_77 (dk_at dksJ15_next_1 11 rfl rfl)
theorem dJ15_next_36 : decode cJ15_next 36 = .ok (.iload_n 1, 1) := dk_27 (dk_at dksJ15_next_1 12 rfl rfl)
theorem dJ15_next_37 : decode cJ15_next 37 = .ok (.aload_n 2, 1) := dk_44 (dk_at dksJ15_next_1 13 rfl rfl)
theorem dJ15_next_38 : decode cJ15_next 38 = .ok (.arraylength, 1) := dk_190 (dk_at dksJ15_next_1 14 rfl rfl)
theorem dJ15_next_39 : decode cJ15_next 39 = .ok (.if_icmp .lt 11, 3) := dk_161 0 11 (dk_at dksJ15_next_1 15 rfl rfl)
theorem dJ15_next_42 : decode cJ15_next 42 = .ok (.new 41, 3) := dk_187 0 41 (dk_at dksJ15_next_1 18 rfl rfl)
theorem dJ15_next_45 : decode cJ15_next 45 = .ok (.dup, 1) := dk_89 (dk_at dksJ15_next_1 21 rfl rfl)
theorem dJ15_next_46 : decode cJ15_next 46 = .ok (.invokespecial 43, 3) := dk_183 0 43 (dk_at dksJ15_next_2 0 rfl rfl)
theorem dJ15_next_49 : decode cJ15_next 49 = .ok (.athrow, 1) := dk_191 (dk_at dksJ15_next_2 3 rfl rfl)
theorem dJ15_next_50 : decode cJ15_next 50 = .ok (.aload_n 0, 1) := dk_42 (dk_at dksJ15_next_2 4 rfl rfl)
theorem dJ15_next_51 : decode cJ15_next 51 = .ok (.iload_n 1, 1) := dk_27 (dk_at dksJ15_next_2 5 rfl rfl)
theorem dJ15_next_52 : decode cJ15_next 52 = .ok (.iconst 1, 1) := dk_4 (dk_at dksJ15_next_2 6 rfl rfl)
theorem dJ15_next_53 : decode cJ15_next 53 = .ok (.iadd, 1) := dk_96 (dk_at dksJ15_next_2 7 rfl rfl)
theorem dJ15_next_54 : decode cJ15_next 54 = .ok (.putfield 25, 3) := dk_181 0 25 (dk_at dksJ15_next_2 8 rfl rfl)
theorem dJ15_next_57 : decode cJ15_next 57 = .ok (.aload_n 2, 1) := dk_44 (dk_at dksJ15_next_2 11 rfl rfl)
theorem dJ15_next_58 : decode cJ15_next 58 = .ok (.aload_n 0, 1) := dk_42 (dk_at dksJ15_next_2 12 rfl rfl)
theorem dJ15_next_59 : decode cJ15_next 59 = .ok (.iload_n 1, 1) := dk_27 (dk_at dksJ15_next_2 13 rfl rfl)
theorem dJ15_next_60 : decode cJ15_next 60 = .ok (.dup_x1, 1) := dk_90 (dk_at dksJ15_next_2 14 rfl rfl)
theorem dJ15_next_61 : decode cJ15_next 61 = .ok (.putfield 13, 3) := dk_181 0 13 (dk_at dksJ15_next_2 15 rfl rfl)
theorem dJ15_next_64 : decode cJ15_next 64 = .ok (.aaload, 1) := dk_50 (dk_at dksJ15_next_2 18 rfl rfl)
theorem dJ15_next_65 : decode cJ15_next 65 = .ok (.areturn, 1) := dk_176 (dk_at dksJ15_next_2 19 rfl rfl)
def dkwJ15_checkForComodification_0 : List UInt8 := [42, 180, 0, 1, 180, 0, 17, 42, 180, 0, 22, 159, 0, 11, 187, 0, 41, 89, 183, 0, 43, 191, 177]
abbrev dktJ15_checkForComodification_0 : List UInt8 := dkwJ15_checkForComodification_0 ++ []
theorem dksJ15_checkForComodification_0 : cJ15_checkForComodification.data.toList.drop 0 = dktJ15_checkForComodification_0 := by decide +kernel
theorem dJ15_checkForComodification_0 : decode cJ15_checkForComodification 0 = .ok (.aload_n 0, 1) := dk_42 (dk_at dksJ15_checkForComodification_0 0 rfl rfl)
theorem dJ15_checkForComodification_1 : decode cJ15_checkForComodification 1 = .ok (.getfield 1, 3) := dk_180 0 1 (dk_at dksJ15_checkForComodification_0 1 rfl rfl)
theorem dJ15_checkForComodification_4 : decode cJ15_checkForComodification 4 = .ok (.getfield 17, 3) := dk_180 0 17 (dk_at dksJ15_checkForComodification_0 4 rfl rfl)
theorem dJ15_checkForComodification_7 : decode cJ15_checkForComodification 7 = .ok (.aload_n 0, 1) := dk_42 (dk_at dksJ15_checkForComodification_0 7 rfl rfl)
theorem dJ15_checkForComodification_8 : decode cJ15_checkForComodification 8 = .ok (.getfield 22, 3) := dk_180 0 22 (dk_at dksJ15_checkForComodification_0 8 rfl rfl)
theorem dJ15_checkForComodification_11 : decode cJ15_checkForComodification 11 = .ok (.if_icmp .eq 11, 3) := dk_159 0 11 (dk_at dksJ15_checkForComodification_0 11 rfl rfl)
theorem dJ15_checkForComodification_14 : decode cJ15_checkForComodification 14 = .ok (.new 41, 3) := dk_187 0 41 (dk_at dksJ15_checkForComodification_0 14 rfl rfl)
theorem dJ15_checkForComodification_17 : decode cJ15_checkForComodification 17 = .ok (.dup, 1) := dk_89 (dk_at dksJ15_checkForComodification_0 17 rfl rfl)
theorem dJ15_checkForComodification_18 : decode cJ15_checkForComodification 18 = .ok (.invokespecial 43, 3) := dk_183 0 43 (dk_at dksJ15_checkForComodification_0 18 rfl rfl)
theorem dJ15_checkForComodification_21 : decode cJ15_checkForComodification 21 = .ok (.athrow, 1) := dk_191 (dk_at dksJ15_checkForComodification_0 21 rfl rfl)
theorem dJ15_checkForComodification_22 : decode cJ15_checkForComodification 22 = .ok (.return_, 1) := dk_177 (dk_at dksJ15_checkForComodification_0 22 rfl rfl)
def dkwJ16_init_3 : List UInt8 := [181, 0, 26, 198, 255, 229, 177]
abbrev dktJ16_init_3 : List UInt8 := dkwJ16_init_3 ++ []
def dkwJ16_init_2 : List UInt8 := [42, 180, 0, 33, 44, 190, 162, 0, 24, 42, 44, 42, 89, 180, 0, 33, 90, 4, 96, 181, 0, 33, 50, 90]
abbrev dktJ16_init_2 : List UInt8 := dkwJ16_init_2 ++ dktJ16_init_3
def dkwJ16_init_1 : List UInt8 := [1, 90, 181, 0, 26, 181, 0, 30, 42, 3, 181, 0, 33, 44, 198, 0, 40, 43, 180, 0, 36, 158, 0, 33]
abbrev dktJ16_init_1 : List UInt8 := dkwJ16_init_1 ++ dktJ16_init_2
def dkwJ16_init_0 : List UInt8 := [42, 43, 181, 0, 1, 42, 183, 0, 7, 42, 43, 180, 0, 13, 181, 0, 19, 43, 180, 0, 22, 77, 42, 42]
abbrev dktJ16_init_0 : List UInt8 := dkwJ16_init_0 ++ dktJ16_init_1
theorem dksJ16_init_0 : cJ16_init.data.toList.drop 0 = dktJ16_init_0 := by decide +kernel
theorem dksJ16_init_1 : cJ16_init.data.toList.drop 24 = dktJ16_init_1 := dk_seg dksJ16_init_0 24 rfl rfl
theorem dksJ16_init_2 : cJ16_init.data.toList.drop 48 = dktJ16_init_2 := dk_seg dksJ16_init_1 24 rfl rfl
theorem dksJ16_init_3 : cJ16_init.data.toList.drop 72 = dktJ16_init_3 := dk_seg dksJ16_init_2 24 rfl rfl
theorem dJ16_init_0 : decode cJ16_init 0 = .ok (.aload_n 0, 1) := dk_42 (dk_at dksJ16_init_0 0 rfl rfl)
theorem dJ16_init_1 : decode cJ16_init 1 = .ok (.aload_n 1, 1) := dk_43 (dk_at dksJ16_init_0 1 rfl rfl)
theorem dJ16_init_2 : decode cJ16_init 2 = .ok (.putfield 1, 3) := dk_181 0 1 (dk_at dksJ16_init_0 2 rfl rfl)
theorem dJ16_init_5 : decode cJ16_init 5 = .ok (.aload_n 0, 1) := dk_42 (dk_at dksJ16_init_0 5 rfl rfl)
theorem dJ16_init_6 : decode cJ16_init 6 = .ok (.invokespecial 7, 3) := dk_183 0 7 (dk_at dksJ16_init_0 6 rfl rfl)
theorem dJ16_init_9 : decode cJ16_init 9 = .ok (.aload_n 0, 1) := dk_42 (dk_at dksJ16_init_0 9 rfl rfl)
theorem dJ16_init_10 : decode cJ16_init 10 = .ok (.aload_n 1, 1) := dk_43 (dk_at dksJ16_init_0 10 rfl rfl)
theorem dJ16_init_11 : decode cJ16_init 11 = .ok (.getfield 13, 3) := dk_180 0 13 (dk_at dksJ16_init_0 11 rfl rfl)
theorem dJ16_init_14 : decode cJ16_init 14 = .ok (.putfield 19, 3) := dk_181 0 19 (dk_at dksJ16_init_0 14 rfl rfl)
theorem dJ16_init_17 : decode cJ16_init 17 = .ok (.aload_n 1, 1) := dk_43 (dk_at dksJ16_init_0 17 rfl rfl)
theorem dJ16_init_18 : decode cJ16_init 18 = .ok (.getfield 22, 3) := dk_180 0 22 (dk_at dksJ16_init_0 18 rfl rfl)
theorem dJ16_init_21 : decode cJ16_init 21 = .ok (.astore_n 2, 1) := dk_77 (dk_at dksJ16_init_0 21 rfl rfl)
theorem dJ16_init_22 : decode cJ16_init 22 = .ok (.aload_n 0, 1) := dk_42 (dk_at dksJ16_init_0 22 rfl rfl)
theorem dJ16_init_23 : decode cJ16_init 23 = .ok (.aload_n 0, 1) := dk_42 (dk_at dksJ16_init_0 23 rfl rfl)
theorem dJ16_init_24 : decode cJ16_init 24 = .ok (.aconst_null, 1) := dk_1 (dk_at dksJ16_init_1 0 rfl rfl)
theorem dJ16_init_25 : decode cJ16_init 25 = .ok (.dup_x1, 1) := dk_90 (dk_at dksJ16_init_1 1 rfl rfl)
theorem dJ16_init_26 : decode cJ16_init 26 = .ok (.putfield 26, 3) := dk_181 0 26 (dk_at dksJ16_init_1 2 rfl rfl)
theorem dJ16_init_29 : decode cJ16_init 29 = .ok (.putfield 30, 3) := dk_181 0 30 (dk_at dksJ16_init_1 5 rfl rfl)
theorem dJ16_init_32 : decode cJ16_init 32 = .ok (.aload_n 0, 1) := dk_42 (dk_at dksJ16_init_1 8 rfl rfl)
theorem dJ16_init_33 : decode cJ16_init 33 = .ok (.iconst 0, 1) := dk_3 (dk_at dksJ16_init_1 9 rfl rfl)
theorem dJ16_init_34 : decode cJ16_init 34 = .ok (.putfield 33, 3) := dk_181 0 33 (dk_at dksJ16_init_1 10 rfl rfl)
theorem dJ16_init_37 : decode cJ16_init 37 = .ok (.aload_n 2, 1) := dk_44 (dk_at dksJ16_init_1 13 rfl rfl)
theorem dJ16_init_38 : decode cJ16_init 38 = .ok (.ifnull 40, 3) := dk_198 0 40 (dk_at dksJ16_init_1 14 rfl rfl)
theorem dJ16_init_41 : decode cJ16_init 41 = .ok (.aload_n 1, 1) := dk_43 (dk_at dksJ16_init_1 17 rfl rfl)
theorem dJ16_init_42 : decode cJ16_init 42 = .ok (.getfield 36, 3) := dk_180 0 36 (dk_at dksJ16_init_1 18 rfl rfl)
theorem dJ16_init_45 : decode cJ16_init 45 = .ok (.ifCond .le 33, 3) := dk_158 0 33 (dk_at dksJ16_init_1 21 rfl rfl)
theorem dJ16_init_48 : decode cJ16_init 48 = .ok (.aload_n 0, 1) := dk_42 (dk_at dksJ16_init_2 0 rfl rfl)
theorem dJ16_init_49 : decode cJ16_init 49 = .ok (.getfield 33, 3) := dk_180 0 33 (dk_at dksJ16_init_2 1 rfl rfl)
theorem dJ16_init_52 : decode cJ16_init 52 = .ok (.aload_n 2, 1) := dk_44 (dk_at dksJ16_init_2 4 rfl rfl)
theorem dJ16_init_53 : decode cJ16_init 53 = .ok (.arraylength, 1) := dk_190 (dk_at dksJ16_init_2 5 rfl rfl)
theorem dJ16_init_54 : decode cJ16_init 54 = .ok (.if_icmp .ge 24, 3) := dk_162 0 24 (dk_at dksJ16_init_2 6 rfl rfl)
theorem dJ16_init_57 : decode cJ16_init 57 = .ok (.aload_n 0, 1) := dk_42 (dk_at dksJ16_init_2 9 rfl rfl)
theorem dJ16_init_58 : decode cJ16_init 58 = .ok (.aload_n 2, 1) := dk_44 (dk_at dksJ16_init_2 10 rfl rfl)
theorem dJ16_init_59 : decode cJ16_init 59 = .ok (.aload_n 0, 1) := dk_42 (dk_at dksJ16_init_2 11 rfl rfl)
theorem dJ16_init_60 : decode cJ16_init 60 = .ok (.dup, 1) := dk_89 (dk_at dksJ16_init_2 12 rfl rfl)
theorem dJ16_init_61 : decode cJ16_init 61 = .ok (.getfield 33, 3) := dk_180 0 33 (dk_at dksJ16_init_2 13 rfl rfl)
theorem dJ16_init_64 : decode cJ16_init 64 = .ok (.dup_x1, 1) := dk_90 (dk_at dksJ16_init_2 16 rfl rfl)
theorem dJ16_init_65 : decode cJ16_init 65 = .ok (.iconst 1, 1) := dk_4 (dk_at dksJ16_init_2 17 rfl rfl)
theorem dJ16_init_66 : decode cJ16_init 66 = .ok (.iadd, 1) := dk_96 (dk_at dksJ16_init_2 18 rfl rfl)
theorem dJ16_init_67 : decode cJ16_init 67 = .ok (.putfield 33, 3) := dk_181 0 33 (dk_at dksJ16_init_2 19 rfl rfl)
theorem dJ16_init_70 : decode cJ16_init 70 = .ok (.aaload, 1) := dk_50 (dk_at dksJ16_init_2 22 rfl rfl)
theorem dJ16_init_71 : decode cJ16_init 71 = .ok (.dup_x1, 1) := dk_90 (dk_at dksJ16_init_2 23 rfl rfl)
theorem dJ16_init_72 : decode cJ16_init 72 = .ok (.putfield 26, 3) := dk_181 0 26 (dk_at dksJ16_init_3 0 rfl rfl)
theorem dJ16_init_75 : decode cJ16_init 75 = .ok (.ifnull (-27), 3) := dk_198 255 229 (dk_at dksJ16_init_3 3 rfl rfl)
theorem dJ16_init_78 : decode cJ16_init 78 = .ok (.return_, 1) := dk_177 (dk_at dksJ16_init_3 6 rfl rfl)
def dkwJ16_hasNext_0 : List UInt8 := [42, 180, 0, 26, 198, 0, 7, 4, 167, 0, 4, 3, 172]
abbrev dktJ16_hasNext_0 : List UInt8 := dkwJ16_hasNext_0 ++ []
theorem dksJ16_hasNext_0 : cJ16_hasNext.data.toList.drop 0 = dktJ16_hasNext_0 := by decide +kernel
theorem dJ16_hasNext_0 : decode cJ16_hasNext 0 = .ok (.aload_n 0, 1) := dk_42 (dk_at dksJ16_hasNext_0 0 rfl rfl)
theorem dJ16_hasNext_1 : decode cJ16_hasNext 1 = .ok (.getfield 26, 3) := dk_180 0 26 (dk_at dksJ16_hasNext_0 1 rfl rfl)
theorem dJ16_hasNext_4 : decode cJ16_hasNext 4 = .ok (.ifnull 7, 3) := dk_198 0 7 (dk_at dksJ16_hasNext_0 4 rfl rfl)
theorem dJ16_hasNext_7 : decode cJ16_hasNext 7 = .ok (.iconst 1, 1) := dk_4 (dk_at dksJ16_hasNext_0 7 rfl rfl)
theorem dJ16_hasNext_8 : decode cJ16_hasNext 8 = .ok (.goto 4, 3) := dk_167 0 4 (dk_at dksJ16_hasNext_0 8 rfl rfl)
theorem dJ16_hasNext_11 : decode cJ16_hasNext 11 = .ok (.iconst 0, 1) := dk_3 (dk_at dksJ16_hasNext_0 11 rfl rfl)
theorem dJ16_hasNext_12 : decode cJ16_hasNext 12 = .ok (.ireturn, 1) := dk_172 (dk_at dksJ16_hasNext_0 12 rfl rfl)
def dkwJ16_nextNode_4 : List UInt8 := [181, 0, 26, 198, 255, 229, 44, 176]
abbrev dktJ16_nextNode_4 : List UInt8 := dkwJ16_nextNode_4 ++ []
def dkwJ16_nextNode_3 : List UInt8 := [180, 0, 33, 43, 190, 162, 0, 24, 42, 43, 42, 89, 180, 0, 33, 90, 4, 96, 181, 0, 33, 50, 90]
abbrev dktJ16_nextNode_3 : List UInt8 := dkwJ16_nextNode_3 ++ dktJ16_nextNode_4
def dkwJ16_nextNode_2 : List UInt8 := [180, 0, 45, 90, 181, 0, 26, 199, 0, 45, 42, 180, 0, 1, 180, 0, 22, 89, 76, 198, 0, 33, 42]
abbrev dktJ16_nextNode_2 : List UInt8 := dkwJ16_nextNode_2 ++ dktJ16_nextNode_3
def dkwJ16_nextNode_1 : List UInt8 := [183, 0, 41, 191, 44, 199, 0, 11, 187, 0, 42, 89, 183, 0, 44, 191, 42, 42, 44, 90, 181, 0, 30]
abbrev dktJ16_nextNode_1 : List UInt8 := dkwJ16_nextNode_1 ++ dktJ16_nextNode_2
def dkwJ16_nextNode_0 : List UInt8 := [42, 180, 0, 26, 77, 42, 180, 0, 1, 180, 0, 13, 42, 180, 0, 19, 159, 0, 11, 187, 0, 39, 89]
abbrev dktJ16_nextNode_0 : List UInt8 := dkwJ16_nextNode_0 ++ dktJ16_nextNode_1
theorem dksJ16_nextNode_0 : cJ16_nextNode.data.toList.drop 0 = dktJ16_nextNode_0 := by decide +kernel
theorem dksJ16_nextNode_1 : cJ16_nextNode.data.toList.drop 23 = dktJ16_nextNode_1 := dk_seg dksJ16_nextNode_0 23 rfl rfl
theorem dksJ16_nextNode_2 : cJ16_nextNode.data.toList.drop 46 = dktJ16_nextNode_2 := dk_seg dksJ16_nextNode_1 23 rfl rfl
theorem dksJ16_nextNode_3 : cJ16_nextNode.data.toList.drop 69 = dktJ16_nextNode_3 := dk_seg dksJ16_nextNode_2 23 rfl rfl
theorem dksJ16_nextNode_4 : cJ16_nextNode.data.toList.drop 92 = dktJ16_nextNode_4 := dk_seg dksJ16_nextNode_3 23 rfl rfl
theorem dJ16_nextNode_0 : decode cJ16_nextNode 0 = .ok (.aload_n 0, 1) := dk_42 (dk_at dksJ16_nextNode_0 0 rfl rfl)
theorem dJ16_nextNode_1 : decode cJ16_nextNode 1 = .ok (.getfield 26, 3) := dk_180 0 26 (dk_at dksJ16_nextNode_0 1 rfl rfl)
theorem dJ16_nextNode_4 : decode cJ16_nextNode 4 = .ok (.astore_n 2, 1) := dk_77 (dk_at dksJ16_nextNode_0 4 rfl rfl)
theorem dJ16_nextNode_5 : decode cJ16_nextNode 5 = .ok (.aload_n 0, 1) := dk_42 (dk_at dksJ16_nextNode_0 5 rfl rfl)
theorem dJ16_nextNode_6 : decode cJ16_nextNode 6 = .ok (.getfield 1, 3) := dk_180 0 1 (dk_at dksJ16_nextNode_0 6 rfl rfl)
theorem dJ16_nextNode_9 : decode cJ16_nextNode 9 = .ok (.getfield 13, 3) := dk_180 0 13 (dk_at dksJ16_nextNode_0 9 rfl rfl)
theorem dJ16_nextNode_12 : decode cJ16_nextNode 12 = .ok (.aload_n 0, 1) := dk_42 (dk_at dksJ16_nextNode_0 12 rfl rfl)
theorem dJ16_nextNode_13 : decode cJ16_nextNode 13 = .ok (.getfield 19, 3) := dk_180 0 19 (dk_at dksJ16_nextNode_0 13 rfl rfl)
theorem dJ16_nextNode_16 : decode cJ16_nextNode 16 = .ok (.if_icmp .eq 11, 3) := dk_159 0 11 (dk_at dksJ16_nextNode_0 16 rfl rfl)
theorem dJ16_nextNode_19 : decode cJ16_nextNode 19 = .ok (.new 39, 3) := dk_187 0 39 (dk_at dksJ16_nextNode_0 19 rfl rfl)
theorem dJ16_nextNode_22 : decode cJ16_nextNode 22 = .ok (.dup, 1) := dk_89 (dk_at dksJ16_nextNode_0 22 rfl rfl)
theorem dJ16_nextNode_23 : decode cJ16_nextNode 23 = .ok (.invokespecial 41, 3) := dk_183 0 41 (dk_at dksJ16_nextNode_1 0 rfl rfl)
theorem dJ16_nextNode_26 : decode cJ16_nextNode 26 = .ok (.athrow, 1) := dk_191 (dk_at dksJ16_nextNode_1 3 rfl rfl)
theorem dJ16_nextNode_27 : decode cJ16_nextNode 27 = .ok (.aload_n 2, 1) := dk_44 (dk_at dksJ16_nextNode_1 4 rfl rfl)
theorem dJ16_nextNode_28 : decode cJ16_nextNode 28 = .ok (.ifnonnull 11, 3) := dk_199 0 11 (dk_at dksJ16_nextNode_1 5 rfl rfl)
theorem dJ16_nextNode_31 : decode cJ16_nextNode 31 = .ok (.new 42, 3) := dk_187 0 42 (dk_at dksJ16_nextNode_1 8 rfl rfl)
theorem dJ16_nextNode_34 : decode cJ16_nextNode 34 = .ok (.dup, 1) := dk_89 (dk_at dksJ16_nextNode_1 11 rfl rfl)
theorem dJ16_nextNode_35 : decode cJ16_nextNode 35 = .ok (.invokespecial 44, 3) := dk_183 0 44 (dk_at dksJ16_nextNode_1 12 rfl rfl)
theorem dJ16_nextNode_38 : decode cJ16_nextNode 38 = .ok (.athrow, 1) := dk_191 (dk_at dksJ16_nextNode_1 15 rfl rfl)
theorem dJ16_nextNode_39 : decode cJ16_nextNode 39 = .ok (.aload_n 0, 1) := dk_42 (dk_at dksJ16_nextNode_1 16 rfl rfl)
theorem dJ16_nextNode_40 : decode cJ16_nextNode 40 = .ok (.aload_n 0, 1) := dk_42 (dk_at dksJ16_nextNode_1 17 rfl rfl)
theorem dJ16_nextNode_41 : decode cJ16_nextNode 41 = .ok (.aload_n 2, 1) := dk_44 (dk_at dksJ16_nextNode_1 18 rfl rfl)
theorem dJ16_nextNode_42 : decode cJ16_nextNode 42 = .ok (.dup_x1, 1) := dk_90 (dk_at dksJ16_nextNode_1 19 rfl rfl)
theorem dJ16_nextNode_43 : decode cJ16_nextNode 43 = .ok (.putfield 30, 3) := dk_181 0 30 (dk_at dksJ16_nextNode_1 20 rfl rfl)
theorem dJ16_nextNode_46 : decode cJ16_nextNode 46 = .ok (.getfield 45, 3) := dk_180 0 45 (dk_at dksJ16_nextNode_2 0 rfl rfl)
theorem dJ16_nextNode_49 : decode cJ16_nextNode 49 = .ok (.dup_x1, 1) := dk_90 (dk_at dksJ16_nextNode_2 3 rfl rfl)
theorem dJ16_nextNode_50 : decode cJ16_nextNode 50 = .ok (.putfield 26, 3) := dk_181 0 26 (dk_at dksJ16_nextNode_2 4 rfl rfl)
theorem dJ16_nextNode_53 : decode cJ16_nextNode 53 = .ok (.ifnonnull 45, 3) := dk_199 0 45 (dk_at dksJ16_nextNode_2 7 rfl rfl)
theorem dJ16_nextNode_56 : decode cJ16_nextNode 56 = .ok (.aload_n 0, 1) := dk_42 (dk_at dksJ16_nextNode_2 10 rfl rfl)
theorem dJ16_nextNode_57 : decode cJ16_nextNode 57 = .ok (.getfield 1, 3) := dk_180 0 1 (dk_at dksJ16_nextNode_2 11 rfl rfl)
theorem dJ16_nextNode_60 : decode cJ16_nextNode 60 = .ok (.getfield 22, 3) := dk_180 0 22 (dk_at dksJ16_nextNode_2 14 rfl rfl)
theorem dJ16_nextNode_63 : decode cJ16_nextNode 63 = .ok (.dup, 1) := dk_89 (dk_at dksJ16_nextNode_2 17 rfl rfl)
theorem dJ16_nextNode_64 : decode cJ16_nextNode 64 = .ok (.astore_n 1, 1) := dk_76 (dk_at dksJ16_nextNode_2 18 rfl rfl)
theorem dJ16_nextNode_65 : decode cJ16_nextNode 65 = .ok (.ifnull 33, 3) := dk_198 0 33 (dk_at dksJ16_nextNode_2 19 rfl rfl)
theorem dJ16_nextNode_68 : decode cJ16_nextNode 68 = .ok (.aload_n 0, 1) := dk_42 (dk_at dksJ16_nextNode_2 22 rfl rfl)
theorem dJ16_nextNode_69 : decode cJ16_nextNode 69 = .ok (.getfield 33, 3) := dk_180 0 33 (dk_at dksJ16_nextNode_3 0 rfl rfl)
theorem dJ16_nextNode_72 : decode cJ16_nextNode 72 = .ok (.aload_n 1, 1) := dk_43 (dk_at dksJ16_nextNode_3 3 rfl rfl)
theorem dJ16_nextNode_73 : decode cJ16_nextNode 73 = .ok (.arraylength, 1) := dk_190 (dk_at dksJ16_nextNode_3 4 rfl rfl)
theorem dJ16_nextNode_74 : decode cJ16_nextNode 74 = .ok (.if_icmp .ge 24, 3) := dk_162 0 24 (dk_at dksJ16_nextNode_3 5 rfl rfl)
theorem dJ16_nextNode_77 : decode cJ16_nextNode 77 = .ok (.aload_n 0, 1) := dk_42 (dk_at dksJ16_nextNode_3 8 rfl rfl)
theorem dJ16_nextNode_78 : decode cJ16_nextNode 78 = .ok (.aload_n 1, 1) := dk_43 (dk_at dksJ16_nextNode_3 9 rfl rfl)
theorem dJ16_nextNode_79 : decode cJ16_nextNode 79 = .ok (.aload_n 0, 1) := dk_42 (dk_at dksJ16_nextNode_3 10 rfl rfl)
theorem dJ16_nextNode_80 : decode cJ16_nextNode 80 = .ok (.dup, 1) := dk_89 (dk_at dksJ16_nextNode_3 11 rfl rfl)
theorem dJ16_nextNode_81 : decode cJ16_nextNode 81 = .ok (.getfield 33, 3) := dk_180 0 33 (dk_at dksJ16_nextNode_3 12 rfl rfl)
theorem dJ16_nextNode_84 : decode cJ16_nextNode 84 = .ok (.dup_x1, 1) := dk_90 (dk_at dksJ16_nextNode_3 15 rfl rfl)
theorem dJ16_nextNode_85 : decode cJ16_nextNode 85 = .ok (.iconst 1, 1) := dk_4 (dk_at dksJ16_nextNode_3 16 rfl rfl)
theorem dJ16_nextNode_86 : decode cJ16_nextNode 86 = .ok (.iadd, 1) := dk_96 (dk_at dksJ16_nextNode_3 17 rfl rfl)
theorem dJ16_nextNode_87 : decode cJ16_nextNode 87 = .ok (.putfield 33, 3) := dk_181 0 33 (dk_at dksJ16_nextNode_3 18 rfl rfl)
theorem dJ16_nextNode_90 : decode cJ16_nextNode 90 = .ok (.aaload, 1) := dk_50 (dk_at dksJ16_nextNode_3 21 rfl rfl)
theorem dJ16_nextNode_91 : decode cJ16_nextNode 91 = .ok (.dup_x1, 1) := dk_90 (dk_at dksJ16_nextNode_3 22 rfl rfl)
theorem dJ16_nextNode_92 : decode cJ16_nextNode 92 = .ok (.putfield 26, 3) := dk_181 0 26 (dk_at dksJ16_nextNode_4 0 rfl rfl)
theorem dJ16_nextNode_95 : decode cJ16_nextNode 95 = .ok (.ifnull (-27), 3) := dk_198 255 229 (dk_at dksJ16_nextNode_4 3 rfl rfl)
theorem dJ16_nextNode_98 : decode cJ16_nextNode 98 = .ok (.aload_n 2, 1) := dk_44 (dk_at dksJ16_nextNode_4 6 rfl rfl)
theorem dJ16_nextNode_99 : decode cJ16_nextNode 99 = .ok (.areturn, 1) := dk_176 (dk_at dksJ16_nextNode_4 7 rfl rfl)
def dkwJ17_init_0 : List UInt8 := [42, 43, 183, 0, 1, 177]
abbrev dktJ17_init_0 : List UInt8 := dkwJ17_init_0 ++ []
theorem dksJ17_init_0 : cJ17_init.data.toList.drop 0 = dktJ17_init_0 := by decide +kernel
theorem dJ17_init_0 : decode cJ17_init 0 = .ok (.aload_n 0, 1) := dk_42 (dk_at dksJ17_init_0 0 rfl rfl)
theorem dJ17_init_1 : decode cJ17_init 1 = .ok (.aload_n 1, 1) := dk_43 (dk_at dksJ17_init_0 1 rfl rfl)
theorem dJ17_init_2 : decode cJ17_init 2 = .ok (.invokespecial 1, 3) := dk_183 0 1 (dk_at dksJ17_init_0 2 rfl rfl)
theorem dJ17_init_5 : decode cJ17_init 5 = .ok (.return_, 1) := dk_177 (dk_at dksJ17_init_0 5 rfl rfl)
def dkwJ17_next_0 : List UInt8 := [42, 182, 0, 7, 180, 0, 13, 176]
abbrev dktJ17_next_0 : List UInt8 := dkwJ17_next_0 ++ []
theorem dksJ17_next_0 : cJ17_next.data.toList.drop 0 = dktJ17_next_0 := by decide +kernel
theorem dJ17_next_0 : decode cJ17_next 0 = .ok (.aload_n 0, 1) := dk_42 (dk_at dksJ17_next_0 0 rfl rfl)
theorem dJ17_next_1 : decode cJ17_next 1 = .ok (.invokevirtual 7, 3) := dk_182 0 7 (dk_at dksJ17_next_0 1 rfl rfl)
theorem dJ17_next_4 : decode cJ17_next 4 = .ok (.getfield 13, 3) := dk_180 0 13 (dk_at dksJ17_next_0 4 rfl rfl)
theorem dJ17_next_7 : decode cJ17_next 7 = .ok (.areturn, 1) := dk_176 (dk_at dksJ17_next_0 7 rfl rfl)
def dkwJ18_iterator_0 : List UInt8 := [187, 0, 22, 89, 42, 180, 0, 1, 183, 0, 24, 176]
abbrev dktJ18_iterator_0 : List UInt8 := dkwJ18_iterator_0 ++ []
theorem dksJ18_iterator_0 : cJ18_iterator.data.toList.drop 0 = dktJ18_iterator_0 := by decide +kernel
theorem dJ18_iterator_0 : decode cJ18_iterator 0 = .ok (.new 22, 3) := dk_187 0 22 (dk_at dksJ18_iterator_0 0 rfl rfl)
theorem dJ18_iterator_3 : decode cJ18_iterator 3 = .ok (.dup, 1) := dk_89 (dk_at dksJ18_iterator_0 3 rfl rfl)
theorem dJ18_iterator_4 : decode cJ18_iterator 4 = .ok (.aload_n 0, 1) := dk_42 (dk_at dksJ18_iterator_0 4 rfl rfl)
theorem dJ18_iterator_5 : decode cJ18_iterator 5 = .ok (.getfield 1, 3) := dk_180 0 1 (dk_at dksJ18_iterator_0 5 rfl rfl)
theorem dJ18_iterator_8 : decode cJ18_iterator 8 = .ok (.invokespecial 24, 3) := dk_183 0 24 (dk_at dksJ18_iterator_0 8 rfl rfl)
theorem dJ18_iterator_11 : decode cJ18_iterator 11 = .ok (.areturn, 1) := dk_176 (dk_at dksJ18_iterator_0 11 rfl rfl)
def dkwJ18_init_0 : List UInt8 := [42, 43, 181, 0, 1, 42, 183, 0, 7, 177]
abbrev dktJ18_init_0 : List UInt8 := dkwJ18_init_0 ++ []
theorem dksJ18_init_0 : cJ18_init.data.toList.drop 0 = dktJ18_init_0 := by decide +kernel
theorem dJ18_init_0 : decode cJ18_init 0 = .ok (.aload_n 0, 1) := dk_42 (dk_at dksJ18_init_0 0 rfl rfl)
theorem dJ18_init_1 : decode cJ18_init 1 = .ok (.aload_n 1, 1) := dk_43 (dk_at dksJ18_init_0 1 rfl rfl)
theorem dJ18_init_2 : decode cJ18_init 2 = .ok (.putfield 1, 3) := dk_181 0 1 (dk_at dksJ18_init_0 2 rfl rfl)
theorem dJ18_init_5 : decode cJ18_init 5 = .ok (.aload_n 0, 1) := dk_42 (dk_at dksJ18_init_0 5 rfl rfl)
theorem dJ18_init_6 : decode cJ18_init 6 = .ok (.invokespecial 7, 3) := dk_183 0 7 (dk_at dksJ18_init_0 6 rfl rfl)
theorem dJ18_init_9 : decode cJ18_init 9 = .ok (.return_, 1) := dk_177 (dk_at dksJ18_init_0 9 rfl rfl)
def dkwJ19_init_0 : List UInt8 := [42, 43, 181, 0, 1, 42, 183, 0, 7, 42, 28, 181, 0, 13, 177]
abbrev dktJ19_init_0 : List UInt8 := dkwJ19_init_0 ++ []
theorem dksJ19_init_0 : cJ19_init.data.toList.drop 0 = dktJ19_init_0 := by decide +kernel
theorem dJ19_init_0 : decode cJ19_init 0 = .ok (.aload_n 0, 1) := dk_42 (dk_at dksJ19_init_0 0 rfl rfl)
theorem dJ19_init_1 : decode cJ19_init 1 = .ok (.aload_n 1, 1) := dk_43 (dk_at dksJ19_init_0 1 rfl rfl)
theorem dJ19_init_2 : decode cJ19_init 2 = .ok (.putfield 1, 3) := dk_181 0 1 (dk_at dksJ19_init_0 2 rfl rfl)
theorem dJ19_init_5 : decode cJ19_init 5 = .ok (.aload_n 0, 1) := dk_42 (dk_at dksJ19_init_0 5 rfl rfl)
theorem dJ19_init_6 : decode cJ19_init 6 = .ok (.invokespecial 7, 3) := dk_183 0 7 (dk_at dksJ19_init_0 6 rfl rfl)
theorem dJ19_init_9 : decode cJ19_init 9 = .ok (.aload_n 0, 1) := dk_42 (dk_at dksJ19_init_0 9 rfl rfl)
theorem dJ19_init_10 : decode cJ19_init 10 = .ok (.iload_n 2, 1) := dk_28 (dk_at dksJ19_init_0 10 rfl rfl)
theorem dJ19_init_11 : decode cJ19_init 11 = .ok (.putfield 13, 3) := dk_181 0 13 (dk_at dksJ19_init_0 11 rfl rfl)
theorem dJ19_init_14 : decode cJ19_init 14 = .ok (.return_, 1) := dk_177 (dk_at dksJ19_init_0 14 rfl rfl)
def dkwJ19_iterator_0 : List UInt8 := [187, 0, 26, 89, 42, 180, 0, 1, 42, 180, 0, 13, 183, 0, 28, 176]
abbrev dktJ19_iterator_0 : List UInt8 := dkwJ19_iterator_0 ++ []
theorem dksJ19_iterator_0 : cJ19_iterator.data.toList.drop 0 = dktJ19_iterator_0 := by decide +kernel
theorem dJ19_iterator_0 : decode cJ19_iterator 0 = .ok (.new 26, 3) := dk_187 0 26 (dk_at dksJ19_iterator_0 0 rfl rfl)
theorem dJ19_iterator_3 : decode cJ19_iterator 3 = .ok (.dup, 1) := dk_89 (dk_at dksJ19_iterator_0 3 rfl rfl)
theorem dJ19_iterator_4 : decode cJ19_iterator 4 = .ok (.aload_n 0, 1) := dk_42 (dk_at dksJ19_iterator_0 4 rfl rfl)
theorem dJ19_iterator_5 : decode cJ19_iterator 5 = .ok (.getfield 1, 3) := dk_180 0 1 (dk_at dksJ19_iterator_0 5 rfl rfl)
theorem dJ19_iterator_8 : decode cJ19_iterator 8 = .ok (.aload_n 0, 1) := dk_42 (dk_at dksJ19_iterator_0 8 rfl rfl)
theorem dJ19_iterator_9 : decode cJ19_iterator 9 = .ok (.getfield 13, 3) := dk_180 0 13 (dk_at dksJ19_iterator_0 9 rfl rfl)
theorem dJ19_iterator_12 : decode cJ19_iterator 12 = .ok (.invokespecial 28, 3) := dk_183 0 28 (dk_at dksJ19_iterator_0 12 rfl rfl)
theorem dJ19_iterator_15 : decode cJ19_iterator 15 = .ok (.areturn, 1) := dk_176 (dk_at dksJ19_iterator_0 15 rfl rfl)
def dkwJ20_init_1 : List UInt8 := [167, 0, 7, 43, 180, 0, 23, 181, 0, 26, 42, 43, 180, 0, 29, 181, 0, 33, 42, 1, 181, 0, 36, 177]
abbrev dktJ20_init_1 : List UInt8 := dkwJ20_init_1 ++ []
def dkwJ20_init_0 : List UInt8 := [42, 43, 181, 0, 1, 42, 183, 0, 7, 42, 28, 181, 0, 13, 42, 28, 153, 0, 10, 43, 180, 0, 17]
abbrev dktJ20_init_0 : List UInt8 := dkwJ20_init_0 ++ dktJ20_init_1
theorem dksJ20_init_0 : cJ20_init.data.toList.drop 0 = dktJ20_init_0 := by decide +kernel
theorem dksJ20_init_1 : cJ20_init.data.toList.drop 23 = dktJ20_init_1 := dk_seg dksJ20_init_0 23 rfl rfl
theorem dJ20_init_0 : decode cJ20_init 0 = .ok (.aload_n 0, 1) := dk_42 (dk_at dksJ20_init_0 0 rfl rfl)
theorem dJ20_init_1 : decode cJ20_init 1 = .ok (.aload_n 1, 1) := dk_43 (dk_at dksJ20_init_0 1 rfl rfl)
theorem dJ20_init_2 : decode cJ20_init 2 = .ok (.putfield 1, 3) := dk_181 0 1 (dk_at dksJ20_init_0 2 rfl rfl)
theorem dJ20_init_5 : decode cJ20_init 5 = .ok (.aload_n 0, 1) := dk_42 (dk_at dksJ20_init_0 5 rfl rfl)
theorem dJ20_init_6 : decode cJ20_init 6 = .ok (.invokespecial 7, 3) := dk_183 0 7 (dk_at dksJ20_init_0 6 rfl rfl)
theorem dJ20_init_9 : decode cJ20_init 9 = .ok (.aload_n 0, 1) := dk_42 (dk_at dksJ20_init_0 9 rfl rfl)
theorem dJ20_init_10 : decode cJ20_init 10 = .ok (.iload_n 2, 1) := dk_28 (dk_at dksJ20_init_0 10 rfl rfl)
theorem dJ20_init_11 : decode cJ20_init 11 = .ok (.putfield 13, 3) := dk_181 0 13 (dk_at dksJ20_init_0 11 rfl rfl)
theorem dJ20_init_14 : decode cJ20_init 14 = .ok (.aload_n 0, 1) := dk_42 (dk_at dksJ20_init_0 14 rfl rfl)
theorem dJ20_init_15 : decode cJ20_init 15 = .ok (.iload_n 2, 1) := dk_28 (dk_at dksJ20_init_0 15 rfl rfl)
theorem dJ20_init_16 : decode cJ20_init 16 = .ok (.ifCond .eq 10, 3) := dk_153 0 10 (dk_at dksJ20_init_0 16 rfl rfl)
theorem dJ20_init_19 : decode cJ20_init 19 = .ok (.aload_n 1, 1) := dk_43 (dk_at dksJ20_init_0 19 rfl rfl)
theorem dJ20_init_20 : decode cJ20_init 20 = .ok (.getfield 17, 3) := dk_180 0 17 (dk_at dksJ20_init_0 20 rfl rfl)
theorem dJ20_init_23 : decode cJ20_init 23 = .ok (.goto 7, 3) := dk_167 0 7 (dk_at dksJ20_init_1 0 rfl rfl)
theorem dJ20_init_26 : decode cJ20_init 26 = .ok (.aload_n 1, 1) := dk_43 (dk_at dksJ20_init_1 3 rfl rfl)
theorem dJ20_init_27 : decode cJ20_init 27 = .ok (.getfield 23, 3) := dk_180 0 23 (dk_at dksJ20_init_1 4 rfl rfl)
theorem dJ20_init_30 : decode cJ20_init 30 = .ok (.putfield 26, 3) := dk_181 0 26 (dk_at dksJ20_init_1 7 rfl rfl)
theorem dJ20_init_33 : decode cJ20_init 33 = .ok (.aload_n 0, 1) := dk_42 (dk_at dksJ20_init_1 10 rfl rfl)
theorem dJ20_init_34 : decode cJ20_init 34 = .ok (.aload_n 1, 1) := dk_43 (dk_at dksJ20_init_1 11 rfl rfl)
theorem dJ20_init_35 : decode cJ20_init 35 = .ok (.getfield 29, 3) := dk_180 0 29 (dk_at dksJ20_init_1 12 rfl rfl)
theorem dJ20_init_38 : decode cJ20_init 38 = .ok (.putfield 33, 3) := dk_181 0 33 (dk_at dksJ20_init_1 15 rfl rfl)
theorem dJ20_init_41 : decode cJ20_init 41 = .ok (.aload_n 0, 1) := dk_42 (dk_at dksJ20_init_1 18 rfl rfl)
theorem dJ20_init_42 : decode cJ20_init 42 = .ok (.aconst_null, 1) := dk_1 (dk_at dksJ20_init_1 19 rfl rfl)
theorem dJ20_init_43 : decode cJ20_init 43 = .ok (.putfield 36, 3) := dk_181 0 36 (dk_at dksJ20_init_1 20 rfl rfl)
theorem dJ20_init_46 : decode cJ20_init 46 = .ok (.return_, 1) := dk_177 (dk_at dksJ20_init_1 23 rfl rfl)
def dkwJ20_hasNext_0 : List UInt8 := [42, 180, 0, 26, 198, 0, 7, 4, 167, 0, 4, 3, 172]
abbrev dktJ20_hasNext_0 : List UInt8 := dkwJ20_hasNext_0 ++ []
theorem dksJ20_hasNext_0 : cJ20_hasNext.data.toList.drop 0 = dktJ20_hasNext_0 := by decide +kernel
theorem dJ20_hasNext_0 : decode cJ20_hasNext 0 = .ok (.aload_n 0, 1) := dk_42 (dk_at dksJ20_hasNext_0 0 rfl rfl)
theorem dJ20_hasNext_1 : decode cJ20_hasNext 1 = .ok (.getfield 26, 3) := dk_180 0 26 (dk_at dksJ20_hasNext_0 1 rfl rfl)
theorem dJ20_hasNext_4 : decode cJ20_hasNext 4 = .ok (.ifnull 7, 3) := dk_198 0 7 (dk_at dksJ20_hasNext_0 4 rfl rfl)
theorem dJ20_hasNext_7 : decode cJ20_hasNext 7 = .ok (.iconst 1, 1) := dk_4 (dk_at dksJ20_hasNext_0 7 rfl rfl)
theorem dJ20_hasNext_8 : decode cJ20_hasNext 8 = .ok (.goto 4, 3) := dk_167 0 4 (dk_at dksJ20_hasNext_0 8 rfl rfl)
theorem dJ20_hasNext_11 : decode cJ20_hasNext 11 = .ok (.iconst 0, 1) := dk_3 (dk_at dksJ20_hasNext_0 11 rfl rfl)
theorem dJ20_hasNext_12 : decode cJ20_hasNext 12 = .ok (.ireturn, 1) := dk_172 (dk_at dksJ20_hasNext_0 12 rfl rfl)
def dkwJ20_nextNode_2 : List UInt8 := [180, 0, 13, 153, 0, 10, 43, 180, 0, 45, 167, 0, 7, 43, 180, 0, 50, 181, 0, 26, 43, 176]
abbrev dktJ20_nextNode_2 : List UInt8 := dkwJ20_nextNode_2 ++ []
def dkwJ20_nextNode_1 : List UInt8 := [183, 0, 41, 191, 43, 199, 0, 11, 187, 0, 42, 89, 183, 0, 44, 191, 42, 43, 181, 0, 36, 42, 42]
abbrev dktJ20_nextNode_1 : List UInt8 := dkwJ20_nextNode_1 ++ dktJ20_nextNode_2
def dkwJ20_nextNode_0 : List UInt8 := [42, 180, 0, 26, 76, 42, 180, 0, 1, 180, 0, 29, 42, 180, 0, 33, 159, 0, 11, 187, 0, 39, 89]
abbrev dktJ20_nextNode_0 : List UInt8 := dkwJ20_nextNode_0 ++ dktJ20_nextNode_1
theorem dksJ20_nextNode_0 : cJ20_nextNode.data.toList.drop 0 = dktJ20_nextNode_0 := by decide +kernel
theorem dksJ20_nextNode_1 : cJ20_nextNode.data.toList.drop 23 = dktJ20_nextNode_1 := dk_seg dksJ20_nextNode_0 23 rfl rfl
theorem dksJ20_nextNode_2 : cJ20_nextNode.data.toList.drop 46 = dktJ20_nextNode_2 := dk_seg dksJ20_nextNode_1 23 rfl rfl
theorem dJ20_nextNode_0 : decode cJ20_nextNode 0 = .ok (.aload_n 0, 1) := dk_42 (dk_at dksJ20_nextNode_0 0 rfl rfl)
theorem dJ20_nextNode_1 : decode cJ20_nextNode 1 = .ok (.getfield 26, 3) := dk_180 0 26 (dk_at dksJ20_nextNode_0 1 rfl rfl)
theorem dJ20_nextNode_4 : decode cJ20_nextNode 4 = .ok (.astore_n 1, 1) := dk_76 (dk_at dksJ20_nextNode_0 4 rfl rfl)
theorem dJ20_nextNode_5 : decode cJ20_nextNode 5 = .ok (.aload_n 0, 1) := dk_42 (dk_at dksJ20_nextNode_0 5 rfl rfl)
theorem dJ20_nextNode_6 : decode cJ20_nextNode 6 = .ok (.getfield 1, 3) := dk_180 0 1 (dk_at dksJ20_nextNode_0 6 rfl rfl)
theorem dJ20_nextNode_9 : decode cJ20_nextNode 9 = .ok (.getfield 29, 3) := dk_180 0 29 (dk_at dksJ20_nextNode_0 9 rfl rfl)
theorem dJ20_nextNode_12 : decode cJ20_nextNode 12 = .ok (.aload_n 0, 1) := dk_42 (dk_at dksJ20_nextNode_0 12 rfl rfl)
theorem dJ20_nextNode_13 : decode cJ20_nextNode 13 = .ok (.getfield 33, 3) := dk_180 0 33 (dk_at dksJ20_nextNode_0 13 rfl rfl)
theorem dJ20_nextNode_16 : decode cJ20_nextNode 16 = .ok (.if_icmp .eq 11, 3) := dk_159 0 11 (dk_at dksJ20_nextNode_0 16 rfl rfl)
theorem dJ20_nextNode_19 : decode cJ20_nextNode 19 = .ok (.new 39, 3) := dk_187 0 39 (dk_at dksJ20_nextNode_0 19 rfl rfl)
theorem dJ20_nextNode_22 : decode cJ20_nextNode 22 = .ok (.dup, 1) := dk_89 (dk_at dksJ20_nextNode_0 22 rfl rfl)
theorem dJ20_nextNode_23 : decode cJ20_nextNode 23 = .ok (.invokespecial 41, 3) := dk_183 0 41 (dk_at dksJ20_nextNode_1 0 rfl rfl)
theorem dJ20_nextNode_26 : decode cJ20_nextNode 26 = .ok (.athrow, 1) := dk_191 (dk_at dksJ20_nextNode_1 3 rfl rfl)
theorem dJ20_nextNode_27 : decode cJ20_nextNode 27 = .ok (.aload_n 1, 1) := dk_43 (dk_at dksJ20_nextNode_1 4 rfl rfl)
theorem dJ20_nextNode_28 : decode cJ20_nextNode 28 = .ok (.ifnonnull 11, 3) := dk_199 0 11 (dk_at dksJ20_nextNode_1 5 rfl rfl)
theorem dJ20_nextNode_31 : decode cJ20_nextNode 31 = .ok (.new 42, 3) := dk_187 0 42 (dk_at dksJ20_nextNode_1 8 rfl rfl)
theorem dJ20_nextNode_34 : decode cJ20_nextNode 34 = .ok (.dup, 1) := dk_89 (dk_at dksJ20_nextNode_1 11 rfl rfl)
theorem dJ20_nextNode_35 : decode cJ20_nextNode 35 = .ok (.invokespecial 44, 3) := dk_183 0 44 (dk_at dksJ20_nextNode_1 12 rfl rfl)
theorem dJ20_nextNode_38 : decode cJ20_nextNode 38 = .ok (.athrow, 1) := dk_191 (dk_at dksJ20_nextNode_1 15 rfl rfl)
theorem dJ20_nextNode_39 : decode cJ20_nextNode 39 = .ok (.aload_n 0, 1) := dk_42 (dk_at dksJ20_nextNode_1 16 rfl rfl)
theorem dJ20_nextNode_40 : decode cJ20_nextNode 40 = .ok (.aload_n 1, 1) := dk_43 (dk_at dksJ20_nextNode_1 17 rfl rfl)
theorem dJ20_nextNode_41 : decode cJ20_nextNode 41 = .ok (.putfield 36, 3) := dk_181 0 36 (dk_at dksJ20_nextNode_1 18 rfl rfl)
theorem dJ20_nextNode_44 : decode cJ20_nextNode 44 = .ok (.aload_n 0, 1) := dk_42 (dk_at dksJ20_nextNode_1 21 rfl rfl)
theorem dJ20_nextNode_45 : decode cJ20_nextNode 45 = .ok (.aload_n 0, 1) := dk_42 (dk_at dksJ20_nextNode_1 22 rfl rfl)
theorem dJ20_nextNode_46 : decode cJ20_nextNode 46 = .ok (.getfield 13, 3) := dk_180 0 13 (dk_at dksJ20_nextNode_2 0 rfl rfl)
theorem dJ20_nextNode_49 : decode cJ20_nextNode 49 = .ok (.ifCond .eq 10, 3) := dk_153 0 10 (dk_at dksJ20_nextNode_2 3 rfl rfl)
theorem dJ20_nextNode_52 : decode cJ20_nextNode 52 = .ok (.aload_n 1, 1) := dk_43 (dk_at dksJ20_nextNode_2 6 rfl rfl)
theorem dJ20_nextNode_53 : decode cJ20_nextNode 53 = .ok (.getfield 45, 3) := dk_180 0 45 (dk_at dksJ20_nextNode_2 7 rfl rfl)
theorem dJ20_nextNode_56 : decode cJ20_nextNode 56 = .ok (.goto 7, 3) := dk_167 0 7 (dk_at dksJ20_nextNode_2 10 rfl rfl)
theorem dJ20_nextNode_59 : decode cJ20_nextNode 59 = .ok (.aload_n 1, 1) := dk_43 (dk_at dksJ20_nextNode_2 13 rfl rfl)
theorem dJ20_nextNode_60 : decode cJ20_nextNode 60 = .ok (.getfield 50, 3) := dk_180 0 50 (dk_at dksJ20_nextNode_2 14 rfl rfl)
theorem dJ20_nextNode_63 : decode cJ20_nextNode 63 = .ok (.putfield 26, 3) := dk_181 0 26 (dk_at dksJ20_nextNode_2 17 rfl rfl)
theorem dJ20_nextNode_66 : decode cJ20_nextNode 66 = .ok (.aload_n 1, 1) := dk_43 (dk_at dksJ20_nextNode_2 20 rfl rfl)
theorem dJ20_nextNode_67 : decode cJ20_nextNode 67 = .ok (.areturn, 1) := dk_176 (dk_at dksJ20_nextNode_2 21 rfl rfl)
def dkwJ21_init_0 : List UInt8 := [42, 43, 28, 183, 0, 1, 177]
abbrev dktJ21_init_0 : List UInt8 := dkwJ21_init_0 ++ []
theorem dksJ21_init_0 : cJ21_init.data.toList.drop 0 = dktJ21_init_0 := by decide +kernel
theorem dJ21_init_0 : decode cJ21_init 0 = .ok (.aload_n 0, 1) := dk_42 (dk_at dksJ21_init_0 0 rfl rfl)
theorem dJ21_init_1 : decode cJ21_init 1 = .ok (.aload_n 1, 1) := dk_43 (dk_at dksJ21_init_0 1 rfl rfl)
theorem dJ21_init_2 : decode cJ21_init 2 = .ok (.iload_n 2, 1) := dk_28 (dk_at dksJ21_init_0 2 rfl rfl)
theorem dJ21_init_3 : decode cJ21_init 3 = .ok (.invokespecial 1, 3) := dk_183 0 1 (dk_at dksJ21_init_0 3 rfl rfl)
theorem dJ21_init_6 : decode cJ21_init 6 = .ok (.return_, 1) := dk_177 (dk_at dksJ21_init_0 6 rfl rfl)
def dkwJ21_next_0 : List UInt8 := [42, 182, 0, 7, 182, 0, 13, 176]
abbrev dktJ21_next_0 : List UInt8 := dkwJ21_next_0 ++ []
theorem dksJ21_next_0 : cJ21_next.data.toList.drop 0 = dktJ21_next_0 := by decide +kernel
theorem dJ21_next_0 : decode cJ21_next 0 = .ok (.aload_n 0, 1) := dk_42 (dk_at dksJ21_next_0 0 rfl rfl)
theorem dJ21_next_1 : decode cJ21_next 1 = .ok (.invokevirtual 7, 3) := dk_182 0 7 (dk_at dksJ21_next_0 1 rfl rfl)
theorem dJ21_next_4 : decode cJ21_next 4 = .ok (.invokevirtual 13, 3) := dk_182 0 13 (dk_at dksJ21_next_0 4 rfl rfl)
theorem dJ21_next_7 : decode cJ21_next 7 = .ok (.areturn, 1) := dk_176 (dk_at dksJ21_next_0 7 rfl rfl)
def dkwJ22_init_0 : List UInt8 := [42, 43, 28, 183, 0, 1, 177]
abbrev dktJ22_init_0 : List UInt8 := dkwJ22_init_0 ++ []
theorem dksJ22_init_0 : cJ22_init.data.toList.drop 0 = dktJ22_init_0 := by decide +kernel
theorem dJ22_init_0 : decode cJ22_init 0 = .ok (.aload_n 0, 1) := dk_42 (dk_at dksJ22_init_0 0 rfl rfl)
theorem dJ22_init_1 : decode cJ22_init 1 = .ok (.aload_n 1, 1) := dk_43 (dk_at dksJ22_init_0 1 rfl rfl)
theorem dJ22_init_2 : decode cJ22_init 2 = .ok (.iload_n 2, 1) := dk_28 (dk_at dksJ22_init_0 2 rfl rfl)
theorem dJ22_init_3 : decode cJ22_init 3 = .ok (.invokespecial 1, 3) := dk_183 0 1 (dk_at dksJ22_init_0 3 rfl rfl)
theorem dJ22_init_6 : decode cJ22_init 6 = .ok (.return_, 1) := dk_177 (dk_at dksJ22_init_0 6 rfl rfl)
def dkwJ22_next_0 : List UInt8 := [42, 182, 0, 7, 180, 0, 13, 176]
abbrev dktJ22_next_0 : List UInt8 := dkwJ22_next_0 ++ []
theorem dksJ22_next_0 : cJ22_next.data.toList.drop 0 = dktJ22_next_0 := by decide +kernel
theorem dJ22_next_0 : decode cJ22_next 0 = .ok (.aload_n 0, 1) := dk_42 (dk_at dksJ22_next_0 0 rfl rfl)
theorem dJ22_next_1 : decode cJ22_next 1 = .ok (.invokevirtual 7, 3) := dk_182 0 7 (dk_at dksJ22_next_0 1 rfl rfl)
theorem dJ22_next_4 : decode cJ22_next 4 = .ok (.getfield 13, 3) := dk_180 0 13 (dk_at dksJ22_next_0 4 rfl rfl)
theorem dJ22_next_7 : decode cJ22_next 7 = .ok (.areturn, 1) := dk_176 (dk_at dksJ22_next_0 7 rfl rfl)
theorem dJ23_init_0 : decode cJ23_init 0 = .ok (.aload_n 0, 1) := by decide +kernel
theorem dJ23_init_1 : decode cJ23_init 1 = .ok (.invokespecial 1, 3) := by decide +kernel
theorem dJ23_init_4 : decode cJ23_init 4 = .ok (.return_, 1) := by decide +kernel
def dkwJ24_valueOf_1 : List UInt8 := [187, 0, 1, 89, 26, 183, 0, 199, 176]
abbrev dktJ24_valueOf_1 : List UInt8 := dkwJ24_valueOf_1 ++ []
def dkwJ24_valueOf_0 : List UInt8 := [26, 16, 128, 161, 0, 20, 26, 178, 0, 191, 163, 0, 13, 178, 0, 195, 26, 17, 0, 128, 96, 50, 176]
abbrev dktJ24_valueOf_0 : List UInt8 := dkwJ24_valueOf_0 ++ dktJ24_valueOf_1
theorem dksJ24_valueOf_0 : cJ24_valueOf.data.toList.drop 0 = dktJ24_valueOf_0 := by decide +kernel
theorem dksJ24_valueOf_1 : cJ24_valueOf.data.toList.drop 23 = dktJ24_valueOf_1 := dk_seg dksJ24_valueOf_0 23 rfl rfl
theorem dJ24_valueOf_0 : decode cJ24_valueOf 0 = .ok (.iload_n 0, 1) := dk_26 (dk_at dksJ24_valueOf_0 0 rfl rfl)
theorem dJ24_valueOf_1 : decode cJ24_valueOf 1 = .ok (.bipush (-128), 2) := dk_16 128 (dk_at dksJ24_valueOf_0 1 rfl rfl)
theorem dJ24_valueOf_3 : decode cJ24_valueOf 3 = .ok (.if_icmp .lt 20, 3) := dk_161 0 20 (dk_at dksJ24_valueOf_0 3 rfl rfl)
theorem dJ24_valueOf_6 : decode cJ24_valueOf 6 = .ok (.iload_n 0, 1) := dk_26 (dk_at dksJ24_valueOf_0 6 rfl rfl)
theorem dJ24_valueOf_7 : decode cJ24_valueOf 7 = .ok (.getstatic 191, 3) := dk_178 0 191 (dk_at dksJ24_valueOf_0 7 rfl rfl)
theorem dJ24_valueOf_10 : decode cJ24_valueOf 10 = .ok (.if_icmp .gt 13, 3) := dk_163 0 13 (dk_at dksJ24_valueOf_0 10 rfl rfl)
theorem dJ24_valueOf_13 : decode cJ24_valueOf 13 = .ok (.getstatic 195, 3) := dk_178 0 195 (dk_at dksJ24_valueOf_0 13 rfl rfl)
theorem dJ24_valueOf_16 : decode cJ24_valueOf 16 = .ok (.iload_n 0, 1) := dk_26 (dk_at dksJ24_valueOf_0 16 rfl rfl)
theorem dJ24_valueOf_17 : decode cJ24_valueOf 17 = .ok (.sipush 128, 3) := dk_17 0 128 (dk_at dksJ24_valueOf_0 17 rfl rfl)
theorem dJ24_valueOf_20 : decode cJ24_valueOf 20 = .ok (.iadd, 1) := dk_96 (dk_at dksJ24_valueOf_0 20 rfl rfl)
theorem dJ24_valueOf_21 : decode cJ24_valueOf 21 = .ok (.aaload, 1) := dk_50 (dk_at dksJ24_valueOf_0 21 rfl rfl)
theorem dJ24_valueOf_22 : decode cJ24_valueOf 22 = .ok (.areturn, 1) := dk_176 (dk_at dksJ24_valueOf_0 22 rfl rfl)
theorem dJ24_valueOf_23 : decode cJ24_valueOf 23 = .ok (.new 1, 3) := dk_187 0 1 (dk_at dksJ24_valueOf_1 0 rfl rfl)
theorem dJ24_valueOf_26 : decode cJ24_valueOf 26 = .ok (.dup, 1) := dk_89 (dk_at dksJ24_valueOf_1 3 rfl rfl)
theorem dJ24_valueOf_27 : decode cJ24_valueOf 27 = .ok (.iload_n 0, 1) := dk_26 (dk_at dksJ24_valueOf_1 4 rfl rfl)
theorem dJ24_valueOf_28 : decode cJ24_valueOf 28 = .ok (.invokespecial 199, 3) := dk_183 0 199 (dk_at dksJ24_valueOf_1 5 rfl rfl)
theorem dJ24_valueOf_31 : decode cJ24_valueOf 31 = .ok (.areturn, 1) := dk_176 (dk_at dksJ24_valueOf_1 8 rfl rfl)
def dkwJ24_init_0 : List UInt8 := [42, 183, 0, 202, 42, 27, 181, 0, 205, 177]
abbrev dktJ24_init_0 : List UInt8 := dkwJ24_init_0 ++ []
theorem dksJ24_init_0 : cJ24_init.data.toList.drop 0 = dktJ24_init_0 := by decide +kernel
theorem dJ24_init_0 : decode cJ24_init 0 = .ok (.aload_n 0, 1) := dk_42 (dk_at dksJ24_init_0 0 rfl rfl)
theorem dJ24_init_1 : decode cJ24_init 1 = .ok (.invokespecial 202, 3) := dk_183 0 202 (dk_at dksJ24_init_0 1 rfl rfl)
theorem dJ24_init_4 : decode cJ24_init 4 = .ok (.aload_n 0, 1) := dk_42 (dk_at dksJ24_init_0 4 rfl rfl)
theorem dJ24_init_5 : decode cJ24_init 5 = .ok (.iload_n 1, 1) := dk_27 (dk_at dksJ24_init_0 5 rfl rfl)
theorem dJ24_init_6 : decode cJ24_init 6 = .ok (.putfield 205, 3) := dk_181 0 205 (dk_at dksJ24_init_0 6 rfl rfl)
theorem dJ24_init_9 : decode cJ24_init 9 = .ok (.return_, 1) := dk_177 (dk_at dksJ24_init_0 9 rfl rfl)
def dkwJ24_stringSize_1 : List UInt8 := [164, 0, 7, 29, 27, 96, 172, 16, 10, 28, 104, 61, 132, 3, 1, 167, 255, 233, 16, 10, 27, 96, 172]
abbrev dktJ24_stringSize_1 : List UInt8 := dkwJ24_stringSize_1 ++ []
def dkwJ24_stringSize_0 : List UInt8 := [4, 60, 26, 155, 0, 8, 3, 60, 26, 116, 59, 16, 246, 61, 4, 62, 29, 16, 10, 162, 0, 23, 26, 28]
abbrev dktJ24_stringSize_0 : List UInt8 := dkwJ24_stringSize_0 ++ dktJ24_stringSize_1
theorem dksJ24_stringSize_0 : cJ24_stringSize.data.toList.drop 0 = dktJ24_stringSize_0 := by decide +kernel
theorem dksJ24_stringSize_1 : cJ24_stringSize.data.toList.drop 24 = dktJ24_stringSize_1 := dk_seg dksJ24_stringSize_0 24 rfl rfl
theorem dJ24_stringSize_0 : decode cJ24_stringSize 0 = .ok (.iconst 1, 1) := dk_4 (dk_at dksJ24_stringSize_0 0 rfl rfl)
theorem dJ24_stringSize_1 : decode cJ24_stringSize 1 = .ok (.istore_n 1, 1) := dk_60 (dk_at dksJ24_stringSize_0 1 rfl rfl)
theorem dJ24_stringSize_2 : decode cJ24_stringSize 2 = .ok (.iload_n 0, 1) := dk_26 (dk_at dksJ24_stringSize_0 2 rfl rfl)
theorem dJ24_stringSize_3 : decode cJ24_stringSize 3 = .ok (.ifCond .lt 8, 3) := dk_155 0 8 (dk_at dksJ24_stringSize_0 3 rfl rfl)
theorem dJ24_stringSize_6 : decode cJ24_stringSize 6 = .ok (.iconst 0, 1) := dk_3 (dk_at dksJ24_stringSize_0 6 rfl rfl)
theorem dJ24_stringSize_7 : decode cJ24_stringSize 7 = .ok (.istore_n 1, 1) := dk_60 (dk_at dksJ24_stringSize_0 7 rfl rfl)
theorem dJ24_stringSize_8 : decode cJ24_stringSize 8 = .ok (.iload_n 0, 1) := dk_26 (dk_at dksJ24_stringSize_0 8 rfl rfl)
theorem dJ24_stringSize_9 : decode cJ24_stringSize 9 = .ok (.ineg, 1) := dk_116 (dk_at dksJ24_stringSize_0 9 rfl rfl)
theorem dJ24_stringSize_10 : decode cJ24_stringSize 10 = .ok (.istore_n 0, 1) := dk_59 (dk_at dksJ24_stringSize_0 10 rfl rfl)
theorem dJ24_stringSize_11 : decode cJ24_stringSize 11 = .ok (.bipush (-10), 2) := dk_16 246 (dk_at dksJ24_stringSize_0 11 rfl rfl)
theorem dJ24_stringSize_13 : decode cJ24_stringSize 13 = .ok (.istore_n 2, 1) := dk_61 (dk_at dksJ24_stringSize_0 13 rfl rfl)
theorem dJ24_stringSize_14 : decode cJ24_stringSize 14 = .ok (.iconst 1, 1) := dk_4 (dk_at dksJ24_stringSize_0 14 rfl rfl)
theorem dJ24_stringSize_15 : decode cJ24_stringSize 15 = .ok (.istore_n 3, 1) := dk_62 (dk_at dksJ24_stringSize_0 15 rfl rfl)
theorem dJ24_stringSize_16 : decode cJ24_stringSize 16 = .ok (.iload_n 3, 1) := dk_29 (dk_at dksJ24_stringSize_0 16 rfl rfl)
theorem dJ24_stringSize_17 : decode cJ24_stringSize 17 = .ok (.bipush 10, 2) := dk_16 10 (dk_at dksJ24_stringSize_0 17 rfl rfl)
theorem dJ24_stringSize_19 : decode cJ24_stringSize 19 = .ok (.if_icmp .ge 23, 3) := dk_162 0 23 (dk_at dksJ24_stringSize_0 19 rfl rfl)
theorem dJ24_stringSize_22 : decode cJ24_stringSize 22 = .ok (.iload_n 0, 1) := dk_26 (dk_at dksJ24_stringSize_0 22 rfl rfl)
theorem dJ24_stringSize_23 : decode cJ24_stringSize 23 = .ok (.iload_n 2, 1) := dk_28 (dk_at dksJ24_stringSize_0 23 rfl rfl)
theorem dJ24_stringSize_24 : decode cJ24_stringSize 24 = .ok (.if_icmp .le 7, 3) := dk_164 0 7 (dk_at dksJ24_stringSize_1 0 rfl rfl)
theorem dJ24_stringSize_27 : decode cJ24_stringSize 27 = .ok (.iload_n 3, 1) := dk_29 (dk_at dksJ24_stringSize_1 3 rfl rfl)
theorem dJ24_stringSize_28 : decode cJ24_stringSize 28 = .ok (.iload_n 1, 1) := dk_27 (dk_at dksJ24_stringSize_1 4 rfl rfl)
theorem dJ24_stringSize_29 : decode cJ24_stringSize 29 = .ok (.iadd, 1) := dk_96 (dk_at dksJ24_stringSize_1 5 rfl rfl)
theorem dJ24_stringSize_30 : decode cJ24_stringSize 30 = .ok (.ireturn, 1) := dk_172 (dk_at dksJ24_stringSize_1 6 rfl rfl)
theorem dJ24_stringSize_31 : decode cJ24_stringSize 31 = .ok (.bipush 10, 2) := dk_16 10 (dk_at dksJ24_stringSize_1 7 rfl rfl)
theorem dJ24_stringSize_33 : decode cJ24_stringSize 33 = .ok (.iload_n 2, 1) := dk_28 (dk_at dksJ24_stringSize_1 9 rfl rfl)
theorem dJ24_stringSize_34 : decode cJ24_stringSize 34 = .ok (.imul, 1) := dk_104 (dk_at dksJ24_stringSize_1 10 rfl rfl)
theorem dJ24_stringSize_35 : decode cJ24_stringSize 35 = .ok (.istore_n 2, 1) := dk_61 (dk_at dksJ24_stringSize_1 11 rfl rfl)
theorem dJ24_stringSize_36 : decode cJ24_stringSize 36 = .ok (.iinc 3 1, 3) := dk_132 3 1 (dk_at dksJ24_stringSize_1 12 rfl rfl)
theorem dJ24_stringSize_39 : decode cJ24_stringSize 39 = .ok (.goto (-23), 3) := dk_167 255 233 (dk_at dksJ24_stringSize_1 15 rfl rfl)
theorem dJ24_stringSize_42 : decode cJ24_stringSize 42 = .ok (.bipush 10, 2) := dk_16 10 (dk_at dksJ24_stringSize_1 18 rfl rfl)
theorem dJ24_stringSize_44 : decode cJ24_stringSize 44 = .ok (.iload_n 1, 1) := dk_27 (dk_at dksJ24_stringSize_1 20 rfl rfl)
theorem dJ24_stringSize_45 : decode cJ24_stringSize 45 = .ok (.iadd, 1) := dk_96 (dk_at dksJ24_stringSize_1 21 rfl rfl)
theorem dJ24_stringSize_46 : decode cJ24_stringSize 46 = .ok (.ireturn, 1) := dk_172 (dk_at dksJ24_stringSize_1 22 rfl rfl)
def dkwJ24_getChars_5 : List UInt8 := [16, 45, 84, 21, 5, 172]
abbrev dktJ24_getChars_5 : List UInt8 := dkwJ24_getChars_5 ++ []
def dkwJ24_getChars_4 : List UInt8 := [132, 5, 255, 21, 5, 178, 0, 87, 26, 116, 51, 84, 21, 6, 153, 0, 12, 44, 132, 5, 255, 21, 5]
abbrev dktJ24_getChars_4 : List UInt8 := dkwJ24_getChars_4 ++ dktJ24_getChars_5
def dkwJ24_getChars_3 : List UInt8 := [167, 255, 209, 44, 132, 5, 255, 21, 5, 178, 0, 83, 26, 116, 51, 84, 26, 16, 247, 162, 0, 16, 44]
abbrev dktJ24_getChars_3 : List UInt8 := dkwJ24_getChars_3 ++ dktJ24_getChars_4
def dkwJ24_getChars_2 : List UInt8 := [21, 5, 178, 0, 83, 21, 4, 51, 84, 44, 132, 5, 255, 21, 5, 178, 0, 87, 21, 4, 51, 84]
abbrev dktJ24_getChars_2 : List UInt8 := dkwJ24_getChars_2 ++ dktJ24_getChars_3
def dkwJ24_getChars_1 : List UInt8 := [16, 156, 163, 0, 47, 26, 16, 100, 108, 62, 29, 16, 100, 104, 26, 100, 54, 4, 29, 59, 44, 132, 5, 255]
abbrev dktJ24_getChars_1 : List UInt8 := dkwJ24_getChars_1 ++ dktJ24_getChars_2
def dkwJ24_getChars_0 : List UInt8 := [27, 54, 5, 26, 156, 0, 7, 4, 167, 0, 4, 3, 54, 6, 21, 6, 154, 0, 6, 26, 116, 59, 26]
abbrev dktJ24_getChars_0 : List UInt8 := dkwJ24_getChars_0 ++ dktJ24_getChars_1
theorem dksJ24_getChars_0 : cJ24_getChars.data.toList.drop 0 = dktJ24_getChars_0 := by decide +kernel
theorem dksJ24_getChars_1 : cJ24_getChars.data.toList.drop 23 = dktJ24_getChars_1 := dk_seg dksJ24_getChars_0 23 rfl rfl
theorem dksJ24_getChars_2 : cJ24_getChars.data.toList.drop 47 = dktJ24_getChars_2 := dk_seg dksJ24_getChars_1 24 rfl rfl
theorem dksJ24_getChars_3 : cJ24_getChars.data.toList.drop 69 = dktJ24_getChars_3 := dk_seg dksJ24_getChars_2 22 rfl rfl
theorem dksJ24_getChars_4 : cJ24_getChars.data.toList.drop 92 = dktJ24_getChars_4 := dk_seg dksJ24_getChars_3 23 rfl rfl
theorem dksJ24_getChars_5 : cJ24_getChars.data.toList.drop 115 = dktJ24_getChars_5 := dk_seg dksJ24_getChars_4 23 rfl rfl
theorem dJ24_getChars_0 : decode cJ24_getChars 0 = .ok (.iload_n 1, 1) := dk_27 (dk_at dksJ24_getChars_0 0 rfl rfl)
theorem dJ24_getChars_1 : decode cJ24_getChars 1 = .ok (.istore 5, 2) := dk_54 5 (dk_at dksJ24_getChars_0 1 rfl rfl)
theorem dJ24_getChars_3 : decode cJ24_getChars 3 = .ok (.iload_n 0, 1) := dk_26 (dk_at dksJ24_getChars_0 3 rfl rfl)
theorem dJ24_getChars_4 : decode cJ24_getChars 4 = .ok (.ifCond .ge 7, 3) := dk_156 0 7 (dk_at dksJ24_getChars_0 4 rfl rfl)
theorem dJ24_getChars_7 : decode cJ24_getChars 7 = .ok (.iconst 1, 1) := dk_4 (dk_at dksJ24_getChars_0 7 rfl rfl)
theorem dJ24_getChars_8 : decode cJ24_getChars 8 = .ok (.goto 4, 3) := dk_167 0 4 (dk_at dksJ24_getChars_0 8 rfl rfl)
theorem dJ24_getChars_11 : decode cJ24_getChars 11 = .ok (.iconst 0, 1) := dk_3 (dk_at dksJ24_getChars_0 11 rfl rfl)
theorem dJ24_getChars_12 : decode cJ24_getChars 12 = .ok (.istore 6, 2) := dk_54 6 (dk_at dksJ24_getChars_0 12 rfl rfl)
theorem dJ24_getChars_14 : decode cJ24_getChars 14 = .ok (.iload 6, 2) := dk_21 6 (dk_at dksJ24_getChars_0 14 rfl rfl)
theorem dJ24_getChars_16 : decode cJ24_getChars 16 = .ok (.ifCond .ne 6, 3) := dk_154 0 6 (dk_at dksJ24_getChars_0 16 rfl rfl)
theorem dJ24_getChars_19 : decode cJ24_getChars 19 = .ok (.iload_n 0, 1) := dk_26 (dk_at dksJ24_getChars_0 19 rfl rfl)
theorem dJ24_getChars_20 : decode cJ24_getChars 20 = .ok (.ineg, 1) := dk_116 (dk_at dksJ24_getChars_0 20 rfl rfl)
theorem dJ24_getChars_21 : decode cJ24_getChars 21 = .ok (.istore_n 0, 1) := dk_59 (dk_at dksJ24_getChars_0 21 rfl rfl)
theorem dJ24_getChars_22 : decode cJ24_getChars 22 = .ok (.iload_n 0, 1) := dk_26 (dk_at dksJ24_getChars_0 22 rfl rfl)
theorem dJ24_getChars_23 : decode cJ24_getChars 23 = .ok (.bipush (-100), 2) := dk_16 156 (dk_at dksJ24_getChars_1 0 rfl rfl)
theorem dJ24_getChars_25 : decode cJ24_getChars 25 = .ok (.if_icmp .gt 47, 3) := dk_163 0 47 (dk_at dksJ24_getChars_1 2 rfl rfl)
theorem dJ24_getChars_28 : decode cJ24_getChars 28 = .ok (.iload_n 0, 1) := dk_26 (dk_at dksJ24_getChars_1 5 rfl rfl)
theorem dJ24_getChars_29 : decode cJ24_getChars 29 = .ok (.bipush 100, 2) := dk_16 100 (dk_at dksJ24_getChars_1 6 rfl rfl)
theorem dJ24_getChars_31 : decode cJ24_getChars 31 = .ok (.idiv, 1) := dk_108 (dk_at dksJ24_getChars_1 8 rfl rfl)
theorem dJ24_getChars_32 : decode cJ24_getChars 32 = .ok (.istore_n 3, 1) := dk_62 (dk_at dksJ24_getChars_1 9 rfl rfl)
theorem dJ24_getChars_33 : decode cJ24_getChars 33 = .ok (.iload_n 3, 1) := dk_29 (dk_at dksJ24_getChars_1 10 rfl rfl)
theorem dJ24_getChars_34 : decode cJ24_getChars 34 = .ok (.bipush 100, 2) := dk_16 100 (dk_at dksJ24_getChars_1 11 rfl rfl)
theorem dJ24_getChars_36 : decode cJ24_getChars 36 = .ok (.imul, 1) := dk_104 (dk_at dksJ24_getChars_1 13 rfl rfl)
theorem dJ24_getChars_37 : decode cJ24_getChars 37 = .ok (.iload_n 0, 1) := dk_26 (dk_at dksJ24_getChars_1 14 rfl rfl)
theorem dJ24_getChars_38 : decode cJ24_getChars 38 = .ok (.isub, 1) := dk_100 (dk_at dksJ24_getChars_1 15 rfl rfl)
theorem dJ24_getChars_39 : decode cJ24_getChars 39 = .ok (.istore 4, 2) := dk_54 4 (dk_at dksJ24_getChars_1 16 rfl rfl)
theorem dJ24_getChars_41 : decode cJ24_getChars 41 = .ok (.iload_n 3, 1) := dk_29 (dk_at dksJ24_getChars_1 18 rfl rfl)
theorem dJ24_getChars_42 : decode cJ24_getChars 42 = .ok (.istore_n 0, 1) := dk_59 (dk_at dksJ24_getChars_1 19 rfl rfl)
theorem dJ24_getChars_43 : decode cJ24_getChars 43 = .ok (.aload_n 2, 1) := dk_44 (dk_at dksJ24_getChars_1 20 rfl rfl)
theorem dJ24_getChars_44 : decode cJ24_getChars 44 = .ok (.iinc 5 (-1), 3) := dk_132 5 255 (dk_at dksJ24_getChars_1 21 rfl rfl)
theorem dJ24_getChars_47 : decode cJ24_getChars 47 = .ok (.iload 5, 2) := dk_21 5 (dk_at dksJ24_getChars_2 0 rfl rfl)
theorem dJ24_getChars_49 : decode cJ24_getChars 49 = .ok (.getstatic 83, 3) := dk_178 0 83 (dk_at dksJ24_getChars_2 2 rfl rfl)
theorem dJ24_getChars_52 : decode cJ24_getChars 52 = .ok (.iload 4, 2) := dk_21 4 (dk_at dksJ24_getChars_2 5 rfl rfl)
theorem dJ24_getChars_54 : decode cJ24_getChars 54 = .ok (.baload, 1) := dk_51 (dk_at dksJ24_getChars_2 7 rfl rfl)
theorem dJ24_getChars_55 : decode cJ24_getChars 55 = .ok (.bastore, 1) := dk_84 (dk_at dksJ24_getChars_2 8 rfl rfl)
theorem dJ24_getChars_56 : decode cJ24_getChars 56 = .ok (.aload_n 2, 1) := dk_44 (dk_at dksJ24_getChars_2 9 rfl rfl)
theorem dJ24_getChars_57 : decode cJ24_getChars 57 = .ok (.iinc 5 (-1), 3) := dk_132 5 255 (dk_at dksJ24_getChars_2 10 rfl rfl)
theorem dJ24_getChars_60 : decode cJ24_getChars 60 = .ok (.iload 5, 2) := dk_21 5 (dk_at dksJ24_getChars_2 13 rfl rfl)
theorem dJ24_getChars_62 : decode cJ24_getChars 62 = .ok (.getstatic 87, 3) := dk_178 0 87 (dk_at dksJ24_getChars_2 15 rfl rfl)
theorem dJ24_getChars_65 : decode cJ24_getChars 65 = .ok (.iload 4, 2) := dk_21 4 (dk_at dksJ24_getChars_2 18 rfl rfl)
theorem dJ24_getChars_67 : decode cJ24_getChars 67 = .ok (.baload, 1) := dk_51 (dk_at dksJ24_getChars_2 20 rfl rfl)
theorem dJ24_getChars_68 : decode cJ24_getChars 68 = .ok (.bastore, 1) := dk_84 (dk_at dksJ24_getChars_2 21 rfl rfl)
theorem dJ24_getChars_69 : decode cJ24_getChars 69 = .ok (.goto (-47), 3) := dk_167 255 209 (dk_at dksJ24_getChars_3 0 rfl rfl)
theorem dJ24_getChars_72 : decode cJ24_getChars 72 = .ok (.aload_n 2, 1) := dk_44 (dk_at dksJ24_getChars_3 3 rfl rfl)
theorem dJ24_getChars_73 : decode cJ24_getChars 73 = .ok (.iinc 5 (-1), 3) := dk_132 5 255 (dk_at dksJ24_getChars_3 4 rfl rfl)
theorem dJ24_getChars_76 : decode cJ24_getChars 76 = .ok (.iload 5, 2) := dk_21 5 (dk_at dksJ24_getChars_3 7 rfl rfl)
theorem dJ24_getChars_78 : decode cJ24_getChars 78 = .ok (.getstatic 83, 3) := dk_178 0 83 (dk_at dksJ24_getChars_3 9 rfl rfl)
theorem dJ24_getChars_81 : decode cJ24_getChars 81 = .ok (.iload_n 0, 1) := dk_26 (dk_at dksJ24_getChars_3 12 rfl rfl)
theorem dJ24_getChars_82 : decode cJ24_getChars 82 = .ok (.ineg, 1) := dk_116 (dk_at dksJ24_getChars_3 13 rfl rfl)
theorem dJ24_getChars_83 : decode cJ24_getChars 83 = .ok (.baload, 1) := dk_51 (dk_at dksJ24_getChars_3 14 rfl rfl)
theorem dJ24_getChars_84 : decode cJ24_getChars 84 = .ok (.bastore, 1) := dk_84 (dk_at dksJ24_getChars_3 15 rfl rfl)
theorem dJ24_getChars_85 : decode cJ24_getChars 85 = .ok (.iload_n 0, 1) := dk_26 (dk_at dksJ24_getChars_3 16 rfl rfl)
theorem dJ24_getChars_86 : decode cJ24_getChars 86 = .ok (.bipush (-9), 2) := dk_16 247 (dk_at dksJ24_getChars_3 17 rfl rfl)
theorem dJ24_getChars_88 : decode cJ24_getChars 88 = .ok (.if_icmp .ge 16, 3) := dk_162 0 16 (dk_at dksJ24_getChars_3 19 rfl rfl)
theorem dJ24_getChars_91 : decode cJ24_getChars 91 = .ok (.aload_n 2, 1) := dk_44 (dk_at dksJ24_getChars_3 22 rfl rfl)
theorem dJ24_getChars_92 : decode cJ24_getChars 92 = .ok (.iinc 5 (-1), 3) := dk_132 5 255 (dk_at dksJ24_getChars_4 0 rfl rfl)
theorem dJ24_getChars_95 : decode cJ24_getChars 95 = .ok (.iload 5, 2) := dk_21 5 (dk_at dksJ24_getChars_4 3 rfl rfl)
theorem dJ24_getChars_97 : decode cJ24_getChars 97 = .ok (.getstatic 87, 3) := dk_178 0 87 (dk_at dksJ24_getChars_4 5 rfl rfl)
theorem dJ24_getChars_100 : decode cJ24_getChars 100 = .ok (.iload_n 0, 1) := dk_26 (dk_at dksJ24_getChars_4 8 rfl rfl)
theorem dJ24_getChars_101 : decode cJ24_getChars 101 = .ok (.ineg, 1) := dk_116 (dk_at dksJ24_getChars_4 9 rfl rfl)
theorem dJ24_getChars_102 : decode cJ24_getChars 102 = .ok (.baload, 1) := dk_51 (dk_at dksJ24_getChars_4 10 rfl rfl)
theorem dJ24_getChars_103 : decode cJ24_getChars 103 = .ok (.bastore, 1) := dk_84 (dk_at dksJ24_getChars_4 11 rfl rfl)
theorem dJ24_getChars_104 : decode cJ24_getChars 104 = .ok (.iload 6, 2) := dk_21 6 (dk_at dksJ24_getChars_4 12 rfl rfl)
theorem dJ24_getChars_106 : decode cJ24_getChars 106 = .ok (.ifCond .eq 12, 3) := dk_153 0 12 (dk_at dksJ24_getChars_4 14 rfl rfl)
theorem dJ24_getChars_109 : decode cJ24_getChars 109 = .ok (.aload_n 2, 1) := dk_44 (dk_at dksJ24_getChars_4 17 rfl rfl)
theorem dJ24_getChars_110 : decode cJ24_getChars 110 = .ok (.iinc 5 (-1), 3) := dk_132 5 255 (dk_at dksJ24_getChars_4 18 rfl rfl)
theorem dJ24_getChars_113 : decode cJ24_getChars 113 = .ok (.iload 5, 2) := dk_21 5 (dk_at dksJ24_getChars_4 21 rfl rfl)
theorem dJ24_getChars_115 : decode cJ24_getChars 115 = .ok (.bipush 45, 2) := dk_16 45 (dk_at dksJ24_getChars_5 0 rfl rfl)
theorem dJ24_getChars_117 : decode cJ24_getChars 117 = .ok (.bastore, 1) := dk_84 (dk_at dksJ24_getChars_5 2 rfl rfl)
theorem dJ24_getChars_118 : decode cJ24_getChars 118 = .ok (.iload 5, 2) := dk_21 5 (dk_at dksJ24_getChars_5 3 rfl rfl)
theorem dJ24_getChars_120 : decode cJ24_getChars 120 = .ok (.ireturn, 1) := dk_172 (dk_at dksJ24_getChars_5 5 rfl rfl)
def dkwJ24_numberOfTrailingZeros_3 : List UInt8 := [5, 124, 59, 27, 26, 4, 124, 96, 172]
abbrev dktJ24_numberOfTrailingZeros_3 : List UInt8 := dkwJ24_numberOfTrailingZeros_3 ++ []
def dkwJ24_numberOfTrailingZeros_2 : List UInt8 := [124, 59, 26, 16, 16, 164, 0, 10, 132, 1, 4, 26, 7, 124, 59, 26, 7, 164, 0, 10, 132, 1, 2, 26]
abbrev dktJ24_numberOfTrailingZeros_2 : List UInt8 := dkwJ24_numberOfTrailingZeros_2 ++ dktJ24_numberOfTrailingZeros_3
def dkwJ24_numberOfTrailingZeros_1 : List UInt8 := [164, 0, 11, 132, 1, 16, 26, 16, 16, 124, 59, 26, 17, 1, 0, 164, 0, 11, 132, 1, 8, 26, 16, 8]
abbrev dktJ24_numberOfTrailingZeros_1 : List UInt8 := dkwJ24_numberOfTrailingZeros_1 ++ dktJ24_numberOfTrailingZeros_2
def dkwJ24_numberOfTrailingZeros_0 : List UInt8 := [26, 2, 130, 26, 4, 100, 126, 59, 26, 157, 0, 8, 26, 16, 32, 126, 172, 4, 60, 26, 19, 1, 8]
abbrev dktJ24_numberOfTrailingZeros_0 : List UInt8 := dkwJ24_numberOfTrailingZeros_0 ++ dktJ24_numberOfTrailingZeros_1
theorem dksJ24_numberOfTrailingZeros_0 : cJ24_numberOfTrailingZeros.data.toList.drop 0 = dktJ24_numberOfTrailingZeros_0 := by decide +kernel
theorem dksJ24_numberOfTrailingZeros_1 : cJ24_numberOfTrailingZeros.data.toList.drop 23 = dktJ24_numberOfTrailingZeros_1 := dk_seg dksJ24_numberOfTrailingZeros_0 23 rfl rfl
theorem dksJ24_numberOfTrailingZeros_2 : cJ24_numberOfTrailingZeros.data.toList.drop 47 = dktJ24_numberOfTrailingZeros_2 := dk_seg dksJ24_numberOfTrailingZeros_1 24 rfl rfl
theorem dksJ24_numberOfTrailingZeros_3 : cJ24_numberOfTrailingZeros.data.toList.drop 71 = dktJ24_numberOfTrailingZeros_3 := dk_seg dksJ24_numberOfTrailingZeros_2 24 rfl rfl
theorem dJ24_numberOfTrailingZeros_0 : decode cJ24_numberOfTrailingZeros 0 = .ok (.iload_n 0, 1) := dk_26 (dk_at dksJ24_numberOfTrailingZeros_0 0 rfl rfl)
theorem dJ24_numberOfTrailingZeros_1 : decode cJ24_numberOfTrailingZeros 1 = .ok (.iconst (-1), 1) := dk_2 (dk_at dksJ24_numberOfTrailingZeros_0 1 rfl rfl)
theorem dJ24_numberOfTrailingZeros_2 : decode cJ24_numberOfTrailingZeros 2 = .ok (.ixor, 1) := dk_130 (dk_at dksJ24_numberOfTrailingZeros_0 2 rfl rfl)
theorem dJ24_numberOfTrailingZeros_3 : decode cJ24_numberOfTrailingZeros 3 = .ok (.iload_n 0, 1) := dk_26 (dk_at dksJ24_numberOfTrailingZeros_0 3 rfl rfl)
theorem dJ24_numberOfTrailingZeros_4 : decode cJ24_numberOfTrailingZeros 4 = .ok (.iconst 1, 1) := dk_4 (dk_at dksJ24_numberOfTrailingZeros_0 4 rfl rfl)
theorem dJ24_numberOfTrailingZeros_5 : decode cJ24_numberOfTrailingZeros 5 = .ok (.isub, 1) := dk_100 (dk_at dksJ24_numberOfTrailingZeros_0 5 rfl rfl)
theorem dJ24_numberOfTrailingZeros_6 : decode cJ24_numberOfTrailingZeros 6 = .ok (.iand, 1) := dk_126 (dk_at dksJ24_numberOfTrailingZeros_0 6 rfl rfl)
theorem dJ24_numberOfTrailingZeros_7 : decode cJ24_numberOfTrailingZeros 7 = .ok (.istore_n 0, 1) := dk_59 (dk_at dksJ24_numberOfTrailingZeros_0 7 rfl rfl)
theorem dJ24_numberOfTrailingZeros_8 : decode cJ24_numberOfTrailingZeros 8 = .ok (.iload_n 0, 1) := dk_26 (dk_at dksJ24_numberOfTrailingZeros_0 8 rfl rfl)
theorem dJ24_numberOfTrailingZeros_9 : decode cJ24_numberOfTrailingZeros 9 = .ok (.ifCond .gt 8, 3) := dk_157 0 8 (dk_at dksJ24_numberOfTrailingZeros_0 9 rfl rfl)
theorem dJ24_numberOfTrailingZeros_12 : decode cJ24_numberOfTrailingZeros 12 = .ok (.iload_n 0, 1) := dk_26 (dk_at dksJ24_numberOfTrailingZeros_0 12 rfl rfl)
theorem dJ24_numberOfTrailingZeros_13 : decode cJ24_numberOfTrailingZeros 13 = .ok (.bipush 32, 2) := dk_16 32 (dk_at dksJ24_numberOfTrailingZeros_0 13 rfl rfl)
theorem dJ24_numberOfTrailingZeros_15 : decode cJ24_numberOfTrailingZeros 15 = .ok (.iand, 1) := dk_126 (dk_at dksJ24_numberOfTrailingZeros_0 15 rfl rfl)
theorem dJ24_numberOfTrailingZeros_16 : decode cJ24_numberOfTrailingZeros 16 = .ok (.ireturn, 1) := dk_172 (dk_at dksJ24_numberOfTrailingZeros_0 16 rfl rfl)
theorem dJ24_numberOfTrailingZeros_17 : decode cJ24_numberOfTrailingZeros 17 = .ok (.iconst 1, 1) := dk_4 (dk_at dksJ24_numberOfTrailingZeros_0 17 rfl rfl)
theorem dJ24_numberOfTrailingZeros_18 : decode cJ24_numberOfTrailingZeros 18 = .ok (.istore_n 1, 1) := dk_60 (dk_at dksJ24_numberOfTrailingZeros_0 18 rfl rfl)
theorem dJ24_numberOfTrailingZeros_19 : decode cJ24_numberOfTrailingZeros 19 = .ok (.iload_n 0, 1) := dk_26 (dk_at dksJ24_numberOfTrailingZeros_0 19 rfl rfl)
theorem dJ24_numberOfTrailingZeros_20 : decode cJ24_numberOfTrailingZeros 20 = .ok (.ldc_w 264, 3) := dk_19 1 8 (dk_at dksJ24_numberOfTrailingZeros_0 20 rfl rfl)
theorem dJ24_numberOfTrailingZeros_23 : decode cJ24_numberOfTrailingZeros 23 = .ok (.if_icmp .le 11, 3) := dk_164 0 11 (dk_at dksJ24_numberOfTrailingZeros_1 0 rfl rfl)
theorem dJ24_numberOfTrailingZeros_26 : decode cJ24_numberOfTrailingZeros 26 = .ok (.iinc 1 16, 3) := dk_132 1 16 (dk_at dksJ24_numberOfTrailingZeros_1 3 rfl rfl)
theorem dJ24_numberOfTrailingZeros_29 : decode cJ24_numberOfTrailingZeros 29 = .ok (.iload_n 0, 1) := dk_26 (dk_at dksJ24_numberOfTrailingZeros_1 6 rfl rfl)
theorem dJ24_numberOfTrailingZeros_30 : decode cJ24_numberOfTrailingZeros 30 = .ok (.bipush 16, 2) := dk_16 16 (dk_at dksJ24_numberOfTrailingZeros_1 7 rfl rfl)
theorem dJ24_numberOfTrailingZeros_32 : decode cJ24_numberOfTrailingZeros 32 = .ok (.iushr, 1) := dk_124 (dk_at dksJ24_numberOfTrailingZeros_1 9 rfl rfl)
theorem dJ24_numberOfTrailingZeros_33 : decode cJ24_numberOfTrailingZeros 33 = .ok (.istore_n 0, 1) := dk_59 (dk_at dksJ24_numberOfTrailingZeros_1 10 rfl rfl)
theorem dJ24_numberOfTrailingZeros_34 : decode cJ24_numberOfTrailingZeros 34 = .ok (.iload_n 0, 1) := dk_26 (dk_at dksJ24_numberOfTrailingZeros_1 11 rfl rfl)
theorem dJ24_numberOfTrailingZeros_35 : decode cJ24_numberOfTrailingZeros 35 = .ok (.sipush 256, 3) := dk_17 1 0 (dk_at dksJ24_numberOfTrailingZeros_1 12 rfl rfl)
theorem dJ24_numberOfTrailingZeros_38 : decode cJ24_numberOfTrailingZeros 38 = .ok (.if_icmp .le 11, 3) := dk_164 0 11 (dk_at dksJ24_numberOfTrailingZeros_1 15 rfl rfl)
theorem dJ24_numberOfTrailingZeros_41 : decode cJ24_numberOfTrailingZeros 41 = .ok (.iinc 1 8, 3) := dk_132 1 8 (dk_at dksJ24_numberOfTrailingZeros_1 18 rfl rfl)
theorem dJ24_numberOfTrailingZeros_44 : decode cJ24_numberOfTrailingZeros 44 = .ok (.iload_n 0, 1) := dk_26 (dk_at dksJ24_numberOfTrailingZeros_1 21 rfl rfl)
theorem dJ24_numberOfTrailingZeros_45 : decode cJ24_numberOfTrailingZeros 45 = .ok (.bipush 8, 2) := dk_16 8 (dk_at dksJ24_numberOfTrailingZeros_1 22 rfl rfl)
theorem dJ24_numberOfTrailingZeros_47 : decode cJ24_numberOfTrailingZeros 47 = .ok (.iushr, 1) := dk_124 (dk_at dksJ24_numberOfTrailingZeros_2 0 rfl rfl)
theorem dJ24_numberOfTrailingZeros_48 : decode cJ24_numberOfTrailingZeros 48 = .ok (.istore_n 0, 1) := dk_59 (dk_at dksJ24_numberOfTrailingZeros_2 1 rfl rfl)
theorem dJ24_numberOfTrailingZeros_49 : decode cJ24_numberOfTrailingZeros 49 = .ok (.iload_n 0, 1) := dk_26 (dk_at dksJ24_numberOfTrailingZeros_2 2 rfl rfl)
theorem dJ24_numberOfTrailingZeros_50 : decode cJ24_numberOfTrailingZeros 50 = .ok (.bipush 16, 2) := dk_16 16 (dk_at dksJ24_numberOfTrailingZeros_2 3 rfl rfl)
theorem dJ24_numberOfTrailingZeros_52 : decode cJ24_numberOfTrailingZeros 52 = .ok (.if_icmp .le 10, 3) := dk_164 0 10 (dk_at dksJ24_numberOfTrailingZeros_2 5 rfl rfl)
theorem dJ24_numberOfTrailingZeros_55 : decode cJ24_numberOfTrailingZeros 55 = .ok (.iinc 1 4, 3) := dk_132 1 4 (dk_at dksJ24_numberOfTrailingZeros_2 8 rfl rfl)
theorem dJ24_numberOfTrailingZeros_58 : decode cJ24_numberOfTrailingZeros 58 = .ok (.iload_n 0, 1) := dk_26 (dk_at dksJ24_numberOfTrailingZeros_2 11 rfl rfl)
theorem dJ24_numberOfTrailingZeros_59 : decode cJ24_numberOfTrailingZeros 59 = .ok (.iconst 4, 1) := dk_7 (dk_at dksJ24_numberOfTrailingZeros_2 12 rfl rfl)
theorem dJ24_numberOfTrailingZeros_60 : decode cJ24_numberOfTrailingZeros 60 = .ok (.iushr, 1) := dk_124 (dk_at dksJ24_numberOfTrailingZeros_2 13 rfl rfl)
theorem dJ24_numberOfTrailingZeros_61 : decode cJ24_numberOfTrailingZeros 61 = .ok (.istore_n 0, 1) := dk_59 (dk_at dksJ24_numberOfTrailingZeros_2 14 rfl rfl)
theorem dJ24_numberOfTrailingZeros_62 : decode cJ24_numberOfTrailingZeros 62 = .ok (.iload_n 0, 1) := dk_26 (dk_at dksJ24_numberOfTrailingZeros_2 15 rfl rfl)
theorem dJ24_numberOfTrailingZeros_63 : decode cJ24_numberOfTrailingZeros 63 = .ok (.iconst 4, 1) := dk_7 (dk_at dksJ24_numberOfTrailingZeros_2 16 rfl rfl)
theorem dJ24_numberOfTrailingZeros_64 : decode cJ24_numberOfTrailingZeros 64 = .ok (.if_icmp .le 10, 3) := dk_164 0 10 (dk_at dksJ24_numberOfTrailingZeros_2 17 rfl rfl)
theorem dJ24_numberOfTrailingZeros_67 : decode cJ24_numberOfTrailingZeros 67 = .ok (.iinc 1 2, 3) := dk_132 1 2 (dk_at dksJ24_numberOfTrailingZeros_2 20 rfl rfl)
theorem dJ24_numberOfTrailingZeros_70 : decode cJ24_numberOfTrailingZeros 70 = .ok (.iload_n 0, 1) := dk_26 (dk_at dksJ24_numberOfTrailingZeros_2 23 rfl rfl)
theorem dJ24_numberOfTrailingZeros_71 : decode cJ24_numberOfTrailingZeros 71 = .ok (.iconst 2, 1) := dk_5 (dk_at dksJ24_numberOfTrailingZeros_3 0 rfl rfl)
theorem dJ24_numberOfTrailingZeros_72 : decode cJ24_numberOfTrailingZeros 72 = .ok (.iushr, 1) := dk_124 (dk_at dksJ24_numberOfTrailingZeros_3 1 rfl rfl)
theorem dJ24_numberOfTrailingZeros_73 : decode cJ24_numberOfTrailingZeros 73 = .ok (.istore_n 0, 1) := dk_59 (dk_at dksJ24_numberOfTrailingZeros_3 2 rfl rfl)
theorem dJ24_numberOfTrailingZeros_74 : decode cJ24_numberOfTrailingZeros 74 = .ok (.iload_n 1, 1) := dk_27 (dk_at dksJ24_numberOfTrailingZeros_3 3 rfl rfl)
theorem dJ24_numberOfTrailingZeros_75 : decode cJ24_numberOfTrailingZeros 75 = .ok (.iload_n 0, 1) := dk_26 (dk_at dksJ24_numberOfTrailingZeros_3 4 rfl rfl)
theorem dJ24_numberOfTrailingZeros_76 : decode cJ24_numberOfTrailingZeros 76 = .ok (.iconst 1, 1) := dk_4 (dk_at dksJ24_numberOfTrailingZeros_3 5 rfl rfl)
theorem dJ24_numberOfTrailingZeros_77 : decode cJ24_numberOfTrailingZeros 77 = .ok (.iushr, 1) := dk_124 (dk_at dksJ24_numberOfTrailingZeros_3 6 rfl rfl)
theorem dJ24_numberOfTrailingZeros_78 : decode cJ24_numberOfTrailingZeros 78 = .ok (.iadd, 1) := dk_96 (dk_at dksJ24_numberOfTrailingZeros_3 7 rfl rfl)
theorem dJ24_numberOfTrailingZeros_79 : decode cJ24_numberOfTrailingZeros 79 = .ok (.ireturn, 1) := dk_172 (dk_at dksJ24_numberOfTrailingZeros_3 8 rfl rfl)
def dkwJ24_bitCount_2 : List UInt8 := [26, 16, 63, 126, 172]
abbrev dktJ24_bitCount_2 : List UInt8 := dkwJ24_bitCount_2 ++ []
def dkwJ24_bitCount_1 : List UInt8 := [26, 26, 7, 124, 96, 19, 1, 11, 126, 59, 26, 26, 16, 8, 124, 96, 59, 26, 26, 16, 16, 124, 96, 59]
abbrev dktJ24_bitCount_1 : List UInt8 := dkwJ24_bitCount_1 ++ dktJ24_bitCount_2
def dkwJ24_bitCount_0 : List UInt8 := [26, 26, 4, 124, 19, 1, 9, 126, 100, 59, 26, 19, 1, 10, 126, 26, 5, 124, 19, 1, 10, 126, 96, 59]
abbrev dktJ24_bitCount_0 : List UInt8 := dkwJ24_bitCount_0 ++ dktJ24_bitCount_1
theorem dksJ24_bitCount_0 : cJ24_bitCount.data.toList.drop 0 = dktJ24_bitCount_0 := by decide +kernel
theorem dksJ24_bitCount_1 : cJ24_bitCount.data.toList.drop 24 = dktJ24_bitCount_1 := dk_seg dksJ24_bitCount_0 24 rfl rfl
theorem dksJ24_bitCount_2 : cJ24_bitCount.data.toList.drop 48 = dktJ24_bitCount_2 := dk_seg dksJ24_bitCount_1 24 rfl rfl
theorem dJ24_bitCount_0 : decode cJ24_bitCount 0 = .ok (.iload_n 0, 1) := dk_26 (dk_at dksJ24_bitCount_0 0 rfl rfl)
theorem dJ24_bitCount_1 : decode cJ24_bitCount 1 = .ok (.iload_n 0, 1) := dk_26 (dk_at dksJ24_bitCount_0 1 rfl rfl)
theorem dJ24_bitCount_2 : decode cJ24_bitCount 2 = .ok (.iconst 1, 1) := dk_4 (dk_at dksJ24_bitCount_0 2 rfl rfl)
theorem dJ24_bitCount_3 : decode cJ24_bitCount 3 = .ok (.iushr, 1) := dk_124 (dk_at dksJ24_bitCount_0 3 rfl rfl)
theorem dJ24_bitCount_4 : decode cJ24_bitCount 4 = .ok (.ldc_w 265, 3) := dk_19 1 9 (dk_at dksJ24_bitCount_0 4 rfl rfl)
theorem dJ24_bitCount_7 : decode cJ24_bitCount 7 = .ok (.iand, 1) := dk_126 (dk_at dksJ24_bitCount_0 7 rfl rfl)
theorem dJ24_bitCount_8 : decode cJ24_bitCount 8 = .ok (.isub, 1) := dk_100 (dk_at dksJ24_bitCount_0 8 rfl rfl)
theorem dJ24_bitCount_9 : decode cJ24_bitCount 9 = .ok (.istore_n 0, 1) := dk_59 (dk_at dksJ24_bitCount_0 9 rfl rfl)
theorem dJ24_bitCount_10 : decode cJ24_bitCount 10 = .ok (.iload_n 0, 1) := dk_26 (dk_at dksJ24_bitCount_0 10 rfl rfl)
theorem dJ24_bitCount_11 : decode cJ24_bitCount 11 = .ok (.ldc_w 266, 3) := dk_19 1 10 (dk_at dksJ24_bitCount_0 11 rfl rfl)
theorem dJ24_bitCount_14 : decode cJ24_bitCount 14 = .ok (.iand, 1) := dk_126 (dk_at dksJ24_bitCount_0 14 rfl rfl)
theorem dJ24_bitCount_15 : decode cJ24_bitCount 15 = .ok (.iload_n 0, 1) := dk_26 (dk_at dksJ24_bitCount_0 15 rfl rfl)
theorem dJ24_bitCount_16 : decode cJ24_bitCount 16 = .ok (.iconst 2, 1) := dk_5 (dk_at dksJ24_bitCount_0 16 rfl rfl)
theorem dJ24_bitCount_17 : decode cJ24_bitCount 17 = .ok (.iushr, 1) := dk_124 (dk_at dksJ24_bitCount_0 17 rfl rfl)
theorem dJ24_bitCount_18 : decode cJ24_bitCount 18 = .ok (.ldc_w 266, 3) := dk_19 1 10 (dk_at dksJ24_bitCount_0 18 rfl rfl)
theorem dJ24_bitCount_21 : decode cJ24_bitCount 21 = .ok (.iand, 1) := dk_126 (dk_at dksJ24_bitCount_0 21 rfl rfl)
theorem dJ24_bitCount_22 : decode cJ24_bitCount 22 = .ok (.iadd, 1) := dk_96 (dk_at dksJ24_bitCount_0 22 rfl rfl)
theorem dJ24_bitCount_23 : decode cJ24_bitCount 23 = .ok (.istore_n 0, 1) := dk_59 (dk_at dksJ24_bitCount_0 23 rfl rfl)
theorem dJ24_bitCount_24 : decode cJ24_bitCount 24 = .ok (.iload_n 0, 1) := dk_26 (dk_at dksJ24_bitCount_1 0 rfl rfl)
theorem dJ24_bitCount_25 : decode cJ24_bitCount 25 = .ok (.iload_n 0, 1) := dk_26 (dk_at dksJ24_bitCount_1 1 rfl rfl)
theorem dJ24_bitCount_26 : decode cJ24_bitCount 26 = .ok (.iconst 4, 1) := dk_7 (dk_at dksJ24_bitCount_1 2 rfl rfl)
theorem dJ24_bitCount_27 : decode cJ24_bitCount 27 = .ok (.iushr, 1) := dk_124 (dk_at dksJ24_bitCount_1 3 rfl rfl)
theorem dJ24_bitCount_28 : decode cJ24_bitCount 28 = .ok (.iadd, 1) := dk_96 (dk_at dksJ24_bitCount_1 4 rfl rfl)
theorem dJ24_bitCount_29 : decode cJ24_bitCount 29 = .ok (.ldc_w 267, 3) := dk_19 1 11 (dk_at dksJ24_bitCount_1 5 rfl rfl)
theorem dJ24_bitCount_32 : decode cJ24_bitCount 32 = .ok (.iand, 1) := dk_126 (dk_at dksJ24_bitCount_1 8 rfl rfl)
theorem dJ24_bitCount_33 : decode cJ24_bitCount 33 = .ok (.istore_n 0, 1) := dk_59 (dk_at dksJ24_bitCount_1 9 rfl rfl)
theorem dJ24_bitCount_34 : decode cJ24_bitCount 34 = .ok (.iload_n 0, 1) := dk_26 (dk_at dksJ24_bitCount_1 10 rfl rfl)
theorem dJ24_bitCount_35 : decode cJ24_bitCount 35 = .ok (.iload_n 0, 1) := dk_26 (dk_at dksJ24_bitCount_1 11 rfl rfl)
theorem dJ24_bitCount_36 : decode cJ24_bitCount 36 = .ok (.bipush 8, 2) := dk_16 8 (dk_at dksJ24_bitCount_1 12 rfl rfl)
theorem dJ24_bitCount_38 : decode cJ24_bitCount 38 = .ok (.iushr, 1) := dk_124 (dk_at dksJ24_bitCount_1 14 rfl rfl)
theorem dJ24_bitCount_39 : decode cJ24_bitCount 39 = .ok (.iadd, 1) := dk_96 (dk_at dksJ24_bitCount_1 15 rfl rfl)
theorem dJ24_bitCount_40 : decode cJ24_bitCount 40 = .ok (.istore_n 0, 1) := dk_59 (dk_at dksJ24_bitCount_1 16 rfl rfl)
theorem dJ24_bitCount_41 : decode cJ24_bitCount 41 = .ok (.iload_n 0, 1) := dk_26 (dk_at dksJ24_bitCount_1 17 rfl rfl)
theorem dJ24_bitCount_42 : decode cJ24_bitCount 42 = .ok (.iload_n 0, 1) := dk_26 (dk_at dksJ24_bitCount_1 18 rfl rfl)
theorem dJ24_bitCount_43 : decode cJ24_bitCount 43 = .ok (.bipush 16, 2) := dk_16 16 (dk_at dksJ24_bitCount_1 19 rfl rfl)
theorem dJ24_bitCount_45 : decode cJ24_bitCount 45 = .ok (.iushr, 1) := dk_124 (dk_at dksJ24_bitCount_1 21 rfl rfl)
theorem dJ24_bitCount_46 : decode cJ24_bitCount 46 = .ok (.iadd, 1) := dk_96 (dk_at dksJ24_bitCount_1 22 rfl rfl)
theorem dJ24_bitCount_47 : decode cJ24_bitCount 47 = .ok (.istore_n 0, 1) := dk_59 (dk_at dksJ24_bitCount_1 23 rfl rfl)
theorem dJ24_bitCount_48 : decode cJ24_bitCount 48 = .ok (.iload_n 0, 1) := dk_26 (dk_at dksJ24_bitCount_2 0 rfl rfl)
theorem dJ24_bitCount_49 : decode cJ24_bitCount 49 = .ok (.bipush 63, 2) := dk_16 63 (dk_at dksJ24_bitCount_2 1 rfl rfl)
theorem dJ24_bitCount_51 : decode cJ24_bitCount 51 = .ok (.iand, 1) := dk_126 (dk_at dksJ24_bitCount_2 3 rfl rfl)
theorem dJ24_bitCount_52 : decode cJ24_bitCount 52 = .ok (.ireturn, 1) := dk_172 (dk_at dksJ24_bitCount_2 4 rfl rfl)
def dkwJ24_hashCode_0 : List UInt8 := [42, 180, 0, 205, 184, 0, 208, 172]
abbrev dktJ24_hashCode_0 : List UInt8 := dkwJ24_hashCode_0 ++ []
theorem dksJ24_hashCode_0 : cJ24_hashCode.data.toList.drop 0 = dktJ24_hashCode_0 := by decide +kernel
theorem dJ24_hashCode_0 : decode cJ24_hashCode 0 = .ok (.aload_n 0, 1) := dk_42 (dk_at dksJ24_hashCode_0 0 rfl rfl)
theorem dJ24_hashCode_1 : decode cJ24_hashCode 1 = .ok (.getfield 205, 3) := dk_180 0 205 (dk_at dksJ24_hashCode_0 1 rfl rfl)
theorem dJ24_hashCode_4 : decode cJ24_hashCode 4 = .ok (.invokestatic 208, 3) := dk_184 0 208 (dk_at dksJ24_hashCode_0 4 rfl rfl)
theorem dJ24_hashCode_7 : decode cJ24_hashCode 7 = .ok (.ireturn, 1) := dk_172 (dk_at dksJ24_hashCode_0 7 rfl rfl)
theorem dJ24_hashCode_2_0 : decode cJ24_hashCode_2 0 = .ok (.iload_n 0, 1) := by decide +kernel
theorem dJ24_hashCode_2_1 : decode cJ24_hashCode_2 1 = .ok (.ireturn, 1) := by decide +kernel
def dkwJ24_equals_1 : List UInt8 := [167, 0, 4, 3, 172, 3, 172]
abbrev dktJ24_equals_1 : List UInt8 := dkwJ24_equals_1 ++ []
def dkwJ24_equals_0 : List UInt8 := [43, 193, 0, 1, 153, 0, 23, 42, 180, 0, 205, 43, 192, 0, 1, 182, 0, 211, 160, 0, 7, 4]
abbrev dktJ24_equals_0 : List UInt8 := dkwJ24_equals_0 ++ dktJ24_equals_1
theorem dksJ24_equals_0 : cJ24_equals.data.toList.drop 0 = dktJ24_equals_0 := by decide +kernel
theorem dksJ24_equals_1 : cJ24_equals.data.toList.drop 22 = dktJ24_equals_1 := dk_seg dksJ24_equals_0 22 rfl rfl
theorem dJ24_equals_0 : decode cJ24_equals 0 = .ok (.aload_n 1, 1) := dk_43 (dk_at dksJ24_equals_0 0 rfl rfl)
theorem dJ24_equals_1 : decode cJ24_equals 1 = .ok (.instanceof 1, 3) := dk_193 0 1 (dk_at dksJ24_equals_0 1 rfl rfl)
theorem dJ24_equals_4 : decode cJ24_equals 4 = .ok (.ifCond .eq 23, 3) := dk_153 0 23 (dk_at dksJ24_equals_0 4 rfl rfl)
theorem dJ24_equals_7 : decode cJ24_equals 7 = .ok (.aload_n 0, 1) := dk_42 (dk_at dksJ24_equals_0 7 rfl rfl)
theorem dJ24_equals_8 : decode cJ24_equals 8 = .ok (.getfield 205, 3) := dk_180 0 205 (dk_at dksJ24_equals_0 8 rfl rfl)
theorem dJ24_equals_11 : decode cJ24_equals 11 = .ok (.aload_n 1, 1) := dk_43 (dk_at dksJ24_equals_0 11 rfl rfl)
theorem dJ24_equals_12 : decode cJ24_equals 12 = .ok (.checkcast 1, 3) := dk_192 0 1 (dk_at dksJ24_equals_0 12 rfl rfl)
theorem dJ24_equals_15 : decode cJ24_equals 15 = .ok (.invokevirtual 211, 3) := dk_182 0 211 (dk_at dksJ24_equals_0 15 rfl rfl)
theorem dJ24_equals_18 : decode cJ24_equals 18 = .ok (.if_icmp .ne 7, 3) := dk_160 0 7 (dk_at dksJ24_equals_0 18 rfl rfl)
theorem dJ24_equals_21 : decode cJ24_equals 21 = .ok (.iconst 1, 1) := dk_4 (dk_at dksJ24_equals_0 21 rfl rfl)
theorem dJ24_equals_22 : decode cJ24_equals 22 = .ok (.goto 4, 3) := dk_167 0 4 (dk_at dksJ24_equals_1 0 rfl rfl)
theorem dJ24_equals_25 : decode cJ24_equals 25 = .ok (.iconst 0, 1) := dk_3 (dk_at dksJ24_equals_1 3 rfl rfl)
theorem dJ24_equals_26 : decode cJ24_equals 26 = .ok (.ireturn, 1) := dk_172 (dk_at dksJ24_equals_1 4 rfl rfl)
theorem dJ24_equals_27 : decode cJ24_equals 27 = .ok (.iconst 0, 1) := dk_3 (dk_at dksJ24_equals_1 5 rfl rfl)
theorem dJ24_equals_28 : decode cJ24_equals 28 = .ok (.ireturn, 1) := dk_172 (dk_at dksJ24_equals_1 6 rfl rfl)
theorem dJ24_intValue_0 : decode cJ24_intValue 0 = .ok (.aload_n 0, 1) := by decide +kernel
theorem dJ24_intValue_1 : decode cJ24_intValue 1 = .ok (.getfield 205, 3) := by decide +kernel
theorem dJ24_intValue_4 : decode cJ24_intValue 4 = .ok (.ireturn, 1) := by decide +kernel
def dkwJ24_compareTo_0 : List UInt8 := [42, 43, 192, 0, 1, 182, 1, 28, 172]
abbrev dktJ24_compareTo_0 : List UInt8 := dkwJ24_compareTo_0 ++ []
theorem dksJ24_compareTo_0 : cJ24_compareTo.data.toList.drop 0 = dktJ24_compareTo_0 := by decide +kernel
theorem dJ24_compareTo_0 : decode cJ24_compareTo 0 = .ok (.aload_n 0, 1) := dk_42 (dk_at dksJ24_compareTo_0 0 rfl rfl)
theorem dJ24_compareTo_1 : decode cJ24_compareTo 1 = .ok (.aload_n 1, 1) := dk_43 (dk_at dksJ24_compareTo_0 1 rfl rfl)
theorem dJ24_compareTo_2 : decode cJ24_compareTo 2 = .ok (.checkcast 1, 3) := dk_192 0 1 (dk_at dksJ24_compareTo_0 2 rfl rfl)
theorem dJ24_compareTo_5 : decode cJ24_compareTo 5 = .ok (.invokevirtual 284, 3) := dk_182 1 28 (dk_at dksJ24_compareTo_0 5 rfl rfl)
theorem dJ24_compareTo_8 : decode cJ24_compareTo 8 = .ok (.ireturn, 1) := dk_172 (dk_at dksJ24_compareTo_0 8 rfl rfl)
def dkwJ24_compareTo_2_0 : List UInt8 := [42, 180, 0, 205, 43, 180, 0, 205, 184, 1, 3, 172]
abbrev dktJ24_compareTo_2_0 : List UInt8 := dkwJ24_compareTo_2_0 ++ []
theorem dksJ24_compareTo_2_0 : cJ24_compareTo_2.data.toList.drop 0 = dktJ24_compareTo_2_0 := by decide +kernel
theorem dJ24_compareTo_2_0 : decode cJ24_compareTo_2 0 = .ok (.aload_n 0, 1) := dk_42 (dk_at dksJ24_compareTo_2_0 0 rfl rfl)
theorem dJ24_compareTo_2_1 : decode cJ24_compareTo_2 1 = .ok (.getfield 205, 3) := dk_180 0 205 (dk_at dksJ24_compareTo_2_0 1 rfl rfl)
theorem dJ24_compareTo_2_4 : decode cJ24_compareTo_2 4 = .ok (.aload_n 1, 1) := dk_43 (dk_at dksJ24_compareTo_2_0 4 rfl rfl)
theorem dJ24_compareTo_2_5 : decode cJ24_compareTo_2 5 = .ok (.getfield 205, 3) := dk_180 0 205 (dk_at dksJ24_compareTo_2_0 5 rfl rfl)
theorem dJ24_compareTo_2_8 : decode cJ24_compareTo_2 8 = .ok (.invokestatic 259, 3) := dk_184 1 3 (dk_at dksJ24_compareTo_2_0 8 rfl rfl)
theorem dJ24_compareTo_2_11 : decode cJ24_compareTo_2 11 = .ok (.ireturn, 1) := dk_172 (dk_at dksJ24_compareTo_2_0 11 rfl rfl)
def dkwJ24_compare_0 : List UInt8 := [26, 27, 162, 0, 7, 2, 167, 0, 13, 26, 27, 160, 0, 7, 3, 167, 0, 4, 4, 172]
abbrev dktJ24_compare_0 : List UInt8 := dkwJ24_compare_0 ++ []
theorem dksJ24_compare_0 : cJ24_compare.data.toList.drop 0 = dktJ24_compare_0 := by decide +kernel
theorem dJ24_compare_0 : decode cJ24_compare 0 = .ok (.iload_n 0, 1) := dk_26 (dk_at dksJ24_compare_0 0 rfl rfl)
theorem dJ24_compare_1 : decode cJ24_compare 1 = .ok (.iload_n 1, 1) := dk_27 (dk_at dksJ24_compare_0 1 rfl rfl)
theorem dJ24_compare_2 : decode cJ24_compare 2 = .ok (.if_icmp .ge 7, 3) := dk_162 0 7 (dk_at dksJ24_compare_0 2 rfl rfl)
theorem dJ24_compare_5 : decode cJ24_compare 5 = .ok (.iconst (-1), 1) := dk_2 (dk_at dksJ24_compare_0 5 rfl rfl)
theorem dJ24_compare_6 : decode cJ24_compare 6 = .ok (.goto 13, 3) := dk_167 0 13 (dk_at dksJ24_compare_0 6 rfl rfl)
theorem dJ24_compare_9 : decode cJ24_compare 9 = .ok (.iload_n 0, 1) := dk_26 (dk_at dksJ24_compare_0 9 rfl rfl)
theorem dJ24_compare_10 : decode cJ24_compare 10 = .ok (.iload_n 1, 1) := dk_27 (dk_at dksJ24_compare_0 10 rfl rfl)
theorem dJ24_compare_11 : decode cJ24_compare 11 = .ok (.if_icmp .ne 7, 3) := dk_160 0 7 (dk_at dksJ24_compare_0 11 rfl rfl)
theorem dJ24_compare_14 : decode cJ24_compare 14 = .ok (.iconst 0, 1) := dk_3 (dk_at dksJ24_compare_0 14 rfl rfl)
theorem dJ24_compare_15 : decode cJ24_compare 15 = .ok (.goto 4, 3) := dk_167 0 4 (dk_at dksJ24_compare_0 15 rfl rfl)
theorem dJ24_compare_18 : decode cJ24_compare 18 = .ok (.iconst 1, 1) := dk_4 (dk_at dksJ24_compare_0 18 rfl rfl)
theorem dJ24_compare_19 : decode cJ24_compare 19 = .ok (.ireturn, 1) := dk_172 (dk_at dksJ24_compare_0 19 rfl rfl)
def dkwJ24_numberOfLeadingZeros_3 : List UInt8 := [5, 124, 59, 27, 26, 4, 124, 100, 172]
abbrev dktJ24_numberOfLeadingZeros_3 : List UInt8 := dkwJ24_numberOfLeadingZeros_3 ++ []
def dkwJ24_numberOfLeadingZeros_2 : List UInt8 := [124, 59, 26, 16, 16, 161, 0, 10, 132, 1, 252, 26, 7, 124, 59, 26, 7, 161, 0, 10, 132, 1, 254, 26]
abbrev dktJ24_numberOfLeadingZeros_2 : List UInt8 := dkwJ24_numberOfLeadingZeros_2 ++ dktJ24_numberOfLeadingZeros_3
def dkwJ24_numberOfLeadingZeros_1 : List UInt8 := [161, 0, 11, 132, 1, 240, 26, 16, 16, 124, 59, 26, 17, 1, 0, 161, 0, 11, 132, 1, 248, 26, 16, 8]
abbrev dktJ24_numberOfLeadingZeros_1 : List UInt8 := dkwJ24_numberOfLeadingZeros_1 ++ dktJ24_numberOfLeadingZeros_2
def dkwJ24_numberOfLeadingZeros_0 : List UInt8 := [26, 157, 0, 14, 26, 154, 0, 8, 16, 32, 167, 0, 4, 3, 172, 16, 31, 60, 26, 19, 1, 8]
abbrev dktJ24_numberOfLeadingZeros_0 : List UInt8 := dkwJ24_numberOfLeadingZeros_0 ++ dktJ24_numberOfLeadingZeros_1
theorem dksJ24_numberOfLeadingZeros_0 : cJ24_numberOfLeadingZeros.data.toList.drop 0 = dktJ24_numberOfLeadingZeros_0 := by decide +kernel
theorem dksJ24_numberOfLeadingZeros_1 : cJ24_numberOfLeadingZeros.data.toList.drop 22 = dktJ24_numberOfLeadingZeros_1 := dk_seg dksJ24_numberOfLeadingZeros_0 22 rfl rfl
theorem dksJ24_numberOfLeadingZeros_2 : cJ24_numberOfLeadingZeros.data.toList.drop 46 = dktJ24_numberOfLeadingZeros_2 := dk_seg dksJ24_numberOfLeadingZeros_1 24 rfl rfl
theorem dksJ24_numberOfLeadingZeros_3 : cJ24_numberOfLeadingZeros.data.toList.drop 70 = dktJ24_numberOfLeadingZeros_3 := dk_seg dksJ24_numberOfLeadingZeros_2 24 rfl rfl
theorem dJ24_numberOfLeadingZeros_0 : decode cJ24_numberOfLeadingZeros 0 = .ok (.iload_n 0, 1) := dk_26 (dk_at dksJ24_numberOfLeadingZeros_0 0 rfl rfl)
theorem dJ24_numberOfLeadingZeros_1 : decode cJ24_numberOfLeadingZeros 1 = .ok (.ifCond .gt 14, 3) := dk_157 0 14 (dk_at dksJ24_numberOfLeadingZeros_0 1 rfl rfl)
theorem dJ24_numberOfLeadingZeros_4 : decode cJ24_numberOfLeadingZeros 4 = .ok (.iload_n 0, 1) := dk_26 (dk_at dksJ24_numberOfLeadingZeros_0 4 rfl rfl)
theorem dJ24_numberOfLeadingZeros_5 : decode cJ24_numberOfLeadingZeros 5 = .ok (.ifCond .ne 8, 3) := dk_154 0 8 (dk_at dksJ24_numberOfLeadingZeros_0 5 rfl rfl)
theorem dJ24_numberOfLeadingZeros_8 : decode cJ24_numberOfLeadingZeros 8 = .ok (.bipush 32, 2) := dk_16 32 (dk_at dksJ24_numberOfLeadingZeros_0 8 rfl rfl)
theorem dJ24_numberOfLeadingZeros_10 : decode cJ24_numberOfLeadingZeros 10 = .ok (.goto 4, 3) := dk_167 0 4 (dk_at dksJ24_numberOfLeadingZeros_0 10 rfl rfl)
theorem dJ24_numberOfLeadingZeros_13 : decode cJ24_numberOfLeadingZeros 13 = .ok (.iconst 0, 1) := dk_3 (dk_at dksJ24_numberOfLeadingZeros_0 13 rfl rfl)
theorem dJ24_numberOfLeadingZeros_14 : decode cJ24_numberOfLeadingZeros 14 = .ok (.ireturn, 1) := dk_172 (dk_at dksJ24_numberOfLeadingZeros_0 14 rfl rfl)
theorem dJ24_numberOfLeadingZeros_15 : decode cJ24_numberOfLeadingZeros 15 = .ok (.bipush 31, 2) := dk_16 31 (dk_at dksJ24_numberOfLeadingZeros_0 15 rfl rfl)
theorem dJ24_numberOfLeadingZeros_17 : decode cJ24_numberOfLeadingZeros 17 = .ok (.istore_n 1, 1) := dk_60 (dk_at dksJ24_numberOfLeadingZeros_0 17 rfl rfl)
theorem dJ24_numberOfLeadingZeros_18 : decode cJ24_numberOfLeadingZeros 18 = .ok (.iload_n 0, 1) := dk_26 (dk_at dksJ24_numberOfLeadingZeros_0 18 rfl rfl)
theorem dJ24_numberOfLeadingZeros_19 : decode cJ24_numberOfLeadingZeros 19 = .ok (.ldc_w 264, 3) := dk_19 1 8 (dk_at dksJ24_numberOfLeadingZeros_0 19 rfl rfl)
theorem dJ24_numberOfLeadingZeros_22 : decode cJ24_numberOfLeadingZeros 22 = .ok (.if_icmp .lt 11, 3) := dk_161 0 11 (dk_at dksJ24_numberOfLeadingZeros_1 0 rfl rfl)
theorem dJ24_numberOfLeadingZeros_25 : decode cJ24_numberOfLeadingZeros 25 = .ok (.iinc 1 (-16), 3) := dk_132 1 240 (dk_at dksJ24_numberOfLeadingZeros_1 3 rfl rfl)
theorem dJ24_numberOfLeadingZeros_28 : decode cJ24_numberOfLeadingZeros 28 = .ok (.iload_n 0, 1) := dk_26 (dk_at dksJ24_numberOfLeadingZeros_1 6 rfl rfl)
theorem dJ24_numberOfLeadingZeros_29 : decode cJ24_numberOfLeadingZeros 29 = .ok (.bipush 16, 2) := dk_16 16 (dk_at dksJ24_numberOfLeadingZeros_1 7 rfl rfl)
theorem dJ24_numberOfLeadingZeros_31 : decode cJ24_numberOfLeadingZeros 31 = .ok (.iushr, 1) := dk_124 (dk_at dksJ24_numberOfLeadingZeros_1 9 rfl rfl)
theorem dJ24_numberOfLeadingZeros_32 : decode cJ24_numberOfLeadingZeros 32 = .ok (.istore_n 0, 1) := dk_59 (dk_at dksJ24_numberOfLeadingZeros_1 10 rfl rfl)
theorem dJ24_numberOfLeadingZeros_33 : decode cJ24_numberOfLeadingZeros 33 = .ok (.iload_n 0, 1) := dk_26 (dk_at dksJ24_numberOfLeadingZeros_1 11 rfl rfl)
theorem dJ24_numberOfLeadingZeros_34 : decode cJ24_numberOfLeadingZeros 34 = .ok (.sipush 256, 3) := dk_17 1 0 (dk_at dksJ24_numberOfLeadingZeros_1 12 rfl rfl)
theorem dJ24_numberOfLeadingZeros_37 : decode cJ24_numberOfLeadingZeros 37 = .ok (.if_icmp .lt 11, 3) := dk_161 0 11 (dk_at dksJ24_numberOfLeadingZeros_1 15 rfl rfl)
theorem dJ24_numberOfLeadingZeros_40 : decode cJ24_numberOfLeadingZeros 40 = .ok (.iinc 1 (-8), 3) := dk_132 1 248 (dk_at dksJ24_numberOfLeadingZeros_1 18 rfl rfl)
theorem dJ24_numberOfLeadingZeros_43 : decode cJ24_numberOfLeadingZeros 43 = .ok (.iload_n 0, 1) := dk_26 (dk_at dksJ24_numberOfLeadingZeros_1 21 rfl rfl)
theorem dJ24_numberOfLeadingZeros_44 : decode cJ24_numberOfLeadingZeros 44 = .ok (.bipush 8, 2) := dk_16 8 (dk_at dksJ24_numberOfLeadingZeros_1 22 rfl rfl)
theorem dJ24_numberOfLeadingZeros_46 : decode cJ24_numberOfLeadingZeros 46 = .ok (.iushr, 1) := dk_124 (dk_at dksJ24_numberOfLeadingZeros_2 0 rfl rfl)
theorem dJ24_numberOfLeadingZeros_47 : decode cJ24_numberOfLeadingZeros 47 = .ok (.istore_n 0, 1) := dk_59 (dk_at dksJ24_numberOfLeadingZeros_2 1 rfl rfl)
theorem dJ24_numberOfLeadingZeros_48 : decode cJ24_numberOfLeadingZeros 48 = .ok (.iload_n 0, 1) := dk_26 (dk_at dksJ24_numberOfLeadingZeros_2 2 rfl rfl)
theorem dJ24_numberOfLeadingZeros_49 : decode cJ24_numberOfLeadingZeros 49 = .ok (.bipush 16, 2) := dk_16 16 (dk_at dksJ24_numberOfLeadingZeros_2 3 rfl rfl)
theorem dJ24_numberOfLeadingZeros_51 : decode cJ24_numberOfLeadingZeros 51 = .ok (.if_icmp .lt 10, 3) := dk_161 0 10 (dk_at dksJ24_numberOfLeadingZeros_2 5 rfl rfl)
theorem dJ24_numberOfLeadingZeros_54 : decode cJ24_numberOfLeadingZeros 54 = .ok (.iinc 1 (-4), 3) := dk_132 1 252 (dk_at dksJ24_numberOfLeadingZeros_2 8 rfl rfl)
theorem dJ24_numberOfLeadingZeros_57 : decode cJ24_numberOfLeadingZeros 57 = .ok (.iload_n 0, 1) := dk_26 (dk_at dksJ24_numberOfLeadingZeros_2 11 rfl rfl)
theorem dJ24_numberOfLeadingZeros_58 : decode cJ24_numberOfLeadingZeros 58 = .ok (.iconst 4, 1) := dk_7 (dk_at dksJ24_numberOfLeadingZeros_2 12 rfl rfl)
theorem dJ24_numberOfLeadingZeros_59 : decode cJ24_numberOfLeadingZeros 59 = .ok (.iushr, 1) := dk_124 (dk_at dksJ24_numberOfLeadingZeros_2 13 rfl rfl)
theorem dJ24_numberOfLeadingZeros_60 : decode cJ24_numberOfLeadingZeros 60 = .ok (.istore_n 0, 1) := dk_59 (dk_at dksJ24_numberOfLeadingZeros_2 14 rfl rfl)
theorem dJ24_numberOfLeadingZeros_61 : decode cJ24_numberOfLeadingZeros 61 = .ok (.iload_n 0, 1) := dk_26 (dk_at dksJ24_numberOfLeadingZeros_2 15 rfl rfl)
theorem dJ24_numberOfLeadingZeros_62 : decode cJ24_numberOfLeadingZeros 62 = .ok (.iconst 4, 1) := dk_7 (dk_at dksJ24_numberOfLeadingZeros_2 16 rfl rfl)
theorem dJ24_numberOfLeadingZeros_63 : decode cJ24_numberOfLeadingZeros 63 = .ok (.if_icmp .lt 10, 3) := dk_161 0 10 (dk_at dksJ24_numberOfLeadingZeros_2 17 rfl rfl)
theorem dJ24_numberOfLeadingZeros_66 : decode cJ24_numberOfLeadingZeros 66 = .ok (.iinc 1 (-2), 3) := dk_132 1 254 (dk_at dksJ24_numberOfLeadingZeros_2 20 rfl rfl)
theorem dJ24_numberOfLeadingZeros_69 : decode cJ24_numberOfLeadingZeros 69 = .ok (.iload_n 0, 1) := dk_26 (dk_at dksJ24_numberOfLeadingZeros_2 23 rfl rfl)
theorem dJ24_numberOfLeadingZeros_70 : decode cJ24_numberOfLeadingZeros 70 = .ok (.iconst 2, 1) := dk_5 (dk_at dksJ24_numberOfLeadingZeros_3 0 rfl rfl)
theorem dJ24_numberOfLeadingZeros_71 : decode cJ24_numberOfLeadingZeros 71 = .ok (.iushr, 1) := dk_124 (dk_at dksJ24_numberOfLeadingZeros_3 1 rfl rfl)
theorem dJ24_numberOfLeadingZeros_72 : decode cJ24_numberOfLeadingZeros 72 = .ok (.istore_n 0, 1) := dk_59 (dk_at dksJ24_numberOfLeadingZeros_3 2 rfl rfl)
theorem dJ24_numberOfLeadingZeros_73 : decode cJ24_numberOfLeadingZeros 73 = .ok (.iload_n 1, 1) := dk_27 (dk_at dksJ24_numberOfLeadingZeros_3 3 rfl rfl)
theorem dJ24_numberOfLeadingZeros_74 : decode cJ24_numberOfLeadingZeros 74 = .ok (.iload_n 0, 1) := dk_26 (dk_at dksJ24_numberOfLeadingZeros_3 4 rfl rfl)
theorem dJ24_numberOfLeadingZeros_75 : decode cJ24_numberOfLeadingZeros 75 = .ok (.iconst 1, 1) := dk_4 (dk_at dksJ24_numberOfLeadingZeros_3 5 rfl rfl)
theorem dJ24_numberOfLeadingZeros_76 : decode cJ24_numberOfLeadingZeros 76 = .ok (.iushr, 1) := dk_124 (dk_at dksJ24_numberOfLeadingZeros_3 6 rfl rfl)
theorem dJ24_numberOfLeadingZeros_77 : decode cJ24_numberOfLeadingZeros 77 = .ok (.isub, 1) := dk_100 (dk_at dksJ24_numberOfLeadingZeros_3 7 rfl rfl)
theorem dJ24_numberOfLeadingZeros_78 : decode cJ24_numberOfLeadingZeros 78 = .ok (.ireturn, 1) := dk_172 (dk_at dksJ24_numberOfLeadingZeros_3 8 rfl rfl)
def dkwJ25_init_1 : List UInt8 := [182, 0, 27, 87, 177]
abbrev dktJ25_init_1 : List UInt8 := dkwJ25_init_1 ++ []
def dkwJ25_init_0 : List UInt8 := [42, 183, 0, 1, 42, 42, 181, 0, 7, 42, 178, 0, 13, 181, 0, 17, 42, 178, 0, 20, 181, 0, 24, 42]
abbrev dktJ25_init_0 : List UInt8 := dkwJ25_init_0 ++ dktJ25_init_1
theorem dksJ25_init_0 : cJ25_init.data.toList.drop 0 = dktJ25_init_0 := by decide +kernel
theorem dksJ25_init_1 : cJ25_init.data.toList.drop 24 = dktJ25_init_1 := dk_seg dksJ25_init_0 24 rfl rfl
theorem dJ25_init_0 : decode cJ25_init 0 = .ok (.aload_n 0, 1) := dk_42 (dk_at dksJ25_init_0 0 rfl rfl)
theorem dJ25_init_1 : decode cJ25_init 1 = .ok (.invokespecial 1, 3) := dk_183 0 1 (dk_at dksJ25_init_0 1 rfl rfl)
theorem dJ25_init_4 : decode cJ25_init 4 = .ok (.aload_n 0, 1) := dk_42 (dk_at dksJ25_init_0 4 rfl rfl)
theorem dJ25_init_5 : decode cJ25_init 5 = .ok (.aload_n 0, 1) := dk_42 (dk_at dksJ25_init_0 5 rfl rfl)
theorem dJ25_init_6 : decode cJ25_init 6 = .ok (.putfield 7, 3) := dk_181 0 7 (dk_at dksJ25_init_0 6 rfl rfl)
theorem dJ25_init_9 : decode cJ25_init 9 = .ok (.aload_n 0, 1) := dk_42 (dk_at dksJ25_init_0 9 rfl rfl)
theorem dJ25_init_10 : decode cJ25_init 10 = .ok (.getstatic 13, 3) := dk_178 0 13 (dk_at dksJ25_init_0 10 rfl rfl)
theorem dJ25_init_13 : decode cJ25_init 13 = .ok (.putfield 17, 3) := dk_181 0 17 (dk_at dksJ25_init_0 13 rfl rfl)
theorem dJ25_init_16 : decode cJ25_init 16 = .ok (.aload_n 0, 1) := dk_42 (dk_at dksJ25_init_0 16 rfl rfl)
theorem dJ25_init_17 : decode cJ25_init 17 = .ok (.getstatic 20, 3) := dk_178 0 20 (dk_at dksJ25_init_0 17 rfl rfl)
theorem dJ25_init_20 : decode cJ25_init 20 = .ok (.putfield 24, 3) := dk_181 0 24 (dk_at dksJ25_init_0 20 rfl rfl)
theorem dJ25_init_23 : decode cJ25_init 23 = .ok (.aload_n 0, 1) := dk_42 (dk_at dksJ25_init_0 23 rfl rfl)
theorem dJ25_init_24 : decode cJ25_init 24 = .ok (.invokevirtual 27, 3) := dk_182 0 27 (dk_at dksJ25_init_1 0 rfl rfl)
theorem dJ25_init_27 : decode cJ25_init 27 = .ok (.pop, 1) := dk_87 (dk_at dksJ25_init_1 3 rfl rfl)
theorem dJ25_init_28 : decode cJ25_init 28 = .ok (.return_, 1) := dk_177 (dk_at dksJ25_init_1 4 rfl rfl)
def dkwJ25_init_2_1 : List UInt8 := [182, 0, 27, 87, 42, 43, 181, 0, 31, 177]
abbrev dktJ25_init_2_1 : List UInt8 := dkwJ25_init_2_1 ++ []
def dkwJ25_init_2_0 : List UInt8 := [42, 183, 0, 1, 42, 42, 181, 0, 7, 42, 178, 0, 13, 181, 0, 17, 42, 178, 0, 20, 181, 0, 24, 42]
abbrev dktJ25_init_2_0 : List UInt8 := dkwJ25_init_2_0 ++ dktJ25_init_2_1
theorem dksJ25_init_2_0 : cJ25_init_2.data.toList.drop 0 = dktJ25_init_2_0 := by decide +kernel
theorem dksJ25_init_2_1 : cJ25_init_2.data.toList.drop 24 = dktJ25_init_2_1 := dk_seg dksJ25_init_2_0 24 rfl rfl
theorem dJ25_init_2_0 : decode cJ25_init_2 0 = .ok (.aload_n 0, 1) := dk_42 (dk_at dksJ25_init_2_0 0 rfl rfl)
theorem dJ25_init_2_1 : decode cJ25_init_2 1 = .ok (.invokespecial 1, 3) := dk_183 0 1 (dk_at dksJ25_init_2_0 1 rfl rfl)
theorem dJ25_init_2_4 : decode cJ25_init_2 4 = .ok (.aload_n 0, 1) := dk_42 (dk_at dksJ25_init_2_0 4 rfl rfl)
theorem dJ25_init_2_5 : decode cJ25_init_2 5 = .ok (.aload_n 0, 1) := dk_42 (dk_at dksJ25_init_2_0 5 rfl rfl)
theorem dJ25_init_2_6 : decode cJ25_init_2 6 = .ok (.putfield 7, 3) := dk_181 0 7 (dk_at dksJ25_init_2_0 6 rfl rfl)
theorem dJ25_init_2_9 : decode cJ25_init_2 9 = .ok (.aload_n 0, 1) := dk_42 (dk_at dksJ25_init_2_0 9 rfl rfl)
theorem dJ25_init_2_10 : decode cJ25_init_2 10 = .ok (.getstatic 13, 3) := dk_178 0 13 (dk_at dksJ25_init_2_0 10 rfl rfl)
theorem dJ25_init_2_13 : decode cJ25_init_2 13 = .ok (.putfield 17, 3) := dk_181 0 17 (dk_at dksJ25_init_2_0 13 rfl rfl)
theorem dJ25_init_2_16 : decode cJ25_init_2 16 = .ok (.aload_n 0, 1) := dk_42 (dk_at dksJ25_init_2_0 16 rfl rfl)
theorem dJ25_init_2_17 : decode cJ25_init_2 17 = .ok (.getstatic 20, 3) := dk_178 0 20 (dk_at dksJ25_init_2_0 17 rfl rfl)
theorem dJ25_init_2_20 : decode cJ25_init_2 20 = .ok (.putfield 24, 3) := dk_181 0 24 (dk_at dksJ25_init_2_0 20 rfl rfl)
theorem dJ25_init_2_23 : decode cJ25_init_2 23 = .ok (.aload_n 0, 1) := dk_42 (dk_at dksJ25_init_2_0 23 rfl rfl)
theorem dJ25_init_2_24 : decode cJ25_init_2 24 = .ok (.invokevirtual 27, 3) := dk_182 0 27 (dk_at dksJ25_init_2_1 0 rfl rfl)
theorem dJ25_init_2_27 : decode cJ25_init_2 27 = .ok (.pop, 1) := dk_87 (dk_at dksJ25_init_2_1 3 rfl rfl)
theorem dJ25_init_2_28 : decode cJ25_init_2 28 = .ok (.aload_n 0, 1) := dk_42 (dk_at dksJ25_init_2_1 4 rfl rfl)
theorem dJ25_init_2_29 : decode cJ25_init_2 29 = .ok (.aload_n 1, 1) := dk_43 (dk_at dksJ25_init_2_1 5 rfl rfl)
theorem dJ25_init_2_30 : decode cJ25_init_2 30 = .ok (.putfield 31, 3) := dk_181 0 31 (dk_at dksJ25_init_2_1 6 rfl rfl)
theorem dJ25_init_2_33 : decode cJ25_init_2 33 = .ok (.return_, 1) := dk_177 (dk_at dksJ25_init_2_1 9 rfl rfl)
def dkwJ25_init_3_2 : List UInt8 := [44, 181, 0, 7, 29, 154, 0, 8, 42, 1, 181, 0, 24, 177]
abbrev dktJ25_init_3_2 : List UInt8 := dkwJ25_init_3_2 ++ []
def dkwJ25_init_3_1 : List UInt8 := [21, 4, 153, 0, 11, 42, 182, 0, 27, 87, 167, 0, 8, 42, 1, 181, 0, 17, 42, 43, 181, 0, 31, 42]
abbrev dktJ25_init_3_1 : List UInt8 := dkwJ25_init_3_1 ++ dktJ25_init_3_2
def dkwJ25_init_3_0 : List UInt8 := [42, 183, 0, 1, 42, 42, 181, 0, 7, 42, 178, 0, 13, 181, 0, 17, 42, 178, 0, 20, 181, 0, 24]
abbrev dktJ25_init_3_0 : List UInt8 := dkwJ25_init_3_0 ++ dktJ25_init_3_1
theorem dksJ25_init_3_0 : cJ25_init_3.data.toList.drop 0 = dktJ25_init_3_0 := by decide +kernel
theorem dksJ25_init_3_1 : cJ25_init_3.data.toList.drop 23 = dktJ25_init_3_1 := dk_seg dksJ25_init_3_0 23 rfl rfl
theorem dksJ25_init_3_2 : cJ25_init_3.data.toList.drop 47 = dktJ25_init_3_2 := dk_seg dksJ25_init_3_1 24 rfl rfl
theorem dJ25_init_3_0 : decode cJ25_init_3 0 = .ok (.aload_n 0, 1) := dk_42 (dk_at dksJ25_init_3_0 0 rfl rfl)
theorem dJ25_init_3_1 : decode cJ25_init_3 1 = .ok (.invokespecial 1, 3) := dk_183 0 1 (dk_at dksJ25_init_3_0 1 rfl rfl)
theorem dJ25_init_3_4 : decode cJ25_init_3 4 = .ok (.aload_n 0, 1) := dk_42 (dk_at dksJ25_init_3_0 4 rfl rfl)
theorem dJ25_init_3_5 : decode cJ25_init_3 5 = .ok (.aload_n 0, 1) := dk_42 (dk_at dksJ25_init_3_0 5 rfl rfl)
theorem dJ25_init_3_6 : decode cJ25_init_3 6 = .ok (.putfield 7, 3) := dk_181 0 7 (dk_at dksJ25_init_3_0 6 rfl rfl)
theorem dJ25_init_3_9 : decode cJ25_init_3 9 = .ok (.aload_n 0, 1) := dk_42 (dk_at dksJ25_init_3_0 9 rfl rfl)
theorem dJ25_init_3_10 : decode cJ25_init_3 10 = .ok (.getstatic 13, 3) := dk_178 0 13 (dk_at dksJ25_init_3_0 10 rfl rfl)
theorem dJ25_init_3_13 : decode cJ25_init_3 13 = .ok (.putfield 17, 3) := dk_181 0 17 (dk_at dksJ25_init_3_0 13 rfl rfl)
theorem dJ25_init_3_16 : decode cJ25_init_3 16 = .ok (.aload_n 0, 1) := dk_42 (dk_at dksJ25_init_3_0 16 rfl rfl)
theorem dJ25_init_3_17 : decode cJ25_init_3 17 = .ok (.getstatic 20, 3) := dk_178 0 20 (dk_at dksJ25_init_3_0 17 rfl rfl)
theorem dJ25_init_3_20 : decode cJ25_init_3 20 = .ok (.putfield 24, 3) := dk_181 0 24 (dk_at dksJ25_init_3_0 20 rfl rfl)
theorem dJ25_init_3_23 : decode cJ25_init_3 23 = .ok (.iload 4, 2) := dk_21 4 (dk_at dksJ25_init_3_1 0 rfl rfl)
theorem dJ25_init_3_25 : decode cJ25_init_3 25 = .ok (.ifCond .eq 11, 3) := dk_153 0 11 (dk_at dksJ25_init_3_1 2 rfl rfl)
theorem dJ25_init_3_28 : decode cJ25_init_3 28 = .ok (.aload_n 0, 1) := dk_42 (dk_at dksJ25_init_3_1 5 rfl rfl)
theorem dJ25_init_3_29 : decode cJ25_init_3 29 = .ok (.invokevirtual 27, 3) := dk_182 0 27 (dk_at dksJ25_init_3_1 6 rfl rfl)
theorem dJ25_init_3_32 : decode cJ25_init_3 32 = .ok (.pop, 1) := dk_87 (dk_at dksJ25_init_3_1 9 rfl rfl)
theorem dJ25_init_3_33 : decode cJ25_init_3 33 = .ok (.goto 8, 3) := dk_167 0 8 (dk_at dksJ25_init_3_1 10 rfl rfl)
theorem dJ25_init_3_36 : decode cJ25_init_3 36 = .ok (.aload_n 0, 1) := dk_42 (dk_at dksJ25_init_3_1 13 rfl rfl)
theorem dJ25_init_3_37 : decode cJ25_init_3 37 = .ok (.aconst_null, 1) := dk_1 (dk_at dksJ25_init_3_1 14 rfl rfl)
theorem dJ25_init_3_38 : decode cJ25_init_3 38 = .ok (.putfield 17, 3) := dk_181 0 17 (dk_at dksJ25_init_3_1 15 rfl rfl)
theorem dJ25_init_3_41 : decode cJ25_init_3 41 = .ok (.aload_n 0, 1) := dk_42 (dk_at dksJ25_init_3_1 18 rfl rfl)
theorem dJ25_init_3_42 : decode cJ25_init_3 42 = .ok (.aload_n 1, 1) := dk_43 (dk_at dksJ25_init_3_1 19 rfl rfl)
theorem dJ25_init_3_43 : decode cJ25_init_3 43 = .ok (.putfield 31, 3) := dk_181 0 31 (dk_at dksJ25_init_3_1 20 rfl rfl)
theorem dJ25_init_3_46 : decode cJ25_init_3 46 = .ok (.aload_n 0, 1) := dk_42 (dk_at dksJ25_init_3_1 23 rfl rfl)
theorem dJ25_init_3_47 : decode cJ25_init_3 47 = .ok (.aload_n 2, 1) := dk_44 (dk_at dksJ25_init_3_2 0 rfl rfl)
theorem dJ25_init_3_48 : decode cJ25_init_3 48 = .ok (.putfield 7, 3) := dk_181 0 7 (dk_at dksJ25_init_3_2 1 rfl rfl)
theorem dJ25_init_3_51 : decode cJ25_init_3 51 = .ok (.iload_n 3, 1) := dk_29 (dk_at dksJ25_init_3_2 4 rfl rfl)
theorem dJ25_init_3_52 : decode cJ25_init_3 52 = .ok (.ifCond .ne 8, 3) := dk_154 0 8 (dk_at dksJ25_init_3_2 5 rfl rfl)
theorem dJ25_init_3_55 : decode cJ25_init_3 55 = .ok (.aload_n 0, 1) := dk_42 (dk_at dksJ25_init_3_2 8 rfl rfl)
theorem dJ25_init_3_56 : decode cJ25_init_3 56 = .ok (.aconst_null, 1) := dk_1 (dk_at dksJ25_init_3_2 9 rfl rfl)
theorem dJ25_init_3_57 : decode cJ25_init_3 57 = .ok (.putfield 24, 3) := dk_181 0 24 (dk_at dksJ25_init_3_2 10 rfl rfl)
theorem dJ25_init_3_60 : decode cJ25_init_3 60 = .ok (.return_, 1) := dk_177 (dk_at dksJ25_init_3_2 13 rfl rfl)
theorem dJ26_init_0 : decode cJ26_init 0 = .ok (.aload_n 0, 1) := by decide +kernel
theorem dJ26_init_1 : decode cJ26_init 1 = .ok (.invokespecial 1, 3) := by decide +kernel
theorem dJ26_init_4 : decode cJ26_init 4 = .ok (.return_, 1) := by decide +kernel
def dkwJ26_init_2_0 : List UInt8 := [42, 43, 183, 0, 7, 177]
abbrev dktJ26_init_2_0 : List UInt8 := dkwJ26_init_2_0 ++ []
theorem dksJ26_init_2_0 : cJ26_init_2.data.toList.drop 0 = dktJ26_init_2_0 := by decide +kernel
theorem dJ26_init_2_0 : decode cJ26_init_2 0 = .ok (.aload_n 0, 1) := dk_42 (dk_at dksJ26_init_2_0 0 rfl rfl)
theorem dJ26_init_2_1 : decode cJ26_init_2 1 = .ok (.aload_n 1, 1) := dk_43 (dk_at dksJ26_init_2_0 1 rfl rfl)
theorem dJ26_init_2_2 : decode cJ26_init_2 2 = .ok (.invokespecial 7, 3) := dk_183 0 7 (dk_at dksJ26_init_2_0 2 rfl rfl)
theorem dJ26_init_2_5 : decode cJ26_init_2 5 = .ok (.return_, 1) := dk_177 (dk_at dksJ26_init_2_0 5 rfl rfl)
def dkwJ26_init_3_0 : List UInt8 := [42, 43, 44, 29, 21, 4, 183, 0, 16, 177]
abbrev dktJ26_init_3_0 : List UInt8 := dkwJ26_init_3_0 ++ []
theorem dksJ26_init_3_0 : cJ26_init_3.data.toList.drop 0 = dktJ26_init_3_0 := by decide +kernel
theorem dJ26_init_3_0 : decode cJ26_init_3 0 = .ok (.aload_n 0, 1) := dk_42 (dk_at dksJ26_init_3_0 0 rfl rfl)
theorem dJ26_init_3_1 : decode cJ26_init_3 1 = .ok (.aload_n 1, 1) := dk_43 (dk_at dksJ26_init_3_0 1 rfl rfl)
theorem dJ26_init_3_2 : decode cJ26_init_3 2 = .ok (.aload_n 2, 1) := dk_44 (dk_at dksJ26_init_3_0 2 rfl rfl)
theorem dJ26_init_3_3 : decode cJ26_init_3 3 = .ok (.iload_n 3, 1) := dk_29 (dk_at dksJ26_init_3_0 3 rfl rfl)
theorem dJ26_init_3_4 : decode cJ26_init_3 4 = .ok (.iload 4, 2) := dk_21 4 (dk_at dksJ26_init_3_0 4 rfl rfl)
theorem dJ26_init_3_6 : decode cJ26_init_3 6 = .ok (.invokespecial 16, 3) := dk_183 0 16 (dk_at dksJ26_init_3_0 6 rfl rfl)
theorem dJ26_init_3_9 : decode cJ26_init_3 9 = .ok (.return_, 1) := dk_177 (dk_at dksJ26_init_3_0 9 rfl rfl)
theorem dJ27_init_0 : decode cJ27_init 0 = .ok (.aload_n 0, 1) := by decide +kernel
theorem dJ27_init_1 : decode cJ27_init 1 = .ok (.invokespecial 1, 3) := by decide +kernel
theorem dJ27_init_4 : decode cJ27_init 4 = .ok (.return_, 1) := by decide +kernel
def dkwJ27_init_2_0 : List UInt8 := [42, 43, 183, 0, 7, 177]
abbrev dktJ27_init_2_0 : List UInt8 := dkwJ27_init_2_0 ++ []
theorem dksJ27_init_2_0 : cJ27_init_2.data.toList.drop 0 = dktJ27_init_2_0 := by decide +kernel
theorem dJ27_init_2_0 : decode cJ27_init_2 0 = .ok (.aload_n 0, 1) := dk_42 (dk_at dksJ27_init_2_0 0 rfl rfl)
theorem dJ27_init_2_1 : decode cJ27_init_2 1 = .ok (.aload_n 1, 1) := dk_43 (dk_at dksJ27_init_2_0 1 rfl rfl)
theorem dJ27_init_2_2 : decode cJ27_init_2 2 = .ok (.invokespecial 7, 3) := dk_183 0 7 (dk_at dksJ27_init_2_0 2 rfl rfl)
theorem dJ27_init_2_5 : decode cJ27_init_2 5 = .ok (.return_, 1) := dk_177 (dk_at dksJ27_init_2_0 5 rfl rfl)
theorem dJ28_init_0 : decode cJ28_init 0 = .ok (.aload_n 0, 1) := by decide +kernel
theorem dJ28_init_1 : decode cJ28_init 1 = .ok (.invokespecial 1, 3) := by decide +kernel
theorem dJ28_init_4 : decode cJ28_init 4 = .ok (.return_, 1) := by decide +kernel
def dkwJ29_init_0 : List UInt8 := [42, 43, 183, 0, 7, 177]
abbrev dktJ29_init_0 : List UInt8 := dkwJ29_init_0 ++ []
theorem dksJ29_init_0 : cJ29_init.data.toList.drop 0 = dktJ29_init_0 := by decide +kernel
theorem dJ29_init_0 : decode cJ29_init 0 = .ok (.aload_n 0, 1) := dk_42 (dk_at dksJ29_init_0 0 rfl rfl)
theorem dJ29_init_1 : decode cJ29_init 1 = .ok (.aload_n 1, 1) := dk_43 (dk_at dksJ29_init_0 1 rfl rfl)
theorem dJ29_init_2 : decode cJ29_init 2 = .ok (.invokespecial 7, 3) := dk_183 0 7 (dk_at dksJ29_init_0 2 rfl rfl)
theorem dJ29_init_5 : decode cJ29_init 5 = .ok (.return_, 1) := dk_177 (dk_at dksJ29_init_0 5 rfl rfl)
theorem dJ29_init_2_0 : decode cJ29_init_2 0 = .ok (.aload_n 0, 1) := by decide +kernel
theorem dJ29_init_2_1 : decode cJ29_init_2 1 = .ok (.invokespecial 1, 3) := by decide +kernel
theorem dJ29_init_2_4 : decode cJ29_init_2 4 = .ok (.return_, 1) := by decide +kernel
def dkwJ30_newLength_1 : List UInt8 := [184, 0, 201, 172]
abbrev dktJ30_newLength_1 : List UInt8 := dkwJ30_newLength_1 ++ []
def dkwJ30_newLength_0 : List UInt8 := [26, 27, 28, 184, 0, 194, 96, 62, 3, 29, 162, 0, 11, 29, 18, 200, 163, 0, 5, 29, 172, 26, 27]
abbrev dktJ30_newLength_0 : List UInt8 := dkwJ30_newLength_0 ++ dktJ30_newLength_1
theorem dksJ30_newLength_0 : cJ30_newLength.data.toList.drop 0 = dktJ30_newLength_0 := by decide +kernel
theorem dksJ30_newLength_1 : cJ30_newLength.data.toList.drop 23 = dktJ30_newLength_1 := dk_seg dksJ30_newLength_0 23 rfl rfl
theorem dJ30_newLength_0 : decode cJ30_newLength 0 = .ok (.iload_n 0, 1) := dk_26 (dk_at dksJ30_newLength_0 0 rfl rfl)
theorem dJ30_newLength_1 : decode cJ30_newLength 1 = .ok (.iload_n 1, 1) := dk_27 (dk_at dksJ30_newLength_0 1 rfl rfl)
theorem dJ30_newLength_2 : decode cJ30_newLength 2 = .ok (.iload_n 2, 1) := dk_28 (dk_at dksJ30_newLength_0 2 rfl rfl)
theorem dJ30_newLength_3 : decode cJ30_newLength 3 = .ok (.invokestatic 194, 3) := dk_184 0 194 (dk_at dksJ30_newLength_0 3 rfl rfl)
theorem dJ30_newLength_6 : decode cJ30_newLength 6 = .ok (.iadd, 1) := dk_96 (dk_at dksJ30_newLength_0 6 rfl rfl)
theorem dJ30_newLength_7 : decode cJ30_newLength 7 = .ok (.istore_n 3, 1) := dk_62 (dk_at dksJ30_newLength_0 7 rfl rfl)
theorem dJ30_newLength_8 : decode cJ30_newLength 8 = .ok (.iconst 0, 1) := dk_3 (dk_at dksJ30_newLength_0 8 rfl rfl)
theorem dJ30_newLength_9 : decode cJ30_newLength 9 = .ok (.iload_n 3, 1) := dk_29 (dk_at dksJ30_newLength_0 9 rfl rfl)
theorem dJ30_newLength_10 : decode cJ30_newLength 10 = .ok (.if_icmp .ge 11, 3) := dk_162 0 11 (dk_at dksJ30_newLength_0 10 rfl rfl)
theorem dJ30_newLength_13 : decode cJ30_newLength 13 = .ok (.iload_n 3, 1) := dk_29 (dk_at dksJ30_newLength_0 13 rfl rfl)
theorem dJ30_newLength_14 : decode cJ30_newLength 14 = .ok (.ldc 200, 2) := dk_18 200 (dk_at dksJ30_newLength_0 14 rfl rfl)
theorem dJ30_newLength_16 : decode cJ30_newLength 16 = .ok (.if_icmp .gt 5, 3) := dk_163 0 5 (dk_at dksJ30_newLength_0 16 rfl rfl)
theorem dJ30_newLength_19 : decode cJ30_newLength 19 = .ok (.iload_n 3, 1) := dk_29 (dk_at dksJ30_newLength_0 19 rfl rfl)
theorem dJ30_newLength_20 : decode cJ30_newLength 20 = .ok (.ireturn, 1) := dk_172 (dk_at dksJ30_newLength_0 20 rfl rfl)
theorem dJ30_newLength_21 : decode cJ30_newLength 21 = .ok (.iload_n 0, 1) := dk_26 (dk_at dksJ30_newLength_0 21 rfl rfl)
theorem dJ30_newLength_22 : decode cJ30_newLength 22 = .ok (.iload_n 1, 1) := dk_27 (dk_at dksJ30_newLength_0 22 rfl rfl)
theorem dJ30_newLength_23 : decode cJ30_newLength 23 = .ok (.invokestatic 201, 3) := dk_184 0 201 (dk_at dksJ30_newLength_1 0 rfl rfl)
theorem dJ30_newLength_26 : decode cJ30_newLength 26 = .ok (.ireturn, 1) := dk_172 (dk_at dksJ30_newLength_1 3 rfl rfl)
def dkwJ30_hugeLength_2 : List UInt8 := [191, 28, 18, 200, 163, 0, 6, 18, 200, 172, 28, 172]
abbrev dktJ30_hugeLength_2 : List UInt8 := dkwJ30_hugeLength_2 ++ []
def dkwJ30_hugeLength_1 : List UInt8 := [26, 182, 0, 98, 18, 208, 182, 0, 94, 27, 182, 0, 98, 18, 210, 182, 0, 94, 182, 0, 101, 183, 0, 212]
abbrev dktJ30_hugeLength_1 : List UInt8 := dkwJ30_hugeLength_1 ++ dktJ30_hugeLength_2
def dkwJ30_hugeLength_0 : List UInt8 := [26, 27, 96, 61, 28, 156, 0, 44, 187, 0, 204, 89, 187, 0, 89, 89, 183, 0, 91, 18, 206, 182, 0, 94]
abbrev dktJ30_hugeLength_0 : List UInt8 := dkwJ30_hugeLength_0 ++ dktJ30_hugeLength_1
theorem dksJ30_hugeLength_0 : cJ30_hugeLength.data.toList.drop 0 = dktJ30_hugeLength_0 := by decide +kernel
theorem dksJ30_hugeLength_1 : cJ30_hugeLength.data.toList.drop 24 = dktJ30_hugeLength_1 := dk_seg dksJ30_hugeLength_0 24 rfl rfl
theorem dksJ30_hugeLength_2 : cJ30_hugeLength.data.toList.drop 48 = dktJ30_hugeLength_2 := dk_seg dksJ30_hugeLength_1 24 rfl rfl
theorem dJ30_hugeLength_0 : decode cJ30_hugeLength 0 = .ok (.iload_n 0, 1) := dk_26 (dk_at dksJ30_hugeLength_0 0 rfl rfl)
theorem dJ30_hugeLength_1 : decode cJ30_hugeLength 1 = .ok (.iload_n 1, 1) := dk_27 (dk_at dksJ30_hugeLength_0 1 rfl rfl)
theorem dJ30_hugeLength_2 : decode cJ30_hugeLength 2 = .ok (.iadd, 1) := dk_96 (dk_at dksJ30_hugeLength_0 2 rfl rfl)
theorem dJ30_hugeLength_3 : decode cJ30_hugeLength 3 = .ok (.istore_n 2, 1) := dk_61 (dk_at dksJ30_hugeLength_0 3 rfl rfl)
theorem dJ30_hugeLength_4 : decode cJ30_hugeLength 4 = .ok (.iload_n 2, 1) := dk_28 (dk_at dksJ30_hugeLength_0 4 rfl rfl)
theorem dJ30_hugeLength_5 : decode cJ30_hugeLength 5 = .ok (.ifCond .ge 44, 3) := dk_156 0 44 (dk_at dksJ30_hugeLength_0 5 rfl rfl)
theorem dJ30_hugeLength_8 : decode cJ30_hugeLength 8 = .ok (.new 204, 3) := dk_187 0 204 (dk_at dksJ30_hugeLength_0 8 rfl rfl)
theorem dJ30_hugeLength_11 : decode cJ30_hugeLength 11 = .ok (.dup, 1) := dk_89 (dk_at dksJ30_hugeLength_0 11 rfl rfl)
theorem dJ30_hugeLength_12 : decode cJ30_hugeLength 12 = .ok (.new 89, 3) := dk_187 0 89 (dk_at dksJ30_hugeLength_0 12 rfl rfl)
theorem dJ30_hugeLength_15 : decode cJ30_hugeLength 15 = .ok (.dup, 1) := dk_89 (dk_at dksJ30_hugeLength_0 15 rfl rfl)
theorem dJ30_hugeLength_16 : decode cJ30_hugeLength 16 = .ok (.invokespecial 91, 3) := dk_183 0 91 (dk_at dksJ30_hugeLength_0 16 rfl rfl)
theorem dJ30_hugeLength_19 : decode cJ30_hugeLength 19 = .ok (.ldc 206, 2) := dk_18 206 (dk_at dksJ30_hugeLength_0 19 rfl rfl)
theorem dJ30_hugeLength_21 : decode cJ30_hugeLength 21 = .ok (.invokevirtual 94, 3) := dk_182 0 94 (dk_at dksJ30_hugeLength_0 21 rfl rfl)
theorem dJ30_hugeLength_24 : decode cJ30_hugeLength 24 = .ok (.iload_n 0, 1) := dk_26 (dk_at dksJ30_hugeLength_1 0 rfl rfl)
theorem dJ30_hugeLength_25 : decode cJ30_hugeLength 25 = .ok (.invokevirtual 98, 3) := dk_182 0 98 (dk_at dksJ30_hugeLength_1 1 rfl rfl)
theorem dJ30_hugeLength_28 : decode cJ30_hugeLength 28 = .ok (.ldc 208, 2) := dk_18 208 (dk_at dksJ30_hugeLength_1 4 rfl rfl)
theorem dJ30_hugeLength_30 : decode cJ30_hugeLength 30 = .ok (.invokevirtual 94, 3) := dk_182 0 94 (dk_at dksJ30_hugeLength_1 6 rfl rfl)
theorem dJ30_hugeLength_33 : decode cJ30_hugeLength 33 = .ok (.iload_n 1, 1) := dk_27 (dk_at dksJ30_hugeLength_1 9 rfl rfl)
theorem dJ30_hugeLength_34 : decode cJ30_hugeLength 34 = .ok (.invokevirtual 98, 3) := dk_182 0 98 (dk_at dksJ30_hugeLength_1 10 rfl rfl)
theorem dJ30_hugeLength_37 : decode cJ30_hugeLength 37 = .ok (.ldc 210, 2) := dk_18 210 (dk_at dksJ30_hugeLength_1 13 rfl rfl)
theorem dJ30_hugeLength_39 : decode cJ30_hugeLength 39 = .ok (.invokevirtual 94, 3) := dk_182 0 94 (dk_at dksJ30_hugeLength_1 15 rfl rfl)
theorem dJ30_hugeLength_42 : decode cJ30_hugeLength 42 = .ok (.invokevirtual 101, 3) := dk_182 0 101 (dk_at dksJ30_hugeLength_1 18 rfl rfl)
theorem dJ30_hugeLength_45 : decode cJ30_hugeLength 45 = .ok (.invokespecial 212, 3) := dk_183 0 212 (dk_at dksJ30_hugeLength_1 21 rfl rfl)
theorem dJ30_hugeLength_48 : decode cJ30_hugeLength 48 = .ok (.athrow, 1) := dk_191 (dk_at dksJ30_hugeLength_2 0 rfl rfl)
theorem dJ30_hugeLength_49 : decode cJ30_hugeLength 49 = .ok (.iload_n 2, 1) := dk_28 (dk_at dksJ30_hugeLength_2 1 rfl rfl)
theorem dJ30_hugeLength_50 : decode cJ30_hugeLength 50 = .ok (.ldc 200, 2) := dk_18 200 (dk_at dksJ30_hugeLength_2 2 rfl rfl)
theorem dJ30_hugeLength_52 : decode cJ30_hugeLength 52 = .ok (.if_icmp .gt 6, 3) := dk_163 0 6 (dk_at dksJ30_hugeLength_2 4 rfl rfl)
theorem dJ30_hugeLength_55 : decode cJ30_hugeLength 55 = .ok (.ldc 200, 2) := dk_18 200 (dk_at dksJ30_hugeLength_2 7 rfl rfl)
theorem dJ30_hugeLength_57 : decode cJ30_hugeLength 57 = .ok (.ireturn, 1) := dk_172 (dk_at dksJ30_hugeLength_2 9 rfl rfl)
theorem dJ30_hugeLength_58 : decode cJ30_hugeLength 58 = .ok (.iload_n 2, 1) := dk_28 (dk_at dksJ30_hugeLength_2 10 rfl rfl)
theorem dJ30_hugeLength_59 : decode cJ30_hugeLength 59 = .ok (.ireturn, 1) := dk_172 (dk_at dksJ30_hugeLength_2 11 rfl rfl)
def dkwJ30_vectorizedHashCode_6 : List UInt8 := [183, 0, 91, 18, 92, 182, 0, 94, 21, 4, 182, 0, 98, 182, 0, 101, 183, 0, 105, 191, 172]
abbrev dktJ30_vectorizedHashCode_6 : List UInt8 := dkwJ30_vectorizedHashCode_6 ++ []
def dkwJ30_vectorizedHashCode_5 : List UInt8 := [167, 0, 44, 29, 42, 192, 0, 82, 27, 28, 184, 0, 84, 167, 0, 31, 187, 0, 87, 89, 187, 0, 89, 89]
abbrev dktJ30_vectorizedHashCode_5 : List UInt8 := dkwJ30_vectorizedHashCode_5 ++ dktJ30_vectorizedHashCode_6
def dkwJ30_vectorizedHashCode_4 : List UInt8 := [29, 42, 192, 0, 60, 27, 28, 184, 0, 75, 167, 0, 57, 29, 42, 192, 0, 77, 27, 28, 184, 0, 79]
abbrev dktJ30_vectorizedHashCode_4 : List UInt8 := dkwJ30_vectorizedHashCode_4 ++ dktJ30_vectorizedHashCode_5
def dkwJ30_vectorizedHashCode_3 : List UInt8 := [192, 0, 60, 27, 28, 184, 0, 66, 167, 0, 83, 29, 42, 192, 0, 69, 27, 28, 184, 0, 71, 167, 0, 70]
abbrev dktJ30_vectorizedHashCode_3 : List UInt8 := dkwJ30_vectorizedHashCode_3 ++ dktJ30_vectorizedHashCode_4
def dkwJ30_vectorizedHashCode_2 : List UInt8 := [29, 42, 192, 0, 60, 27, 28, 184, 0, 62, 167, 0, 103, 42, 193, 0, 60, 153, 0, 16, 29, 42]
abbrev dktJ30_vectorizedHashCode_2 : List UInt8 := dkwJ30_vectorizedHashCode_2 ++ dktJ30_vectorizedHashCode_3
def dkwJ30_vectorizedHashCode_1 : List UInt8 := [170, 0, 0, 0, 0, 127, 0, 0, 0, 4, 0, 0, 0, 10, 0, 0, 0, 42, 0, 0, 0, 55, 0, 0, 0, 127, 0, 0, 0, 127, 0, 0, 0, 88, 0, 0, 0, 101, 0, 0, 0, 114]
abbrev dktJ30_vectorizedHashCode_1 : List UInt8 := dkwJ30_vectorizedHashCode_1 ++ dktJ30_vectorizedHashCode_2
def dkwJ30_vectorizedHashCode_0 : List UInt8 := [21, 4]
abbrev dktJ30_vectorizedHashCode_0 : List UInt8 := dkwJ30_vectorizedHashCode_0 ++ dktJ30_vectorizedHashCode_1
theorem dksJ30_vectorizedHashCode_0 : cJ30_vectorizedHashCode.data.toList.drop 0 = dktJ30_vectorizedHashCode_0 := by decide +kernel
theorem dksJ30_vectorizedHashCode_1 : cJ30_vectorizedHashCode.data.toList.drop 2 = dktJ30_vectorizedHashCode_1 := dk_seg dksJ30_vectorizedHashCode_0 2 rfl rfl
theorem dksJ30_vectorizedHashCode_2 : cJ30_vectorizedHashCode.data.toList.drop 44 = dktJ30_vectorizedHashCode_2 := dk_seg dksJ30_vectorizedHashCode_1 42 rfl rfl
theorem dksJ30_vectorizedHashCode_3 : cJ30_vectorizedHashCode.data.toList.drop 66 = dktJ30_vectorizedHashCode_3 := dk_seg dksJ30_vectorizedHashCode_2 22 rfl rfl
theorem dksJ30_vectorizedHashCode_4 : cJ30_vectorizedHashCode.data.toList.drop 90 = dktJ30_vectorizedHashCode_4 := dk_seg dksJ30_vectorizedHashCode_3 24 rfl rfl
theorem dksJ30_vectorizedHashCode_5 : cJ30_vectorizedHashCode.data.toList.drop 113 = dktJ30_vectorizedHashCode_5 := dk_seg dksJ30_vectorizedHashCode_4 23 rfl rfl
theorem dksJ30_vectorizedHashCode_6 : cJ30_vectorizedHashCode.data.toList.drop 137 = dktJ30_vectorizedHashCode_6 := dk_seg dksJ30_vectorizedHashCode_5 24 rfl rfl
theorem dJ30_vectorizedHashCode_0 : decode cJ30_vectorizedHashCode 0 = .ok (.iload 4, 2) := dk_21 4 (dk_at dksJ30_vectorizedHashCode_0 0 rfl rfl)
theorem dJ30_vectorizedHashCode_2 : decode cJ30_vectorizedHashCode 2 = .ok (.tableswitch 127 4 10 #[42, 55, 127, 127, 88, 101, 114], 42) := by decide +kernel
theorem dJ30_vectorizedHashCode_44 : decode cJ30_vectorizedHashCode 44 = .ok (.iload_n 3, 1) := dk_29 (dk_at dksJ30_vectorizedHashCode_2 0 rfl rfl)
theorem dJ30_vectorizedHashCode_45 : decode cJ30_vectorizedHashCode 45 = .ok (.aload_n 0, 1) := dk_42 (dk_at dksJ30_vectorizedHashCode_2 1 rfl rfl)
theorem dJ30_vectorizedHashCode_46 : decode cJ30_vectorizedHashCode 46 = .ok (.checkcast 60, 3) := dk_192 0 60 (dk_at dksJ30_vectorizedHashCode_2 2 rfl rfl)
theorem dJ30_vectorizedHashCode_49 : decode cJ30_vectorizedHashCode 49 = .ok (.iload_n 1, 1) := dk_27 (dk_at dksJ30_vectorizedHashCode_2 5 rfl rfl)
theorem dJ30_vectorizedHashCode_50 : decode cJ30_vectorizedHashCode 50 = .ok (.iload_n 2, 1) := dk_28 (dk_at dksJ30_vectorizedHashCode_2 6 rfl rfl)
theorem dJ30_vectorizedHashCode_51 : decode cJ30_vectorizedHashCode 51 = .ok (.invokestatic 62, 3) := dk_184 0 62 (dk_at dksJ30_vectorizedHashCode_2 7 rfl rfl)
theorem dJ30_vectorizedHashCode_54 : decode cJ30_vectorizedHashCode 54 = .ok (.goto 103, 3) := dk_167 0 103 (dk_at dksJ30_vectorizedHashCode_2 10 rfl rfl)
theorem dJ30_vectorizedHashCode_57 : decode cJ30_vectorizedHashCode 57 = .ok (.aload_n 0, 1) := dk_42 (dk_at dksJ30_vectorizedHashCode_2 13 rfl rfl)
theorem dJ30_vectorizedHashCode_58 : decode cJ30_vectorizedHashCode 58 = .ok (.instanceof 60, 3) := dk_193 0 60 (dk_at dksJ30_vectorizedHashCode_2 14 rfl rfl)
theorem dJ30_vectorizedHashCode_61 : decode cJ30_vectorizedHashCode 61 = .ok (.ifCond .eq 16, 3) := dk_153 0 16 (dk_at dksJ30_vectorizedHashCode_2 17 rfl rfl)
theorem dJ30_vectorizedHashCode_64 : decode cJ30_vectorizedHashCode 64 = .ok (.iload_n 3, 1) := dk_29 (dk_at dksJ30_vectorizedHashCode_2 20 rfl rfl)
theorem dJ30_vectorizedHashCode_65 : decode cJ30_vectorizedHashCode 65 = .ok (.aload_n 0, 1) := dk_42 (dk_at dksJ30_vectorizedHashCode_2 21 rfl rfl)
theorem dJ30_vectorizedHashCode_66 : decode cJ30_vectorizedHashCode 66 = .ok (.checkcast 60, 3) := dk_192 0 60 (dk_at dksJ30_vectorizedHashCode_3 0 rfl rfl)
theorem dJ30_vectorizedHashCode_69 : decode cJ30_vectorizedHashCode 69 = .ok (.iload_n 1, 1) := dk_27 (dk_at dksJ30_vectorizedHashCode_3 3 rfl rfl)
theorem dJ30_vectorizedHashCode_70 : decode cJ30_vectorizedHashCode 70 = .ok (.iload_n 2, 1) := dk_28 (dk_at dksJ30_vectorizedHashCode_3 4 rfl rfl)
theorem dJ30_vectorizedHashCode_71 : decode cJ30_vectorizedHashCode 71 = .ok (.invokestatic 66, 3) := dk_184 0 66 (dk_at dksJ30_vectorizedHashCode_3 5 rfl rfl)
theorem dJ30_vectorizedHashCode_74 : decode cJ30_vectorizedHashCode 74 = .ok (.goto 83, 3) := dk_167 0 83 (dk_at dksJ30_vectorizedHashCode_3 8 rfl rfl)
theorem dJ30_vectorizedHashCode_77 : decode cJ30_vectorizedHashCode 77 = .ok (.iload_n 3, 1) := dk_29 (dk_at dksJ30_vectorizedHashCode_3 11 rfl rfl)
theorem dJ30_vectorizedHashCode_78 : decode cJ30_vectorizedHashCode 78 = .ok (.aload_n 0, 1) := dk_42 (dk_at dksJ30_vectorizedHashCode_3 12 rfl rfl)
theorem dJ30_vectorizedHashCode_79 : decode cJ30_vectorizedHashCode 79 = .ok (.checkcast 69, 3) := dk_192 0 69 (dk_at dksJ30_vectorizedHashCode_3 13 rfl rfl)
theorem dJ30_vectorizedHashCode_82 : decode cJ30_vectorizedHashCode 82 = .ok (.iload_n 1, 1) := dk_27 (dk_at dksJ30_vectorizedHashCode_3 16 rfl rfl)
theorem dJ30_vectorizedHashCode_83 : decode cJ30_vectorizedHashCode 83 = .ok (.iload_n 2, 1) := dk_28 (dk_at dksJ30_vectorizedHashCode_3 17 rfl rfl)
theorem dJ30_vectorizedHashCode_84 : decode cJ30_vectorizedHashCode 84 = .ok (.invokestatic 71, 3) := dk_184 0 71 (dk_at dksJ30_vectorizedHashCode_3 18 rfl rfl)
theorem dJ30_vectorizedHashCode_87 : decode cJ30_vectorizedHashCode 87 = .ok (.goto 70, 3) := dk_167 0 70 (dk_at dksJ30_vectorizedHashCode_3 21 rfl rfl)
theorem dJ30_vectorizedHashCode_90 : decode cJ30_vectorizedHashCode 90 = .ok (.iload_n 3, 1) := dk_29 (dk_at dksJ30_vectorizedHashCode_4 0 rfl rfl)
theorem dJ30_vectorizedHashCode_91 : decode cJ30_vectorizedHashCode 91 = .ok (.aload_n 0, 1) := dk_42 (dk_at dksJ30_vectorizedHashCode_4 1 rfl rfl)
theorem dJ30_vectorizedHashCode_92 : decode cJ30_vectorizedHashCode 92 = .ok (.checkcast 60, 3) := dk_192 0 60 (dk_at dksJ30_vectorizedHashCode_4 2 rfl rfl)
theorem dJ30_vectorizedHashCode_95 : decode cJ30_vectorizedHashCode 95 = .ok (.iload_n 1, 1) := dk_27 (dk_at dksJ30_vectorizedHashCode_4 5 rfl rfl)
theorem dJ30_vectorizedHashCode_96 : decode cJ30_vectorizedHashCode 96 = .ok (.iload_n 2, 1) := dk_28 (dk_at dksJ30_vectorizedHashCode_4 6 rfl rfl)
theorem dJ30_vectorizedHashCode_97 : decode cJ30_vectorizedHashCode 97 = .ok (.invokestatic 75, 3) := dk_184 0 75 (dk_at dksJ30_vectorizedHashCode_4 7 rfl rfl)
theorem dJ30_vectorizedHashCode_100 : decode cJ30_vectorizedHashCode 100 = .ok (.goto 57, 3) := dk_167 0 57 (dk_at dksJ30_vectorizedHashCode_4 10 rfl rfl)
theorem dJ30_vectorizedHashCode_103 : decode cJ30_vectorizedHashCode 103 = .ok (.iload_n 3, 1) := dk_29 (dk_at dksJ30_vectorizedHashCode_4 13 rfl rfl)
theorem dJ30_vectorizedHashCode_104 : decode cJ30_vectorizedHashCode 104 = .ok (.aload_n 0, 1) := dk_42 (dk_at dksJ30_vectorizedHashCode_4 14 rfl rfl)
theorem dJ30_vectorizedHashCode_105 : decode cJ30_vectorizedHashCode 105 = .ok (.checkcast 77, 3) := dk_192 0 77 (dk_at dksJ30_vectorizedHashCode_4 15 rfl rfl)
theorem dJ30_vectorizedHashCode_108 : decode cJ30_vectorizedHashCode 108 = .ok (.iload_n 1, 1) := dk_27 (dk_at dksJ30_vectorizedHashCode_4 18 rfl rfl)
theorem dJ30_vectorizedHashCode_109 : decode cJ30_vectorizedHashCode 109 = .ok (.iload_n 2, 1) := dk_28 (dk_at dksJ30_vectorizedHashCode_4 19 rfl rfl)
theorem dJ30_vectorizedHashCode_110 : decode cJ30_vectorizedHashCode 110 = .ok (.invokestatic 79, 3) := dk_184 0 79 (dk_at dksJ30_vectorizedHashCode_4 20 rfl rfl)
theorem dJ30_vectorizedHashCode_113 : decode cJ30_vectorizedHashCode 113 = .ok (.goto 44, 3) := dk_167 0 44 (dk_at dksJ30_vectorizedHashCode_5 0 rfl rfl)
theorem dJ30_vectorizedHashCode_116 : decode cJ30_vectorizedHashCode 116 = .ok (.iload_n 3, 1) := dk_29 (dk_at dksJ30_vectorizedHashCode_5 3 rfl rfl)
theorem dJ30_vectorizedHashCode_117 : decode cJ30_vectorizedHashCode 117 = .ok (.aload_n 0, 1) := dk_42 (dk_at dksJ30_vectorizedHashCode_5 4 rfl rfl)
theorem dJ30_vectorizedHashCode_118 : decode cJ30_vectorizedHashCode 118 = .ok (.checkcast 82, 3) := dk_192 0 82 (dk_at dksJ30_vectorizedHashCode_5 5 rfl rfl)
theorem dJ30_vectorizedHashCode_121 : decode cJ30_vectorizedHashCode 121 = .ok (.iload_n 1, 1) := dk_27 (dk_at dksJ30_vectorizedHashCode_5 8 rfl rfl)
theorem dJ30_vectorizedHashCode_122 : decode cJ30_vectorizedHashCode 122 = .ok (.iload_n 2, 1) := dk_28 (dk_at dksJ30_vectorizedHashCode_5 9 rfl rfl)
theorem dJ30_vectorizedHashCode_123 : decode cJ30_vectorizedHashCode 123 = .ok (.invokestatic 84, 3) := dk_184 0 84 (dk_at dksJ30_vectorizedHashCode_5 10 rfl rfl)
theorem dJ30_vectorizedHashCode_126 : decode cJ30_vectorizedHashCode 126 = .ok (.goto 31, 3) := dk_167 0 31 (dk_at dksJ30_vectorizedHashCode_5 13 rfl rfl)
theorem dJ30_vectorizedHashCode_129 : decode cJ30_vectorizedHashCode 129 = .ok (.new 87, 3) := dk_187 0 87 (dk_at dksJ30_vectorizedHashCode_5 16 rfl rfl)
theorem dJ30_vectorizedHashCode_132 : decode cJ30_vectorizedHashCode 132 = .ok (.dup, 1) := dk_89 (dk_at dksJ30_vectorizedHashCode_5 19 rfl rfl)
theorem dJ30_vectorizedHashCode_133 : decode cJ30_vectorizedHashCode 133 = .ok (.new 89, 3) := dk_187 0 89 (dk_at dksJ30_vectorizedHashCode_5 20 rfl rfl)
theorem dJ30_vectorizedHashCode_136 : decode cJ30_vectorizedHashCode 136 = .ok (.dup, 1) := dk_89 (dk_at dksJ30_vectorizedHashCode_5 23 rfl rfl)
theorem dJ30_vectorizedHashCode_137 : decode cJ30_vectorizedHashCode 137 = .ok (.invokespecial 91, 3) := dk_183 0 91 (dk_at dksJ30_vectorizedHashCode_6 0 rfl rfl)
theorem dJ30_vectorizedHashCode_140 : decode cJ30_vectorizedHashCode 140 = .ok (.ldc 92, 2) := dk_18 92 (dk_at dksJ30_vectorizedHashCode_6 3 rfl rfl)
theorem dJ30_vectorizedHashCode_142 : decode cJ30_vectorizedHashCode 142 = .ok (.invokevirtual 94, 3) := dk_182 0 94 (dk_at dksJ30_vectorizedHashCode_6 5 rfl rfl)
theorem dJ30_vectorizedHashCode_145 : decode cJ30_vectorizedHashCode 145 = .ok (.iload 4, 2) := dk_21 4 (dk_at dksJ30_vectorizedHashCode_6 8 rfl rfl)
theorem dJ30_vectorizedHashCode_147 : decode cJ30_vectorizedHashCode 147 = .ok (.invokevirtual 98, 3) := dk_182 0 98 (dk_at dksJ30_vectorizedHashCode_6 10 rfl rfl)
theorem dJ30_vectorizedHashCode_150 : decode cJ30_vectorizedHashCode 150 = .ok (.invokevirtual 101, 3) := dk_182 0 101 (dk_at dksJ30_vectorizedHashCode_6 13 rfl rfl)
theorem dJ30_vectorizedHashCode_153 : decode cJ30_vectorizedHashCode 153 = .ok (.invokespecial 105, 3) := dk_183 0 105 (dk_at dksJ30_vectorizedHashCode_6 16 rfl rfl)
theorem dJ30_vectorizedHashCode_156 : decode cJ30_vectorizedHashCode 156 = .ok (.athrow, 1) := dk_191 (dk_at dksJ30_vectorizedHashCode_6 19 rfl rfl)
theorem dJ30_vectorizedHashCode_157 : decode cJ30_vectorizedHashCode 157 = .ok (.ireturn, 1) := dk_172 (dk_at dksJ30_vectorizedHashCode_6 20 rfl rfl)
def dkwJ30_signedHashCode_1 : List UInt8 := [17, 0, 255, 126, 96, 59, 132, 5, 1, 167, 255, 232, 26, 172]
abbrev dktJ30_signedHashCode_1 : List UInt8 := dkwJ30_signedHashCode_1 ++ []
def dkwJ30_signedHashCode_0 : List UInt8 := [28, 29, 96, 54, 4, 28, 54, 5, 21, 5, 21, 4, 162, 0, 23, 16, 31, 26, 104, 43, 21, 5, 51]
abbrev dktJ30_signedHashCode_0 : List UInt8 := dkwJ30_signedHashCode_0 ++ dktJ30_signedHashCode_1
theorem dksJ30_signedHashCode_0 : cJ30_signedHashCode.data.toList.drop 0 = dktJ30_signedHashCode_0 := by decide +kernel
theorem dksJ30_signedHashCode_1 : cJ30_signedHashCode.data.toList.drop 23 = dktJ30_signedHashCode_1 := dk_seg dksJ30_signedHashCode_0 23 rfl rfl
theorem dJ30_signedHashCode_0 : decode cJ30_signedHashCode 0 = .ok (.iload_n 2, 1) := dk_28 (dk_at dksJ30_signedHashCode_0 0 rfl rfl)
theorem dJ30_signedHashCode_1 : decode cJ30_signedHashCode 1 = .ok (.iload_n 3, 1) := dk_29 (dk_at dksJ30_signedHashCode_0 1 rfl rfl)
theorem dJ30_signedHashCode_2 : decode cJ30_signedHashCode 2 = .ok (.iadd, 1) := dk_96 (dk_at dksJ30_signedHashCode_0 2 rfl rfl)
theorem dJ30_signedHashCode_3 : decode cJ30_signedHashCode 3 = .ok (.istore 4, 2) := dk_54 4 (dk_at dksJ30_signedHashCode_0 3 rfl rfl)
theorem dJ30_signedHashCode_5 : decode cJ30_signedHashCode 5 = .ok (.iload_n 2, 1) := dk_28 (dk_at dksJ30_signedHashCode_0 5 rfl rfl)
theorem dJ30_signedHashCode_6 : decode cJ30_signedHashCode 6 = .ok (.istore 5, 2) := dk_54 5 (dk_at dksJ30_signedHashCode_0 6 rfl rfl)
theorem dJ30_signedHashCode_8 : decode cJ30_signedHashCode 8 = .ok (.iload 5, 2) := dk_21 5 (dk_at dksJ30_signedHashCode_0 8 rfl rfl)
theorem dJ30_signedHashCode_10 : decode cJ30_signedHashCode 10 = .ok (.iload 4, 2) := dk_21 4 (dk_at dksJ30_signedHashCode_0 10 rfl rfl)
theorem dJ30_signedHashCode_12 : decode cJ30_signedHashCode 12 = .ok (.if_icmp .ge 23, 3) := dk_162 0 23 (dk_at dksJ30_signedHashCode_0 12 rfl rfl)
theorem dJ30_signedHashCode_15 : decode cJ30_signedHashCode 15 = .ok (.bipush 31, 2) := dk_16 31 (dk_at dksJ30_signedHashCode_0 15 rfl rfl)
theorem dJ30_signedHashCode_17 : decode cJ30_signedHashCode 17 = .ok (.iload_n 0, 1) := dk_26 (dk_at dksJ30_signedHashCode_0 17 rfl rfl)
theorem dJ30_signedHashCode_18 : decode cJ30_signedHashCode 18 = .ok (.imul, 1) := dk_104 (dk_at dksJ30_signedHashCode_0 18 rfl rfl)
theorem dJ30_signedHashCode_19 : decode cJ30_signedHashCode 19 = .ok (.aload_n 1, 1) := dk_43 (dk_at dksJ30_signedHashCode_0 19 rfl rfl)
theorem dJ30_signedHashCode_20 : decode cJ30_signedHashCode 20 = .ok (.iload 5, 2) := dk_21 5 (dk_at dksJ30_signedHashCode_0 20 rfl rfl)
theorem dJ30_signedHashCode_22 : decode cJ30_signedHashCode 22 = .ok (.baload, 1) := dk_51 (dk_at dksJ30_signedHashCode_0 22 rfl rfl)
theorem dJ30_signedHashCode_23 : decode cJ30_signedHashCode 23 = .ok (.sipush 255, 3) := dk_17 0 255 (dk_at dksJ30_signedHashCode_1 0 rfl rfl)
theorem dJ30_signedHashCode_26 : decode cJ30_signedHashCode 26 = .ok (.iand, 1) := dk_126 (dk_at dksJ30_signedHashCode_1 3 rfl rfl)
theorem dJ30_signedHashCode_27 : decode cJ30_signedHashCode 27 = .ok (.iadd, 1) := dk_96 (dk_at dksJ30_signedHashCode_1 4 rfl rfl)
theorem dJ30_signedHashCode_28 : decode cJ30_signedHashCode 28 = .ok (.istore_n 0, 1) := dk_59 (dk_at dksJ30_signedHashCode_1 5 rfl rfl)
theorem dJ30_signedHashCode_29 : decode cJ30_signedHashCode 29 = .ok (.iinc 5 1, 3) := dk_132 5 1 (dk_at dksJ30_signedHashCode_1 6 rfl rfl)
theorem dJ30_signedHashCode_32 : decode cJ30_signedHashCode 32 = .ok (.goto (-24), 3) := dk_167 255 232 (dk_at dksJ30_signedHashCode_1 9 rfl rfl)
theorem dJ30_signedHashCode_35 : decode cJ30_signedHashCode 35 = .ok (.iload_n 0, 1) := dk_26 (dk_at dksJ30_signedHashCode_1 12 rfl rfl)
theorem dJ30_signedHashCode_36 : decode cJ30_signedHashCode 36 = .ok (.ireturn, 1) := dk_172 (dk_at dksJ30_signedHashCode_1 13 rfl rfl)
def dkwJ30_utf16hashCode_1 : List UInt8 := [21, 5, 185, 0, 110, 3, 0, 96, 59, 132, 5, 1, 167, 255, 229, 26, 172]
abbrev dktJ30_utf16hashCode_1 : List UInt8 := dkwJ30_utf16hashCode_1 ++ []
def dkwJ30_utf16hashCode_0 : List UInt8 := [28, 29, 96, 54, 4, 28, 54, 5, 21, 5, 21, 4, 162, 0, 26, 16, 31, 26, 104, 178, 0, 106, 43]
abbrev dktJ30_utf16hashCode_0 : List UInt8 := dkwJ30_utf16hashCode_0 ++ dktJ30_utf16hashCode_1
theorem dksJ30_utf16hashCode_0 : cJ30_utf16hashCode.data.toList.drop 0 = dktJ30_utf16hashCode_0 := by decide +kernel
theorem dksJ30_utf16hashCode_1 : cJ30_utf16hashCode.data.toList.drop 23 = dktJ30_utf16hashCode_1 := dk_seg dksJ30_utf16hashCode_0 23 rfl rfl
theorem dJ30_utf16hashCode_0 : decode cJ30_utf16hashCode 0 = .ok (.iload_n 2, 1) := dk_28 (dk_at dksJ30_utf16hashCode_0 0 rfl rfl)
theorem dJ30_utf16hashCode_1 : decode cJ30_utf16hashCode 1 = .ok (.iload_n 3, 1) := dk_29 (dk_at dksJ30_utf16hashCode_0 1 rfl rfl)
theorem dJ30_utf16hashCode_2 : decode cJ30_utf16hashCode 2 = .ok (.iadd, 1) := dk_96 (dk_at dksJ30_utf16hashCode_0 2 rfl rfl)
theorem dJ30_utf16hashCode_3 : decode cJ30_utf16hashCode 3 = .ok (.istore 4, 2) := dk_54 4 (dk_at dksJ30_utf16hashCode_0 3 rfl rfl)
theorem dJ30_utf16hashCode_5 : decode cJ30_utf16hashCode 5 = .ok (.iload_n 2, 1) := dk_28 (dk_at dksJ30_utf16hashCode_0 5 rfl rfl)
theorem dJ30_utf16hashCode_6 : decode cJ30_utf16hashCode 6 = .ok (.istore 5, 2) := dk_54 5 (dk_at dksJ30_utf16hashCode_0 6 rfl rfl)
theorem dJ30_utf16hashCode_8 : decode cJ30_utf16hashCode 8 = .ok (.iload 5, 2) := dk_21 5 (dk_at dksJ30_utf16hashCode_0 8 rfl rfl)
theorem dJ30_utf16hashCode_10 : decode cJ30_utf16hashCode 10 = .ok (.iload 4, 2) := dk_21 4 (dk_at dksJ30_utf16hashCode_0 10 rfl rfl)
theorem dJ30_utf16hashCode_12 : decode cJ30_utf16hashCode 12 = .ok (.if_icmp .ge 26, 3) := dk_162 0 26 (dk_at dksJ30_utf16hashCode_0 12 rfl rfl)
theorem dJ30_utf16hashCode_15 : decode cJ30_utf16hashCode 15 = .ok (.bipush 31, 2) := dk_16 31 (dk_at dksJ30_utf16hashCode_0 15 rfl rfl)
theorem dJ30_utf16hashCode_17 : decode cJ30_utf16hashCode 17 = .ok (.iload_n 0, 1) := dk_26 (dk_at dksJ30_utf16hashCode_0 17 rfl rfl)
theorem dJ30_utf16hashCode_18 : decode cJ30_utf16hashCode 18 = .ok (.imul, 1) := dk_104 (dk_at dksJ30_utf16hashCode_0 18 rfl rfl)
theorem dJ30_utf16hashCode_19 : decode cJ30_utf16hashCode 19 = .ok (.getstatic 106, 3) := dk_178 0 106 (dk_at dksJ30_utf16hashCode_0 19 rfl rfl)
theorem dJ30_utf16hashCode_22 : decode cJ30_utf16hashCode 22 = .ok (.aload_n 1, 1) := dk_43 (dk_at dksJ30_utf16hashCode_0 22 rfl rfl)
theorem dJ30_utf16hashCode_23 : decode cJ30_utf16hashCode 23 = .ok (.iload 5, 2) := dk_21 5 (dk_at dksJ30_utf16hashCode_1 0 rfl rfl)
theorem dJ30_utf16hashCode_25 : decode cJ30_utf16hashCode 25 = .ok (.invokeinterface 110 3, 5) := by decide +kernel
theorem dJ30_utf16hashCode_30 : decode cJ30_utf16hashCode 30 = .ok (.iadd, 1) := dk_96 (dk_at dksJ30_utf16hashCode_1 7 rfl rfl)
theorem dJ30_utf16hashCode_31 : decode cJ30_utf16hashCode 31 = .ok (.istore_n 0, 1) := dk_59 (dk_at dksJ30_utf16hashCode_1 8 rfl rfl)
theorem dJ30_utf16hashCode_32 : decode cJ30_utf16hashCode 32 = .ok (.iinc 5 1, 3) := dk_132 5 1 (dk_at dksJ30_utf16hashCode_1 9 rfl rfl)
theorem dJ30_utf16hashCode_35 : decode cJ30_utf16hashCode 35 = .ok (.goto (-27), 3) := dk_167 255 229 (dk_at dksJ30_utf16hashCode_1 12 rfl rfl)
theorem dJ30_utf16hashCode_38 : decode cJ30_utf16hashCode 38 = .ok (.iload_n 0, 1) := dk_26 (dk_at dksJ30_utf16hashCode_1 15 rfl rfl)
theorem dJ30_utf16hashCode_39 : decode cJ30_utf16hashCode 39 = .ok (.ireturn, 1) := dk_172 (dk_at dksJ30_utf16hashCode_1 16 rfl rfl)
def dkwJ30_hashCode_1 : List UInt8 := [59, 132, 5, 1, 167, 255, 236, 26, 172]
abbrev dktJ30_hashCode_1 : List UInt8 := dkwJ30_hashCode_1 ++ []
def dkwJ30_hashCode_0 : List UInt8 := [28, 29, 96, 54, 4, 28, 54, 5, 21, 5, 21, 4, 162, 0, 19, 16, 31, 26, 104, 43, 21, 5, 52, 96]
abbrev dktJ30_hashCode_0 : List UInt8 := dkwJ30_hashCode_0 ++ dktJ30_hashCode_1
theorem dksJ30_hashCode_0 : cJ30_hashCode.data.toList.drop 0 = dktJ30_hashCode_0 := by decide +kernel
theorem dksJ30_hashCode_1 : cJ30_hashCode.data.toList.drop 24 = dktJ30_hashCode_1 := dk_seg dksJ30_hashCode_0 24 rfl rfl
theorem dJ30_hashCode_0 : decode cJ30_hashCode 0 = .ok (.iload_n 2, 1) := dk_28 (dk_at dksJ30_hashCode_0 0 rfl rfl)
theorem dJ30_hashCode_1 : decode cJ30_hashCode 1 = .ok (.iload_n 3, 1) := dk_29 (dk_at dksJ30_hashCode_0 1 rfl rfl)
theorem dJ30_hashCode_2 : decode cJ30_hashCode 2 = .ok (.iadd, 1) := dk_96 (dk_at dksJ30_hashCode_0 2 rfl rfl)
theorem dJ30_hashCode_3 : decode cJ30_hashCode 3 = .ok (.istore 4, 2) := dk_54 4 (dk_at dksJ30_hashCode_0 3 rfl rfl)
theorem dJ30_hashCode_5 : decode cJ30_hashCode 5 = .ok (.iload_n 2, 1) := dk_28 (dk_at dksJ30_hashCode_0 5 rfl rfl)
theorem dJ30_hashCode_6 : decode cJ30_hashCode 6 = .ok (.istore 5, 2) := dk_54 5 (dk_at dksJ30_hashCode_0 6 rfl rfl)
theorem dJ30_hashCode_8 : decode cJ30_hashCode 8 = .ok (.iload 5, 2) := dk_21 5 (dk_at dksJ30_hashCode_0 8 rfl rfl)
theorem dJ30_hashCode_10 : decode cJ30_hashCode 10 = .ok (.iload 4, 2) := dk_21 4 (dk_at dksJ30_hashCode_0 10 rfl rfl)
theorem dJ30_hashCode_12 : decode cJ30_hashCode 12 = .ok (.if_icmp .ge 19, 3) := dk_162 0 19 (dk_at dksJ30_hashCode_0 12 rfl rfl)
theorem dJ30_hashCode_15 : decode cJ30_hashCode 15 = .ok (.bipush 31, 2) := dk_16 31 (dk_at dksJ30_hashCode_0 15 rfl rfl)
theorem dJ30_hashCode_17 : decode cJ30_hashCode 17 = .ok (.iload_n 0, 1) := dk_26 (dk_at dksJ30_hashCode_0 17 rfl rfl)
theorem dJ30_hashCode_18 : decode cJ30_hashCode 18 = .ok (.imul, 1) := dk_104 (dk_at dksJ30_hashCode_0 18 rfl rfl)
theorem dJ30_hashCode_19 : decode cJ30_hashCode 19 = .ok (.aload_n 1, 1) := dk_43 (dk_at dksJ30_hashCode_0 19 rfl rfl)
theorem dJ30_hashCode_20 : decode cJ30_hashCode 20 = .ok (.iload 5, 2) := dk_21 5 (dk_at dksJ30_hashCode_0 20 rfl rfl)
theorem dJ30_hashCode_22 : decode cJ30_hashCode 22 = .ok (.caload, 1) := dk_52 (dk_at dksJ30_hashCode_0 22 rfl rfl)
theorem dJ30_hashCode_23 : decode cJ30_hashCode 23 = .ok (.iadd, 1) := dk_96 (dk_at dksJ30_hashCode_0 23 rfl rfl)
theorem dJ30_hashCode_24 : decode cJ30_hashCode 24 = .ok (.istore_n 0, 1) := dk_59 (dk_at dksJ30_hashCode_1 0 rfl rfl)
theorem dJ30_hashCode_25 : decode cJ30_hashCode 25 = .ok (.iinc 5 1, 3) := dk_132 5 1 (dk_at dksJ30_hashCode_1 1 rfl rfl)
theorem dJ30_hashCode_28 : decode cJ30_hashCode 28 = .ok (.goto (-20), 3) := dk_167 255 236 (dk_at dksJ30_hashCode_1 4 rfl rfl)
theorem dJ30_hashCode_31 : decode cJ30_hashCode 31 = .ok (.iload_n 0, 1) := dk_26 (dk_at dksJ30_hashCode_1 7 rfl rfl)
theorem dJ30_hashCode_32 : decode cJ30_hashCode 32 = .ok (.ireturn, 1) := dk_172 (dk_at dksJ30_hashCode_1 8 rfl rfl)
def dkwJ30_hashCode_2_1 : List UInt8 := [59, 132, 5, 1, 167, 255, 236, 26, 172]
abbrev dktJ30_hashCode_2_1 : List UInt8 := dkwJ30_hashCode_2_1 ++ []
def dkwJ30_hashCode_2_0 : List UInt8 := [28, 29, 96, 54, 4, 28, 54, 5, 21, 5, 21, 4, 162, 0, 19, 16, 31, 26, 104, 43, 21, 5, 51, 96]
abbrev dktJ30_hashCode_2_0 : List UInt8 := dkwJ30_hashCode_2_0 ++ dktJ30_hashCode_2_1
theorem dksJ30_hashCode_2_0 : cJ30_hashCode_2.data.toList.drop 0 = dktJ30_hashCode_2_0 := by decide +kernel
theorem dksJ30_hashCode_2_1 : cJ30_hashCode_2.data.toList.drop 24 = dktJ30_hashCode_2_1 := dk_seg dksJ30_hashCode_2_0 24 rfl rfl
theorem dJ30_hashCode_2_0 : decode cJ30_hashCode_2 0 = .ok (.iload_n 2, 1) := dk_28 (dk_at dksJ30_hashCode_2_0 0 rfl rfl)
theorem dJ30_hashCode_2_1 : decode cJ30_hashCode_2 1 = .ok (.iload_n 3, 1) := dk_29 (dk_at dksJ30_hashCode_2_0 1 rfl rfl)
theorem dJ30_hashCode_2_2 : decode cJ30_hashCode_2 2 = .ok (.iadd, 1) := dk_96 (dk_at dksJ30_hashCode_2_0 2 rfl rfl)
theorem dJ30_hashCode_2_3 : decode cJ30_hashCode_2 3 = .ok (.istore 4, 2) := dk_54 4 (dk_at dksJ30_hashCode_2_0 3 rfl rfl)
theorem dJ30_hashCode_2_5 : decode cJ30_hashCode_2 5 = .ok (.iload_n 2, 1) := dk_28 (dk_at dksJ30_hashCode_2_0 5 rfl rfl)
theorem dJ30_hashCode_2_6 : decode cJ30_hashCode_2 6 = .ok (.istore 5, 2) := dk_54 5 (dk_at dksJ30_hashCode_2_0 6 rfl rfl)
theorem dJ30_hashCode_2_8 : decode cJ30_hashCode_2 8 = .ok (.iload 5, 2) := dk_21 5 (dk_at dksJ30_hashCode_2_0 8 rfl rfl)
theorem dJ30_hashCode_2_10 : decode cJ30_hashCode_2 10 = .ok (.iload 4, 2) := dk_21 4 (dk_at dksJ30_hashCode_2_0 10 rfl rfl)
theorem dJ30_hashCode_2_12 : decode cJ30_hashCode_2 12 = .ok (.if_icmp .ge 19, 3) := dk_162 0 19 (dk_at dksJ30_hashCode_2_0 12 rfl rfl)
theorem dJ30_hashCode_2_15 : decode cJ30_hashCode_2 15 = .ok (.bipush 31, 2) := dk_16 31 (dk_at dksJ30_hashCode_2_0 15 rfl rfl)
theorem dJ30_hashCode_2_17 : decode cJ30_hashCode_2 17 = .ok (.iload_n 0, 1) := dk_26 (dk_at dksJ30_hashCode_2_0 17 rfl rfl)
theorem dJ30_hashCode_2_18 : decode cJ30_hashCode_2 18 = .ok (.imul, 1) := dk_104 (dk_at dksJ30_hashCode_2_0 18 rfl rfl)
theorem dJ30_hashCode_2_19 : decode cJ30_hashCode_2 19 = .ok (.aload_n 1, 1) := dk_43 (dk_at dksJ30_hashCode_2_0 19 rfl rfl)
theorem dJ30_hashCode_2_20 : decode cJ30_hashCode_2 20 = .ok (.iload 5, 2) := dk_21 5 (dk_at dksJ30_hashCode_2_0 20 rfl rfl)
theorem dJ30_hashCode_2_22 : decode cJ30_hashCode_2 22 = .ok (.baload, 1) := dk_51 (dk_at dksJ30_hashCode_2_0 22 rfl rfl)
theorem dJ30_hashCode_2_23 : decode cJ30_hashCode_2 23 = .ok (.iadd, 1) := dk_96 (dk_at dksJ30_hashCode_2_0 23 rfl rfl)
theorem dJ30_hashCode_2_24 : decode cJ30_hashCode_2 24 = .ok (.istore_n 0, 1) := dk_59 (dk_at dksJ30_hashCode_2_1 0 rfl rfl)
theorem dJ30_hashCode_2_25 : decode cJ30_hashCode_2 25 = .ok (.iinc 5 1, 3) := dk_132 5 1 (dk_at dksJ30_hashCode_2_1 1 rfl rfl)
theorem dJ30_hashCode_2_28 : decode cJ30_hashCode_2 28 = .ok (.goto (-20), 3) := dk_167 255 236 (dk_at dksJ30_hashCode_2_1 4 rfl rfl)
theorem dJ30_hashCode_2_31 : decode cJ30_hashCode_2 31 = .ok (.iload_n 0, 1) := dk_26 (dk_at dksJ30_hashCode_2_1 7 rfl rfl)
theorem dJ30_hashCode_2_32 : decode cJ30_hashCode_2 32 = .ok (.ireturn, 1) := dk_172 (dk_at dksJ30_hashCode_2_1 8 rfl rfl)
def dkwJ30_hashCode_3_1 : List UInt8 := [59, 132, 5, 1, 167, 255, 236, 26, 172]
abbrev dktJ30_hashCode_3_1 : List UInt8 := dkwJ30_hashCode_3_1 ++ []
def dkwJ30_hashCode_3_0 : List UInt8 := [28, 29, 96, 54, 4, 28, 54, 5, 21, 5, 21, 4, 162, 0, 19, 16, 31, 26, 104, 43, 21, 5, 53, 96]
abbrev dktJ30_hashCode_3_0 : List UInt8 := dkwJ30_hashCode_3_0 ++ dktJ30_hashCode_3_1
theorem dksJ30_hashCode_3_0 : cJ30_hashCode_3.data.toList.drop 0 = dktJ30_hashCode_3_0 := by decide +kernel
theorem dksJ30_hashCode_3_1 : cJ30_hashCode_3.data.toList.drop 24 = dktJ30_hashCode_3_1 := dk_seg dksJ30_hashCode_3_0 24 rfl rfl
theorem dJ30_hashCode_3_0 : decode cJ30_hashCode_3 0 = .ok (.iload_n 2, 1) := dk_28 (dk_at dksJ30_hashCode_3_0 0 rfl rfl)
theorem dJ30_hashCode_3_1 : decode cJ30_hashCode_3 1 = .ok (.iload_n 3, 1) := dk_29 (dk_at dksJ30_hashCode_3_0 1 rfl rfl)
theorem dJ30_hashCode_3_2 : decode cJ30_hashCode_3 2 = .ok (.iadd, 1) := dk_96 (dk_at dksJ30_hashCode_3_0 2 rfl rfl)
theorem dJ30_hashCode_3_3 : decode cJ30_hashCode_3 3 = .ok (.istore 4, 2) := dk_54 4 (dk_at dksJ30_hashCode_3_0 3 rfl rfl)
theorem dJ30_hashCode_3_5 : decode cJ30_hashCode_3 5 = .ok (.iload_n 2, 1) := dk_28 (dk_at dksJ30_hashCode_3_0 5 rfl rfl)
theorem dJ30_hashCode_3_6 : decode cJ30_hashCode_3 6 = .ok (.istore 5, 2) := dk_54 5 (dk_at dksJ30_hashCode_3_0 6 rfl rfl)
theorem dJ30_hashCode_3_8 : decode cJ30_hashCode_3 8 = .ok (.iload 5, 2) := dk_21 5 (dk_at dksJ30_hashCode_3_0 8 rfl rfl)
theorem dJ30_hashCode_3_10 : decode cJ30_hashCode_3 10 = .ok (.iload 4, 2) := dk_21 4 (dk_at dksJ30_hashCode_3_0 10 rfl rfl)
theorem dJ30_hashCode_3_12 : decode cJ30_hashCode_3 12 = .ok (.if_icmp .ge 19, 3) := dk_162 0 19 (dk_at dksJ30_hashCode_3_0 12 rfl rfl)
theorem dJ30_hashCode_3_15 : decode cJ30_hashCode_3 15 = .ok (.bipush 31, 2) := dk_16 31 (dk_at dksJ30_hashCode_3_0 15 rfl rfl)
theorem dJ30_hashCode_3_17 : decode cJ30_hashCode_3 17 = .ok (.iload_n 0, 1) := dk_26 (dk_at dksJ30_hashCode_3_0 17 rfl rfl)
theorem dJ30_hashCode_3_18 : decode cJ30_hashCode_3 18 = .ok (.imul, 1) := dk_104 (dk_at dksJ30_hashCode_3_0 18 rfl rfl)
theorem dJ30_hashCode_3_19 : decode cJ30_hashCode_3 19 = .ok (.aload_n 1, 1) := dk_43 (dk_at dksJ30_hashCode_3_0 19 rfl rfl)
theorem dJ30_hashCode_3_20 : decode cJ30_hashCode_3 20 = .ok (.iload 5, 2) := dk_21 5 (dk_at dksJ30_hashCode_3_0 20 rfl rfl)
theorem dJ30_hashCode_3_22 : decode cJ30_hashCode_3 22 = .ok (.saload, 1) := dk_53 (dk_at dksJ30_hashCode_3_0 22 rfl rfl)
theorem dJ30_hashCode_3_23 : decode cJ30_hashCode_3 23 = .ok (.iadd, 1) := dk_96 (dk_at dksJ30_hashCode_3_0 23 rfl rfl)
theorem dJ30_hashCode_3_24 : decode cJ30_hashCode_3 24 = .ok (.istore_n 0, 1) := dk_59 (dk_at dksJ30_hashCode_3_1 0 rfl rfl)
theorem dJ30_hashCode_3_25 : decode cJ30_hashCode_3 25 = .ok (.iinc 5 1, 3) := dk_132 5 1 (dk_at dksJ30_hashCode_3_1 1 rfl rfl)
theorem dJ30_hashCode_3_28 : decode cJ30_hashCode_3 28 = .ok (.goto (-20), 3) := dk_167 255 236 (dk_at dksJ30_hashCode_3_1 4 rfl rfl)
theorem dJ30_hashCode_3_31 : decode cJ30_hashCode_3 31 = .ok (.iload_n 0, 1) := dk_26 (dk_at dksJ30_hashCode_3_1 7 rfl rfl)
theorem dJ30_hashCode_3_32 : decode cJ30_hashCode_3 32 = .ok (.ireturn, 1) := dk_172 (dk_at dksJ30_hashCode_3_1 8 rfl rfl)
def dkwJ30_hashCode_4_1 : List UInt8 := [59, 132, 5, 1, 167, 255, 236, 26, 172]
abbrev dktJ30_hashCode_4_1 : List UInt8 := dkwJ30_hashCode_4_1 ++ []
def dkwJ30_hashCode_4_0 : List UInt8 := [28, 29, 96, 54, 4, 28, 54, 5, 21, 5, 21, 4, 162, 0, 19, 16, 31, 26, 104, 43, 21, 5, 46, 96]
abbrev dktJ30_hashCode_4_0 : List UInt8 := dkwJ30_hashCode_4_0 ++ dktJ30_hashCode_4_1
theorem dksJ30_hashCode_4_0 : cJ30_hashCode_4.data.toList.drop 0 = dktJ30_hashCode_4_0 := by decide +kernel
theorem dksJ30_hashCode_4_1 : cJ30_hashCode_4.data.toList.drop 24 = dktJ30_hashCode_4_1 := dk_seg dksJ30_hashCode_4_0 24 rfl rfl
theorem dJ30_hashCode_4_0 : decode cJ30_hashCode_4 0 = .ok (.iload_n 2, 1) := dk_28 (dk_at dksJ30_hashCode_4_0 0 rfl rfl)
theorem dJ30_hashCode_4_1 : decode cJ30_hashCode_4 1 = .ok (.iload_n 3, 1) := dk_29 (dk_at dksJ30_hashCode_4_0 1 rfl rfl)
theorem dJ30_hashCode_4_2 : decode cJ30_hashCode_4 2 = .ok (.iadd, 1) := dk_96 (dk_at dksJ30_hashCode_4_0 2 rfl rfl)
theorem dJ30_hashCode_4_3 : decode cJ30_hashCode_4 3 = .ok (.istore 4, 2) := dk_54 4 (dk_at dksJ30_hashCode_4_0 3 rfl rfl)
theorem dJ30_hashCode_4_5 : decode cJ30_hashCode_4 5 = .ok (.iload_n 2, 1) := dk_28 (dk_at dksJ30_hashCode_4_0 5 rfl rfl)
theorem dJ30_hashCode_4_6 : decode cJ30_hashCode_4 6 = .ok (.istore 5, 2) := dk_54 5 (dk_at dksJ30_hashCode_4_0 6 rfl rfl)
theorem dJ30_hashCode_4_8 : decode cJ30_hashCode_4 8 = .ok (.iload 5, 2) := dk_21 5 (dk_at dksJ30_hashCode_4_0 8 rfl rfl)
theorem dJ30_hashCode_4_10 : decode cJ30_hashCode_4 10 = .ok (.iload 4, 2) := dk_21 4 (dk_at dksJ30_hashCode_4_0 10 rfl rfl)
theorem dJ30_hashCode_4_12 : decode cJ30_hashCode_4 12 = .ok (.if_icmp .ge 19, 3) := dk_162 0 19 (dk_at dksJ30_hashCode_4_0 12 rfl rfl)
theorem dJ30_hashCode_4_15 : decode cJ30_hashCode_4 15 = .ok (.bipush 31, 2) := dk_16 31 (dk_at dksJ30_hashCode_4_0 15 rfl rfl)
theorem dJ30_hashCode_4_17 : decode cJ30_hashCode_4 17 = .ok (.iload_n 0, 1) := dk_26 (dk_at dksJ30_hashCode_4_0 17 rfl rfl)
theorem dJ30_hashCode_4_18 : decode cJ30_hashCode_4 18 = .ok (.imul, 1) := dk_104 (dk_at dksJ30_hashCode_4_0 18 rfl rfl)
theorem dJ30_hashCode_4_19 : decode cJ30_hashCode_4 19 = .ok (.aload_n 1, 1) := dk_43 (dk_at dksJ30_hashCode_4_0 19 rfl rfl)
theorem dJ30_hashCode_4_20 : decode cJ30_hashCode_4 20 = .ok (.iload 5, 2) := dk_21 5 (dk_at dksJ30_hashCode_4_0 20 rfl rfl)
theorem dJ30_hashCode_4_22 : decode cJ30_hashCode_4 22 = .ok (.iaload, 1) := dk_46 (dk_at dksJ30_hashCode_4_0 22 rfl rfl)
theorem dJ30_hashCode_4_23 : decode cJ30_hashCode_4 23 = .ok (.iadd, 1) := dk_96 (dk_at dksJ30_hashCode_4_0 23 rfl rfl)
theorem dJ30_hashCode_4_24 : decode cJ30_hashCode_4 24 = .ok (.istore_n 0, 1) := dk_59 (dk_at dksJ30_hashCode_4_1 0 rfl rfl)
theorem dJ30_hashCode_4_25 : decode cJ30_hashCode_4 25 = .ok (.iinc 5 1, 3) := dk_132 5 1 (dk_at dksJ30_hashCode_4_1 1 rfl rfl)
theorem dJ30_hashCode_4_28 : decode cJ30_hashCode_4 28 = .ok (.goto (-20), 3) := dk_167 255 236 (dk_at dksJ30_hashCode_4_1 4 rfl rfl)
theorem dJ30_hashCode_4_31 : decode cJ30_hashCode_4 31 = .ok (.iload_n 0, 1) := dk_26 (dk_at dksJ30_hashCode_4_1 7 rfl rfl)
theorem dJ30_hashCode_4_32 : decode cJ30_hashCode_4 32 = .ok (.ireturn, 1) := dk_172 (dk_at dksJ30_hashCode_4_1 8 rfl rfl)
def dkwJ30_mismatch_3 : List UInt8 := [172]
abbrev dktJ30_mismatch_3 : List UInt8 := dkwJ30_mismatch_3 ++ []
def dkwJ30_mismatch_2 : List UInt8 := [62, 29, 28, 162, 0, 20, 42, 29, 51, 43, 29, 51, 159, 0, 5, 29, 172, 132, 3, 1, 167, 255, 237, 2]
abbrev dktJ30_mismatch_2 : List UInt8 := dkwJ30_mismatch_2 ++ dktJ30_mismatch_3
def dkwJ30_mismatch_1 : List UInt8 := [43, 178, 0, 126, 133, 28, 178, 0, 129, 184, 0, 122, 62, 29, 155, 0, 5, 29, 172, 28, 29, 2, 130, 100]
abbrev dktJ30_mismatch_1 : List UInt8 := dkwJ30_mismatch_1 ++ dktJ30_mismatch_2
def dkwJ30_mismatch_0 : List UInt8 := [3, 62, 28, 16, 7, 164, 0, 44, 42, 3, 51, 43, 3, 51, 159, 0, 5, 3, 172, 42, 178, 0, 126, 133]
abbrev dktJ30_mismatch_0 : List UInt8 := dkwJ30_mismatch_0 ++ dktJ30_mismatch_1
theorem dksJ30_mismatch_0 : cJ30_mismatch.data.toList.drop 0 = dktJ30_mismatch_0 := by decide +kernel
theorem dksJ30_mismatch_1 : cJ30_mismatch.data.toList.drop 24 = dktJ30_mismatch_1 := dk_seg dksJ30_mismatch_0 24 rfl rfl
theorem dksJ30_mismatch_2 : cJ30_mismatch.data.toList.drop 48 = dktJ30_mismatch_2 := dk_seg dksJ30_mismatch_1 24 rfl rfl
theorem dksJ30_mismatch_3 : cJ30_mismatch.data.toList.drop 72 = dktJ30_mismatch_3 := dk_seg dksJ30_mismatch_2 24 rfl rfl
theorem dJ30_mismatch_0 : decode cJ30_mismatch 0 = .ok (.iconst 0, 1) := dk_3 (dk_at dksJ30_mismatch_0 0 rfl rfl)
theorem dJ30_mismatch_1 : decode cJ30_mismatch 1 = .ok (.istore_n 3, 1) := dk_62 (dk_at dksJ30_mismatch_0 1 rfl rfl)
theorem dJ30_mismatch_2 : decode cJ30_mismatch 2 = .ok (.iload_n 2, 1) := dk_28 (dk_at dksJ30_mismatch_0 2 rfl rfl)
theorem dJ30_mismatch_3 : decode cJ30_mismatch 3 = .ok (.bipush 7, 2) := dk_16 7 (dk_at dksJ30_mismatch_0 3 rfl rfl)
theorem dJ30_mismatch_5 : decode cJ30_mismatch 5 = .ok (.if_icmp .le 44, 3) := dk_164 0 44 (dk_at dksJ30_mismatch_0 5 rfl rfl)
theorem dJ30_mismatch_8 : decode cJ30_mismatch 8 = .ok (.aload_n 0, 1) := dk_42 (dk_at dksJ30_mismatch_0 8 rfl rfl)
theorem dJ30_mismatch_9 : decode cJ30_mismatch 9 = .ok (.iconst 0, 1) := dk_3 (dk_at dksJ30_mismatch_0 9 rfl rfl)
theorem dJ30_mismatch_10 : decode cJ30_mismatch 10 = .ok (.baload, 1) := dk_51 (dk_at dksJ30_mismatch_0 10 rfl rfl)
theorem dJ30_mismatch_11 : decode cJ30_mismatch 11 = .ok (.aload_n 1, 1) := dk_43 (dk_at dksJ30_mismatch_0 11 rfl rfl)
theorem dJ30_mismatch_12 : decode cJ30_mismatch 12 = .ok (.iconst 0, 1) := dk_3 (dk_at dksJ30_mismatch_0 12 rfl rfl)
theorem dJ30_mismatch_13 : decode cJ30_mismatch 13 = .ok (.baload, 1) := dk_51 (dk_at dksJ30_mismatch_0 13 rfl rfl)
theorem dJ30_mismatch_14 : decode cJ30_mismatch 14 = .ok (.if_icmp .eq 5, 3) := dk_159 0 5 (dk_at dksJ30_mismatch_0 14 rfl rfl)
theorem dJ30_mismatch_17 : decode cJ30_mismatch 17 = .ok (.iconst 0, 1) := dk_3 (dk_at dksJ30_mismatch_0 17 rfl rfl)
theorem dJ30_mismatch_18 : decode cJ30_mismatch 18 = .ok (.ireturn, 1) := dk_172 (dk_at dksJ30_mismatch_0 18 rfl rfl)
theorem dJ30_mismatch_19 : decode cJ30_mismatch 19 = .ok (.aload_n 0, 1) := dk_42 (dk_at dksJ30_mismatch_0 19 rfl rfl)
theorem dJ30_mismatch_20 : decode cJ30_mismatch 20 = .ok (.getstatic 126, 3) := dk_178 0 126 (dk_at dksJ30_mismatch_0 20 rfl rfl)
theorem dJ30_mismatch_23 : decode cJ30_mismatch 23 = .ok (.i2l, 1) := dk_133 (dk_at dksJ30_mismatch_0 23 rfl rfl)
theorem dJ30_mismatch_24 : decode cJ30_mismatch 24 = .ok (.aload_n 1, 1) := dk_43 (dk_at dksJ30_mismatch_1 0 rfl rfl)
theorem dJ30_mismatch_25 : decode cJ30_mismatch 25 = .ok (.getstatic 126, 3) := dk_178 0 126 (dk_at dksJ30_mismatch_1 1 rfl rfl)
theorem dJ30_mismatch_28 : decode cJ30_mismatch 28 = .ok (.i2l, 1) := dk_133 (dk_at dksJ30_mismatch_1 4 rfl rfl)
theorem dJ30_mismatch_29 : decode cJ30_mismatch 29 = .ok (.iload_n 2, 1) := dk_28 (dk_at dksJ30_mismatch_1 5 rfl rfl)
theorem dJ30_mismatch_30 : decode cJ30_mismatch 30 = .ok (.getstatic 129, 3) := dk_178 0 129 (dk_at dksJ30_mismatch_1 6 rfl rfl)
theorem dJ30_mismatch_33 : decode cJ30_mismatch 33 = .ok (.invokestatic 122, 3) := dk_184 0 122 (dk_at dksJ30_mismatch_1 9 rfl rfl)
theorem dJ30_mismatch_36 : decode cJ30_mismatch 36 = .ok (.istore_n 3, 1) := dk_62 (dk_at dksJ30_mismatch_1 12 rfl rfl)
theorem dJ30_mismatch_37 : decode cJ30_mismatch 37 = .ok (.iload_n 3, 1) := dk_29 (dk_at dksJ30_mismatch_1 13 rfl rfl)
theorem dJ30_mismatch_38 : decode cJ30_mismatch 38 = .ok (.ifCond .lt 5, 3) := dk_155 0 5 (dk_at dksJ30_mismatch_1 14 rfl rfl)
theorem dJ30_mismatch_41 : decode cJ30_mismatch 41 = .ok (.iload_n 3, 1) := dk_29 (dk_at dksJ30_mismatch_1 17 rfl rfl)
theorem dJ30_mismatch_42 : decode cJ30_mismatch 42 = .ok (.ireturn, 1) := dk_172 (dk_at dksJ30_mismatch_1 18 rfl rfl)
theorem dJ30_mismatch_43 : decode cJ30_mismatch 43 = .ok (.iload_n 2, 1) := dk_28 (dk_at dksJ30_mismatch_1 19 rfl rfl)
theorem dJ30_mismatch_44 : decode cJ30_mismatch 44 = .ok (.iload_n 3, 1) := dk_29 (dk_at dksJ30_mismatch_1 20 rfl rfl)
theorem dJ30_mismatch_45 : decode cJ30_mismatch 45 = .ok (.iconst (-1), 1) := dk_2 (dk_at dksJ30_mismatch_1 21 rfl rfl)
theorem dJ30_mismatch_46 : decode cJ30_mismatch 46 = .ok (.ixor, 1) := dk_130 (dk_at dksJ30_mismatch_1 22 rfl rfl)
theorem dJ30_mismatch_47 : decode cJ30_mismatch 47 = .ok (.isub, 1) := dk_100 (dk_at dksJ30_mismatch_1 23 rfl rfl)
theorem dJ30_mismatch_48 : decode cJ30_mismatch 48 = .ok (.istore_n 3, 1) := dk_62 (dk_at dksJ30_mismatch_2 0 rfl rfl)
theorem dJ30_mismatch_49 : decode cJ30_mismatch 49 = .ok (.iload_n 3, 1) := dk_29 (dk_at dksJ30_mismatch_2 1 rfl rfl)
theorem dJ30_mismatch_50 : decode cJ30_mismatch 50 = .ok (.iload_n 2, 1) := dk_28 (dk_at dksJ30_mismatch_2 2 rfl rfl)
theorem dJ30_mismatch_51 : decode cJ30_mismatch 51 = .ok (.if_icmp .ge 20, 3) := dk_162 0 20 (dk_at dksJ30_mismatch_2 3 rfl rfl)
theorem dJ30_mismatch_54 : decode cJ30_mismatch 54 = .ok (.aload_n 0, 1) := dk_42 (dk_at dksJ30_mismatch_2 6 rfl rfl)
theorem dJ30_mismatch_55 : decode cJ30_mismatch 55 = .ok (.iload_n 3, 1) := dk_29 (dk_at dksJ30_mismatch_2 7 rfl rfl)
theorem dJ30_mismatch_56 : decode cJ30_mismatch 56 = .ok (.baload, 1) := dk_51 (dk_at dksJ30_mismatch_2 8 rfl rfl)
theorem dJ30_mismatch_57 : decode cJ30_mismatch 57 = .ok (.aload_n 1, 1) := dk_43 (dk_at dksJ30_mismatch_2 9 rfl rfl)
theorem dJ30_mismatch_58 : decode cJ30_mismatch 58 = .ok (.iload_n 3, 1) := dk_29 (dk_at dksJ30_mismatch_2 10 rfl rfl)
theorem dJ30_mismatch_59 : decode cJ30_mismatch 59 = .ok (.baload, 1) := dk_51 (dk_at dksJ30_mismatch_2 11 rfl rfl)
theorem dJ30_mismatch_60 : decode cJ30_mismatch 60 = .ok (.if_icmp .eq 5, 3) := dk_159 0 5 (dk_at dksJ30_mismatch_2 12 rfl rfl)
theorem dJ30_mismatch_63 : decode cJ30_mismatch 63 = .ok (.iload_n 3, 1) := dk_29 (dk_at dksJ30_mismatch_2 15 rfl rfl)
theorem dJ30_mismatch_64 : decode cJ30_mismatch 64 = .ok (.ireturn, 1) := dk_172 (dk_at dksJ30_mismatch_2 16 rfl rfl)
theorem dJ30_mismatch_65 : decode cJ30_mismatch 65 = .ok (.iinc 3 1, 3) := dk_132 3 1 (dk_at dksJ30_mismatch_2 17 rfl rfl)
theorem dJ30_mismatch_68 : decode cJ30_mismatch 68 = .ok (.goto (-19), 3) := dk_167 255 237 (dk_at dksJ30_mismatch_2 20 rfl rfl)
theorem dJ30_mismatch_71 : decode cJ30_mismatch 71 = .ok (.iconst (-1), 1) := dk_2 (dk_at dksJ30_mismatch_2 23 rfl rfl)
theorem dJ30_mismatch_72 : decode cJ30_mismatch 72 = .ok (.ireturn, 1) := dk_172 (dk_at dksJ30_mismatch_3 0 rfl rfl)
def dkwJ30_vectorizedMismatch_11 : List UInt8 := [54, 10, 21, 10, 2, 130, 172, 21, 10, 2, 130, 172]
abbrev dktJ30_vectorizedMismatch_11 : List UInt8 := dkwJ30_vectorizedMismatch_11 ++ []
def dkwJ30_vectorizedMismatch_10 : List UInt8 := [178, 0, 46, 21, 7, 96, 122, 54, 17, 21, 9, 21, 8, 120, 21, 17, 96, 172, 21, 10, 21, 11, 100]
abbrev dktJ30_vectorizedMismatch_10 : List UInt8 := dkwJ30_vectorizedMismatch_10 ++ dktJ30_vectorizedMismatch_11
def dkwJ30_vectorizedMismatch_9 : List UInt8 := [153, 0, 18, 21, 16, 184, 0, 58, 178, 0, 46, 21, 7, 96, 122, 167, 0, 15, 21, 16, 184, 0, 11]
abbrev dktJ30_vectorizedMismatch_9 : List UInt8 := dkwJ30_vectorizedMismatch_9 ++ dktJ30_vectorizedMismatch_10
def dkwJ30_vectorizedMismatch_8 : List UInt8 := [182, 0, 54, 54, 15, 21, 14, 21, 15, 159, 0, 54, 21, 14, 21, 15, 130, 54, 16, 178, 0, 36]
abbrev dktJ30_vectorizedMismatch_8 : List UInt8 := dkwJ30_vectorizedMismatch_8 ++ dktJ30_vectorizedMismatch_9
def dkwJ30_vectorizedMismatch_7 : List UInt8 := [55, 12, 178, 0, 26, 42, 31, 22, 12, 97, 182, 0, 54, 54, 14, 178, 0, 26, 45, 22, 4, 22, 12, 97]
abbrev dktJ30_vectorizedMismatch_7 : List UInt8 := dkwJ30_vectorizedMismatch_7 ++ dktJ30_vectorizedMismatch_8
def dkwJ30_vectorizedMismatch_6 : List UInt8 := [4, 178, 0, 51, 21, 7, 100, 120, 54, 11, 21, 10, 21, 11, 161, 0, 104, 21, 9, 133, 178, 0, 20, 121]
abbrev dktJ30_vectorizedMismatch_6 : List UInt8 := dkwJ30_vectorizedMismatch_6 ++ dktJ30_vectorizedMismatch_7
def dkwJ30_vectorizedMismatch_5 : List UInt8 := [132, 9, 1, 167, 255, 148, 21, 6, 21, 9, 21, 8, 120, 100, 54, 10, 21, 7, 178, 0, 51, 162, 0, 126]
abbrev dktJ30_vectorizedMismatch_5 : List UInt8 := dkwJ30_vectorizedMismatch_5 ++ dktJ30_vectorizedMismatch_6
def dkwJ30_vectorizedMismatch_4 : List UInt8 := [22, 16, 184, 0, 49, 178, 0, 46, 21, 7, 96, 122, 54, 18, 21, 9, 21, 8, 120, 21, 18, 96, 172]
abbrev dktJ30_vectorizedMismatch_4 : List UInt8 := dkwJ30_vectorizedMismatch_4 ++ dktJ30_vectorizedMismatch_5
def dkwJ30_vectorizedMismatch_3 : List UInt8 := [55, 16, 178, 0, 36, 153, 0, 18, 22, 16, 184, 0, 40, 178, 0, 46, 21, 7, 96, 122, 167, 0, 15]
abbrev dktJ30_vectorizedMismatch_3 : List UInt8 := dkwJ30_vectorizedMismatch_3 ++ dktJ30_vectorizedMismatch_4
def dkwJ30_vectorizedMismatch_2 : List UInt8 := [22, 4, 22, 10, 97, 182, 0, 30, 55, 14, 22, 12, 22, 14, 148, 153, 0, 54, 22, 12, 22, 14, 131]
abbrev dktJ30_vectorizedMismatch_2 : List UInt8 := dkwJ30_vectorizedMismatch_2 ++ dktJ30_vectorizedMismatch_3
def dkwJ30_vectorizedMismatch_1 : List UInt8 := [178, 0, 20, 121, 55, 10, 178, 0, 26, 42, 31, 22, 10, 97, 182, 0, 30, 55, 12, 178, 0, 26, 45]
abbrev dktJ30_vectorizedMismatch_1 : List UInt8 := dkwJ30_vectorizedMismatch_1 ++ dktJ30_vectorizedMismatch_2
def dkwJ30_vectorizedMismatch_0 : List UInt8 := [178, 0, 20, 21, 7, 100, 54, 8, 3, 54, 9, 21, 9, 21, 6, 21, 8, 122, 162, 0, 104, 21, 9, 133]
abbrev dktJ30_vectorizedMismatch_0 : List UInt8 := dkwJ30_vectorizedMismatch_0 ++ dktJ30_vectorizedMismatch_1
theorem dksJ30_vectorizedMismatch_0 : cJ30_vectorizedMismatch.data.toList.drop 0 = dktJ30_vectorizedMismatch_0 := by decide +kernel
theorem dksJ30_vectorizedMismatch_1 : cJ30_vectorizedMismatch.data.toList.drop 24 = dktJ30_vectorizedMismatch_1 := dk_seg dksJ30_vectorizedMismatch_0 24 rfl rfl
theorem dksJ30_vectorizedMismatch_2 : cJ30_vectorizedMismatch.data.toList.drop 47 = dktJ30_vectorizedMismatch_2 := dk_seg dksJ30_vectorizedMismatch_1 23 rfl rfl
theorem dksJ30_vectorizedMismatch_3 : cJ30_vectorizedMismatch.data.toList.drop 70 = dktJ30_vectorizedMismatch_3 := dk_seg dksJ30_vectorizedMismatch_2 23 rfl rfl
theorem dksJ30_vectorizedMismatch_4 : cJ30_vectorizedMismatch.data.toList.drop 93 = dktJ30_vectorizedMismatch_4 := dk_seg dksJ30_vectorizedMismatch_3 23 rfl rfl
theorem dksJ30_vectorizedMismatch_5 : cJ30_vectorizedMismatch.data.toList.drop 116 = dktJ30_vectorizedMismatch_5 := dk_seg dksJ30_vectorizedMismatch_4 23 rfl rfl
theorem dksJ30_vectorizedMismatch_6 : cJ30_vectorizedMismatch.data.toList.drop 140 = dktJ30_vectorizedMismatch_6 := dk_seg dksJ30_vectorizedMismatch_5 24 rfl rfl
theorem dksJ30_vectorizedMismatch_7 : cJ30_vectorizedMismatch.data.toList.drop 164 = dktJ30_vectorizedMismatch_7 := dk_seg dksJ30_vectorizedMismatch_6 24 rfl rfl
theorem dksJ30_vectorizedMismatch_8 : cJ30_vectorizedMismatch.data.toList.drop 188 = dktJ30_vectorizedMismatch_8 := dk_seg dksJ30_vectorizedMismatch_7 24 rfl rfl
theorem dksJ30_vectorizedMismatch_9 : cJ30_vectorizedMismatch.data.toList.drop 210 = dktJ30_vectorizedMismatch_9 := dk_seg dksJ30_vectorizedMismatch_8 22 rfl rfl
theorem dksJ30_vectorizedMismatch_10 : cJ30_vectorizedMismatch.data.toList.drop 233 = dktJ30_vectorizedMismatch_10 := dk_seg dksJ30_vectorizedMismatch_9 23 rfl rfl
theorem dksJ30_vectorizedMismatch_11 : cJ30_vectorizedMismatch.data.toList.drop 256 = dktJ30_vectorizedMismatch_11 := dk_seg dksJ30_vectorizedMismatch_10 23 rfl rfl
theorem dJ30_vectorizedMismatch_0 : decode cJ30_vectorizedMismatch 0 = .ok (.getstatic 20, 3) := dk_178 0 20 (dk_at dksJ30_vectorizedMismatch_0 0 rfl rfl)
theorem dJ30_vectorizedMismatch_3 : decode cJ30_vectorizedMismatch 3 = .ok (.iload 7, 2) := dk_21 7 (dk_at dksJ30_vectorizedMismatch_0 3 rfl rfl)
theorem dJ30_vectorizedMismatch_5 : decode cJ30_vectorizedMismatch 5 = .ok (.isub, 1) := dk_100 (dk_at dksJ30_vectorizedMismatch_0 5 rfl rfl)
theorem dJ30_vectorizedMismatch_6 : decode cJ30_vectorizedMismatch 6 = .ok (.istore 8, 2) := dk_54 8 (dk_at dksJ30_vectorizedMismatch_0 6 rfl rfl)
theorem dJ30_vectorizedMismatch_8 : decode cJ30_vectorizedMismatch 8 = .ok (.iconst 0, 1) := dk_3 (dk_at dksJ30_vectorizedMismatch_0 8 rfl rfl)
theorem dJ30_vectorizedMismatch_9 : decode cJ30_vectorizedMismatch 9 = .ok (.istore 9, 2) := dk_54 9 (dk_at dksJ30_vectorizedMismatch_0 9 rfl rfl)
theorem dJ30_vectorizedMismatch_11 : decode cJ30_vectorizedMismatch 11 = .ok (.iload 9, 2) := dk_21 9 (dk_at dksJ30_vectorizedMismatch_0 11 rfl rfl)
theorem dJ30_vectorizedMismatch_13 : decode cJ30_vectorizedMismatch 13 = .ok (.iload 6, 2) := dk_21 6 (dk_at dksJ30_vectorizedMismatch_0 13 rfl rfl)
theorem dJ30_vectorizedMismatch_15 : decode cJ30_vectorizedMismatch 15 = .ok (.iload 8, 2) := dk_21 8 (dk_at dksJ30_vectorizedMismatch_0 15 rfl rfl)
theorem dJ30_vectorizedMismatch_17 : decode cJ30_vectorizedMismatch 17 = .ok (.ishr, 1) := dk_122 (dk_at dksJ30_vectorizedMismatch_0 17 rfl rfl)
theorem dJ30_vectorizedMismatch_18 : decode cJ30_vectorizedMismatch 18 = .ok (.if_icmp .ge 104, 3) := dk_162 0 104 (dk_at dksJ30_vectorizedMismatch_0 18 rfl rfl)
theorem dJ30_vectorizedMismatch_21 : decode cJ30_vectorizedMismatch 21 = .ok (.iload 9, 2) := dk_21 9 (dk_at dksJ30_vectorizedMismatch_0 21 rfl rfl)
theorem dJ30_vectorizedMismatch_23 : decode cJ30_vectorizedMismatch 23 = .ok (.i2l, 1) := dk_133 (dk_at dksJ30_vectorizedMismatch_0 23 rfl rfl)
theorem dJ30_vectorizedMismatch_24 : decode cJ30_vectorizedMismatch 24 = .ok (.getstatic 20, 3) := dk_178 0 20 (dk_at dksJ30_vectorizedMismatch_1 0 rfl rfl)
theorem dJ30_vectorizedMismatch_27 : decode cJ30_vectorizedMismatch 27 = .ok (.lshl, 1) := dk_121 (dk_at dksJ30_vectorizedMismatch_1 3 rfl rfl)
theorem dJ30_vectorizedMismatch_28 : decode cJ30_vectorizedMismatch 28 = .ok (.lstore 10, 2) := dk_55 10 (dk_at dksJ30_vectorizedMismatch_1 4 rfl rfl)
theorem dJ30_vectorizedMismatch_30 : decode cJ30_vectorizedMismatch 30 = .ok (.getstatic 26, 3) := dk_178 0 26 (dk_at dksJ30_vectorizedMismatch_1 6 rfl rfl)
theorem dJ30_vectorizedMismatch_33 : decode cJ30_vectorizedMismatch 33 = .ok (.aload_n 0, 1) := dk_42 (dk_at dksJ30_vectorizedMismatch_1 9 rfl rfl)
theorem dJ30_vectorizedMismatch_34 : decode cJ30_vectorizedMismatch 34 = .ok (.lload_n 1, 1) := dk_31 (dk_at dksJ30_vectorizedMismatch_1 10 rfl rfl)
theorem dJ30_vectorizedMismatch_35 : decode cJ30_vectorizedMismatch 35 = .ok (.lload 10, 2) := dk_22 10 (dk_at dksJ30_vectorizedMismatch_1 11 rfl rfl)
theorem dJ30_vectorizedMismatch_37 : decode cJ30_vectorizedMismatch 37 = .ok (.ladd, 1) := dk_97 (dk_at dksJ30_vectorizedMismatch_1 13 rfl rfl)
theorem dJ30_vectorizedMismatch_38 : decode cJ30_vectorizedMismatch 38 = .ok (.invokevirtual 30, 3) := dk_182 0 30 (dk_at dksJ30_vectorizedMismatch_1 14 rfl rfl)
theorem dJ30_vectorizedMismatch_41 : decode cJ30_vectorizedMismatch 41 = .ok (.lstore 12, 2) := dk_55 12 (dk_at dksJ30_vectorizedMismatch_1 17 rfl rfl)
theorem dJ30_vectorizedMismatch_43 : decode cJ30_vectorizedMismatch 43 = .ok (.getstatic 26, 3) := dk_178 0 26 (dk_at dksJ30_vectorizedMismatch_1 19 rfl rfl)
theorem dJ30_vectorizedMismatch_46 : decode cJ30_vectorizedMismatch 46 = .ok (.aload_n 3, 1) := dk_45 (dk_at dksJ30_vectorizedMismatch_1 22 rfl rfl)
theorem dJ30_vectorizedMismatch_47 : decode cJ30_vectorizedMismatch 47 = .ok (.lload 4, 2) := dk_22 4 (dk_at dksJ30_vectorizedMismatch_2 0 rfl rfl)
theorem dJ30_vectorizedMismatch_49 : decode cJ30_vectorizedMismatch 49 = .ok (.lload 10, 2) := dk_22 10 (dk_at dksJ30_vectorizedMismatch_2 2 rfl rfl)
theorem dJ30_vectorizedMismatch_51 : decode cJ30_vectorizedMismatch 51 = .ok (.ladd, 1) := dk_97 (dk_at dksJ30_vectorizedMismatch_2 4 rfl rfl)
theorem dJ30_vectorizedMismatch_52 : decode cJ30_vectorizedMismatch 52 = .ok (.invokevirtual 30, 3) := dk_182 0 30 (dk_at dksJ30_vectorizedMismatch_2 5 rfl rfl)
theorem dJ30_vectorizedMismatch_55 : decode cJ30_vectorizedMismatch 55 = .ok (.lstore 14, 2) := dk_55 14 (dk_at dksJ30_vectorizedMismatch_2 8 rfl rfl)
theorem dJ30_vectorizedMismatch_57 : decode cJ30_vectorizedMismatch 57 = .ok (.lload 12, 2) := dk_22 12 (dk_at dksJ30_vectorizedMismatch_2 10 rfl rfl)
theorem dJ30_vectorizedMismatch_59 : decode cJ30_vectorizedMismatch 59 = .ok (.lload 14, 2) := dk_22 14 (dk_at dksJ30_vectorizedMismatch_2 12 rfl rfl)
theorem dJ30_vectorizedMismatch_61 : decode cJ30_vectorizedMismatch 61 = .ok (.lcmp, 1) := dk_148 (dk_at dksJ30_vectorizedMismatch_2 14 rfl rfl)
theorem dJ30_vectorizedMismatch_62 : decode cJ30_vectorizedMismatch 62 = .ok (.ifCond .eq 54, 3) := dk_153 0 54 (dk_at dksJ30_vectorizedMismatch_2 15 rfl rfl)
theorem dJ30_vectorizedMismatch_65 : decode cJ30_vectorizedMismatch 65 = .ok (.lload 12, 2) := dk_22 12 (dk_at dksJ30_vectorizedMismatch_2 18 rfl rfl)
theorem dJ30_vectorizedMismatch_67 : decode cJ30_vectorizedMismatch 67 = .ok (.lload 14, 2) := dk_22 14 (dk_at dksJ30_vectorizedMismatch_2 20 rfl rfl)
theorem dJ30_vectorizedMismatch_69 : decode cJ30_vectorizedMismatch 69 = .ok (.lxor, 1) := dk_131 (dk_at dksJ30_vectorizedMismatch_2 22 rfl rfl)
theorem dJ30_vectorizedMismatch_70 : decode cJ30_vectorizedMismatch 70 = .ok (.lstore 16, 2) := dk_55 16 (dk_at dksJ30_vectorizedMismatch_3 0 rfl rfl)
theorem dJ30_vectorizedMismatch_72 : decode cJ30_vectorizedMismatch 72 = .ok (.getstatic 36, 3) := dk_178 0 36 (dk_at dksJ30_vectorizedMismatch_3 2 rfl rfl)
theorem dJ30_vectorizedMismatch_75 : decode cJ30_vectorizedMismatch 75 = .ok (.ifCond .eq 18, 3) := dk_153 0 18 (dk_at dksJ30_vectorizedMismatch_3 5 rfl rfl)
theorem dJ30_vectorizedMismatch_78 : decode cJ30_vectorizedMismatch 78 = .ok (.lload 16, 2) := dk_22 16 (dk_at dksJ30_vectorizedMismatch_3 8 rfl rfl)
theorem dJ30_vectorizedMismatch_80 : decode cJ30_vectorizedMismatch 80 = .ok (.invokestatic 40, 3) := dk_184 0 40 (dk_at dksJ30_vectorizedMismatch_3 10 rfl rfl)
theorem dJ30_vectorizedMismatch_83 : decode cJ30_vectorizedMismatch 83 = .ok (.getstatic 46, 3) := dk_178 0 46 (dk_at dksJ30_vectorizedMismatch_3 13 rfl rfl)
theorem dJ30_vectorizedMismatch_86 : decode cJ30_vectorizedMismatch 86 = .ok (.iload 7, 2) := dk_21 7 (dk_at dksJ30_vectorizedMismatch_3 16 rfl rfl)
theorem dJ30_vectorizedMismatch_88 : decode cJ30_vectorizedMismatch 88 = .ok (.iadd, 1) := dk_96 (dk_at dksJ30_vectorizedMismatch_3 18 rfl rfl)
theorem dJ30_vectorizedMismatch_89 : decode cJ30_vectorizedMismatch 89 = .ok (.ishr, 1) := dk_122 (dk_at dksJ30_vectorizedMismatch_3 19 rfl rfl)
theorem dJ30_vectorizedMismatch_90 : decode cJ30_vectorizedMismatch 90 = .ok (.goto 15, 3) := dk_167 0 15 (dk_at dksJ30_vectorizedMismatch_3 20 rfl rfl)
theorem dJ30_vectorizedMismatch_93 : decode cJ30_vectorizedMismatch 93 = .ok (.lload 16, 2) := dk_22 16 (dk_at dksJ30_vectorizedMismatch_4 0 rfl rfl)
theorem dJ30_vectorizedMismatch_95 : decode cJ30_vectorizedMismatch 95 = .ok (.invokestatic 49, 3) := dk_184 0 49 (dk_at dksJ30_vectorizedMismatch_4 2 rfl rfl)
theorem dJ30_vectorizedMismatch_98 : decode cJ30_vectorizedMismatch 98 = .ok (.getstatic 46, 3) := dk_178 0 46 (dk_at dksJ30_vectorizedMismatch_4 5 rfl rfl)
theorem dJ30_vectorizedMismatch_101 : decode cJ30_vectorizedMismatch 101 = .ok (.iload 7, 2) := dk_21 7 (dk_at dksJ30_vectorizedMismatch_4 8 rfl rfl)
theorem dJ30_vectorizedMismatch_103 : decode cJ30_vectorizedMismatch 103 = .ok (.iadd, 1) := dk_96 (dk_at dksJ30_vectorizedMismatch_4 10 rfl rfl)
theorem dJ30_vectorizedMismatch_104 : decode cJ30_vectorizedMismatch 104 = .ok (.ishr, 1) := dk_122 (dk_at dksJ30_vectorizedMismatch_4 11 rfl rfl)
theorem dJ30_vectorizedMismatch_105 : decode cJ30_vectorizedMismatch 105 = .ok (.istore 18, 2) := dk_54 18 (dk_at dksJ30_vectorizedMismatch_4 12 rfl rfl)
theorem dJ30_vectorizedMismatch_107 : decode cJ30_vectorizedMismatch 107 = .ok (.iload 9, 2) := dk_21 9 (dk_at dksJ30_vectorizedMismatch_4 14 rfl rfl)
theorem dJ30_vectorizedMismatch_109 : decode cJ30_vectorizedMismatch 109 = .ok (.iload 8, 2) := dk_21 8 (dk_at dksJ30_vectorizedMismatch_4 16 rfl rfl)
theorem dJ30_vectorizedMismatch_111 : decode cJ30_vectorizedMismatch 111 = .ok (.ishl, 1) := dk_120 (dk_at dksJ30_vectorizedMismatch_4 18 rfl rfl)
theorem dJ30_vectorizedMismatch_112 : decode cJ30_vectorizedMismatch 112 = .ok (.iload 18, 2) := dk_21 18 (dk_at dksJ30_vectorizedMismatch_4 19 rfl rfl)
theorem dJ30_vectorizedMismatch_114 : decode cJ30_vectorizedMismatch 114 = .ok (.iadd, 1) := dk_96 (dk_at dksJ30_vectorizedMismatch_4 21 rfl rfl)
theorem dJ30_vectorizedMismatch_115 : decode cJ30_vectorizedMismatch 115 = .ok (.ireturn, 1) := dk_172 (dk_at dksJ30_vectorizedMismatch_4 22 rfl rfl)
theorem dJ30_vectorizedMismatch_116 : decode cJ30_vectorizedMismatch 116 = .ok (.iinc 9 1, 3) := dk_132 9 1 (dk_at dksJ30_vectorizedMismatch_5 0 rfl rfl)
theorem dJ30_vectorizedMismatch_119 : decode cJ30_vectorizedMismatch 119 = .ok (.goto (-108), 3) := dk_167 255 148 (dk_at dksJ30_vectorizedMismatch_5 3 rfl rfl)
theorem dJ30_vectorizedMismatch_122 : decode cJ30_vectorizedMismatch 122 = .ok (.iload 6, 2) := dk_21 6 (dk_at dksJ30_vectorizedMismatch_5 6 rfl rfl)
theorem dJ30_vectorizedMismatch_124 : decode cJ30_vectorizedMismatch 124 = .ok (.iload 9, 2) := dk_21 9 (dk_at dksJ30_vectorizedMismatch_5 8 rfl rfl)
theorem dJ30_vectorizedMismatch_126 : decode cJ30_vectorizedMismatch 126 = .ok (.iload 8, 2) := dk_21 8 (dk_at dksJ30_vectorizedMismatch_5 10 rfl rfl)
theorem dJ30_vectorizedMismatch_128 : decode cJ30_vectorizedMismatch 128 = .ok (.ishl, 1) := dk_120 (dk_at dksJ30_vectorizedMismatch_5 12 rfl rfl)
theorem dJ30_vectorizedMismatch_129 : decode cJ30_vectorizedMismatch 129 = .ok (.isub, 1) := dk_100 (dk_at dksJ30_vectorizedMismatch_5 13 rfl rfl)
theorem dJ30_vectorizedMismatch_130 : decode cJ30_vectorizedMismatch 130 = .ok (.istore 10, 2) := dk_54 10 (dk_at dksJ30_vectorizedMismatch_5 14 rfl rfl)
theorem dJ30_vectorizedMismatch_132 : decode cJ30_vectorizedMismatch 132 = .ok (.iload 7, 2) := dk_21 7 (dk_at dksJ30_vectorizedMismatch_5 16 rfl rfl)
theorem dJ30_vectorizedMismatch_134 : decode cJ30_vectorizedMismatch 134 = .ok (.getstatic 51, 3) := dk_178 0 51 (dk_at dksJ30_vectorizedMismatch_5 18 rfl rfl)
theorem dJ30_vectorizedMismatch_137 : decode cJ30_vectorizedMismatch 137 = .ok (.if_icmp .ge 126, 3) := dk_162 0 126 (dk_at dksJ30_vectorizedMismatch_5 21 rfl rfl)
theorem dJ30_vectorizedMismatch_140 : decode cJ30_vectorizedMismatch 140 = .ok (.iconst 1, 1) := dk_4 (dk_at dksJ30_vectorizedMismatch_6 0 rfl rfl)
theorem dJ30_vectorizedMismatch_141 : decode cJ30_vectorizedMismatch 141 = .ok (.getstatic 51, 3) := dk_178 0 51 (dk_at dksJ30_vectorizedMismatch_6 1 rfl rfl)
theorem dJ30_vectorizedMismatch_144 : decode cJ30_vectorizedMismatch 144 = .ok (.iload 7, 2) := dk_21 7 (dk_at dksJ30_vectorizedMismatch_6 4 rfl rfl)
theorem dJ30_vectorizedMismatch_146 : decode cJ30_vectorizedMismatch 146 = .ok (.isub, 1) := dk_100 (dk_at dksJ30_vectorizedMismatch_6 6 rfl rfl)
theorem dJ30_vectorizedMismatch_147 : decode cJ30_vectorizedMismatch 147 = .ok (.ishl, 1) := dk_120 (dk_at dksJ30_vectorizedMismatch_6 7 rfl rfl)
theorem dJ30_vectorizedMismatch_148 : decode cJ30_vectorizedMismatch 148 = .ok (.istore 11, 2) := dk_54 11 (dk_at dksJ30_vectorizedMismatch_6 8 rfl rfl)
theorem dJ30_vectorizedMismatch_150 : decode cJ30_vectorizedMismatch 150 = .ok (.iload 10, 2) := dk_21 10 (dk_at dksJ30_vectorizedMismatch_6 10 rfl rfl)
theorem dJ30_vectorizedMismatch_152 : decode cJ30_vectorizedMismatch 152 = .ok (.iload 11, 2) := dk_21 11 (dk_at dksJ30_vectorizedMismatch_6 12 rfl rfl)
theorem dJ30_vectorizedMismatch_154 : decode cJ30_vectorizedMismatch 154 = .ok (.if_icmp .lt 104, 3) := dk_161 0 104 (dk_at dksJ30_vectorizedMismatch_6 14 rfl rfl)
theorem dJ30_vectorizedMismatch_157 : decode cJ30_vectorizedMismatch 157 = .ok (.iload 9, 2) := dk_21 9 (dk_at dksJ30_vectorizedMismatch_6 17 rfl rfl)
theorem dJ30_vectorizedMismatch_159 : decode cJ30_vectorizedMismatch 159 = .ok (.i2l, 1) := dk_133 (dk_at dksJ30_vectorizedMismatch_6 19 rfl rfl)
theorem dJ30_vectorizedMismatch_160 : decode cJ30_vectorizedMismatch 160 = .ok (.getstatic 20, 3) := dk_178 0 20 (dk_at dksJ30_vectorizedMismatch_6 20 rfl rfl)
theorem dJ30_vectorizedMismatch_163 : decode cJ30_vectorizedMismatch 163 = .ok (.lshl, 1) := dk_121 (dk_at dksJ30_vectorizedMismatch_6 23 rfl rfl)
theorem dJ30_vectorizedMismatch_164 : decode cJ30_vectorizedMismatch 164 = .ok (.lstore 12, 2) := dk_55 12 (dk_at dksJ30_vectorizedMismatch_7 0 rfl rfl)
theorem dJ30_vectorizedMismatch_166 : decode cJ30_vectorizedMismatch 166 = .ok (.getstatic 26, 3) := dk_178 0 26 (dk_at dksJ30_vectorizedMismatch_7 2 rfl rfl)
theorem dJ30_vectorizedMismatch_169 : decode cJ30_vectorizedMismatch 169 = .ok (.aload_n 0, 1) := dk_42 (dk_at dksJ30_vectorizedMismatch_7 5 rfl rfl)
theorem dJ30_vectorizedMismatch_170 : decode cJ30_vectorizedMismatch 170 = .ok (.lload_n 1, 1) := dk_31 (dk_at dksJ30_vectorizedMismatch_7 6 rfl rfl)
theorem dJ30_vectorizedMismatch_171 : decode cJ30_vectorizedMismatch 171 = .ok (.lload 12, 2) := dk_22 12 (dk_at dksJ30_vectorizedMismatch_7 7 rfl rfl)
theorem dJ30_vectorizedMismatch_173 : decode cJ30_vectorizedMismatch 173 = .ok (.ladd, 1) := dk_97 (dk_at dksJ30_vectorizedMismatch_7 9 rfl rfl)
theorem dJ30_vectorizedMismatch_174 : decode cJ30_vectorizedMismatch 174 = .ok (.invokevirtual 54, 3) := dk_182 0 54 (dk_at dksJ30_vectorizedMismatch_7 10 rfl rfl)
theorem dJ30_vectorizedMismatch_177 : decode cJ30_vectorizedMismatch 177 = .ok (.istore 14, 2) := dk_54 14 (dk_at dksJ30_vectorizedMismatch_7 13 rfl rfl)
theorem dJ30_vectorizedMismatch_179 : decode cJ30_vectorizedMismatch 179 = .ok (.getstatic 26, 3) := dk_178 0 26 (dk_at dksJ30_vectorizedMismatch_7 15 rfl rfl)
theorem dJ30_vectorizedMismatch_182 : decode cJ30_vectorizedMismatch 182 = .ok (.aload_n 3, 1) := dk_45 (dk_at dksJ30_vectorizedMismatch_7 18 rfl rfl)
theorem dJ30_vectorizedMismatch_183 : decode cJ30_vectorizedMismatch 183 = .ok (.lload 4, 2) := dk_22 4 (dk_at dksJ30_vectorizedMismatch_7 19 rfl rfl)
theorem dJ30_vectorizedMismatch_185 : decode cJ30_vectorizedMismatch 185 = .ok (.lload 12, 2) := dk_22 12 (dk_at dksJ30_vectorizedMismatch_7 21 rfl rfl)
theorem dJ30_vectorizedMismatch_187 : decode cJ30_vectorizedMismatch 187 = .ok (.ladd, 1) := dk_97 (dk_at dksJ30_vectorizedMismatch_7 23 rfl rfl)
theorem dJ30_vectorizedMismatch_188 : decode cJ30_vectorizedMismatch 188 = .ok (.invokevirtual 54, 3) := dk_182 0 54 (dk_at dksJ30_vectorizedMismatch_8 0 rfl rfl)
theorem dJ30_vectorizedMismatch_191 : decode cJ30_vectorizedMismatch 191 = .ok (.istore 15, 2) := dk_54 15 (dk_at dksJ30_vectorizedMismatch_8 3 rfl rfl)
theorem dJ30_vectorizedMismatch_193 : decode cJ30_vectorizedMismatch 193 = .ok (.iload 14, 2) := dk_21 14 (dk_at dksJ30_vectorizedMismatch_8 5 rfl rfl)
theorem dJ30_vectorizedMismatch_195 : decode cJ30_vectorizedMismatch 195 = .ok (.iload 15, 2) := dk_21 15 (dk_at dksJ30_vectorizedMismatch_8 7 rfl rfl)
theorem dJ30_vectorizedMismatch_197 : decode cJ30_vectorizedMismatch 197 = .ok (.if_icmp .eq 54, 3) := dk_159 0 54 (dk_at dksJ30_vectorizedMismatch_8 9 rfl rfl)
theorem dJ30_vectorizedMismatch_200 : decode cJ30_vectorizedMismatch 200 = .ok (.iload 14, 2) := dk_21 14 (dk_at dksJ30_vectorizedMismatch_8 12 rfl rfl)
theorem dJ30_vectorizedMismatch_202 : decode cJ30_vectorizedMismatch 202 = .ok (.iload 15, 2) := dk_21 15 (dk_at dksJ30_vectorizedMismatch_8 14 rfl rfl)
theorem dJ30_vectorizedMismatch_204 : decode cJ30_vectorizedMismatch 204 = .ok (.ixor, 1) := dk_130 (dk_at dksJ30_vectorizedMismatch_8 16 rfl rfl)
theorem dJ30_vectorizedMismatch_205 : decode cJ30_vectorizedMismatch 205 = .ok (.istore 16, 2) := dk_54 16 (dk_at dksJ30_vectorizedMismatch_8 17 rfl rfl)
theorem dJ30_vectorizedMismatch_207 : decode cJ30_vectorizedMismatch 207 = .ok (.getstatic 36, 3) := dk_178 0 36 (dk_at dksJ30_vectorizedMismatch_8 19 rfl rfl)
theorem dJ30_vectorizedMismatch_210 : decode cJ30_vectorizedMismatch 210 = .ok (.ifCond .eq 18, 3) := dk_153 0 18 (dk_at dksJ30_vectorizedMismatch_9 0 rfl rfl)
theorem dJ30_vectorizedMismatch_213 : decode cJ30_vectorizedMismatch 213 = .ok (.iload 16, 2) := dk_21 16 (dk_at dksJ30_vectorizedMismatch_9 3 rfl rfl)
theorem dJ30_vectorizedMismatch_215 : decode cJ30_vectorizedMismatch 215 = .ok (.invokestatic 58, 3) := dk_184 0 58 (dk_at dksJ30_vectorizedMismatch_9 5 rfl rfl)
theorem dJ30_vectorizedMismatch_218 : decode cJ30_vectorizedMismatch 218 = .ok (.getstatic 46, 3) := dk_178 0 46 (dk_at dksJ30_vectorizedMismatch_9 8 rfl rfl)
theorem dJ30_vectorizedMismatch_221 : decode cJ30_vectorizedMismatch 221 = .ok (.iload 7, 2) := dk_21 7 (dk_at dksJ30_vectorizedMismatch_9 11 rfl rfl)
theorem dJ30_vectorizedMismatch_223 : decode cJ30_vectorizedMismatch 223 = .ok (.iadd, 1) := dk_96 (dk_at dksJ30_vectorizedMismatch_9 13 rfl rfl)
theorem dJ30_vectorizedMismatch_224 : decode cJ30_vectorizedMismatch 224 = .ok (.ishr, 1) := dk_122 (dk_at dksJ30_vectorizedMismatch_9 14 rfl rfl)
theorem dJ30_vectorizedMismatch_225 : decode cJ30_vectorizedMismatch 225 = .ok (.goto 15, 3) := dk_167 0 15 (dk_at dksJ30_vectorizedMismatch_9 15 rfl rfl)
theorem dJ30_vectorizedMismatch_228 : decode cJ30_vectorizedMismatch 228 = .ok (.iload 16, 2) := dk_21 16 (dk_at dksJ30_vectorizedMismatch_9 18 rfl rfl)
theorem dJ30_vectorizedMismatch_230 : decode cJ30_vectorizedMismatch 230 = .ok (.invokestatic 11, 3) := dk_184 0 11 (dk_at dksJ30_vectorizedMismatch_9 20 rfl rfl)
theorem dJ30_vectorizedMismatch_233 : decode cJ30_vectorizedMismatch 233 = .ok (.getstatic 46, 3) := dk_178 0 46 (dk_at dksJ30_vectorizedMismatch_10 0 rfl rfl)
theorem dJ30_vectorizedMismatch_236 : decode cJ30_vectorizedMismatch 236 = .ok (.iload 7, 2) := dk_21 7 (dk_at dksJ30_vectorizedMismatch_10 3 rfl rfl)
theorem dJ30_vectorizedMismatch_238 : decode cJ30_vectorizedMismatch 238 = .ok (.iadd, 1) := dk_96 (dk_at dksJ30_vectorizedMismatch_10 5 rfl rfl)
theorem dJ30_vectorizedMismatch_239 : decode cJ30_vectorizedMismatch 239 = .ok (.ishr, 1) := dk_122 (dk_at dksJ30_vectorizedMismatch_10 6 rfl rfl)
theorem dJ30_vectorizedMismatch_240 : decode cJ30_vectorizedMismatch 240 = .ok (.istore 17, 2) := dk_54 17 (dk_at dksJ30_vectorizedMismatch_10 7 rfl rfl)
theorem dJ30_vectorizedMismatch_242 : decode cJ30_vectorizedMismatch 242 = .ok (.iload 9, 2) := dk_21 9 (dk_at dksJ30_vectorizedMismatch_10 9 rfl rfl)
theorem dJ30_vectorizedMismatch_244 : decode cJ30_vectorizedMismatch 244 = .ok (.iload 8, 2) := dk_21 8 (dk_at dksJ30_vectorizedMismatch_10 11 rfl rfl)
theorem dJ30_vectorizedMismatch_246 : decode cJ30_vectorizedMismatch 246 = .ok (.ishl, 1) := dk_120 (dk_at dksJ30_vectorizedMismatch_10 13 rfl rfl)
theorem dJ30_vectorizedMismatch_247 : decode cJ30_vectorizedMismatch 247 = .ok (.iload 17, 2) := dk_21 17 (dk_at dksJ30_vectorizedMismatch_10 14 rfl rfl)
theorem dJ30_vectorizedMismatch_249 : decode cJ30_vectorizedMismatch 249 = .ok (.iadd, 1) := dk_96 (dk_at dksJ30_vectorizedMismatch_10 16 rfl rfl)
theorem dJ30_vectorizedMismatch_250 : decode cJ30_vectorizedMismatch 250 = .ok (.ireturn, 1) := dk_172 (dk_at dksJ30_vectorizedMismatch_10 17 rfl rfl)
theorem dJ30_vectorizedMismatch_251 : decode cJ30_vectorizedMismatch 251 = .ok (.iload 10, 2) := dk_21 10 (dk_at dksJ30_vectorizedMismatch_10 18 rfl rfl)
theorem dJ30_vectorizedMismatch_253 : decode cJ30_vectorizedMismatch 253 = .ok (.iload 11, 2) := dk_21 11 (dk_at dksJ30_vectorizedMismatch_10 20 rfl rfl)
theorem dJ30_vectorizedMismatch_255 : decode cJ30_vectorizedMismatch 255 = .ok (.isub, 1) := dk_100 (dk_at dksJ30_vectorizedMismatch_10 22 rfl rfl)
theorem dJ30_vectorizedMismatch_256 : decode cJ30_vectorizedMismatch 256 = .ok (.istore 10, 2) := dk_54 10 (dk_at dksJ30_vectorizedMismatch_11 0 rfl rfl)
theorem dJ30_vectorizedMismatch_258 : decode cJ30_vectorizedMismatch 258 = .ok (.iload 10, 2) := dk_21 10 (dk_at dksJ30_vectorizedMismatch_11 2 rfl rfl)
theorem dJ30_vectorizedMismatch_260 : decode cJ30_vectorizedMismatch 260 = .ok (.iconst (-1), 1) := dk_2 (dk_at dksJ30_vectorizedMismatch_11 4 rfl rfl)
theorem dJ30_vectorizedMismatch_261 : decode cJ30_vectorizedMismatch 261 = .ok (.ixor, 1) := dk_130 (dk_at dksJ30_vectorizedMismatch_11 5 rfl rfl)
theorem dJ30_vectorizedMismatch_262 : decode cJ30_vectorizedMismatch 262 = .ok (.ireturn, 1) := dk_172 (dk_at dksJ30_vectorizedMismatch_11 6 rfl rfl)
theorem dJ30_vectorizedMismatch_263 : decode cJ30_vectorizedMismatch 263 = .ok (.iload 10, 2) := dk_21 10 (dk_at dksJ30_vectorizedMismatch_11 7 rfl rfl)
theorem dJ30_vectorizedMismatch_265 : decode cJ30_vectorizedMismatch 265 = .ok (.iconst (-1), 1) := dk_2 (dk_at dksJ30_vectorizedMismatch_11 9 rfl rfl)
theorem dJ30_vectorizedMismatch_266 : decode cJ30_vectorizedMismatch 266 = .ok (.ixor, 1) := dk_130 (dk_at dksJ30_vectorizedMismatch_11 10 rfl rfl)
theorem dJ30_vectorizedMismatch_267 : decode cJ30_vectorizedMismatch 267 = .ok (.ireturn, 1) := dk_172 (dk_at dksJ30_vectorizedMismatch_11 11 rfl rfl)
def dkwJ31_copyOf_1 : List UInt8 := [27, 184, 1, 48, 184, 0, 150, 44, 176]
abbrev dktJ31_copyOf_1 : List UInt8 := dkwJ31_copyOf_1 ++ []
def dkwJ31_copyOf_0 : List UInt8 := [27, 42, 190, 160, 0, 11, 42, 182, 1, 54, 192, 1, 55, 176, 27, 188, 8, 77, 42, 3, 44, 3, 42, 190]
abbrev dktJ31_copyOf_0 : List UInt8 := dkwJ31_copyOf_0 ++ dktJ31_copyOf_1
theorem dksJ31_copyOf_0 : cJ31_copyOf.data.toList.drop 0 = dktJ31_copyOf_0 := by decide +kernel
theorem dksJ31_copyOf_1 : cJ31_copyOf.data.toList.drop 24 = dktJ31_copyOf_1 := dk_seg dksJ31_copyOf_0 24 rfl rfl
theorem dJ31_copyOf_0 : decode cJ31_copyOf 0 = .ok (.iload_n 1, 1) := dk_27 (dk_at dksJ31_copyOf_0 0 rfl rfl)
theorem dJ31_copyOf_1 : decode cJ31_copyOf 1 = .ok (.aload_n 0, 1) := dk_42 (dk_at dksJ31_copyOf_0 1 rfl rfl)
theorem dJ31_copyOf_2 : decode cJ31_copyOf 2 = .ok (.arraylength, 1) := dk_190 (dk_at dksJ31_copyOf_0 2 rfl rfl)
theorem dJ31_copyOf_3 : decode cJ31_copyOf 3 = .ok (.if_icmp .ne 11, 3) := dk_160 0 11 (dk_at dksJ31_copyOf_0 3 rfl rfl)
theorem dJ31_copyOf_6 : decode cJ31_copyOf 6 = .ok (.aload_n 0, 1) := dk_42 (dk_at dksJ31_copyOf_0 6 rfl rfl)
theorem dJ31_copyOf_7 : decode cJ31_copyOf 7 = .ok (.invokevirtual 310, 3) := dk_182 1 54 (dk_at dksJ31_copyOf_0 7 rfl rfl)
theorem dJ31_copyOf_10 : decode cJ31_copyOf 10 = .ok (.checkcast 311, 3) := dk_192 1 55 (dk_at dksJ31_copyOf_0 10 rfl rfl)
theorem dJ31_copyOf_13 : decode cJ31_copyOf 13 = .ok (.areturn, 1) := dk_176 (dk_at dksJ31_copyOf_0 13 rfl rfl)
theorem dJ31_copyOf_14 : decode cJ31_copyOf 14 = .ok (.iload_n 1, 1) := dk_27 (dk_at dksJ31_copyOf_0 14 rfl rfl)
theorem dJ31_copyOf_15 : decode cJ31_copyOf 15 = .ok (.newarray .byte, 2) := dk_188_8 (dk_at dksJ31_copyOf_0 15 rfl rfl)
theorem dJ31_copyOf_17 : decode cJ31_copyOf 17 = .ok (.astore_n 2, 1) := dk_77 (dk_at dksJ31_copyOf_0 17 rfl rfl)
theorem dJ31_copyOf_18 : decode cJ31_copyOf 18 = .ok (.aload_n 0, 1) := dk_42 (dk_at dksJ31_copyOf_0 18 rfl rfl)
theorem dJ31_copyOf_19 : decode cJ31_copyOf 19 = .ok (.iconst 0, 1) := dk_3 (dk_at dksJ31_copyOf_0 19 rfl rfl)
theorem dJ31_copyOf_20 : decode cJ31_copyOf 20 = .ok (.aload_n 2, 1) := dk_44 (dk_at dksJ31_copyOf_0 20 rfl rfl)
theorem dJ31_copyOf_21 : decode cJ31_copyOf 21 = .ok (.iconst 0, 1) := dk_3 (dk_at dksJ31_copyOf_0 21 rfl rfl)
theorem dJ31_copyOf_22 : decode cJ31_copyOf 22 = .ok (.aload_n 0, 1) := dk_42 (dk_at dksJ31_copyOf_0 22 rfl rfl)
theorem dJ31_copyOf_23 : decode cJ31_copyOf 23 = .ok (.arraylength, 1) := dk_190 (dk_at dksJ31_copyOf_0 23 rfl rfl)
theorem dJ31_copyOf_24 : decode cJ31_copyOf 24 = .ok (.iload_n 1, 1) := dk_27 (dk_at dksJ31_copyOf_1 0 rfl rfl)
theorem dJ31_copyOf_25 : decode cJ31_copyOf 25 = .ok (.invokestatic 304, 3) := dk_184 1 48 (dk_at dksJ31_copyOf_1 1 rfl rfl)
theorem dJ31_copyOf_28 : decode cJ31_copyOf 28 = .ok (.invokestatic 150, 3) := dk_184 0 150 (dk_at dksJ31_copyOf_1 4 rfl rfl)
theorem dJ31_copyOf_31 : decode cJ31_copyOf 31 = .ok (.aload_n 2, 1) := dk_44 (dk_at dksJ31_copyOf_1 7 rfl rfl)
theorem dJ31_copyOf_32 : decode cJ31_copyOf 32 = .ok (.areturn, 1) := dk_176 (dk_at dksJ31_copyOf_1 8 rfl rfl)
def dkwJ31_copyOfRange_1 : List UInt8 := [176]
abbrev dktJ31_copyOfRange_1 : List UInt8 := dkwJ31_copyOfRange_1 ++ []
def dkwJ31_copyOfRange_0 : List UInt8 := [27, 154, 0, 9, 28, 42, 190, 159, 0, 10, 42, 27, 28, 184, 1, 83, 176, 42, 182, 1, 54, 192, 1, 55]
abbrev dktJ31_copyOfRange_0 : List UInt8 := dkwJ31_copyOfRange_0 ++ dktJ31_copyOfRange_1
theorem dksJ31_copyOfRange_0 : cJ31_copyOfRange.data.toList.drop 0 = dktJ31_copyOfRange_0 := by decide +kernel
theorem dksJ31_copyOfRange_1 : cJ31_copyOfRange.data.toList.drop 24 = dktJ31_copyOfRange_1 := dk_seg dksJ31_copyOfRange_0 24 rfl rfl
theorem dJ31_copyOfRange_0 : decode cJ31_copyOfRange 0 = .ok (.iload_n 1, 1) := dk_27 (dk_at dksJ31_copyOfRange_0 0 rfl rfl)
theorem dJ31_copyOfRange_1 : decode cJ31_copyOfRange 1 = .ok (.ifCond .ne 9, 3) := dk_154 0 9 (dk_at dksJ31_copyOfRange_0 1 rfl rfl)
theorem dJ31_copyOfRange_4 : decode cJ31_copyOfRange 4 = .ok (.iload_n 2, 1) := dk_28 (dk_at dksJ31_copyOfRange_0 4 rfl rfl)
theorem dJ31_copyOfRange_5 : decode cJ31_copyOfRange 5 = .ok (.aload_n 0, 1) := dk_42 (dk_at dksJ31_copyOfRange_0 5 rfl rfl)
theorem dJ31_copyOfRange_6 : decode cJ31_copyOfRange 6 = .ok (.arraylength, 1) := dk_190 (dk_at dksJ31_copyOfRange_0 6 rfl rfl)
theorem dJ31_copyOfRange_7 : decode cJ31_copyOfRange 7 = .ok (.if_icmp .eq 10, 3) := dk_159 0 10 (dk_at dksJ31_copyOfRange_0 7 rfl rfl)
theorem dJ31_copyOfRange_10 : decode cJ31_copyOfRange 10 = .ok (.aload_n 0, 1) := dk_42 (dk_at dksJ31_copyOfRange_0 10 rfl rfl)
theorem dJ31_copyOfRange_11 : decode cJ31_copyOfRange 11 = .ok (.iload_n 1, 1) := dk_27 (dk_at dksJ31_copyOfRange_0 11 rfl rfl)
theorem dJ31_copyOfRange_12 : decode cJ31_copyOfRange 12 = .ok (.iload_n 2, 1) := dk_28 (dk_at dksJ31_copyOfRange_0 12 rfl rfl)
theorem dJ31_copyOfRange_13 : decode cJ31_copyOfRange 13 = .ok (.invokestatic 339, 3) := dk_184 1 83 (dk_at dksJ31_copyOfRange_0 13 rfl rfl)
theorem dJ31_copyOfRange_16 : decode cJ31_copyOfRange 16 = .ok (.areturn, 1) := dk_176 (dk_at dksJ31_copyOfRange_0 16 rfl rfl)
theorem dJ31_copyOfRange_17 : decode cJ31_copyOfRange 17 = .ok (.aload_n 0, 1) := dk_42 (dk_at dksJ31_copyOfRange_0 17 rfl rfl)
theorem dJ31_copyOfRange_18 : decode cJ31_copyOfRange 18 = .ok (.invokevirtual 310, 3) := dk_182 1 54 (dk_at dksJ31_copyOfRange_0 18 rfl rfl)
theorem dJ31_copyOfRange_21 : decode cJ31_copyOfRange 21 = .ok (.checkcast 311, 3) := dk_192 1 55 (dk_at dksJ31_copyOfRange_0 21 rfl rfl)
theorem dJ31_copyOfRange_24 : decode cJ31_copyOfRange 24 = .ok (.areturn, 1) := dk_176 (dk_at dksJ31_copyOfRange_1 0 rfl rfl)
def dkwJ31_copyOfRangeByte_1 : List UInt8 := [184, 1, 48, 184, 0, 150, 25, 4, 176]
abbrev dktJ31_copyOfRangeByte_1 : List UInt8 := dkwJ31_copyOfRangeByte_1 ++ []
def dkwJ31_copyOfRangeByte_0 : List UInt8 := [27, 28, 184, 1, 87, 28, 27, 100, 62, 29, 188, 8, 58, 4, 42, 27, 25, 4, 3, 42, 190, 27, 100, 29]
abbrev dktJ31_copyOfRangeByte_0 : List UInt8 := dkwJ31_copyOfRangeByte_0 ++ dktJ31_copyOfRangeByte_1
theorem dksJ31_copyOfRangeByte_0 : cJ31_copyOfRangeByte.data.toList.drop 0 = dktJ31_copyOfRangeByte_0 := by decide +kernel
theorem dksJ31_copyOfRangeByte_1 : cJ31_copyOfRangeByte.data.toList.drop 24 = dktJ31_copyOfRangeByte_1 := dk_seg dksJ31_copyOfRangeByte_0 24 rfl rfl
theorem dJ31_copyOfRangeByte_0 : decode cJ31_copyOfRangeByte 0 = .ok (.iload_n 1, 1) := dk_27 (dk_at dksJ31_copyOfRangeByte_0 0 rfl rfl)
theorem dJ31_copyOfRangeByte_1 : decode cJ31_copyOfRangeByte 1 = .ok (.iload_n 2, 1) := dk_28 (dk_at dksJ31_copyOfRangeByte_0 1 rfl rfl)
theorem dJ31_copyOfRangeByte_2 : decode cJ31_copyOfRangeByte 2 = .ok (.invokestatic 343, 3) := dk_184 1 87 (dk_at dksJ31_copyOfRangeByte_0 2 rfl rfl)
theorem dJ31_copyOfRangeByte_5 : decode cJ31_copyOfRangeByte 5 = .ok (.iload_n 2, 1) := dk_28 (dk_at dksJ31_copyOfRangeByte_0 5 rfl rfl)
theorem dJ31_copyOfRangeByte_6 : decode cJ31_copyOfRangeByte 6 = .ok (.iload_n 1, 1) := dk_27 (dk_at dksJ31_copyOfRangeByte_0 6 rfl rfl)
theorem dJ31_copyOfRangeByte_7 : decode cJ31_copyOfRangeByte 7 = .ok (.isub, 1) := dk_100 (dk_at dksJ31_copyOfRangeByte_0 7 rfl rfl)
theorem dJ31_copyOfRangeByte_8 : decode cJ31_copyOfRangeByte 8 = .ok (.istore_n 3, 1) := dk_62 (dk_at dksJ31_copyOfRangeByte_0 8 rfl rfl)
theorem dJ31_copyOfRangeByte_9 : decode cJ31_copyOfRangeByte 9 = .ok (.iload_n 3, 1) := dk_29 (dk_at dksJ31_copyOfRangeByte_0 9 rfl rfl)
theorem dJ31_copyOfRangeByte_10 : decode cJ31_copyOfRangeByte 10 = .ok (.newarray .byte, 2) := dk_188_8 (dk_at dksJ31_copyOfRangeByte_0 10 rfl rfl)
theorem dJ31_copyOfRangeByte_12 : decode cJ31_copyOfRangeByte 12 = .ok (.astore 4, 2) := dk_58 4 (dk_at dksJ31_copyOfRangeByte_0 12 rfl rfl)
theorem dJ31_copyOfRangeByte_14 : decode cJ31_copyOfRangeByte 14 = .ok (.aload_n 0, 1) := dk_42 (dk_at dksJ31_copyOfRangeByte_0 14 rfl rfl)
theorem dJ31_copyOfRangeByte_15 : decode cJ31_copyOfRangeByte 15 = .ok (.iload_n 1, 1) := dk_27 (dk_at dksJ31_copyOfRangeByte_0 15 rfl rfl)
theorem dJ31_copyOfRangeByte_16 : decode cJ31_copyOfRangeByte 16 = .ok (.aload 4, 2) := dk_25 4 (dk_at dksJ31_copyOfRangeByte_0 16 rfl rfl)
theorem dJ31_copyOfRangeByte_18 : decode cJ31_copyOfRangeByte 18 = .ok (.iconst 0, 1) := dk_3 (dk_at dksJ31_copyOfRangeByte_0 18 rfl rfl)
theorem dJ31_copyOfRangeByte_19 : decode cJ31_copyOfRangeByte 19 = .ok (.aload_n 0, 1) := dk_42 (dk_at dksJ31_copyOfRangeByte_0 19 rfl rfl)
theorem dJ31_copyOfRangeByte_20 : decode cJ31_copyOfRangeByte 20 = .ok (.arraylength, 1) := dk_190 (dk_at dksJ31_copyOfRangeByte_0 20 rfl rfl)
theorem dJ31_copyOfRangeByte_21 : decode cJ31_copyOfRangeByte 21 = .ok (.iload_n 1, 1) := dk_27 (dk_at dksJ31_copyOfRangeByte_0 21 rfl rfl)
theorem dJ31_copyOfRangeByte_22 : decode cJ31_copyOfRangeByte 22 = .ok (.isub, 1) := dk_100 (dk_at dksJ31_copyOfRangeByte_0 22 rfl rfl)
theorem dJ31_copyOfRangeByte_23 : decode cJ31_copyOfRangeByte 23 = .ok (.iload_n 3, 1) := dk_29 (dk_at dksJ31_copyOfRangeByte_0 23 rfl rfl)
theorem dJ31_copyOfRangeByte_24 : decode cJ31_copyOfRangeByte 24 = .ok (.invokestatic 304, 3) := dk_184 1 48 (dk_at dksJ31_copyOfRangeByte_1 0 rfl rfl)
theorem dJ31_copyOfRangeByte_27 : decode cJ31_copyOfRangeByte 27 = .ok (.invokestatic 150, 3) := dk_184 0 150 (dk_at dksJ31_copyOfRangeByte_1 3 rfl rfl)
theorem dJ31_copyOfRangeByte_30 : decode cJ31_copyOfRangeByte 30 = .ok (.aload 4, 2) := dk_25 4 (dk_at dksJ31_copyOfRangeByte_1 6 rfl rfl)
theorem dJ31_copyOfRangeByte_32 : decode cJ31_copyOfRangeByte 32 = .ok (.areturn, 1) := dk_176 (dk_at dksJ31_copyOfRangeByte_1 8 rfl rfl)
def dkwJ31_checkLength_1 : List UInt8 := [182, 0, 50, 27, 182, 0, 54, 182, 0, 61, 183, 0, 65, 191, 177]
abbrev dktJ31_checkLength_1 : List UInt8 := dkwJ31_checkLength_1 ++ []
def dkwJ31_checkLength_0 : List UInt8 := [27, 26, 162, 0, 35, 187, 0, 43, 89, 187, 0, 45, 89, 183, 0, 47, 26, 182, 0, 54, 19, 1, 81]
abbrev dktJ31_checkLength_0 : List UInt8 := dkwJ31_checkLength_0 ++ dktJ31_checkLength_1
theorem dksJ31_checkLength_0 : cJ31_checkLength.data.toList.drop 0 = dktJ31_checkLength_0 := by decide +kernel
theorem dksJ31_checkLength_1 : cJ31_checkLength.data.toList.drop 23 = dktJ31_checkLength_1 := dk_seg dksJ31_checkLength_0 23 rfl rfl
theorem dJ31_checkLength_0 : decode cJ31_checkLength 0 = .ok (.iload_n 1, 1) := dk_27 (dk_at dksJ31_checkLength_0 0 rfl rfl)
theorem dJ31_checkLength_1 : decode cJ31_checkLength 1 = .ok (.iload_n 0, 1) := dk_26 (dk_at dksJ31_checkLength_0 1 rfl rfl)
theorem dJ31_checkLength_2 : decode cJ31_checkLength 2 = .ok (.if_icmp .ge 35, 3) := dk_162 0 35 (dk_at dksJ31_checkLength_0 2 rfl rfl)
theorem dJ31_checkLength_5 : decode cJ31_checkLength 5 = .ok (.new 43, 3) := dk_187 0 43 (dk_at dksJ31_checkLength_0 5 rfl rfl)
theorem dJ31_checkLength_8 : decode cJ31_checkLength 8 = .ok (.dup, 1) := dk_89 (dk_at dksJ31_checkLength_0 8 rfl rfl)
theorem dJ31_checkLength_9 : decode cJ31_checkLength 9 = .ok (.new 45, 3) := dk_187 0 45 (dk_at dksJ31_checkLength_0 9 rfl rfl)
theorem dJ31_checkLength_12 : decode cJ31_checkLength 12 = .ok (.dup, 1) := dk_89 (dk_at dksJ31_checkLength_0 12 rfl rfl)
theorem dJ31_checkLength_13 : decode cJ31_checkLength 13 = .ok (.invokespecial 47, 3) := dk_183 0 47 (dk_at dksJ31_checkLength_0 13 rfl rfl)
theorem dJ31_checkLength_16 : decode cJ31_checkLength 16 = .ok (.iload_n 0, 1) := dk_26 (dk_at dksJ31_checkLength_0 16 rfl rfl)
theorem dJ31_checkLength_17 : decode cJ31_checkLength 17 = .ok (.invokevirtual 54, 3) := dk_182 0 54 (dk_at dksJ31_checkLength_0 17 rfl rfl)
theorem dJ31_checkLength_20 : decode cJ31_checkLength 20 = .ok (.ldc_w 337, 3) := dk_19 1 81 (dk_at dksJ31_checkLength_0 20 rfl rfl)
theorem dJ31_checkLength_23 : decode cJ31_checkLength 23 = .ok (.invokevirtual 50, 3) := dk_182 0 50 (dk_at dksJ31_checkLength_1 0 rfl rfl)
theorem dJ31_checkLength_26 : decode cJ31_checkLength 26 = .ok (.iload_n 1, 1) := dk_27 (dk_at dksJ31_checkLength_1 3 rfl rfl)
theorem dJ31_checkLength_27 : decode cJ31_checkLength 27 = .ok (.invokevirtual 54, 3) := dk_182 0 54 (dk_at dksJ31_checkLength_1 4 rfl rfl)
theorem dJ31_checkLength_30 : decode cJ31_checkLength 30 = .ok (.invokevirtual 61, 3) := dk_182 0 61 (dk_at dksJ31_checkLength_1 7 rfl rfl)
theorem dJ31_checkLength_33 : decode cJ31_checkLength 33 = .ok (.invokespecial 65, 3) := dk_183 0 65 (dk_at dksJ31_checkLength_1 10 rfl rfl)
theorem dJ31_checkLength_36 : decode cJ31_checkLength 36 = .ok (.athrow, 1) := dk_191 (dk_at dksJ31_checkLength_1 13 rfl rfl)
theorem dJ31_checkLength_37 : decode cJ31_checkLength 37 = .ok (.return_, 1) := dk_177 (dk_at dksJ31_checkLength_1 14 rfl rfl)
def dkwJ31_copyOf_2_1 : List UInt8 := [27, 184, 1, 48, 184, 0, 150, 44, 176]
abbrev dktJ31_copyOf_2_1 : List UInt8 := dkwJ31_copyOf_2_1 ++ []
def dkwJ31_copyOf_2_0 : List UInt8 := [27, 42, 190, 160, 0, 11, 42, 182, 1, 63, 192, 1, 64, 176, 27, 188, 11, 77, 42, 3, 44, 3, 42, 190]
abbrev dktJ31_copyOf_2_0 : List UInt8 := dkwJ31_copyOf_2_0 ++ dktJ31_copyOf_2_1
theorem dksJ31_copyOf_2_0 : cJ31_copyOf_2.data.toList.drop 0 = dktJ31_copyOf_2_0 := by decide +kernel
theorem dksJ31_copyOf_2_1 : cJ31_copyOf_2.data.toList.drop 24 = dktJ31_copyOf_2_1 := dk_seg dksJ31_copyOf_2_0 24 rfl rfl
theorem dJ31_copyOf_2_0 : decode cJ31_copyOf_2 0 = .ok (.iload_n 1, 1) := dk_27 (dk_at dksJ31_copyOf_2_0 0 rfl rfl)
theorem dJ31_copyOf_2_1 : decode cJ31_copyOf_2 1 = .ok (.aload_n 0, 1) := dk_42 (dk_at dksJ31_copyOf_2_0 1 rfl rfl)
theorem dJ31_copyOf_2_2 : decode cJ31_copyOf_2 2 = .ok (.arraylength, 1) := dk_190 (dk_at dksJ31_copyOf_2_0 2 rfl rfl)
theorem dJ31_copyOf_2_3 : decode cJ31_copyOf_2 3 = .ok (.if_icmp .ne 11, 3) := dk_160 0 11 (dk_at dksJ31_copyOf_2_0 3 rfl rfl)
theorem dJ31_copyOf_2_6 : decode cJ31_copyOf_2 6 = .ok (.aload_n 0, 1) := dk_42 (dk_at dksJ31_copyOf_2_0 6 rfl rfl)
theorem dJ31_copyOf_2_7 : decode cJ31_copyOf_2 7 = .ok (.invokevirtual 319, 3) := dk_182 1 63 (dk_at dksJ31_copyOf_2_0 7 rfl rfl)
theorem dJ31_copyOf_2_10 : decode cJ31_copyOf_2 10 = .ok (.checkcast 320, 3) := dk_192 1 64 (dk_at dksJ31_copyOf_2_0 10 rfl rfl)
theorem dJ31_copyOf_2_13 : decode cJ31_copyOf_2 13 = .ok (.areturn, 1) := dk_176 (dk_at dksJ31_copyOf_2_0 13 rfl rfl)
theorem dJ31_copyOf_2_14 : decode cJ31_copyOf_2 14 = .ok (.iload_n 1, 1) := dk_27 (dk_at dksJ31_copyOf_2_0 14 rfl rfl)
theorem dJ31_copyOf_2_15 : decode cJ31_copyOf_2 15 = .ok (.newarray .long, 2) := dk_188_11 (dk_at dksJ31_copyOf_2_0 15 rfl rfl)
theorem dJ31_copyOf_2_17 : decode cJ31_copyOf_2 17 = .ok (.astore_n 2, 1) := dk_77 (dk_at dksJ31_copyOf_2_0 17 rfl rfl)
theorem dJ31_copyOf_2_18 : decode cJ31_copyOf_2 18 = .ok (.aload_n 0, 1) := dk_42 (dk_at dksJ31_copyOf_2_0 18 rfl rfl)
theorem dJ31_copyOf_2_19 : decode cJ31_copyOf_2 19 = .ok (.iconst 0, 1) := dk_3 (dk_at dksJ31_copyOf_2_0 19 rfl rfl)
theorem dJ31_copyOf_2_20 : decode cJ31_copyOf_2 20 = .ok (.aload_n 2, 1) := dk_44 (dk_at dksJ31_copyOf_2_0 20 rfl rfl)
theorem dJ31_copyOf_2_21 : decode cJ31_copyOf_2 21 = .ok (.iconst 0, 1) := dk_3 (dk_at dksJ31_copyOf_2_0 21 rfl rfl)
theorem dJ31_copyOf_2_22 : decode cJ31_copyOf_2 22 = .ok (.aload_n 0, 1) := dk_42 (dk_at dksJ31_copyOf_2_0 22 rfl rfl)
theorem dJ31_copyOf_2_23 : decode cJ31_copyOf_2 23 = .ok (.arraylength, 1) := dk_190 (dk_at dksJ31_copyOf_2_0 23 rfl rfl)
theorem dJ31_copyOf_2_24 : decode cJ31_copyOf_2 24 = .ok (.iload_n 1, 1) := dk_27 (dk_at dksJ31_copyOf_2_1 0 rfl rfl)
theorem dJ31_copyOf_2_25 : decode cJ31_copyOf_2 25 = .ok (.invokestatic 304, 3) := dk_184 1 48 (dk_at dksJ31_copyOf_2_1 1 rfl rfl)
theorem dJ31_copyOf_2_28 : decode cJ31_copyOf_2 28 = .ok (.invokestatic 150, 3) := dk_184 0 150 (dk_at dksJ31_copyOf_2_1 4 rfl rfl)
theorem dJ31_copyOf_2_31 : decode cJ31_copyOf_2 31 = .ok (.aload_n 2, 1) := dk_44 (dk_at dksJ31_copyOf_2_1 7 rfl rfl)
theorem dJ31_copyOf_2_32 : decode cJ31_copyOf_2 32 = .ok (.areturn, 1) := dk_176 (dk_at dksJ31_copyOf_2_1 8 rfl rfl)
def dkwJ31_copyOf_3_0 : List UInt8 := [42, 27, 42, 182, 0, 86, 184, 1, 44, 176]
abbrev dktJ31_copyOf_3_0 : List UInt8 := dkwJ31_copyOf_3_0 ++ []
theorem dksJ31_copyOf_3_0 : cJ31_copyOf_3.data.toList.drop 0 = dktJ31_copyOf_3_0 := by decide +kernel
theorem dJ31_copyOf_3_0 : decode cJ31_copyOf_3 0 = .ok (.aload_n 0, 1) := dk_42 (dk_at dksJ31_copyOf_3_0 0 rfl rfl)
theorem dJ31_copyOf_3_1 : decode cJ31_copyOf_3 1 = .ok (.iload_n 1, 1) := dk_27 (dk_at dksJ31_copyOf_3_0 1 rfl rfl)
theorem dJ31_copyOf_3_2 : decode cJ31_copyOf_3 2 = .ok (.aload_n 0, 1) := dk_42 (dk_at dksJ31_copyOf_3_0 2 rfl rfl)
theorem dJ31_copyOf_3_3 : decode cJ31_copyOf_3 3 = .ok (.invokevirtual 86, 3) := dk_182 0 86 (dk_at dksJ31_copyOf_3_0 3 rfl rfl)
theorem dJ31_copyOf_3_6 : decode cJ31_copyOf_3 6 = .ok (.invokestatic 300, 3) := dk_184 1 44 (dk_at dksJ31_copyOf_3_0 6 rfl rfl)
theorem dJ31_copyOf_3_9 : decode cJ31_copyOf_3 9 = .ok (.areturn, 1) := dk_176 (dk_at dksJ31_copyOf_3_0 9 rfl rfl)
def dkwJ31_copyOf_4_1 : List UInt8 := [78, 42, 3, 45, 3, 42, 190, 27, 184, 1, 48, 184, 0, 150, 45, 176]
abbrev dktJ31_copyOf_4_1 : List UInt8 := dkwJ31_copyOf_4_1 ++ []
def dkwJ31_copyOf_4_0 : List UInt8 := [44, 18, 110, 166, 0, 10, 27, 189, 0, 2, 167, 0, 14, 44, 182, 0, 90, 27, 184, 0, 95, 192, 0, 110]
abbrev dktJ31_copyOf_4_0 : List UInt8 := dkwJ31_copyOf_4_0 ++ dktJ31_copyOf_4_1
theorem dksJ31_copyOf_4_0 : cJ31_copyOf_4.data.toList.drop 0 = dktJ31_copyOf_4_0 := by decide +kernel
theorem dksJ31_copyOf_4_1 : cJ31_copyOf_4.data.toList.drop 24 = dktJ31_copyOf_4_1 := dk_seg dksJ31_copyOf_4_0 24 rfl rfl
theorem dJ31_copyOf_4_0 : decode cJ31_copyOf_4 0 = .ok (.aload_n 2, 1) := dk_44 (dk_at dksJ31_copyOf_4_0 0 rfl rfl)
theorem dJ31_copyOf_4_1 : decode cJ31_copyOf_4 1 = .ok (.ldc 110, 2) := dk_18 110 (dk_at dksJ31_copyOf_4_0 1 rfl rfl)
theorem dJ31_copyOf_4_3 : decode cJ31_copyOf_4 3 = .ok (.if_acmp .ne 10, 3) := dk_166 0 10 (dk_at dksJ31_copyOf_4_0 3 rfl rfl)
theorem dJ31_copyOf_4_6 : decode cJ31_copyOf_4 6 = .ok (.iload_n 1, 1) := dk_27 (dk_at dksJ31_copyOf_4_0 6 rfl rfl)
theorem dJ31_copyOf_4_7 : decode cJ31_copyOf_4 7 = .ok (.anewarray 2, 3) := dk_189 0 2 (dk_at dksJ31_copyOf_4_0 7 rfl rfl)
theorem dJ31_copyOf_4_10 : decode cJ31_copyOf_4 10 = .ok (.goto 14, 3) := dk_167 0 14 (dk_at dksJ31_copyOf_4_0 10 rfl rfl)
theorem dJ31_copyOf_4_13 : decode cJ31_copyOf_4 13 = .ok (.aload_n 2, 1) := dk_44 (dk_at dksJ31_copyOf_4_0 13 rfl rfl)
theorem dJ31_copyOf_4_14 : decode cJ31_copyOf_4 14 = .ok (.invokevirtual 90, 3) := dk_182 0 90 (dk_at dksJ31_copyOf_4_0 14 rfl rfl)
theorem dJ31_copyOf_4_17 : decode cJ31_copyOf_4 17 = .ok (.iload_n 1, 1) := dk_27 (dk_at dksJ31_copyOf_4_0 17 rfl rfl)
theorem dJ31_copyOf_4_18 : decode cJ31_copyOf_4 18 = .ok (.invokestatic 95, 3) := dk_184 0 95 (dk_at dksJ31_copyOf_4_0 18 rfl rfl)
theorem dJ31_copyOf_4_21 : decode cJ31_copyOf_4 21 = .ok (.checkcast 110, 3) := dk_192 0 110 (dk_at dksJ31_copyOf_4_0 21 rfl rfl)
theorem dJ31_copyOf_4_24 : decode cJ31_copyOf_4 24 = .ok (.astore_n 3, 1) := dk_78 (dk_at dksJ31_copyOf_4_1 0 rfl rfl)
theorem dJ31_copyOf_4_25 : decode cJ31_copyOf_4 25 = .ok (.aload_n 0, 1) := dk_42 (dk_at dksJ31_copyOf_4_1 1 rfl rfl)
theorem dJ31_copyOf_4_26 : decode cJ31_copyOf_4 26 = .ok (.iconst 0, 1) := dk_3 (dk_at dksJ31_copyOf_4_1 2 rfl rfl)
theorem dJ31_copyOf_4_27 : decode cJ31_copyOf_4 27 = .ok (.aload_n 3, 1) := dk_45 (dk_at dksJ31_copyOf_4_1 3 rfl rfl)
theorem dJ31_copyOf_4_28 : decode cJ31_copyOf_4 28 = .ok (.iconst 0, 1) := dk_3 (dk_at dksJ31_copyOf_4_1 4 rfl rfl)
theorem dJ31_copyOf_4_29 : decode cJ31_copyOf_4 29 = .ok (.aload_n 0, 1) := dk_42 (dk_at dksJ31_copyOf_4_1 5 rfl rfl)
theorem dJ31_copyOf_4_30 : decode cJ31_copyOf_4 30 = .ok (.arraylength, 1) := dk_190 (dk_at dksJ31_copyOf_4_1 6 rfl rfl)
theorem dJ31_copyOf_4_31 : decode cJ31_copyOf_4 31 = .ok (.iload_n 1, 1) := dk_27 (dk_at dksJ31_copyOf_4_1 7 rfl rfl)
theorem dJ31_copyOf_4_32 : decode cJ31_copyOf_4 32 = .ok (.invokestatic 304, 3) := dk_184 1 48 (dk_at dksJ31_copyOf_4_1 8 rfl rfl)
theorem dJ31_copyOf_4_35 : decode cJ31_copyOf_4 35 = .ok (.invokestatic 150, 3) := dk_184 0 150 (dk_at dksJ31_copyOf_4_1 11 rfl rfl)
theorem dJ31_copyOf_4_38 : decode cJ31_copyOf_4 38 = .ok (.aload_n 3, 1) := dk_45 (dk_at dksJ31_copyOf_4_1 14 rfl rfl)
theorem dJ31_copyOf_4_39 : decode cJ31_copyOf_4 39 = .ok (.areturn, 1) := dk_176 (dk_at dksJ31_copyOf_4_1 15 rfl rfl)
def dkwJ31_fill_1 : List UInt8 := [167, 255, 242, 177]
abbrev dktJ31_fill_1 : List UInt8 := dkwJ31_fill_1 ++ []
def dkwJ31_fill_0 : List UInt8 := [42, 190, 27, 28, 184, 0, 13, 27, 54, 4, 21, 4, 28, 162, 0, 14, 42, 21, 4, 29, 84, 132, 4, 1]
abbrev dktJ31_fill_0 : List UInt8 := dkwJ31_fill_0 ++ dktJ31_fill_1
theorem dksJ31_fill_0 : cJ31_fill.data.toList.drop 0 = dktJ31_fill_0 := by decide +kernel
theorem dksJ31_fill_1 : cJ31_fill.data.toList.drop 24 = dktJ31_fill_1 := dk_seg dksJ31_fill_0 24 rfl rfl
theorem dJ31_fill_0 : decode cJ31_fill 0 = .ok (.aload_n 0, 1) := dk_42 (dk_at dksJ31_fill_0 0 rfl rfl)
theorem dJ31_fill_1 : decode cJ31_fill 1 = .ok (.arraylength, 1) := dk_190 (dk_at dksJ31_fill_0 1 rfl rfl)
theorem dJ31_fill_2 : decode cJ31_fill 2 = .ok (.iload_n 1, 1) := dk_27 (dk_at dksJ31_fill_0 2 rfl rfl)
theorem dJ31_fill_3 : decode cJ31_fill 3 = .ok (.iload_n 2, 1) := dk_28 (dk_at dksJ31_fill_0 3 rfl rfl)
theorem dJ31_fill_4 : decode cJ31_fill 4 = .ok (.invokestatic 13, 3) := dk_184 0 13 (dk_at dksJ31_fill_0 4 rfl rfl)
theorem dJ31_fill_7 : decode cJ31_fill 7 = .ok (.iload_n 1, 1) := dk_27 (dk_at dksJ31_fill_0 7 rfl rfl)
theorem dJ31_fill_8 : decode cJ31_fill 8 = .ok (.istore 4, 2) := dk_54 4 (dk_at dksJ31_fill_0 8 rfl rfl)
theorem dJ31_fill_10 : decode cJ31_fill 10 = .ok (.iload 4, 2) := dk_21 4 (dk_at dksJ31_fill_0 10 rfl rfl)
theorem dJ31_fill_12 : decode cJ31_fill 12 = .ok (.iload_n 2, 1) := dk_28 (dk_at dksJ31_fill_0 12 rfl rfl)
theorem dJ31_fill_13 : decode cJ31_fill 13 = .ok (.if_icmp .ge 14, 3) := dk_162 0 14 (dk_at dksJ31_fill_0 13 rfl rfl)
theorem dJ31_fill_16 : decode cJ31_fill 16 = .ok (.aload_n 0, 1) := dk_42 (dk_at dksJ31_fill_0 16 rfl rfl)
theorem dJ31_fill_17 : decode cJ31_fill 17 = .ok (.iload 4, 2) := dk_21 4 (dk_at dksJ31_fill_0 17 rfl rfl)
theorem dJ31_fill_19 : decode cJ31_fill 19 = .ok (.iload_n 3, 1) := dk_29 (dk_at dksJ31_fill_0 19 rfl rfl)
theorem dJ31_fill_20 : decode cJ31_fill 20 = .ok (.bastore, 1) := dk_84 (dk_at dksJ31_fill_0 20 rfl rfl)
theorem dJ31_fill_21 : decode cJ31_fill 21 = .ok (.iinc 4 1, 3) := dk_132 4 1 (dk_at dksJ31_fill_0 21 rfl rfl)
theorem dJ31_fill_24 : decode cJ31_fill 24 = .ok (.goto (-14), 3) := dk_167 255 242 (dk_at dksJ31_fill_1 0 rfl rfl)
theorem dJ31_fill_27 : decode cJ31_fill 27 = .ok (.return_, 1) := dk_177 (dk_at dksJ31_fill_1 3 rfl rfl)
def dkwJ31_rangeCheck_3 : List UInt8 := [183, 0, 70, 191, 177]
abbrev dktJ31_rangeCheck_3 : List UInt8 := dkwJ31_rangeCheck_3 ++ []
def dkwJ31_rangeCheck_2 : List UInt8 := [27, 156, 0, 12, 187, 0, 68, 89, 27, 183, 0, 70, 191, 28, 26, 164, 0, 12, 187, 0, 68, 89, 28]
abbrev dktJ31_rangeCheck_2 : List UInt8 := dkwJ31_rangeCheck_2 ++ dktJ31_rangeCheck_3
def dkwJ31_rangeCheck_1 : List UInt8 := [182, 0, 54, 18, 57, 182, 0, 50, 28, 182, 0, 54, 18, 59, 182, 0, 50, 182, 0, 61, 183, 0, 65, 191]
abbrev dktJ31_rangeCheck_1 : List UInt8 := dkwJ31_rangeCheck_1 ++ dktJ31_rangeCheck_2
def dkwJ31_rangeCheck_0 : List UInt8 := [27, 28, 164, 0, 44, 187, 0, 43, 89, 187, 0, 45, 89, 183, 0, 47, 18, 48, 182, 0, 50, 27]
abbrev dktJ31_rangeCheck_0 : List UInt8 := dkwJ31_rangeCheck_0 ++ dktJ31_rangeCheck_1
theorem dksJ31_rangeCheck_0 : cJ31_rangeCheck.data.toList.drop 0 = dktJ31_rangeCheck_0 := by decide +kernel
theorem dksJ31_rangeCheck_1 : cJ31_rangeCheck.data.toList.drop 22 = dktJ31_rangeCheck_1 := dk_seg dksJ31_rangeCheck_0 22 rfl rfl
theorem dksJ31_rangeCheck_2 : cJ31_rangeCheck.data.toList.drop 46 = dktJ31_rangeCheck_2 := dk_seg dksJ31_rangeCheck_1 24 rfl rfl
theorem dksJ31_rangeCheck_3 : cJ31_rangeCheck.data.toList.drop 69 = dktJ31_rangeCheck_3 := dk_seg dksJ31_rangeCheck_2 23 rfl rfl
theorem dJ31_rangeCheck_0 : decode cJ31_rangeCheck 0 = .ok (.iload_n 1, 1) := dk_27 (dk_at dksJ31_rangeCheck_0 0 rfl rfl)
theorem dJ31_rangeCheck_1 : decode cJ31_rangeCheck 1 = .ok (.iload_n 2, 1) := dk_28 (dk_at dksJ31_rangeCheck_0 1 rfl rfl)
theorem dJ31_rangeCheck_2 : decode cJ31_rangeCheck 2 = .ok (.if_icmp .le 44, 3) := dk_164 0 44 (dk_at dksJ31_rangeCheck_0 2 rfl rfl)
theorem dJ31_rangeCheck_5 : decode cJ31_rangeCheck 5 = .ok (.new 43, 3) := dk_187 0 43 (dk_at dksJ31_rangeCheck_0 5 rfl rfl)
theorem dJ31_rangeCheck_8 : decode cJ31_rangeCheck 8 = .ok (.dup, 1) := dk_89 (dk_at dksJ31_rangeCheck_0 8 rfl rfl)
theorem dJ31_rangeCheck_9 : decode cJ31_rangeCheck 9 = .ok (.new 45, 3) := dk_187 0 45 (dk_at dksJ31_rangeCheck_0 9 rfl rfl)
theorem dJ31_rangeCheck_12 : decode cJ31_rangeCheck 12 = .ok (.dup, 1) := dk_89 (dk_at dksJ31_rangeCheck_0 12 rfl rfl)
theorem dJ31_rangeCheck_13 : decode cJ31_rangeCheck 13 = .ok (.invokespecial 47, 3) := dk_183 0 47 (dk_at dksJ31_rangeCheck_0 13 rfl rfl)
theorem dJ31_rangeCheck_16 : decode cJ31_rangeCheck 16 = .ok (.ldc 48, 2) := dk_18 48 (dk_at dksJ31_rangeCheck_0 16 rfl rfl)
theorem dJ31_rangeCheck_18 : decode cJ31_rangeCheck 18 = .ok (.invokevirtual 50, 3) := dk_182 0 50 (dk_at dksJ31_rangeCheck_0 18 rfl rfl)
theorem dJ31_rangeCheck_21 : decode cJ31_rangeCheck 21 = .ok (.iload_n 1, 1) := dk_27 (dk_at dksJ31_rangeCheck_0 21 rfl rfl)
theorem dJ31_rangeCheck_22 : decode cJ31_rangeCheck 22 = .ok (.invokevirtual 54, 3) := dk_182 0 54 (dk_at dksJ31_rangeCheck_1 0 rfl rfl)
theorem dJ31_rangeCheck_25 : decode cJ31_rangeCheck 25 = .ok (.ldc 57, 2) := dk_18 57 (dk_at dksJ31_rangeCheck_1 3 rfl rfl)
theorem dJ31_rangeCheck_27 : decode cJ31_rangeCheck 27 = .ok (.invokevirtual 50, 3) := dk_182 0 50 (dk_at dksJ31_rangeCheck_1 5 rfl rfl)
theorem dJ31_rangeCheck_30 : decode cJ31_rangeCheck 30 = .ok (.iload_n 2, 1) := dk_28 (dk_at dksJ31_rangeCheck_1 8 rfl rfl)
theorem dJ31_rangeCheck_31 : decode cJ31_rangeCheck 31 = .ok (.invokevirtual 54, 3) := dk_182 0 54 (dk_at dksJ31_rangeCheck_1 9 rfl rfl)
theorem dJ31_rangeCheck_34 : decode cJ31_rangeCheck 34 = .ok (.ldc 59, 2) := dk_18 59 (dk_at dksJ31_rangeCheck_1 12 rfl rfl)
theorem dJ31_rangeCheck_36 : decode cJ31_rangeCheck 36 = .ok (.invokevirtual 50, 3) := dk_182 0 50 (dk_at dksJ31_rangeCheck_1 14 rfl rfl)
theorem dJ31_rangeCheck_39 : decode cJ31_rangeCheck 39 = .ok (.invokevirtual 61, 3) := dk_182 0 61 (dk_at dksJ31_rangeCheck_1 17 rfl rfl)
theorem dJ31_rangeCheck_42 : decode cJ31_rangeCheck 42 = .ok (.invokespecial 65, 3) := dk_183 0 65 (dk_at dksJ31_rangeCheck_1 20 rfl rfl)
theorem dJ31_rangeCheck_45 : decode cJ31_rangeCheck 45 = .ok (.athrow, 1) := dk_191 (dk_at dksJ31_rangeCheck_1 23 rfl rfl)
theorem dJ31_rangeCheck_46 : decode cJ31_rangeCheck 46 = .ok (.iload_n 1, 1) := dk_27 (dk_at dksJ31_rangeCheck_2 0 rfl rfl)
theorem dJ31_rangeCheck_47 : decode cJ31_rangeCheck 47 = .ok (.ifCond .ge 12, 3) := dk_156 0 12 (dk_at dksJ31_rangeCheck_2 1 rfl rfl)
theorem dJ31_rangeCheck_50 : decode cJ31_rangeCheck 50 = .ok (.new 68, 3) := dk_187 0 68 (dk_at dksJ31_rangeCheck_2 4 rfl rfl)
theorem dJ31_rangeCheck_53 : decode cJ31_rangeCheck 53 = .ok (.dup, 1) := dk_89 (dk_at dksJ31_rangeCheck_2 7 rfl rfl)
theorem dJ31_rangeCheck_54 : decode cJ31_rangeCheck 54 = .ok (.iload_n 1, 1) := dk_27 (dk_at dksJ31_rangeCheck_2 8 rfl rfl)
theorem dJ31_rangeCheck_55 : decode cJ31_rangeCheck 55 = .ok (.invokespecial 70, 3) := dk_183 0 70 (dk_at dksJ31_rangeCheck_2 9 rfl rfl)
theorem dJ31_rangeCheck_58 : decode cJ31_rangeCheck 58 = .ok (.athrow, 1) := dk_191 (dk_at dksJ31_rangeCheck_2 12 rfl rfl)
theorem dJ31_rangeCheck_59 : decode cJ31_rangeCheck 59 = .ok (.iload_n 2, 1) := dk_28 (dk_at dksJ31_rangeCheck_2 13 rfl rfl)
theorem dJ31_rangeCheck_60 : decode cJ31_rangeCheck 60 = .ok (.iload_n 0, 1) := dk_26 (dk_at dksJ31_rangeCheck_2 14 rfl rfl)
theorem dJ31_rangeCheck_61 : decode cJ31_rangeCheck 61 = .ok (.if_icmp .le 12, 3) := dk_164 0 12 (dk_at dksJ31_rangeCheck_2 15 rfl rfl)
theorem dJ31_rangeCheck_64 : decode cJ31_rangeCheck 64 = .ok (.new 68, 3) := dk_187 0 68 (dk_at dksJ31_rangeCheck_2 18 rfl rfl)
theorem dJ31_rangeCheck_67 : decode cJ31_rangeCheck 67 = .ok (.dup, 1) := dk_89 (dk_at dksJ31_rangeCheck_2 21 rfl rfl)
theorem dJ31_rangeCheck_68 : decode cJ31_rangeCheck 68 = .ok (.iload_n 2, 1) := dk_28 (dk_at dksJ31_rangeCheck_2 22 rfl rfl)
theorem dJ31_rangeCheck_69 : decode cJ31_rangeCheck 69 = .ok (.invokespecial 70, 3) := dk_183 0 70 (dk_at dksJ31_rangeCheck_3 0 rfl rfl)
theorem dJ31_rangeCheck_72 : decode cJ31_rangeCheck 72 = .ok (.athrow, 1) := dk_191 (dk_at dksJ31_rangeCheck_3 3 rfl rfl)
theorem dJ31_rangeCheck_73 : decode cJ31_rangeCheck 73 = .ok (.return_, 1) := dk_177 (dk_at dksJ31_rangeCheck_3 4 rfl rfl)
def dkwJ32_checkFromToIndex_0 : List UInt8 := [26, 155, 0, 13, 26, 27, 163, 0, 8, 27, 28, 164, 0, 11, 45, 26, 27, 28, 184, 0, 99, 191, 26, 172]
abbrev dktJ32_checkFromToIndex_0 : List UInt8 := dkwJ32_checkFromToIndex_0 ++ []
theorem dksJ32_checkFromToIndex_0 : cJ32_checkFromToIndex.data.toList.drop 0 = dktJ32_checkFromToIndex_0 := by decide +kernel
theorem dJ32_checkFromToIndex_0 : decode cJ32_checkFromToIndex 0 = .ok (.iload_n 0, 1) := dk_26 (dk_at dksJ32_checkFromToIndex_0 0 rfl rfl)
theorem dJ32_checkFromToIndex_1 : decode cJ32_checkFromToIndex 1 = .ok (.ifCond .lt 13, 3) := dk_155 0 13 (dk_at dksJ32_checkFromToIndex_0 1 rfl rfl)
theorem dJ32_checkFromToIndex_4 : decode cJ32_checkFromToIndex 4 = .ok (.iload_n 0, 1) := dk_26 (dk_at dksJ32_checkFromToIndex_0 4 rfl rfl)
theorem dJ32_checkFromToIndex_5 : decode cJ32_checkFromToIndex 5 = .ok (.iload_n 1, 1) := dk_27 (dk_at dksJ32_checkFromToIndex_0 5 rfl rfl)
theorem dJ32_checkFromToIndex_6 : decode cJ32_checkFromToIndex 6 = .ok (.if_icmp .gt 8, 3) := dk_163 0 8 (dk_at dksJ32_checkFromToIndex_0 6 rfl rfl)
theorem dJ32_checkFromToIndex_9 : decode cJ32_checkFromToIndex 9 = .ok (.iload_n 1, 1) := dk_27 (dk_at dksJ32_checkFromToIndex_0 9 rfl rfl)
theorem dJ32_checkFromToIndex_10 : decode cJ32_checkFromToIndex 10 = .ok (.iload_n 2, 1) := dk_28 (dk_at dksJ32_checkFromToIndex_0 10 rfl rfl)
theorem dJ32_checkFromToIndex_11 : decode cJ32_checkFromToIndex 11 = .ok (.if_icmp .le 11, 3) := dk_164 0 11 (dk_at dksJ32_checkFromToIndex_0 11 rfl rfl)
theorem dJ32_checkFromToIndex_14 : decode cJ32_checkFromToIndex 14 = .ok (.aload_n 3, 1) := dk_45 (dk_at dksJ32_checkFromToIndex_0 14 rfl rfl)
theorem dJ32_checkFromToIndex_15 : decode cJ32_checkFromToIndex 15 = .ok (.iload_n 0, 1) := dk_26 (dk_at dksJ32_checkFromToIndex_0 15 rfl rfl)
theorem dJ32_checkFromToIndex_16 : decode cJ32_checkFromToIndex 16 = .ok (.iload_n 1, 1) := dk_27 (dk_at dksJ32_checkFromToIndex_0 16 rfl rfl)
theorem dJ32_checkFromToIndex_17 : decode cJ32_checkFromToIndex 17 = .ok (.iload_n 2, 1) := dk_28 (dk_at dksJ32_checkFromToIndex_0 17 rfl rfl)
theorem dJ32_checkFromToIndex_18 : decode cJ32_checkFromToIndex 18 = .ok (.invokestatic 99, 3) := dk_184 0 99 (dk_at dksJ32_checkFromToIndex_0 18 rfl rfl)
theorem dJ32_checkFromToIndex_21 : decode cJ32_checkFromToIndex 21 = .ok (.athrow, 1) := dk_191 (dk_at dksJ32_checkFromToIndex_0 21 rfl rfl)
theorem dJ32_checkFromToIndex_22 : decode cJ32_checkFromToIndex 22 = .ok (.iload_n 0, 1) := dk_26 (dk_at dksJ32_checkFromToIndex_0 22 rfl rfl)
theorem dJ32_checkFromToIndex_23 : decode cJ32_checkFromToIndex 23 = .ok (.ireturn, 1) := dk_172 (dk_at dksJ32_checkFromToIndex_0 23 rfl rfl)
def dkwJ32_checkFromIndexSize_1 : List UInt8 := [172]
abbrev dktJ32_checkFromIndexSize_1 : List UInt8 := dkwJ32_checkFromIndexSize_1 ++ []
def dkwJ32_checkFromIndexSize_0 : List UInt8 := [28, 26, 128, 27, 128, 155, 0, 10, 27, 28, 26, 100, 164, 0, 11, 45, 26, 27, 28, 184, 0, 103, 191, 26]
abbrev dktJ32_checkFromIndexSize_0 : List UInt8 := dkwJ32_checkFromIndexSize_0 ++ dktJ32_checkFromIndexSize_1
theorem dksJ32_checkFromIndexSize_0 : cJ32_checkFromIndexSize.data.toList.drop 0 = dktJ32_checkFromIndexSize_0 := by decide +kernel
theorem dksJ32_checkFromIndexSize_1 : cJ32_checkFromIndexSize.data.toList.drop 24 = dktJ32_checkFromIndexSize_1 := dk_seg dksJ32_checkFromIndexSize_0 24 rfl rfl
theorem dJ32_checkFromIndexSize_0 : decode cJ32_checkFromIndexSize 0 = .ok (.iload_n 2, 1) := dk_28 (dk_at dksJ32_checkFromIndexSize_0 0 rfl rfl)
theorem dJ32_checkFromIndexSize_1 : decode cJ32_checkFromIndexSize 1 = .ok (.iload_n 0, 1) := dk_26 (dk_at dksJ32_checkFromIndexSize_0 1 rfl rfl)
theorem dJ32_checkFromIndexSize_2 : decode cJ32_checkFromIndexSize 2 = .ok (.ior, 1) := dk_128 (dk_at dksJ32_checkFromIndexSize_0 2 rfl rfl)
theorem dJ32_checkFromIndexSize_3 : decode cJ32_checkFromIndexSize 3 = .ok (.iload_n 1, 1) := dk_27 (dk_at dksJ32_checkFromIndexSize_0 3 rfl rfl)
theorem dJ32_checkFromIndexSize_4 : decode cJ32_checkFromIndexSize 4 = .ok (.ior, 1) := dk_128 (dk_at dksJ32_checkFromIndexSize_0 4 rfl rfl)
theorem dJ32_checkFromIndexSize_5 : decode cJ32_checkFromIndexSize 5 = .ok (.ifCond .lt 10, 3) := dk_155 0 10 (dk_at dksJ32_checkFromIndexSize_0 5 rfl rfl)
theorem dJ32_checkFromIndexSize_8 : decode cJ32_checkFromIndexSize 8 = .ok (.iload_n 1, 1) := dk_27 (dk_at dksJ32_checkFromIndexSize_0 8 rfl rfl)
theorem dJ32_checkFromIndexSize_9 : decode cJ32_checkFromIndexSize 9 = .ok (.iload_n 2, 1) := dk_28 (dk_at dksJ32_checkFromIndexSize_0 9 rfl rfl)
theorem dJ32_checkFromIndexSize_10 : decode cJ32_checkFromIndexSize 10 = .ok (.iload_n 0, 1) := dk_26 (dk_at dksJ32_checkFromIndexSize_0 10 rfl rfl)
theorem dJ32_checkFromIndexSize_11 : decode cJ32_checkFromIndexSize 11 = .ok (.isub, 1) := dk_100 (dk_at dksJ32_checkFromIndexSize_0 11 rfl rfl)
theorem dJ32_checkFromIndexSize_12 : decode cJ32_checkFromIndexSize 12 = .ok (.if_icmp .le 11, 3) := dk_164 0 11 (dk_at dksJ32_checkFromIndexSize_0 12 rfl rfl)
theorem dJ32_checkFromIndexSize_15 : decode cJ32_checkFromIndexSize 15 = .ok (.aload_n 3, 1) := dk_45 (dk_at dksJ32_checkFromIndexSize_0 15 rfl rfl)
theorem dJ32_checkFromIndexSize_16 : decode cJ32_checkFromIndexSize 16 = .ok (.iload_n 0, 1) := dk_26 (dk_at dksJ32_checkFromIndexSize_0 16 rfl rfl)
theorem dJ32_checkFromIndexSize_17 : decode cJ32_checkFromIndexSize 17 = .ok (.iload_n 1, 1) := dk_27 (dk_at dksJ32_checkFromIndexSize_0 17 rfl rfl)
theorem dJ32_checkFromIndexSize_18 : decode cJ32_checkFromIndexSize 18 = .ok (.iload_n 2, 1) := dk_28 (dk_at dksJ32_checkFromIndexSize_0 18 rfl rfl)
theorem dJ32_checkFromIndexSize_19 : decode cJ32_checkFromIndexSize 19 = .ok (.invokestatic 103, 3) := dk_184 0 103 (dk_at dksJ32_checkFromIndexSize_0 19 rfl rfl)
theorem dJ32_checkFromIndexSize_22 : decode cJ32_checkFromIndexSize 22 = .ok (.athrow, 1) := dk_191 (dk_at dksJ32_checkFromIndexSize_0 22 rfl rfl)
theorem dJ32_checkFromIndexSize_23 : decode cJ32_checkFromIndexSize 23 = .ok (.iload_n 0, 1) := dk_26 (dk_at dksJ32_checkFromIndexSize_0 23 rfl rfl)
theorem dJ32_checkFromIndexSize_24 : decode cJ32_checkFromIndexSize 24 = .ok (.ireturn, 1) := dk_172 (dk_at dksJ32_checkFromIndexSize_1 0 rfl rfl)
def dkwJ32_checkIndex_0 : List UInt8 := [26, 155, 0, 8, 26, 27, 161, 0, 10, 44, 26, 27, 184, 0, 95, 191, 26, 172]
abbrev dktJ32_checkIndex_0 : List UInt8 := dkwJ32_checkIndex_0 ++ []
theorem dksJ32_checkIndex_0 : cJ32_checkIndex.data.toList.drop 0 = dktJ32_checkIndex_0 := by decide +kernel
theorem dJ32_checkIndex_0 : decode cJ32_checkIndex 0 = .ok (.iload_n 0, 1) := dk_26 (dk_at dksJ32_checkIndex_0 0 rfl rfl)
theorem dJ32_checkIndex_1 : decode cJ32_checkIndex 1 = .ok (.ifCond .lt 8, 3) := dk_155 0 8 (dk_at dksJ32_checkIndex_0 1 rfl rfl)
theorem dJ32_checkIndex_4 : decode cJ32_checkIndex 4 = .ok (.iload_n 0, 1) := dk_26 (dk_at dksJ32_checkIndex_0 4 rfl rfl)
theorem dJ32_checkIndex_5 : decode cJ32_checkIndex 5 = .ok (.iload_n 1, 1) := dk_27 (dk_at dksJ32_checkIndex_0 5 rfl rfl)
theorem dJ32_checkIndex_6 : decode cJ32_checkIndex 6 = .ok (.if_icmp .lt 10, 3) := dk_161 0 10 (dk_at dksJ32_checkIndex_0 6 rfl rfl)
theorem dJ32_checkIndex_9 : decode cJ32_checkIndex 9 = .ok (.aload_n 2, 1) := dk_44 (dk_at dksJ32_checkIndex_0 9 rfl rfl)
theorem dJ32_checkIndex_10 : decode cJ32_checkIndex 10 = .ok (.iload_n 0, 1) := dk_26 (dk_at dksJ32_checkIndex_0 10 rfl rfl)
theorem dJ32_checkIndex_11 : decode cJ32_checkIndex 11 = .ok (.iload_n 1, 1) := dk_27 (dk_at dksJ32_checkIndex_0 11 rfl rfl)
theorem dJ32_checkIndex_12 : decode cJ32_checkIndex 12 = .ok (.invokestatic 95, 3) := dk_184 0 95 (dk_at dksJ32_checkIndex_0 12 rfl rfl)
theorem dJ32_checkIndex_15 : decode cJ32_checkIndex 15 = .ok (.athrow, 1) := dk_191 (dk_at dksJ32_checkIndex_0 15 rfl rfl)
theorem dJ32_checkIndex_16 : decode cJ32_checkIndex 16 = .ok (.iload_n 0, 1) := dk_26 (dk_at dksJ32_checkIndex_0 16 rfl rfl)
theorem dJ32_checkIndex_17 : decode cJ32_checkIndex 17 = .ok (.ireturn, 1) := dk_172 (dk_at dksJ32_checkIndex_0 17 rfl rfl)
def dkwJ33_inflate_0 : List UInt8 := [42, 27, 44, 29, 21, 4, 184, 0, 240, 177]
abbrev dktJ33_inflate_0 : List UInt8 := dkwJ33_inflate_0 ++ []
theorem dksJ33_inflate_0 : cJ33_inflate.data.toList.drop 0 = dktJ33_inflate_0 := by decide +kernel
theorem dJ33_inflate_0 : decode cJ33_inflate 0 = .ok (.aload_n 0, 1) := dk_42 (dk_at dksJ33_inflate_0 0 rfl rfl)
theorem dJ33_inflate_1 : decode cJ33_inflate 1 = .ok (.iload_n 1, 1) := dk_27 (dk_at dksJ33_inflate_0 1 rfl rfl)
theorem dJ33_inflate_2 : decode cJ33_inflate 2 = .ok (.aload_n 2, 1) := dk_44 (dk_at dksJ33_inflate_0 2 rfl rfl)
theorem dJ33_inflate_3 : decode cJ33_inflate 3 = .ok (.iload_n 3, 1) := dk_29 (dk_at dksJ33_inflate_0 3 rfl rfl)
theorem dJ33_inflate_4 : decode cJ33_inflate 4 = .ok (.iload 4, 2) := dk_21 4 (dk_at dksJ33_inflate_0 4 rfl rfl)
theorem dJ33_inflate_6 : decode cJ33_inflate 6 = .ok (.invokestatic 240, 3) := dk_184 0 240 (dk_at dksJ33_inflate_0 6 rfl rfl)
theorem dJ33_inflate_9 : decode cJ33_inflate 9 = .ok (.return_, 1) := dk_177 (dk_at dksJ33_inflate_0 9 rfl rfl)
def dkwJ33_hashCode_2 : List UInt8 := [3, 167, 0, 22, 42, 3, 51, 17, 0, 255, 126, 167, 0, 12, 42, 3, 42, 190, 3, 7, 184, 0, 84, 172]
abbrev dktJ33_hashCode_2 : List UInt8 := dkwJ33_hashCode_2 ++ []
def dkwJ33_hashCode_1 : List UInt8 := [171, 0, 0, 0, 0, 40, 0, 0, 0, 2, 0, 0, 0, 0, 0, 0, 0, 26, 0, 0, 0, 1, 0, 0, 0, 30]
abbrev dktJ33_hashCode_1 : List UInt8 := dkwJ33_hashCode_1 ++ dktJ33_hashCode_2
def dkwJ33_hashCode_0 : List UInt8 := [42, 190]
abbrev dktJ33_hashCode_0 : List UInt8 := dkwJ33_hashCode_0 ++ dktJ33_hashCode_1
theorem dksJ33_hashCode_0 : cJ33_hashCode.data.toList.drop 0 = dktJ33_hashCode_0 := by decide +kernel
theorem dksJ33_hashCode_1 : cJ33_hashCode.data.toList.drop 2 = dktJ33_hashCode_1 := dk_seg dksJ33_hashCode_0 2 rfl rfl
theorem dksJ33_hashCode_2 : cJ33_hashCode.data.toList.drop 28 = dktJ33_hashCode_2 := dk_seg dksJ33_hashCode_1 26 rfl rfl
theorem dJ33_hashCode_0 : decode cJ33_hashCode 0 = .ok (.aload_n 0, 1) := dk_42 (dk_at dksJ33_hashCode_0 0 rfl rfl)
theorem dJ33_hashCode_1 : decode cJ33_hashCode 1 = .ok (.arraylength, 1) := dk_190 (dk_at dksJ33_hashCode_0 1 rfl rfl)
theorem dJ33_hashCode_2 : decode cJ33_hashCode 2 = .ok (.lookupswitch 40 #[(0, 26), (1, 30)], 26) := by decide +kernel
theorem dJ33_hashCode_28 : decode cJ33_hashCode 28 = .ok (.iconst 0, 1) := dk_3 (dk_at dksJ33_hashCode_2 0 rfl rfl)
theorem dJ33_hashCode_29 : decode cJ33_hashCode 29 = .ok (.goto 22, 3) := dk_167 0 22 (dk_at dksJ33_hashCode_2 1 rfl rfl)
theorem dJ33_hashCode_32 : decode cJ33_hashCode 32 = .ok (.aload_n 0, 1) := dk_42 (dk_at dksJ33_hashCode_2 4 rfl rfl)
theorem dJ33_hashCode_33 : decode cJ33_hashCode 33 = .ok (.iconst 0, 1) := dk_3 (dk_at dksJ33_hashCode_2 5 rfl rfl)
theorem dJ33_hashCode_34 : decode cJ33_hashCode 34 = .ok (.baload, 1) := dk_51 (dk_at dksJ33_hashCode_2 6 rfl rfl)
theorem dJ33_hashCode_35 : decode cJ33_hashCode 35 = .ok (.sipush 255, 3) := dk_17 0 255 (dk_at dksJ33_hashCode_2 7 rfl rfl)
theorem dJ33_hashCode_38 : decode cJ33_hashCode 38 = .ok (.iand, 1) := dk_126 (dk_at dksJ33_hashCode_2 10 rfl rfl)
theorem dJ33_hashCode_39 : decode cJ33_hashCode 39 = .ok (.goto 12, 3) := dk_167 0 12 (dk_at dksJ33_hashCode_2 11 rfl rfl)
theorem dJ33_hashCode_42 : decode cJ33_hashCode 42 = .ok (.aload_n 0, 1) := dk_42 (dk_at dksJ33_hashCode_2 14 rfl rfl)
theorem dJ33_hashCode_43 : decode cJ33_hashCode 43 = .ok (.iconst 0, 1) := dk_3 (dk_at dksJ33_hashCode_2 15 rfl rfl)
theorem dJ33_hashCode_44 : decode cJ33_hashCode 44 = .ok (.aload_n 0, 1) := dk_42 (dk_at dksJ33_hashCode_2 16 rfl rfl)
theorem dJ33_hashCode_45 : decode cJ33_hashCode 45 = .ok (.arraylength, 1) := dk_190 (dk_at dksJ33_hashCode_2 17 rfl rfl)
theorem dJ33_hashCode_46 : decode cJ33_hashCode 46 = .ok (.iconst 0, 1) := dk_3 (dk_at dksJ33_hashCode_2 18 rfl rfl)
theorem dJ33_hashCode_47 : decode cJ33_hashCode 47 = .ok (.iconst 4, 1) := dk_7 (dk_at dksJ33_hashCode_2 19 rfl rfl)
theorem dJ33_hashCode_48 : decode cJ33_hashCode 48 = .ok (.invokestatic 84, 3) := dk_184 0 84 (dk_at dksJ33_hashCode_2 20 rfl rfl)
theorem dJ33_hashCode_51 : decode cJ33_hashCode 51 = .ok (.ireturn, 1) := dk_172 (dk_at dksJ33_hashCode_2 23 rfl rfl)
def dkwJ33_equals_1 : List UInt8 := [3, 172, 132, 2, 1, 167, 255, 236, 4, 172, 3, 172]
abbrev dktJ33_equals_1 : List UInt8 := dkwJ33_equals_1 ++ []
def dkwJ33_equals_0 : List UInt8 := [42, 190, 43, 190, 160, 0, 30, 3, 61, 28, 42, 190, 162, 0, 20, 42, 28, 51, 43, 28, 51, 159, 0, 5]
abbrev dktJ33_equals_0 : List UInt8 := dkwJ33_equals_0 ++ dktJ33_equals_1
theorem dksJ33_equals_0 : cJ33_equals.data.toList.drop 0 = dktJ33_equals_0 := by decide +kernel
theorem dksJ33_equals_1 : cJ33_equals.data.toList.drop 24 = dktJ33_equals_1 := dk_seg dksJ33_equals_0 24 rfl rfl
theorem dJ33_equals_0 : decode cJ33_equals 0 = .ok (.aload_n 0, 1) := dk_42 (dk_at dksJ33_equals_0 0 rfl rfl)
theorem dJ33_equals_1 : decode cJ33_equals 1 = .ok (.arraylength, 1) := dk_190 (dk_at dksJ33_equals_0 1 rfl rfl)
theorem dJ33_equals_2 : decode cJ33_equals 2 = .ok (.aload_n 1, 1) := dk_43 (dk_at dksJ33_equals_0 2 rfl rfl)
theorem dJ33_equals_3 : decode cJ33_equals 3 = .ok (.arraylength, 1) := dk_190 (dk_at dksJ33_equals_0 3 rfl rfl)
theorem dJ33_equals_4 : decode cJ33_equals 4 = .ok (.if_icmp .ne 30, 3) := dk_160 0 30 (dk_at dksJ33_equals_0 4 rfl rfl)
theorem dJ33_equals_7 : decode cJ33_equals 7 = .ok (.iconst 0, 1) := dk_3 (dk_at dksJ33_equals_0 7 rfl rfl)
theorem dJ33_equals_8 : decode cJ33_equals 8 = .ok (.istore_n 2, 1) := dk_61 (dk_at dksJ33_equals_0 8 rfl rfl)
theorem dJ33_equals_9 : decode cJ33_equals 9 = .ok (.iload_n 2, 1) := dk_28 (dk_at dksJ33_equals_0 9 rfl rfl)
theorem dJ33_equals_10 : decode cJ33_equals 10 = .ok (.aload_n 0, 1) := dk_42 (dk_at dksJ33_equals_0 10 rfl rfl)
theorem dJ33_equals_11 : decode cJ33_equals 11 = .ok (.arraylength, 1) := dk_190 (dk_at dksJ33_equals_0 11 rfl rfl)
theorem dJ33_equals_12 : decode cJ33_equals 12 = .ok (.if_icmp .ge 20, 3) := dk_162 0 20 (dk_at dksJ33_equals_0 12 rfl rfl)
theorem dJ33_equals_15 : decode cJ33_equals 15 = .ok (.aload_n 0, 1) := dk_42 (dk_at dksJ33_equals_0 15 rfl rfl)
theorem dJ33_equals_16 : decode cJ33_equals 16 = .ok (.iload_n 2, 1) := dk_28 (dk_at dksJ33_equals_0 16 rfl rfl)
theorem dJ33_equals_17 : decode cJ33_equals 17 = .ok (.baload, 1) := dk_51 (dk_at dksJ33_equals_0 17 rfl rfl)
theorem dJ33_equals_18 : decode cJ33_equals 18 = .ok (.aload_n 1, 1) := dk_43 (dk_at dksJ33_equals_0 18 rfl rfl)
theorem dJ33_equals_19 : decode cJ33_equals 19 = .ok (.iload_n 2, 1) := dk_28 (dk_at dksJ33_equals_0 19 rfl rfl)
theorem dJ33_equals_20 : decode cJ33_equals 20 = .ok (.baload, 1) := dk_51 (dk_at dksJ33_equals_0 20 rfl rfl)
theorem dJ33_equals_21 : decode cJ33_equals 21 = .ok (.if_icmp .eq 5, 3) := dk_159 0 5 (dk_at dksJ33_equals_0 21 rfl rfl)
theorem dJ33_equals_24 : decode cJ33_equals 24 = .ok (.iconst 0, 1) := dk_3 (dk_at dksJ33_equals_1 0 rfl rfl)
theorem dJ33_equals_25 : decode cJ33_equals 25 = .ok (.ireturn, 1) := dk_172 (dk_at dksJ33_equals_1 1 rfl rfl)
theorem dJ33_equals_26 : decode cJ33_equals 26 = .ok (.iinc 2 1, 3) := dk_132 2 1 (dk_at dksJ33_equals_1 2 rfl rfl)
theorem dJ33_equals_29 : decode cJ33_equals 29 = .ok (.goto (-20), 3) := dk_167 255 236 (dk_at dksJ33_equals_1 5 rfl rfl)
theorem dJ33_equals_32 : decode cJ33_equals 32 = .ok (.iconst 1, 1) := dk_4 (dk_at dksJ33_equals_1 8 rfl rfl)
theorem dJ33_equals_33 : decode cJ33_equals 33 = .ok (.ireturn, 1) := dk_172 (dk_at dksJ33_equals_1 9 rfl rfl)
theorem dJ33_equals_34 : decode cJ33_equals 34 = .ok (.iconst 0, 1) := dk_3 (dk_at dksJ33_equals_1 10 rfl rfl)
theorem dJ33_equals_35 : decode cJ33_equals 35 = .ok (.ireturn, 1) := dk_172 (dk_at dksJ33_equals_1 11 rfl rfl)
def dkwJ33_compareTo_0 : List UInt8 := [42, 190, 61, 43, 190, 62, 42, 43, 28, 29, 184, 0, 34, 172]
abbrev dktJ33_compareTo_0 : List UInt8 := dkwJ33_compareTo_0 ++ []
theorem dksJ33_compareTo_0 : cJ33_compareTo.data.toList.drop 0 = dktJ33_compareTo_0 := by decide +kernel
theorem dJ33_compareTo_0 : decode cJ33_compareTo 0 = .ok (.aload_n 0, 1) := dk_42 (dk_at dksJ33_compareTo_0 0 rfl rfl)
theorem dJ33_compareTo_1 : decode cJ33_compareTo 1 = .ok (.arraylength, 1) := dk_190 (dk_at dksJ33_compareTo_0 1 rfl rfl)
theorem dJ33_compareTo_2 : decode cJ33_compareTo 2 = .ok (.istore_n 2, 1) := dk_61 (dk_at dksJ33_compareTo_0 2 rfl rfl)
theorem dJ33_compareTo_3 : decode cJ33_compareTo 3 = .ok (.aload_n 1, 1) := dk_43 (dk_at dksJ33_compareTo_0 3 rfl rfl)
theorem dJ33_compareTo_4 : decode cJ33_compareTo 4 = .ok (.arraylength, 1) := dk_190 (dk_at dksJ33_compareTo_0 4 rfl rfl)
theorem dJ33_compareTo_5 : decode cJ33_compareTo 5 = .ok (.istore_n 3, 1) := dk_62 (dk_at dksJ33_compareTo_0 5 rfl rfl)
theorem dJ33_compareTo_6 : decode cJ33_compareTo 6 = .ok (.aload_n 0, 1) := dk_42 (dk_at dksJ33_compareTo_0 6 rfl rfl)
theorem dJ33_compareTo_7 : decode cJ33_compareTo 7 = .ok (.aload_n 1, 1) := dk_43 (dk_at dksJ33_compareTo_0 7 rfl rfl)
theorem dJ33_compareTo_8 : decode cJ33_compareTo 8 = .ok (.iload_n 2, 1) := dk_28 (dk_at dksJ33_compareTo_0 8 rfl rfl)
theorem dJ33_compareTo_9 : decode cJ33_compareTo 9 = .ok (.iload_n 3, 1) := dk_29 (dk_at dksJ33_compareTo_0 9 rfl rfl)
theorem dJ33_compareTo_10 : decode cJ33_compareTo 10 = .ok (.invokestatic 34, 3) := dk_184 0 34 (dk_at dksJ33_compareTo_0 10 rfl rfl)
theorem dJ33_compareTo_13 : decode cJ33_compareTo 13 = .ok (.ireturn, 1) := dk_172 (dk_at dksJ33_compareTo_0 13 rfl rfl)
def dkwJ33_compareTo_2_1 : List UInt8 := [167, 0, 16, 42, 21, 5, 184, 0, 50, 43, 21, 5, 184, 0, 50, 100, 172]
abbrev dktJ33_compareTo_2_1 : List UInt8 := dkwJ33_compareTo_2_1 ++ []
def dkwJ33_compareTo_2_0 : List UInt8 := [28, 29, 184, 0, 38, 54, 4, 42, 43, 21, 4, 184, 0, 44, 54, 5, 21, 5, 156, 0, 9, 28, 29, 100]
abbrev dktJ33_compareTo_2_0 : List UInt8 := dkwJ33_compareTo_2_0 ++ dktJ33_compareTo_2_1
theorem dksJ33_compareTo_2_0 : cJ33_compareTo_2.data.toList.drop 0 = dktJ33_compareTo_2_0 := by decide +kernel
theorem dksJ33_compareTo_2_1 : cJ33_compareTo_2.data.toList.drop 24 = dktJ33_compareTo_2_1 := dk_seg dksJ33_compareTo_2_0 24 rfl rfl
theorem dJ33_compareTo_2_0 : decode cJ33_compareTo_2 0 = .ok (.iload_n 2, 1) := dk_28 (dk_at dksJ33_compareTo_2_0 0 rfl rfl)
theorem dJ33_compareTo_2_1 : decode cJ33_compareTo_2 1 = .ok (.iload_n 3, 1) := dk_29 (dk_at dksJ33_compareTo_2_0 1 rfl rfl)
theorem dJ33_compareTo_2_2 : decode cJ33_compareTo_2 2 = .ok (.invokestatic 38, 3) := dk_184 0 38 (dk_at dksJ33_compareTo_2_0 2 rfl rfl)
theorem dJ33_compareTo_2_5 : decode cJ33_compareTo_2 5 = .ok (.istore 4, 2) := dk_54 4 (dk_at dksJ33_compareTo_2_0 5 rfl rfl)
theorem dJ33_compareTo_2_7 : decode cJ33_compareTo_2 7 = .ok (.aload_n 0, 1) := dk_42 (dk_at dksJ33_compareTo_2_0 7 rfl rfl)
theorem dJ33_compareTo_2_8 : decode cJ33_compareTo_2 8 = .ok (.aload_n 1, 1) := dk_43 (dk_at dksJ33_compareTo_2_0 8 rfl rfl)
theorem dJ33_compareTo_2_9 : decode cJ33_compareTo_2 9 = .ok (.iload 4, 2) := dk_21 4 (dk_at dksJ33_compareTo_2_0 9 rfl rfl)
theorem dJ33_compareTo_2_11 : decode cJ33_compareTo_2 11 = .ok (.invokestatic 44, 3) := dk_184 0 44 (dk_at dksJ33_compareTo_2_0 11 rfl rfl)
theorem dJ33_compareTo_2_14 : decode cJ33_compareTo_2 14 = .ok (.istore 5, 2) := dk_54 5 (dk_at dksJ33_compareTo_2_0 14 rfl rfl)
theorem dJ33_compareTo_2_16 : decode cJ33_compareTo_2 16 = .ok (.iload 5, 2) := dk_21 5 (dk_at dksJ33_compareTo_2_0 16 rfl rfl)
theorem dJ33_compareTo_2_18 : decode cJ33_compareTo_2 18 = .ok (.ifCond .ge 9, 3) := dk_156 0 9 (dk_at dksJ33_compareTo_2_0 18 rfl rfl)
theorem dJ33_compareTo_2_21 : decode cJ33_compareTo_2 21 = .ok (.iload_n 2, 1) := dk_28 (dk_at dksJ33_compareTo_2_0 21 rfl rfl)
theorem dJ33_compareTo_2_22 : decode cJ33_compareTo_2 22 = .ok (.iload_n 3, 1) := dk_29 (dk_at dksJ33_compareTo_2_0 22 rfl rfl)
theorem dJ33_compareTo_2_23 : decode cJ33_compareTo_2 23 = .ok (.isub, 1) := dk_100 (dk_at dksJ33_compareTo_2_0 23 rfl rfl)
theorem dJ33_compareTo_2_24 : decode cJ33_compareTo_2 24 = .ok (.goto 16, 3) := dk_167 0 16 (dk_at dksJ33_compareTo_2_1 0 rfl rfl)
theorem dJ33_compareTo_2_27 : decode cJ33_compareTo_2 27 = .ok (.aload_n 0, 1) := dk_42 (dk_at dksJ33_compareTo_2_1 3 rfl rfl)
theorem dJ33_compareTo_2_28 : decode cJ33_compareTo_2 28 = .ok (.iload 5, 2) := dk_21 5 (dk_at dksJ33_compareTo_2_1 4 rfl rfl)
theorem dJ33_compareTo_2_30 : decode cJ33_compareTo_2 30 = .ok (.invokestatic 50, 3) := dk_184 0 50 (dk_at dksJ33_compareTo_2_1 6 rfl rfl)
theorem dJ33_compareTo_2_33 : decode cJ33_compareTo_2 33 = .ok (.aload_n 1, 1) := dk_43 (dk_at dksJ33_compareTo_2_1 9 rfl rfl)
theorem dJ33_compareTo_2_34 : decode cJ33_compareTo_2 34 = .ok (.iload 5, 2) := dk_21 5 (dk_at dksJ33_compareTo_2_1 10 rfl rfl)
theorem dJ33_compareTo_2_36 : decode cJ33_compareTo_2 36 = .ok (.invokestatic 50, 3) := dk_184 0 50 (dk_at dksJ33_compareTo_2_1 12 rfl rfl)
theorem dJ33_compareTo_2_39 : decode cJ33_compareTo_2 39 = .ok (.isub, 1) := dk_100 (dk_at dksJ33_compareTo_2_1 15 rfl rfl)
theorem dJ33_compareTo_2_40 : decode cJ33_compareTo_2 40 = .ok (.ireturn, 1) := dk_172 (dk_at dksJ33_compareTo_2_1 16 rfl rfl)
def dkwJ33_getChar_0 : List UInt8 := [42, 27, 51, 17, 0, 255, 126, 146, 172]
abbrev dktJ33_getChar_0 : List UInt8 := dkwJ33_getChar_0 ++ []
theorem dksJ33_getChar_0 : cJ33_getChar.data.toList.drop 0 = dktJ33_getChar_0 := by decide +kernel
theorem dJ33_getChar_0 : decode cJ33_getChar 0 = .ok (.aload_n 0, 1) := dk_42 (dk_at dksJ33_getChar_0 0 rfl rfl)
theorem dJ33_getChar_1 : decode cJ33_getChar 1 = .ok (.iload_n 1, 1) := dk_27 (dk_at dksJ33_getChar_0 1 rfl rfl)
theorem dJ33_getChar_2 : decode cJ33_getChar 2 = .ok (.baload, 1) := dk_51 (dk_at dksJ33_getChar_0 2 rfl rfl)
theorem dJ33_getChar_3 : decode cJ33_getChar 3 = .ok (.sipush 255, 3) := dk_17 0 255 (dk_at dksJ33_getChar_0 3 rfl rfl)
theorem dJ33_getChar_6 : decode cJ33_getChar 6 = .ok (.iand, 1) := dk_126 (dk_at dksJ33_getChar_0 6 rfl rfl)
theorem dJ33_getChar_7 : decode cJ33_getChar 7 = .ok (.i2c, 1) := dk_146 (dk_at dksJ33_getChar_0 7 rfl rfl)
theorem dJ33_getChar_8 : decode cJ33_getChar 8 = .ok (.ireturn, 1) := dk_172 (dk_at dksJ33_getChar_0 8 rfl rfl)
def dkwJ33_compareToUTF16_0 : List UInt8 := [42, 184, 0, 54, 61, 43, 184, 0, 58, 62, 42, 43, 28, 29, 184, 0, 59, 172]
abbrev dktJ33_compareToUTF16_0 : List UInt8 := dkwJ33_compareToUTF16_0 ++ []
theorem dksJ33_compareToUTF16_0 : cJ33_compareToUTF16.data.toList.drop 0 = dktJ33_compareToUTF16_0 := by decide +kernel
theorem dJ33_compareToUTF16_0 : decode cJ33_compareToUTF16 0 = .ok (.aload_n 0, 1) := dk_42 (dk_at dksJ33_compareToUTF16_0 0 rfl rfl)
theorem dJ33_compareToUTF16_1 : decode cJ33_compareToUTF16 1 = .ok (.invokestatic 54, 3) := dk_184 0 54 (dk_at dksJ33_compareToUTF16_0 1 rfl rfl)
theorem dJ33_compareToUTF16_4 : decode cJ33_compareToUTF16 4 = .ok (.istore_n 2, 1) := dk_61 (dk_at dksJ33_compareToUTF16_0 4 rfl rfl)
theorem dJ33_compareToUTF16_5 : decode cJ33_compareToUTF16 5 = .ok (.aload_n 1, 1) := dk_43 (dk_at dksJ33_compareToUTF16_0 5 rfl rfl)
theorem dJ33_compareToUTF16_6 : decode cJ33_compareToUTF16 6 = .ok (.invokestatic 58, 3) := dk_184 0 58 (dk_at dksJ33_compareToUTF16_0 6 rfl rfl)
theorem dJ33_compareToUTF16_9 : decode cJ33_compareToUTF16 9 = .ok (.istore_n 3, 1) := dk_62 (dk_at dksJ33_compareToUTF16_0 9 rfl rfl)
theorem dJ33_compareToUTF16_10 : decode cJ33_compareToUTF16 10 = .ok (.aload_n 0, 1) := dk_42 (dk_at dksJ33_compareToUTF16_0 10 rfl rfl)
theorem dJ33_compareToUTF16_11 : decode cJ33_compareToUTF16 11 = .ok (.aload_n 1, 1) := dk_43 (dk_at dksJ33_compareToUTF16_0 11 rfl rfl)
theorem dJ33_compareToUTF16_12 : decode cJ33_compareToUTF16 12 = .ok (.iload_n 2, 1) := dk_28 (dk_at dksJ33_compareToUTF16_0 12 rfl rfl)
theorem dJ33_compareToUTF16_13 : decode cJ33_compareToUTF16 13 = .ok (.iload_n 3, 1) := dk_29 (dk_at dksJ33_compareToUTF16_0 13 rfl rfl)
theorem dJ33_compareToUTF16_14 : decode cJ33_compareToUTF16 14 = .ok (.invokestatic 59, 3) := dk_184 0 59 (dk_at dksJ33_compareToUTF16_0 14 rfl rfl)
theorem dJ33_compareToUTF16_17 : decode cJ33_compareToUTF16 17 = .ok (.ireturn, 1) := dk_172 (dk_at dksJ33_compareToUTF16_0 17 rfl rfl)
theorem dJ33_length_0 : decode cJ33_length 0 = .ok (.aload_n 0, 1) := by decide +kernel
theorem dJ33_length_1 : decode cJ33_length 1 = .ok (.arraylength, 1) := by decide +kernel
theorem dJ33_length_2 : decode cJ33_length 2 = .ok (.ireturn, 1) := by decide +kernel
def dkwJ33_compareToUTF16Values_2 : List UInt8 := [132, 5, 1, 167, 255, 217, 28, 29, 100, 172]
abbrev dktJ33_compareToUTF16Values_2 : List UInt8 := dkwJ33_compareToUTF16Values_2 ++ []
def dkwJ33_compareToUTF16Values_1 : List UInt8 := [54, 6, 43, 21, 5, 184, 0, 65, 54, 7, 21, 6, 21, 7, 159, 0, 9, 21, 6, 21, 7, 100, 172]
abbrev dktJ33_compareToUTF16Values_1 : List UInt8 := dkwJ33_compareToUTF16Values_1 ++ dktJ33_compareToUTF16Values_2
def dkwJ33_compareToUTF16Values_0 : List UInt8 := [28, 29, 184, 0, 38, 54, 4, 3, 54, 5, 21, 5, 21, 4, 162, 0, 38, 42, 21, 5, 184, 0, 50]
abbrev dktJ33_compareToUTF16Values_0 : List UInt8 := dkwJ33_compareToUTF16Values_0 ++ dktJ33_compareToUTF16Values_1
theorem dksJ33_compareToUTF16Values_0 : cJ33_compareToUTF16Values.data.toList.drop 0 = dktJ33_compareToUTF16Values_0 := by decide +kernel
theorem dksJ33_compareToUTF16Values_1 : cJ33_compareToUTF16Values.data.toList.drop 23 = dktJ33_compareToUTF16Values_1 := dk_seg dksJ33_compareToUTF16Values_0 23 rfl rfl
theorem dksJ33_compareToUTF16Values_2 : cJ33_compareToUTF16Values.data.toList.drop 46 = dktJ33_compareToUTF16Values_2 := dk_seg dksJ33_compareToUTF16Values_1 23 rfl rfl
theorem dJ33_compareToUTF16Values_0 : decode cJ33_compareToUTF16Values 0 = .ok (.iload_n 2, 1) := dk_28 (dk_at dksJ33_compareToUTF16Values_0 0 rfl rfl)
theorem dJ33_compareToUTF16Values_1 : decode cJ33_compareToUTF16Values 1 = .ok (.iload_n 3, 1) := dk_29 (dk_at dksJ33_compareToUTF16Values_0 1 rfl rfl)
theorem dJ33_compareToUTF16Values_2 : decode cJ33_compareToUTF16Values 2 = .ok (.invokestatic 38, 3) := dk_184 0 38 (dk_at dksJ33_compareToUTF16Values_0 2 rfl rfl)
theorem dJ33_compareToUTF16Values_5 : decode cJ33_compareToUTF16Values 5 = .ok (.istore 4, 2) := dk_54 4 (dk_at dksJ33_compareToUTF16Values_0 5 rfl rfl)
theorem dJ33_compareToUTF16Values_7 : decode cJ33_compareToUTF16Values 7 = .ok (.iconst 0, 1) := dk_3 (dk_at dksJ33_compareToUTF16Values_0 7 rfl rfl)
theorem dJ33_compareToUTF16Values_8 : decode cJ33_compareToUTF16Values 8 = .ok (.istore 5, 2) := dk_54 5 (dk_at dksJ33_compareToUTF16Values_0 8 rfl rfl)
theorem dJ33_compareToUTF16Values_10 : decode cJ33_compareToUTF16Values 10 = .ok (.iload 5, 2) := dk_21 5 (dk_at dksJ33_compareToUTF16Values_0 10 rfl rfl)
theorem dJ33_compareToUTF16Values_12 : decode cJ33_compareToUTF16Values 12 = .ok (.iload 4, 2) := dk_21 4 (dk_at dksJ33_compareToUTF16Values_0 12 rfl rfl)
theorem dJ33_compareToUTF16Values_14 : decode cJ33_compareToUTF16Values 14 = .ok (.if_icmp .ge 38, 3) := dk_162 0 38 (dk_at dksJ33_compareToUTF16Values_0 14 rfl rfl)
theorem dJ33_compareToUTF16Values_17 : decode cJ33_compareToUTF16Values 17 = .ok (.aload_n 0, 1) := dk_42 (dk_at dksJ33_compareToUTF16Values_0 17 rfl rfl)
theorem dJ33_compareToUTF16Values_18 : decode cJ33_compareToUTF16Values 18 = .ok (.iload 5, 2) := dk_21 5 (dk_at dksJ33_compareToUTF16Values_0 18 rfl rfl)
theorem dJ33_compareToUTF16Values_20 : decode cJ33_compareToUTF16Values 20 = .ok (.invokestatic 50, 3) := dk_184 0 50 (dk_at dksJ33_compareToUTF16Values_0 20 rfl rfl)
theorem dJ33_compareToUTF16Values_23 : decode cJ33_compareToUTF16Values 23 = .ok (.istore 6, 2) := dk_54 6 (dk_at dksJ33_compareToUTF16Values_1 0 rfl rfl)
theorem dJ33_compareToUTF16Values_25 : decode cJ33_compareToUTF16Values 25 = .ok (.aload_n 1, 1) := dk_43 (dk_at dksJ33_compareToUTF16Values_1 2 rfl rfl)
theorem dJ33_compareToUTF16Values_26 : decode cJ33_compareToUTF16Values 26 = .ok (.iload 5, 2) := dk_21 5 (dk_at dksJ33_compareToUTF16Values_1 3 rfl rfl)
theorem dJ33_compareToUTF16Values_28 : decode cJ33_compareToUTF16Values 28 = .ok (.invokestatic 65, 3) := dk_184 0 65 (dk_at dksJ33_compareToUTF16Values_1 5 rfl rfl)
theorem dJ33_compareToUTF16Values_31 : decode cJ33_compareToUTF16Values 31 = .ok (.istore 7, 2) := dk_54 7 (dk_at dksJ33_compareToUTF16Values_1 8 rfl rfl)
theorem dJ33_compareToUTF16Values_33 : decode cJ33_compareToUTF16Values 33 = .ok (.iload 6, 2) := dk_21 6 (dk_at dksJ33_compareToUTF16Values_1 10 rfl rfl)
theorem dJ33_compareToUTF16Values_35 : decode cJ33_compareToUTF16Values 35 = .ok (.iload 7, 2) := dk_21 7 (dk_at dksJ33_compareToUTF16Values_1 12 rfl rfl)
theorem dJ33_compareToUTF16Values_37 : decode cJ33_compareToUTF16Values 37 = .ok (.if_icmp .eq 9, 3) := dk_159 0 9 (dk_at dksJ33_compareToUTF16Values_1 14 rfl rfl)
theorem dJ33_compareToUTF16Values_40 : decode cJ33_compareToUTF16Values 40 = .ok (.iload 6, 2) := dk_21 6 (dk_at dksJ33_compareToUTF16Values_1 17 rfl rfl)
theorem dJ33_compareToUTF16Values_42 : decode cJ33_compareToUTF16Values 42 = .ok (.iload 7, 2) := dk_21 7 (dk_at dksJ33_compareToUTF16Values_1 19 rfl rfl)
theorem dJ33_compareToUTF16Values_44 : decode cJ33_compareToUTF16Values 44 = .ok (.isub, 1) := dk_100 (dk_at dksJ33_compareToUTF16Values_1 21 rfl rfl)
theorem dJ33_compareToUTF16Values_45 : decode cJ33_compareToUTF16Values 45 = .ok (.ireturn, 1) := dk_172 (dk_at dksJ33_compareToUTF16Values_1 22 rfl rfl)
theorem dJ33_compareToUTF16Values_46 : decode cJ33_compareToUTF16Values 46 = .ok (.iinc 5 1, 3) := dk_132 5 1 (dk_at dksJ33_compareToUTF16Values_2 0 rfl rfl)
theorem dJ33_compareToUTF16Values_49 : decode cJ33_compareToUTF16Values 49 = .ok (.goto (-39), 3) := dk_167 255 217 (dk_at dksJ33_compareToUTF16Values_2 3 rfl rfl)
theorem dJ33_compareToUTF16Values_52 : decode cJ33_compareToUTF16Values 52 = .ok (.iload_n 2, 1) := dk_28 (dk_at dksJ33_compareToUTF16Values_2 6 rfl rfl)
theorem dJ33_compareToUTF16Values_53 : decode cJ33_compareToUTF16Values 53 = .ok (.iload_n 3, 1) := dk_29 (dk_at dksJ33_compareToUTF16Values_2 7 rfl rfl)
theorem dJ33_compareToUTF16Values_54 : decode cJ33_compareToUTF16Values 54 = .ok (.isub, 1) := dk_100 (dk_at dksJ33_compareToUTF16Values_2 8 rfl rfl)
theorem dJ33_compareToUTF16Values_55 : decode cJ33_compareToUTF16Values 55 = .ok (.ireturn, 1) := dk_172 (dk_at dksJ33_compareToUTF16Values_2 9 rfl rfl)
def dkwJ33_compareToUTF16_2_0 : List UInt8 := [28, 42, 184, 0, 54, 184, 0, 62, 29, 43, 184, 0, 58, 184, 0, 62, 42, 43, 28, 29, 184, 0, 59, 172]
abbrev dktJ33_compareToUTF16_2_0 : List UInt8 := dkwJ33_compareToUTF16_2_0 ++ []
theorem dksJ33_compareToUTF16_2_0 : cJ33_compareToUTF16_2.data.toList.drop 0 = dktJ33_compareToUTF16_2_0 := by decide +kernel
theorem dJ33_compareToUTF16_2_0 : decode cJ33_compareToUTF16_2 0 = .ok (.iload_n 2, 1) := dk_28 (dk_at dksJ33_compareToUTF16_2_0 0 rfl rfl)
theorem dJ33_compareToUTF16_2_1 : decode cJ33_compareToUTF16_2 1 = .ok (.aload_n 0, 1) := dk_42 (dk_at dksJ33_compareToUTF16_2_0 1 rfl rfl)
theorem dJ33_compareToUTF16_2_2 : decode cJ33_compareToUTF16_2 2 = .ok (.invokestatic 54, 3) := dk_184 0 54 (dk_at dksJ33_compareToUTF16_2_0 2 rfl rfl)
theorem dJ33_compareToUTF16_2_5 : decode cJ33_compareToUTF16_2 5 = .ok (.invokestatic 62, 3) := dk_184 0 62 (dk_at dksJ33_compareToUTF16_2_0 5 rfl rfl)
theorem dJ33_compareToUTF16_2_8 : decode cJ33_compareToUTF16_2 8 = .ok (.iload_n 3, 1) := dk_29 (dk_at dksJ33_compareToUTF16_2_0 8 rfl rfl)
theorem dJ33_compareToUTF16_2_9 : decode cJ33_compareToUTF16_2 9 = .ok (.aload_n 1, 1) := dk_43 (dk_at dksJ33_compareToUTF16_2_0 9 rfl rfl)
theorem dJ33_compareToUTF16_2_10 : decode cJ33_compareToUTF16_2 10 = .ok (.invokestatic 58, 3) := dk_184 0 58 (dk_at dksJ33_compareToUTF16_2_0 10 rfl rfl)
theorem dJ33_compareToUTF16_2_13 : decode cJ33_compareToUTF16_2 13 = .ok (.invokestatic 62, 3) := dk_184 0 62 (dk_at dksJ33_compareToUTF16_2_0 13 rfl rfl)
theorem dJ33_compareToUTF16_2_16 : decode cJ33_compareToUTF16_2 16 = .ok (.aload_n 0, 1) := dk_42 (dk_at dksJ33_compareToUTF16_2_0 16 rfl rfl)
theorem dJ33_compareToUTF16_2_17 : decode cJ33_compareToUTF16_2 17 = .ok (.aload_n 1, 1) := dk_43 (dk_at dksJ33_compareToUTF16_2_0 17 rfl rfl)
theorem dJ33_compareToUTF16_2_18 : decode cJ33_compareToUTF16_2 18 = .ok (.iload_n 2, 1) := dk_28 (dk_at dksJ33_compareToUTF16_2_0 18 rfl rfl)
theorem dJ33_compareToUTF16_2_19 : decode cJ33_compareToUTF16_2 19 = .ok (.iload_n 3, 1) := dk_29 (dk_at dksJ33_compareToUTF16_2_0 19 rfl rfl)
theorem dJ33_compareToUTF16_2_20 : decode cJ33_compareToUTF16_2 20 = .ok (.invokestatic 59, 3) := dk_184 0 59 (dk_at dksJ33_compareToUTF16_2_0 20 rfl rfl)
theorem dJ33_compareToUTF16_2_23 : decode cJ33_compareToUTF16_2 23 = .ok (.ireturn, 1) := dk_172 (dk_at dksJ33_compareToUTF16_2_0 23 rfl rfl)
def dkwJ33_canEncode_0 : List UInt8 := [26, 17, 0, 255, 163, 0, 7, 4, 167, 0, 4, 3, 172]
abbrev dktJ33_canEncode_0 : List UInt8 := dkwJ33_canEncode_0 ++ []
theorem dksJ33_canEncode_0 : cJ33_canEncode.data.toList.drop 0 = dktJ33_canEncode_0 := by decide +kernel
theorem dJ33_canEncode_0 : decode cJ33_canEncode 0 = .ok (.iload_n 0, 1) := dk_26 (dk_at dksJ33_canEncode_0 0 rfl rfl)
theorem dJ33_canEncode_1 : decode cJ33_canEncode 1 = .ok (.sipush 255, 3) := dk_17 0 255 (dk_at dksJ33_canEncode_0 1 rfl rfl)
theorem dJ33_canEncode_4 : decode cJ33_canEncode 4 = .ok (.if_icmp .gt 7, 3) := dk_163 0 7 (dk_at dksJ33_canEncode_0 4 rfl rfl)
theorem dJ33_canEncode_7 : decode cJ33_canEncode 7 = .ok (.iconst 1, 1) := dk_4 (dk_at dksJ33_canEncode_0 7 rfl rfl)
theorem dJ33_canEncode_8 : decode cJ33_canEncode 8 = .ok (.goto 4, 3) := dk_167 0 4 (dk_at dksJ33_canEncode_0 8 rfl rfl)
theorem dJ33_canEncode_11 : decode cJ33_canEncode 11 = .ok (.iconst 0, 1) := dk_3 (dk_at dksJ33_canEncode_0 11 rfl rfl)
theorem dJ33_canEncode_12 : decode cJ33_canEncode 12 = .ok (.ireturn, 1) := dk_172 (dk_at dksJ33_canEncode_0 12 rfl rfl)
def dkwJ33_charAt_0 : List UInt8 := [27, 42, 190, 184, 0, 9, 42, 27, 51, 17, 0, 255, 126, 146, 172]
abbrev dktJ33_charAt_0 : List UInt8 := dkwJ33_charAt_0 ++ []
theorem dksJ33_charAt_0 : cJ33_charAt.data.toList.drop 0 = dktJ33_charAt_0 := by decide +kernel
theorem dJ33_charAt_0 : decode cJ33_charAt 0 = .ok (.iload_n 1, 1) := dk_27 (dk_at dksJ33_charAt_0 0 rfl rfl)
theorem dJ33_charAt_1 : decode cJ33_charAt 1 = .ok (.aload_n 0, 1) := dk_42 (dk_at dksJ33_charAt_0 1 rfl rfl)
theorem dJ33_charAt_2 : decode cJ33_charAt 2 = .ok (.arraylength, 1) := dk_190 (dk_at dksJ33_charAt_0 2 rfl rfl)
theorem dJ33_charAt_3 : decode cJ33_charAt 3 = .ok (.invokestatic 9, 3) := dk_184 0 9 (dk_at dksJ33_charAt_0 3 rfl rfl)
theorem dJ33_charAt_6 : decode cJ33_charAt 6 = .ok (.aload_n 0, 1) := dk_42 (dk_at dksJ33_charAt_0 6 rfl rfl)
theorem dJ33_charAt_7 : decode cJ33_charAt 7 = .ok (.iload_n 1, 1) := dk_27 (dk_at dksJ33_charAt_0 7 rfl rfl)
theorem dJ33_charAt_8 : decode cJ33_charAt 8 = .ok (.baload, 1) := dk_51 (dk_at dksJ33_charAt_0 8 rfl rfl)
theorem dJ33_charAt_9 : decode cJ33_charAt 9 = .ok (.sipush 255, 3) := dk_17 0 255 (dk_at dksJ33_charAt_0 9 rfl rfl)
theorem dJ33_charAt_12 : decode cJ33_charAt 12 = .ok (.iand, 1) := dk_126 (dk_at dksJ33_charAt_0 12 rfl rfl)
theorem dJ33_charAt_13 : decode cJ33_charAt 13 = .ok (.i2c, 1) := dk_146 (dk_at dksJ33_charAt_0 13 rfl rfl)
theorem dJ33_charAt_14 : decode cJ33_charAt 14 = .ok (.ireturn, 1) := dk_172 (dk_at dksJ33_charAt_0 14 rfl rfl)
def dkwJ33_fillNull_0 : List UInt8 := [42, 27, 28, 3, 184, 0, 236, 177]
abbrev dktJ33_fillNull_0 : List UInt8 := dkwJ33_fillNull_0 ++ []
theorem dksJ33_fillNull_0 : cJ33_fillNull.data.toList.drop 0 = dktJ33_fillNull_0 := by decide +kernel
theorem dJ33_fillNull_0 : decode cJ33_fillNull 0 = .ok (.aload_n 0, 1) := dk_42 (dk_at dksJ33_fillNull_0 0 rfl rfl)
theorem dJ33_fillNull_1 : decode cJ33_fillNull 1 = .ok (.iload_n 1, 1) := dk_27 (dk_at dksJ33_fillNull_0 1 rfl rfl)
theorem dJ33_fillNull_2 : decode cJ33_fillNull 2 = .ok (.iload_n 2, 1) := dk_28 (dk_at dksJ33_fillNull_0 2 rfl rfl)
theorem dJ33_fillNull_3 : decode cJ33_fillNull 3 = .ok (.iconst 0, 1) := dk_3 (dk_at dksJ33_fillNull_0 3 rfl rfl)
theorem dJ33_fillNull_4 : decode cJ33_fillNull 4 = .ok (.invokestatic 236, 3) := dk_184 0 236 (dk_at dksJ33_fillNull_0 4 rfl rfl)
theorem dJ33_fillNull_7 : decode cJ33_fillNull 7 = .ok (.return_, 1) := dk_177 (dk_at dksJ33_fillNull_0 7 rfl rfl)
def dkwJ34_init_0 : List UInt8 := [42, 43, 183, 0, 7, 177]
abbrev dktJ34_init_0 : List UInt8 := dkwJ34_init_0 ++ []
theorem dksJ34_init_0 : cJ34_init.data.toList.drop 0 = dktJ34_init_0 := by decide +kernel
theorem dJ34_init_0 : decode cJ34_init 0 = .ok (.aload_n 0, 1) := dk_42 (dk_at dksJ34_init_0 0 rfl rfl)
theorem dJ34_init_1 : decode cJ34_init 1 = .ok (.aload_n 1, 1) := dk_43 (dk_at dksJ34_init_0 1 rfl rfl)
theorem dJ34_init_2 : decode cJ34_init 2 = .ok (.invokespecial 7, 3) := dk_183 0 7 (dk_at dksJ34_init_0 2 rfl rfl)
theorem dJ34_init_5 : decode cJ34_init 5 = .ok (.return_, 1) := dk_177 (dk_at dksJ34_init_0 5 rfl rfl)
theorem dJ34_init_2_0 : decode cJ34_init_2 0 = .ok (.aload_n 0, 1) := by decide +kernel
theorem dJ34_init_2_1 : decode cJ34_init_2 1 = .ok (.invokespecial 1, 3) := by decide +kernel
theorem dJ34_init_2_4 : decode cJ34_init_2 4 = .ok (.return_, 1) := by decide +kernel
def dkwJ35_numberOfTrailingZeros_1 : List UInt8 := [184, 1, 55, 172]
abbrev dktJ35_numberOfTrailingZeros_1 : List UInt8 := dkwJ35_numberOfTrailingZeros_1 ++ []
def dkwJ35_numberOfTrailingZeros_0 : List UInt8 := [30, 136, 61, 28, 154, 0, 17, 16, 32, 30, 16, 32, 125, 136, 184, 1, 55, 96, 167, 0, 7, 28]
abbrev dktJ35_numberOfTrailingZeros_0 : List UInt8 := dkwJ35_numberOfTrailingZeros_0 ++ dktJ35_numberOfTrailingZeros_1
theorem dksJ35_numberOfTrailingZeros_0 : cJ35_numberOfTrailingZeros.data.toList.drop 0 = dktJ35_numberOfTrailingZeros_0 := by decide +kernel
theorem dksJ35_numberOfTrailingZeros_1 : cJ35_numberOfTrailingZeros.data.toList.drop 22 = dktJ35_numberOfTrailingZeros_1 := dk_seg dksJ35_numberOfTrailingZeros_0 22 rfl rfl
theorem dJ35_numberOfTrailingZeros_0 : decode cJ35_numberOfTrailingZeros 0 = .ok (.lload_n 0, 1) := dk_30 (dk_at dksJ35_numberOfTrailingZeros_0 0 rfl rfl)
theorem dJ35_numberOfTrailingZeros_1 : decode cJ35_numberOfTrailingZeros 1 = .ok (.l2i, 1) := dk_136 (dk_at dksJ35_numberOfTrailingZeros_0 1 rfl rfl)
theorem dJ35_numberOfTrailingZeros_2 : decode cJ35_numberOfTrailingZeros 2 = .ok (.istore_n 2, 1) := dk_61 (dk_at dksJ35_numberOfTrailingZeros_0 2 rfl rfl)
theorem dJ35_numberOfTrailingZeros_3 : decode cJ35_numberOfTrailingZeros 3 = .ok (.iload_n 2, 1) := dk_28 (dk_at dksJ35_numberOfTrailingZeros_0 3 rfl rfl)
theorem dJ35_numberOfTrailingZeros_4 : decode cJ35_numberOfTrailingZeros 4 = .ok (.ifCond .ne 17, 3) := dk_154 0 17 (dk_at dksJ35_numberOfTrailingZeros_0 4 rfl rfl)
theorem dJ35_numberOfTrailingZeros_7 : decode cJ35_numberOfTrailingZeros 7 = .ok (.bipush 32, 2) := dk_16 32 (dk_at dksJ35_numberOfTrailingZeros_0 7 rfl rfl)
theorem dJ35_numberOfTrailingZeros_9 : decode cJ35_numberOfTrailingZeros 9 = .ok (.lload_n 0, 1) := dk_30 (dk_at dksJ35_numberOfTrailingZeros_0 9 rfl rfl)
theorem dJ35_numberOfTrailingZeros_10 : decode cJ35_numberOfTrailingZeros 10 = .ok (.bipush 32, 2) := dk_16 32 (dk_at dksJ35_numberOfTrailingZeros_0 10 rfl rfl)
theorem dJ35_numberOfTrailingZeros_12 : decode cJ35_numberOfTrailingZeros 12 = .ok (.lushr, 1) := dk_125 (dk_at dksJ35_numberOfTrailingZeros_0 12 rfl rfl)
theorem dJ35_numberOfTrailingZeros_13 : decode cJ35_numberOfTrailingZeros 13 = .ok (.l2i, 1) := dk_136 (dk_at dksJ35_numberOfTrailingZeros_0 13 rfl rfl)
theorem dJ35_numberOfTrailingZeros_14 : decode cJ35_numberOfTrailingZeros 14 = .ok (.invokestatic 311, 3) := dk_184 1 55 (dk_at dksJ35_numberOfTrailingZeros_0 14 rfl rfl)
theorem dJ35_numberOfTrailingZeros_17 : decode cJ35_numberOfTrailingZeros 17 = .ok (.iadd, 1) := dk_96 (dk_at dksJ35_numberOfTrailingZeros_0 17 rfl rfl)
theorem dJ35_numberOfTrailingZeros_18 : decode cJ35_numberOfTrailingZeros 18 = .ok (.goto 7, 3) := dk_167 0 7 (dk_at dksJ35_numberOfTrailingZeros_0 18 rfl rfl)
theorem dJ35_numberOfTrailingZeros_21 : decode cJ35_numberOfTrailingZeros 21 = .ok (.iload_n 2, 1) := dk_28 (dk_at dksJ35_numberOfTrailingZeros_0 21 rfl rfl)
theorem dJ35_numberOfTrailingZeros_22 : decode cJ35_numberOfTrailingZeros 22 = .ok (.invokestatic 311, 3) := dk_184 1 55 (dk_at dksJ35_numberOfTrailingZeros_1 0 rfl rfl)
theorem dJ35_numberOfTrailingZeros_25 : decode cJ35_numberOfTrailingZeros 25 = .ok (.ireturn, 1) := dk_172 (dk_at dksJ35_numberOfTrailingZeros_1 3 rfl rfl)
def dkwJ35_bitCount_2 : List UInt8 := [30, 30, 16, 32, 125, 97, 63, 30, 136, 16, 127, 126, 172]
abbrev dktJ35_bitCount_2 : List UInt8 := dkwJ35_bitCount_2 ++ []
def dkwJ35_bitCount_1 : List UInt8 := [30, 30, 7, 125, 97, 20, 1, 62, 127, 63, 30, 30, 16, 8, 125, 97, 63, 30, 30, 16, 16, 125, 97, 63]
abbrev dktJ35_bitCount_1 : List UInt8 := dkwJ35_bitCount_1 ++ dktJ35_bitCount_2
def dkwJ35_bitCount_0 : List UInt8 := [30, 30, 4, 125, 20, 1, 58, 127, 101, 63, 30, 20, 1, 60, 127, 30, 5, 125, 20, 1, 60, 127, 97, 63]
abbrev dktJ35_bitCount_0 : List UInt8 := dkwJ35_bitCount_0 ++ dktJ35_bitCount_1
theorem dksJ35_bitCount_0 : cJ35_bitCount.data.toList.drop 0 = dktJ35_bitCount_0 := by decide +kernel
theorem dksJ35_bitCount_1 : cJ35_bitCount.data.toList.drop 24 = dktJ35_bitCount_1 := dk_seg dksJ35_bitCount_0 24 rfl rfl
theorem dksJ35_bitCount_2 : cJ35_bitCount.data.toList.drop 48 = dktJ35_bitCount_2 := dk_seg dksJ35_bitCount_1 24 rfl rfl
theorem dJ35_bitCount_0 : decode cJ35_bitCount 0 = .ok (.lload_n 0, 1) := dk_30 (dk_at dksJ35_bitCount_0 0 rfl rfl)
theorem dJ35_bitCount_1 : decode cJ35_bitCount 1 = .ok (.lload_n 0, 1) := dk_30 (dk_at dksJ35_bitCount_0 1 rfl rfl)
theorem dJ35_bitCount_2 : decode cJ35_bitCount 2 = .ok (.iconst 1, 1) := dk_4 (dk_at dksJ35_bitCount_0 2 rfl rfl)
theorem dJ35_bitCount_3 : decode cJ35_bitCount 3 = .ok (.lushr, 1) := dk_125 (dk_at dksJ35_bitCount_0 3 rfl rfl)
theorem dJ35_bitCount_4 : decode cJ35_bitCount 4 = .ok (.ldc2_w 314, 3) := dk_20 1 58 (dk_at dksJ35_bitCount_0 4 rfl rfl)
theorem dJ35_bitCount_7 : decode cJ35_bitCount 7 = .ok (.land, 1) := dk_127 (dk_at dksJ35_bitCount_0 7 rfl rfl)
theorem dJ35_bitCount_8 : decode cJ35_bitCount 8 = .ok (.lsub, 1) := dk_101 (dk_at dksJ35_bitCount_0 8 rfl rfl)
theorem dJ35_bitCount_9 : decode cJ35_bitCount 9 = .ok (.lstore_n 0, 1) := dk_63 (dk_at dksJ35_bitCount_0 9 rfl rfl)
theorem dJ35_bitCount_10 : decode cJ35_bitCount 10 = .ok (.lload_n 0, 1) := dk_30 (dk_at dksJ35_bitCount_0 10 rfl rfl)
theorem dJ35_bitCount_11 : decode cJ35_bitCount 11 = .ok (.ldc2_w 316, 3) := dk_20 1 60 (dk_at dksJ35_bitCount_0 11 rfl rfl)
theorem dJ35_bitCount_14 : decode cJ35_bitCount 14 = .ok (.land, 1) := dk_127 (dk_at dksJ35_bitCount_0 14 rfl rfl)
theorem dJ35_bitCount_15 : decode cJ35_bitCount 15 = .ok (.lload_n 0, 1) := dk_30 (dk_at dksJ35_bitCount_0 15 rfl rfl)
theorem dJ35_bitCount_16 : decode cJ35_bitCount 16 = .ok (.iconst 2, 1) := dk_5 (dk_at dksJ35_bitCount_0 16 rfl rfl)
theorem dJ35_bitCount_17 : decode cJ35_bitCount 17 = .ok (.lushr, 1) := dk_125 (dk_at dksJ35_bitCount_0 17 rfl rfl)
theorem dJ35_bitCount_18 : decode cJ35_bitCount 18 = .ok (.ldc2_w 316, 3) := dk_20 1 60 (dk_at dksJ35_bitCount_0 18 rfl rfl)
theorem dJ35_bitCount_21 : decode cJ35_bitCount 21 = .ok (.land, 1) := dk_127 (dk_at dksJ35_bitCount_0 21 rfl rfl)
theorem dJ35_bitCount_22 : decode cJ35_bitCount 22 = .ok (.ladd, 1) := dk_97 (dk_at dksJ35_bitCount_0 22 rfl rfl)
theorem dJ35_bitCount_23 : decode cJ35_bitCount 23 = .ok (.lstore_n 0, 1) := dk_63 (dk_at dksJ35_bitCount_0 23 rfl rfl)
theorem dJ35_bitCount_24 : decode cJ35_bitCount 24 = .ok (.lload_n 0, 1) := dk_30 (dk_at dksJ35_bitCount_1 0 rfl rfl)
theorem dJ35_bitCount_25 : decode cJ35_bitCount 25 = .ok (.lload_n 0, 1) := dk_30 (dk_at dksJ35_bitCount_1 1 rfl rfl)
theorem dJ35_bitCount_26 : decode cJ35_bitCount 26 = .ok (.iconst 4, 1) := dk_7 (dk_at dksJ35_bitCount_1 2 rfl rfl)
theorem dJ35_bitCount_27 : decode cJ35_bitCount 27 = .ok (.lushr, 1) := dk_125 (dk_at dksJ35_bitCount_1 3 rfl rfl)
theorem dJ35_bitCount_28 : decode cJ35_bitCount 28 = .ok (.ladd, 1) := dk_97 (dk_at dksJ35_bitCount_1 4 rfl rfl)
theorem dJ35_bitCount_29 : decode cJ35_bitCount 29 = .ok (.ldc2_w 318, 3) := dk_20 1 62 (dk_at dksJ35_bitCount_1 5 rfl rfl)
theorem dJ35_bitCount_32 : decode cJ35_bitCount 32 = .ok (.land, 1) := dk_127 (dk_at dksJ35_bitCount_1 8 rfl rfl)
theorem dJ35_bitCount_33 : decode cJ35_bitCount 33 = .ok (.lstore_n 0, 1) := dk_63 (dk_at dksJ35_bitCount_1 9 rfl rfl)
theorem dJ35_bitCount_34 : decode cJ35_bitCount 34 = .ok (.lload_n 0, 1) := dk_30 (dk_at dksJ35_bitCount_1 10 rfl rfl)
theorem dJ35_bitCount_35 : decode cJ35_bitCount 35 = .ok (.lload_n 0, 1) := dk_30 (dk_at dksJ35_bitCount_1 11 rfl rfl)
theorem dJ35_bitCount_36 : decode cJ35_bitCount 36 = .ok (.bipush 8, 2) := dk_16 8 (dk_at dksJ35_bitCount_1 12 rfl rfl)
theorem dJ35_bitCount_38 : decode cJ35_bitCount 38 = .ok (.lushr, 1) := dk_125 (dk_at dksJ35_bitCount_1 14 rfl rfl)
theorem dJ35_bitCount_39 : decode cJ35_bitCount 39 = .ok (.ladd, 1) := dk_97 (dk_at dksJ35_bitCount_1 15 rfl rfl)
theorem dJ35_bitCount_40 : decode cJ35_bitCount 40 = .ok (.lstore_n 0, 1) := dk_63 (dk_at dksJ35_bitCount_1 16 rfl rfl)
theorem dJ35_bitCount_41 : decode cJ35_bitCount 41 = .ok (.lload_n 0, 1) := dk_30 (dk_at dksJ35_bitCount_1 17 rfl rfl)
theorem dJ35_bitCount_42 : decode cJ35_bitCount 42 = .ok (.lload_n 0, 1) := dk_30 (dk_at dksJ35_bitCount_1 18 rfl rfl)
theorem dJ35_bitCount_43 : decode cJ35_bitCount 43 = .ok (.bipush 16, 2) := dk_16 16 (dk_at dksJ35_bitCount_1 19 rfl rfl)
theorem dJ35_bitCount_45 : decode cJ35_bitCount 45 = .ok (.lushr, 1) := dk_125 (dk_at dksJ35_bitCount_1 21 rfl rfl)
theorem dJ35_bitCount_46 : decode cJ35_bitCount 46 = .ok (.ladd, 1) := dk_97 (dk_at dksJ35_bitCount_1 22 rfl rfl)
theorem dJ35_bitCount_47 : decode cJ35_bitCount 47 = .ok (.lstore_n 0, 1) := dk_63 (dk_at dksJ35_bitCount_1 23 rfl rfl)
theorem dJ35_bitCount_48 : decode cJ35_bitCount 48 = .ok (.lload_n 0, 1) := dk_30 (dk_at dksJ35_bitCount_2 0 rfl rfl)
theorem dJ35_bitCount_49 : decode cJ35_bitCount 49 = .ok (.lload_n 0, 1) := dk_30 (dk_at dksJ35_bitCount_2 1 rfl rfl)
theorem dJ35_bitCount_50 : decode cJ35_bitCount 50 = .ok (.bipush 32, 2) := dk_16 32 (dk_at dksJ35_bitCount_2 2 rfl rfl)
theorem dJ35_bitCount_52 : decode cJ35_bitCount 52 = .ok (.lushr, 1) := dk_125 (dk_at dksJ35_bitCount_2 4 rfl rfl)
theorem dJ35_bitCount_53 : decode cJ35_bitCount 53 = .ok (.ladd, 1) := dk_97 (dk_at dksJ35_bitCount_2 5 rfl rfl)
theorem dJ35_bitCount_54 : decode cJ35_bitCount 54 = .ok (.lstore_n 0, 1) := dk_63 (dk_at dksJ35_bitCount_2 6 rfl rfl)
theorem dJ35_bitCount_55 : decode cJ35_bitCount 55 = .ok (.lload_n 0, 1) := dk_30 (dk_at dksJ35_bitCount_2 7 rfl rfl)
theorem dJ35_bitCount_56 : decode cJ35_bitCount 56 = .ok (.l2i, 1) := dk_136 (dk_at dksJ35_bitCount_2 8 rfl rfl)
theorem dJ35_bitCount_57 : decode cJ35_bitCount 57 = .ok (.bipush 127, 2) := dk_16 127 (dk_at dksJ35_bitCount_2 9 rfl rfl)
theorem dJ35_bitCount_59 : decode cJ35_bitCount 59 = .ok (.iand, 1) := dk_126 (dk_at dksJ35_bitCount_2 11 rfl rfl)
theorem dJ35_bitCount_60 : decode cJ35_bitCount 60 = .ok (.ireturn, 1) := dk_172 (dk_at dksJ35_bitCount_2 12 rfl rfl)
def dkwJ35_numberOfLeadingZeros_1 : List UInt8 := [184, 1, 52, 172]
abbrev dktJ35_numberOfLeadingZeros_1 : List UInt8 := dkwJ35_numberOfLeadingZeros_1 ++ []
def dkwJ35_numberOfLeadingZeros_0 : List UInt8 := [30, 16, 32, 125, 136, 61, 28, 154, 0, 14, 16, 32, 30, 136, 184, 1, 52, 96, 167, 0, 7, 28]
abbrev dktJ35_numberOfLeadingZeros_0 : List UInt8 := dkwJ35_numberOfLeadingZeros_0 ++ dktJ35_numberOfLeadingZeros_1
theorem dksJ35_numberOfLeadingZeros_0 : cJ35_numberOfLeadingZeros.data.toList.drop 0 = dktJ35_numberOfLeadingZeros_0 := by decide +kernel
theorem dksJ35_numberOfLeadingZeros_1 : cJ35_numberOfLeadingZeros.data.toList.drop 22 = dktJ35_numberOfLeadingZeros_1 := dk_seg dksJ35_numberOfLeadingZeros_0 22 rfl rfl
theorem dJ35_numberOfLeadingZeros_0 : decode cJ35_numberOfLeadingZeros 0 = .ok (.lload_n 0, 1) := dk_30 (dk_at dksJ35_numberOfLeadingZeros_0 0 rfl rfl)
theorem dJ35_numberOfLeadingZeros_1 : decode cJ35_numberOfLeadingZeros 1 = .ok (.bipush 32, 2) := dk_16 32 (dk_at dksJ35_numberOfLeadingZeros_0 1 rfl rfl)
theorem dJ35_numberOfLeadingZeros_3 : decode cJ35_numberOfLeadingZeros 3 = .ok (.lushr, 1) := dk_125 (dk_at dksJ35_numberOfLeadingZeros_0 3 rfl rfl)
theorem dJ35_numberOfLeadingZeros_4 : decode cJ35_numberOfLeadingZeros 4 = .ok (.l2i, 1) := dk_136 (dk_at dksJ35_numberOfLeadingZeros_0 4 rfl rfl)
theorem dJ35_numberOfLeadingZeros_5 : decode cJ35_numberOfLeadingZeros 5 = .ok (.istore_n 2, 1) := dk_61 (dk_at dksJ35_numberOfLeadingZeros_0 5 rfl rfl)
theorem dJ35_numberOfLeadingZeros_6 : decode cJ35_numberOfLeadingZeros 6 = .ok (.iload_n 2, 1) := dk_28 (dk_at dksJ35_numberOfLeadingZeros_0 6 rfl rfl)
theorem dJ35_numberOfLeadingZeros_7 : decode cJ35_numberOfLeadingZeros 7 = .ok (.ifCond .ne 14, 3) := dk_154 0 14 (dk_at dksJ35_numberOfLeadingZeros_0 7 rfl rfl)
theorem dJ35_numberOfLeadingZeros_10 : decode cJ35_numberOfLeadingZeros 10 = .ok (.bipush 32, 2) := dk_16 32 (dk_at dksJ35_numberOfLeadingZeros_0 10 rfl rfl)
theorem dJ35_numberOfLeadingZeros_12 : decode cJ35_numberOfLeadingZeros 12 = .ok (.lload_n 0, 1) := dk_30 (dk_at dksJ35_numberOfLeadingZeros_0 12 rfl rfl)
theorem dJ35_numberOfLeadingZeros_13 : decode cJ35_numberOfLeadingZeros 13 = .ok (.l2i, 1) := dk_136 (dk_at dksJ35_numberOfLeadingZeros_0 13 rfl rfl)
theorem dJ35_numberOfLeadingZeros_14 : decode cJ35_numberOfLeadingZeros 14 = .ok (.invokestatic 308, 3) := dk_184 1 52 (dk_at dksJ35_numberOfLeadingZeros_0 14 rfl rfl)
theorem dJ35_numberOfLeadingZeros_17 : decode cJ35_numberOfLeadingZeros 17 = .ok (.iadd, 1) := dk_96 (dk_at dksJ35_numberOfLeadingZeros_0 17 rfl rfl)
theorem dJ35_numberOfLeadingZeros_18 : decode cJ35_numberOfLeadingZeros 18 = .ok (.goto 7, 3) := dk_167 0 7 (dk_at dksJ35_numberOfLeadingZeros_0 18 rfl rfl)
theorem dJ35_numberOfLeadingZeros_21 : decode cJ35_numberOfLeadingZeros 21 = .ok (.iload_n 2, 1) := dk_28 (dk_at dksJ35_numberOfLeadingZeros_0 21 rfl rfl)
theorem dJ35_numberOfLeadingZeros_22 : decode cJ35_numberOfLeadingZeros 22 = .ok (.invokestatic 308, 3) := dk_184 1 52 (dk_at dksJ35_numberOfLeadingZeros_1 0 rfl rfl)
theorem dJ35_numberOfLeadingZeros_25 : decode cJ35_numberOfLeadingZeros 25 = .ok (.ireturn, 1) := dk_172 (dk_at dksJ35_numberOfLeadingZeros_1 3 rfl rfl)
def dkwJ36_init_0 : List UInt8 := [42, 183, 0, 1, 42, 3, 181, 0, 7, 177]
abbrev dktJ36_init_0 : List UInt8 := dkwJ36_init_0 ++ []
theorem dksJ36_init_0 : cJ36_init.data.toList.drop 0 = dktJ36_init_0 := by decide +kernel
theorem dJ36_init_0 : decode cJ36_init 0 = .ok (.aload_n 0, 1) := dk_42 (dk_at dksJ36_init_0 0 rfl rfl)
theorem dJ36_init_1 : decode cJ36_init 1 = .ok (.invokespecial 1, 3) := dk_183 0 1 (dk_at dksJ36_init_0 1 rfl rfl)
theorem dJ36_init_4 : decode cJ36_init 4 = .ok (.aload_n 0, 1) := dk_42 (dk_at dksJ36_init_0 4 rfl rfl)
theorem dJ36_init_5 : decode cJ36_init 5 = .ok (.iconst 0, 1) := dk_3 (dk_at dksJ36_init_0 5 rfl rfl)
theorem dJ36_init_6 : decode cJ36_init 6 = .ok (.putfield 7, 3) := dk_181 0 7 (dk_at dksJ36_init_0 6 rfl rfl)
theorem dJ36_init_9 : decode cJ36_init 9 = .ok (.return_, 1) := dk_177 (dk_at dksJ36_init_0 9 rfl rfl)
def dkwJ37_iterator_0 : List UInt8 := [187, 1, 11, 89, 42, 183, 1, 13, 176]
abbrev dktJ37_iterator_0 : List UInt8 := dkwJ37_iterator_0 ++ []
theorem dksJ37_iterator_0 : cJ37_iterator.data.toList.drop 0 = dktJ37_iterator_0 := by decide +kernel
theorem dJ37_iterator_0 : decode cJ37_iterator 0 = .ok (.new 267, 3) := dk_187 1 11 (dk_at dksJ37_iterator_0 0 rfl rfl)
theorem dJ37_iterator_3 : decode cJ37_iterator 3 = .ok (.dup, 1) := dk_89 (dk_at dksJ37_iterator_0 3 rfl rfl)
theorem dJ37_iterator_4 : decode cJ37_iterator 4 = .ok (.aload_n 0, 1) := dk_42 (dk_at dksJ37_iterator_0 4 rfl rfl)
theorem dJ37_iterator_5 : decode cJ37_iterator 5 = .ok (.invokespecial 269, 3) := dk_183 1 13 (dk_at dksJ37_iterator_0 5 rfl rfl)
theorem dJ37_iterator_8 : decode cJ37_iterator 8 = .ok (.areturn, 1) := dk_176 (dk_at dksJ37_iterator_0 8 rfl rfl)
def dkwJ37_init_2 : List UInt8 := [182, 0, 25, 27, 182, 0, 29, 182, 0, 32, 183, 0, 36, 191, 177]
abbrev dktJ37_init_2 : List UInt8 := dkwJ37_init_2 ++ []
def dkwJ37_init_1 : List UInt8 := [178, 0, 15, 181, 0, 9, 167, 0, 30, 187, 0, 18, 89, 187, 0, 20, 89, 183, 0, 22, 18, 23]
abbrev dktJ37_init_1 : List UInt8 := dkwJ37_init_1 ++ dktJ37_init_2
def dkwJ37_init_0 : List UInt8 := [42, 183, 0, 1, 27, 158, 0, 14, 42, 27, 189, 0, 7, 181, 0, 9, 167, 0, 44, 27, 154, 0, 13, 42]
abbrev dktJ37_init_0 : List UInt8 := dkwJ37_init_0 ++ dktJ37_init_1
theorem dksJ37_init_0 : cJ37_init.data.toList.drop 0 = dktJ37_init_0 := by decide +kernel
theorem dksJ37_init_1 : cJ37_init.data.toList.drop 24 = dktJ37_init_1 := dk_seg dksJ37_init_0 24 rfl rfl
theorem dksJ37_init_2 : cJ37_init.data.toList.drop 46 = dktJ37_init_2 := dk_seg dksJ37_init_1 22 rfl rfl
theorem dJ37_init_0 : decode cJ37_init 0 = .ok (.aload_n 0, 1) := dk_42 (dk_at dksJ37_init_0 0 rfl rfl)
theorem dJ37_init_1 : decode cJ37_init 1 = .ok (.invokespecial 1, 3) := dk_183 0 1 (dk_at dksJ37_init_0 1 rfl rfl)
theorem dJ37_init_4 : decode cJ37_init 4 = .ok (.iload_n 1, 1) := dk_27 (dk_at dksJ37_init_0 4 rfl rfl)
theorem dJ37_init_5 : decode cJ37_init 5 = .ok (.ifCond .le 14, 3) := dk_158 0 14 (dk_at dksJ37_init_0 5 rfl rfl)
theorem dJ37_init_8 : decode cJ37_init 8 = .ok (.aload_n 0, 1) := dk_42 (dk_at dksJ37_init_0 8 rfl rfl)
theorem dJ37_init_9 : decode cJ37_init 9 = .ok (.iload_n 1, 1) := dk_27 (dk_at dksJ37_init_0 9 rfl rfl)
theorem dJ37_init_10 : decode cJ37_init 10 = .ok (.anewarray 7, 3) := dk_189 0 7 (dk_at dksJ37_init_0 10 rfl rfl)
theorem dJ37_init_13 : decode cJ37_init 13 = .ok (.putfield 9, 3) := dk_181 0 9 (dk_at dksJ37_init_0 13 rfl rfl)
theorem dJ37_init_16 : decode cJ37_init 16 = .ok (.goto 44, 3) := dk_167 0 44 (dk_at dksJ37_init_0 16 rfl rfl)
theorem dJ37_init_19 : decode cJ37_init 19 = .ok (.iload_n 1, 1) := dk_27 (dk_at dksJ37_init_0 19 rfl rfl)
theorem dJ37_init_20 : decode cJ37_init 20 = .ok (.ifCond .ne 13, 3) := dk_154 0 13 (dk_at dksJ37_init_0 20 rfl rfl)
theorem dJ37_init_23 : decode cJ37_init 23 = .ok (.aload_n 0, 1) := dk_42 (dk_at dksJ37_init_0 23 rfl rfl)
theorem dJ37_init_24 : decode cJ37_init 24 = .ok (.getstatic 15, 3) := dk_178 0 15 (dk_at dksJ37_init_1 0 rfl rfl)
theorem dJ37_init_27 : decode cJ37_init 27 = .ok (.putfield 9, 3) := dk_181 0 9 (dk_at dksJ37_init_1 3 rfl rfl)
theorem dJ37_init_30 : decode cJ37_init 30 = .ok (.goto 30, 3) := dk_167 0 30 (dk_at dksJ37_init_1 6 rfl rfl)
theorem dJ37_init_33 : decode cJ37_init 33 = .ok (.new 18, 3) := dk_187 0 18 (dk_at dksJ37_init_1 9 rfl rfl)
theorem dJ37_init_36 : decode cJ37_init 36 = .ok (.dup, 1) := dk_89 (dk_at dksJ37_init_1 12 rfl rfl)
theorem dJ37_init_37 : decode cJ37_init 37 = .ok (.new 20, 3) := dk_187 0 20 (dk_at dksJ37_init_1 13 rfl rfl)
theorem dJ37_init_40 : decode cJ37_init 40 = .ok (.dup, 1) := dk_89 (dk_at dksJ37_init_1 16 rfl rfl)
theorem dJ37_init_41 : decode cJ37_init 41 = .ok (.invokespecial 22, 3) := dk_183 0 22 (dk_at dksJ37_init_1 17 rfl rfl)
theorem dJ37_init_44 : decode cJ37_init 44 = .ok (.ldc 23, 2) := dk_18 23 (dk_at dksJ37_init_1 20 rfl rfl)
theorem dJ37_init_46 : decode cJ37_init 46 = .ok (.invokevirtual 25, 3) := dk_182 0 25 (dk_at dksJ37_init_2 0 rfl rfl)
theorem dJ37_init_49 : decode cJ37_init 49 = .ok (.iload_n 1, 1) := dk_27 (dk_at dksJ37_init_2 3 rfl rfl)
theorem dJ37_init_50 : decode cJ37_init 50 = .ok (.invokevirtual 29, 3) := dk_182 0 29 (dk_at dksJ37_init_2 4 rfl rfl)
theorem dJ37_init_53 : decode cJ37_init 53 = .ok (.invokevirtual 32, 3) := dk_182 0 32 (dk_at dksJ37_init_2 7 rfl rfl)
theorem dJ37_init_56 : decode cJ37_init 56 = .ok (.invokespecial 36, 3) := dk_183 0 36 (dk_at dksJ37_init_2 10 rfl rfl)
theorem dJ37_init_59 : decode cJ37_init 59 = .ok (.athrow, 1) := dk_191 (dk_at dksJ37_init_2 13 rfl rfl)
theorem dJ37_init_60 : decode cJ37_init 60 = .ok (.return_, 1) := dk_177 (dk_at dksJ37_init_2 14 rfl rfl)
theorem dJ37_size_0 : decode cJ37_size 0 = .ok (.aload_n 0, 1) := by decide +kernel
theorem dJ37_size_1 : decode cJ37_size 1 = .ok (.getfield 48, 3) := by decide +kernel
theorem dJ37_size_4 : decode cJ37_size 4 = .ok (.ireturn, 1) := by decide +kernel
def dkwJ37_get_0 : List UInt8 := [27, 42, 180, 0, 48, 184, 0, 118, 87, 42, 27, 182, 0, 123, 176]
abbrev dktJ37_get_0 : List UInt8 := dkwJ37_get_0 ++ []
theorem dksJ37_get_0 : cJ37_get.data.toList.drop 0 = dktJ37_get_0 := by decide +kernel
theorem dJ37_get_0 : decode cJ37_get 0 = .ok (.iload_n 1, 1) := dk_27 (dk_at dksJ37_get_0 0 rfl rfl)
theorem dJ37_get_1 : decode cJ37_get 1 = .ok (.aload_n 0, 1) := dk_42 (dk_at dksJ37_get_0 1 rfl rfl)
theorem dJ37_get_2 : decode cJ37_get 2 = .ok (.getfield 48, 3) := dk_180 0 48 (dk_at dksJ37_get_0 2 rfl rfl)
theorem dJ37_get_5 : decode cJ37_get 5 = .ok (.invokestatic 118, 3) := dk_184 0 118 (dk_at dksJ37_get_0 5 rfl rfl)
theorem dJ37_get_8 : decode cJ37_get 8 = .ok (.pop, 1) := dk_87 (dk_at dksJ37_get_0 8 rfl rfl)
theorem dJ37_get_9 : decode cJ37_get 9 = .ok (.aload_n 0, 1) := dk_42 (dk_at dksJ37_get_0 9 rfl rfl)
theorem dJ37_get_10 : decode cJ37_get 10 = .ok (.iload_n 1, 1) := dk_27 (dk_at dksJ37_get_0 10 rfl rfl)
theorem dJ37_get_11 : decode cJ37_get 11 = .ok (.invokevirtual 123, 3) := dk_182 0 123 (dk_at dksJ37_get_0 11 rfl rfl)
theorem dJ37_get_14 : decode cJ37_get 14 = .ok (.areturn, 1) := dk_176 (dk_at dksJ37_get_0 14 rfl rfl)
def dkwJ37_elementData_0 : List UInt8 := [42, 180, 0, 9, 27, 50, 176]
abbrev dktJ37_elementData_0 : List UInt8 := dkwJ37_elementData_0 ++ []
theorem dksJ37_elementData_0 : cJ37_elementData.data.toList.drop 0 = dktJ37_elementData_0 := by decide +kernel
theorem dJ37_elementData_0 : decode cJ37_elementData 0 = .ok (.aload_n 0, 1) := dk_42 (dk_at dksJ37_elementData_0 0 rfl rfl)
theorem dJ37_elementData_1 : decode cJ37_elementData 1 = .ok (.getfield 9, 3) := dk_180 0 9 (dk_at dksJ37_elementData_0 1 rfl rfl)
theorem dJ37_elementData_4 : decode cJ37_elementData 4 = .ok (.iload_n 1, 1) := dk_27 (dk_at dksJ37_elementData_0 4 rfl rfl)
theorem dJ37_elementData_5 : decode cJ37_elementData 5 = .ok (.aaload, 1) := dk_50 (dk_at dksJ37_elementData_0 5 rfl rfl)
theorem dJ37_elementData_6 : decode cJ37_elementData 6 = .ok (.areturn, 1) := dk_176 (dk_at dksJ37_elementData_0 6 rfl rfl)
def dkwJ37_add_2 : List UInt8 := [29, 27, 100, 184, 0, 112, 25, 4, 27, 44, 83, 42, 29, 4, 96, 181, 0, 48, 177]
abbrev dktJ37_add_2 : List UInt8 := dkwJ37_add_2 ++ []
def dkwJ37_add_1 : List UInt8 := [180, 0, 9, 89, 58, 4, 190, 160, 0, 9, 42, 182, 0, 129, 58, 4, 25, 4, 27, 25, 4, 27, 4, 96]
abbrev dktJ37_add_1 : List UInt8 := dkwJ37_add_1 ++ dktJ37_add_2
def dkwJ37_add_0 : List UInt8 := [42, 27, 182, 0, 135, 42, 89, 180, 0, 63, 4, 96, 181, 0, 63, 42, 180, 0, 48, 89, 62, 42]
abbrev dktJ37_add_0 : List UInt8 := dkwJ37_add_0 ++ dktJ37_add_1
theorem dksJ37_add_0 : cJ37_add.data.toList.drop 0 = dktJ37_add_0 := by decide +kernel
theorem dksJ37_add_1 : cJ37_add.data.toList.drop 22 = dktJ37_add_1 := dk_seg dksJ37_add_0 22 rfl rfl
theorem dksJ37_add_2 : cJ37_add.data.toList.drop 46 = dktJ37_add_2 := dk_seg dksJ37_add_1 24 rfl rfl
theorem dJ37_add_0 : decode cJ37_add 0 = .ok (.aload_n 0, 1) := dk_42 (dk_at dksJ37_add_0 0 rfl rfl)
theorem dJ37_add_1 : decode cJ37_add 1 = .ok (.iload_n 1, 1) := dk_27 (dk_at dksJ37_add_0 1 rfl rfl)
theorem dJ37_add_2 : decode cJ37_add 2 = .ok (.invokevirtual 135, 3) := dk_182 0 135 (dk_at dksJ37_add_0 2 rfl rfl)
theorem dJ37_add_5 : decode cJ37_add 5 = .ok (.aload_n 0, 1) := dk_42 (dk_at dksJ37_add_0 5 rfl rfl)
theorem dJ37_add_6 : decode cJ37_add 6 = .ok (.dup, 1) := dk_89 (dk_at dksJ37_add_0 6 rfl rfl)
theorem dJ37_add_7 : decode cJ37_add 7 = .ok (.getfield 63, 3) := dk_180 0 63 (dk_at dksJ37_add_0 7 rfl rfl)
theorem dJ37_add_10 : decode cJ37_add 10 = .ok (.iconst 1, 1) := dk_4 (dk_at dksJ37_add_0 10 rfl rfl)
theorem dJ37_add_11 : decode cJ37_add 11 = .ok (.iadd, 1) := dk_96 (dk_at dksJ37_add_0 11 rfl rfl)
theorem dJ37_add_12 : decode cJ37_add 12 = .ok (.putfield 63, 3) := dk_181 0 63 (dk_at dksJ37_add_0 12 rfl rfl)
theorem dJ37_add_15 : decode cJ37_add 15 = .ok (.aload_n 0, 1) := dk_42 (dk_at dksJ37_add_0 15 rfl rfl)
theorem dJ37_add_16 : decode cJ37_add 16 = .ok (.getfield 48, 3) := dk_180 0 48 (dk_at dksJ37_add_0 16 rfl rfl)
theorem dJ37_add_19 : decode cJ37_add 19 = .ok (.dup, 1) := dk_89 (dk_at dksJ37_add_0 19 rfl rfl)
theorem dJ37_add_20 : decode cJ37_add 20 = .ok (.istore_n 3, 1) := dk_62 (dk_at dksJ37_add_0 20 rfl rfl)
theorem dJ37_add_21 : decode cJ37_add 21 = .ok (.aload_n 0, 1) := dk_42 (dk_at dksJ37_add_0 21 rfl rfl)
theorem dJ37_add_22 : decode cJ37_add 22 = .ok (.getfield 9, 3) := dk_180 0 9 (dk_at dksJ37_add_1 0 rfl rfl)
theorem dJ37_add_25 : decode cJ37_add 25 = .ok (.dup, 1) := dk_89 (dk_at dksJ37_add_1 3 rfl rfl)
theorem dJ37_add_26 : decode cJ37_add 26 = .ok (.astore 4, 2) := dk_58 4 (dk_at dksJ37_add_1 4 rfl rfl)
theorem dJ37_add_28 : decode cJ37_add 28 = .ok (.arraylength, 1) := dk_190 (dk_at dksJ37_add_1 6 rfl rfl)
theorem dJ37_add_29 : decode cJ37_add 29 = .ok (.if_icmp .ne 9, 3) := dk_160 0 9 (dk_at dksJ37_add_1 7 rfl rfl)
theorem dJ37_add_32 : decode cJ37_add 32 = .ok (.aload_n 0, 1) := dk_42 (dk_at dksJ37_add_1 10 rfl rfl)
theorem dJ37_add_33 : decode cJ37_add 33 = .ok (.invokevirtual 129, 3) := dk_182 0 129 (dk_at dksJ37_add_1 11 rfl rfl)
theorem dJ37_add_36 : decode cJ37_add 36 = .ok (.astore 4, 2) := dk_58 4 (dk_at dksJ37_add_1 14 rfl rfl)
theorem dJ37_add_38 : decode cJ37_add 38 = .ok (.aload 4, 2) := dk_25 4 (dk_at dksJ37_add_1 16 rfl rfl)
theorem dJ37_add_40 : decode cJ37_add 40 = .ok (.iload_n 1, 1) := dk_27 (dk_at dksJ37_add_1 18 rfl rfl)
theorem dJ37_add_41 : decode cJ37_add 41 = .ok (.aload 4, 2) := dk_25 4 (dk_at dksJ37_add_1 19 rfl rfl)
theorem dJ37_add_43 : decode cJ37_add 43 = .ok (.iload_n 1, 1) := dk_27 (dk_at dksJ37_add_1 21 rfl rfl)
theorem dJ37_add_44 : decode cJ37_add 44 = .ok (.iconst 1, 1) := dk_4 (dk_at dksJ37_add_1 22 rfl rfl)
theorem dJ37_add_45 : decode cJ37_add 45 = .ok (.iadd, 1) := dk_96 (dk_at dksJ37_add_1 23 rfl rfl)
theorem dJ37_add_46 : decode cJ37_add 46 = .ok (.iload_n 3, 1) := dk_29 (dk_at dksJ37_add_2 0 rfl rfl)
theorem dJ37_add_47 : decode cJ37_add 47 = .ok (.iload_n 1, 1) := dk_27 (dk_at dksJ37_add_2 1 rfl rfl)
theorem dJ37_add_48 : decode cJ37_add 48 = .ok (.isub, 1) := dk_100 (dk_at dksJ37_add_2 2 rfl rfl)
theorem dJ37_add_49 : decode cJ37_add 49 = .ok (.invokestatic 112, 3) := dk_184 0 112 (dk_at dksJ37_add_2 3 rfl rfl)
theorem dJ37_add_52 : decode cJ37_add 52 = .ok (.aload 4, 2) := dk_25 4 (dk_at dksJ37_add_2 6 rfl rfl)
theorem dJ37_add_54 : decode cJ37_add 54 = .ok (.iload_n 1, 1) := dk_27 (dk_at dksJ37_add_2 8 rfl rfl)
theorem dJ37_add_55 : decode cJ37_add 55 = .ok (.aload_n 2, 1) := dk_44 (dk_at dksJ37_add_2 9 rfl rfl)
theorem dJ37_add_56 : decode cJ37_add 56 = .ok (.aastore, 1) := dk_83 (dk_at dksJ37_add_2 10 rfl rfl)
theorem dJ37_add_57 : decode cJ37_add 57 = .ok (.aload_n 0, 1) := dk_42 (dk_at dksJ37_add_2 11 rfl rfl)
theorem dJ37_add_58 : decode cJ37_add 58 = .ok (.iload_n 3, 1) := dk_29 (dk_at dksJ37_add_2 12 rfl rfl)
theorem dJ37_add_59 : decode cJ37_add 59 = .ok (.iconst 1, 1) := dk_4 (dk_at dksJ37_add_2 13 rfl rfl)
theorem dJ37_add_60 : decode cJ37_add 60 = .ok (.iadd, 1) := dk_96 (dk_at dksJ37_add_2 14 rfl rfl)
theorem dJ37_add_61 : decode cJ37_add 61 = .ok (.putfield 48, 3) := dk_181 0 48 (dk_at dksJ37_add_2 15 rfl rfl)
theorem dJ37_add_64 : decode cJ37_add 64 = .ok (.return_, 1) := dk_177 (dk_at dksJ37_add_2 18 rfl rfl)
def dkwJ37_rangeCheckForAdd_1 : List UInt8 := [191, 177]
abbrev dktJ37_rangeCheckForAdd_1 : List UInt8 := dkwJ37_rangeCheckForAdd_1 ++ []
def dkwJ37_rangeCheckForAdd_0 : List UInt8 := [27, 42, 180, 0, 48, 163, 0, 7, 27, 156, 0, 16, 187, 0, 187, 89, 42, 27, 182, 0, 198, 183, 0, 193]
abbrev dktJ37_rangeCheckForAdd_0 : List UInt8 := dkwJ37_rangeCheckForAdd_0 ++ dktJ37_rangeCheckForAdd_1
theorem dksJ37_rangeCheckForAdd_0 : cJ37_rangeCheckForAdd.data.toList.drop 0 = dktJ37_rangeCheckForAdd_0 := by decide +kernel
theorem dksJ37_rangeCheckForAdd_1 : cJ37_rangeCheckForAdd.data.toList.drop 24 = dktJ37_rangeCheckForAdd_1 := dk_seg dksJ37_rangeCheckForAdd_0 24 rfl rfl
theorem dJ37_rangeCheckForAdd_0 : decode cJ37_rangeCheckForAdd 0 = .ok (.iload_n 1, 1) := dk_27 (dk_at dksJ37_rangeCheckForAdd_0 0 rfl rfl)
theorem dJ37_rangeCheckForAdd_1 : decode cJ37_rangeCheckForAdd 1 = .ok (.aload_n 0, 1) := dk_42 (dk_at dksJ37_rangeCheckForAdd_0 1 rfl rfl)
theorem dJ37_rangeCheckForAdd_2 : decode cJ37_rangeCheckForAdd 2 = .ok (.getfield 48, 3) := dk_180 0 48 (dk_at dksJ37_rangeCheckForAdd_0 2 rfl rfl)
theorem dJ37_rangeCheckForAdd_5 : decode cJ37_rangeCheckForAdd 5 = .ok (.if_icmp .gt 7, 3) := dk_163 0 7 (dk_at dksJ37_rangeCheckForAdd_0 5 rfl rfl)
theorem dJ37_rangeCheckForAdd_8 : decode cJ37_rangeCheckForAdd 8 = .ok (.iload_n 1, 1) := dk_27 (dk_at dksJ37_rangeCheckForAdd_0 8 rfl rfl)
theorem dJ37_rangeCheckForAdd_9 : decode cJ37_rangeCheckForAdd 9 = .ok (.ifCond .ge 16, 3) := dk_156 0 16 (dk_at dksJ37_rangeCheckForAdd_0 9 rfl rfl)
theorem dJ37_rangeCheckForAdd_12 : decode cJ37_rangeCheckForAdd 12 = .ok (.new 187, 3) := dk_187 0 187 (dk_at dksJ37_rangeCheckForAdd_0 12 rfl rfl)
theorem dJ37_rangeCheckForAdd_15 : decode cJ37_rangeCheckForAdd 15 = .ok (.dup, 1) := dk_89 (dk_at dksJ37_rangeCheckForAdd_0 15 rfl rfl)
theorem dJ37_rangeCheckForAdd_16 : decode cJ37_rangeCheckForAdd 16 = .ok (.aload_n 0, 1) := dk_42 (dk_at dksJ37_rangeCheckForAdd_0 16 rfl rfl)
theorem dJ37_rangeCheckForAdd_17 : decode cJ37_rangeCheckForAdd 17 = .ok (.iload_n 1, 1) := dk_27 (dk_at dksJ37_rangeCheckForAdd_0 17 rfl rfl)
theorem dJ37_rangeCheckForAdd_18 : decode cJ37_rangeCheckForAdd 18 = .ok (.invokevirtual 198, 3) := dk_182 0 198 (dk_at dksJ37_rangeCheckForAdd_0 18 rfl rfl)
theorem dJ37_rangeCheckForAdd_21 : decode cJ37_rangeCheckForAdd 21 = .ok (.invokespecial 193, 3) := dk_183 0 193 (dk_at dksJ37_rangeCheckForAdd_0 21 rfl rfl)
theorem dJ37_rangeCheckForAdd_24 : decode cJ37_rangeCheckForAdd 24 = .ok (.athrow, 1) := dk_191 (dk_at dksJ37_rangeCheckForAdd_1 0 rfl rfl)
theorem dJ37_rangeCheckForAdd_25 : decode cJ37_rangeCheckForAdd 25 = .ok (.return_, 1) := dk_177 (dk_at dksJ37_rangeCheckForAdd_1 1 rfl rfl)
def dkwJ37_outOfBoundsMsg_1 : List UInt8 := [180, 0, 48, 182, 0, 29, 182, 0, 32, 176]
abbrev dktJ37_outOfBoundsMsg_1 : List UInt8 := dkwJ37_outOfBoundsMsg_1 ++ []
def dkwJ37_outOfBoundsMsg_0 : List UInt8 := [187, 0, 20, 89, 183, 0, 22, 18, 201, 182, 0, 25, 27, 182, 0, 29, 18, 203, 182, 0, 25, 42]
abbrev dktJ37_outOfBoundsMsg_0 : List UInt8 := dkwJ37_outOfBoundsMsg_0 ++ dktJ37_outOfBoundsMsg_1
theorem dksJ37_outOfBoundsMsg_0 : cJ37_outOfBoundsMsg.data.toList.drop 0 = dktJ37_outOfBoundsMsg_0 := by decide +kernel
theorem dksJ37_outOfBoundsMsg_1 : cJ37_outOfBoundsMsg.data.toList.drop 22 = dktJ37_outOfBoundsMsg_1 := dk_seg dksJ37_outOfBoundsMsg_0 22 rfl rfl
theorem dJ37_outOfBoundsMsg_0 : decode cJ37_outOfBoundsMsg 0 = .ok (.new 20, 3) := dk_187 0 20 (dk_at dksJ37_outOfBoundsMsg_0 0 rfl rfl)
theorem dJ37_outOfBoundsMsg_3 : decode cJ37_outOfBoundsMsg 3 = .ok (.dup, 1) := dk_89 (dk_at dksJ37_outOfBoundsMsg_0 3 rfl rfl)
theorem dJ37_outOfBoundsMsg_4 : decode cJ37_outOfBoundsMsg 4 = .ok (.invokespecial 22, 3) := dk_183 0 22 (dk_at dksJ37_outOfBoundsMsg_0 4 rfl rfl)
theorem dJ37_outOfBoundsMsg_7 : decode cJ37_outOfBoundsMsg 7 = .ok (.ldc 201, 2) := dk_18 201 (dk_at dksJ37_outOfBoundsMsg_0 7 rfl rfl)
theorem dJ37_outOfBoundsMsg_9 : decode cJ37_outOfBoundsMsg 9 = .ok (.invokevirtual 25, 3) := dk_182 0 25 (dk_at dksJ37_outOfBoundsMsg_0 9 rfl rfl)
theorem dJ37_outOfBoundsMsg_12 : decode cJ37_outOfBoundsMsg 12 = .ok (.iload_n 1, 1) := dk_27 (dk_at dksJ37_outOfBoundsMsg_0 12 rfl rfl)
theorem dJ37_outOfBoundsMsg_13 : decode cJ37_outOfBoundsMsg 13 = .ok (.invokevirtual 29, 3) := dk_182 0 29 (dk_at dksJ37_outOfBoundsMsg_0 13 rfl rfl)
theorem dJ37_outOfBoundsMsg_16 : decode cJ37_outOfBoundsMsg 16 = .ok (.ldc 203, 2) := dk_18 203 (dk_at dksJ37_outOfBoundsMsg_0 16 rfl rfl)
theorem dJ37_outOfBoundsMsg_18 : decode cJ37_outOfBoundsMsg 18 = .ok (.invokevirtual 25, 3) := dk_182 0 25 (dk_at dksJ37_outOfBoundsMsg_0 18 rfl rfl)
theorem dJ37_outOfBoundsMsg_21 : decode cJ37_outOfBoundsMsg 21 = .ok (.aload_n 0, 1) := dk_42 (dk_at dksJ37_outOfBoundsMsg_0 21 rfl rfl)
theorem dJ37_outOfBoundsMsg_22 : decode cJ37_outOfBoundsMsg 22 = .ok (.getfield 48, 3) := dk_180 0 48 (dk_at dksJ37_outOfBoundsMsg_1 0 rfl rfl)
theorem dJ37_outOfBoundsMsg_25 : decode cJ37_outOfBoundsMsg 25 = .ok (.invokevirtual 29, 3) := dk_182 0 29 (dk_at dksJ37_outOfBoundsMsg_1 3 rfl rfl)
theorem dJ37_outOfBoundsMsg_28 : decode cJ37_outOfBoundsMsg 28 = .ok (.invokevirtual 32, 3) := dk_182 0 32 (dk_at dksJ37_outOfBoundsMsg_1 6 rfl rfl)
theorem dJ37_outOfBoundsMsg_31 : decode cJ37_outOfBoundsMsg 31 = .ok (.areturn, 1) := dk_176 (dk_at dksJ37_outOfBoundsMsg_1 9 rfl rfl)
def dkwJ37_grow_0 : List UInt8 := [42, 42, 180, 0, 48, 4, 96, 182, 0, 69, 176]
abbrev dktJ37_grow_0 : List UInt8 := dkwJ37_grow_0 ++ []
theorem dksJ37_grow_0 : cJ37_grow.data.toList.drop 0 = dktJ37_grow_0 := by decide +kernel
theorem dJ37_grow_0 : decode cJ37_grow 0 = .ok (.aload_n 0, 1) := dk_42 (dk_at dksJ37_grow_0 0 rfl rfl)
theorem dJ37_grow_1 : decode cJ37_grow 1 = .ok (.aload_n 0, 1) := dk_42 (dk_at dksJ37_grow_0 1 rfl rfl)
theorem dJ37_grow_2 : decode cJ37_grow 2 = .ok (.getfield 48, 3) := dk_180 0 48 (dk_at dksJ37_grow_0 2 rfl rfl)
theorem dJ37_grow_5 : decode cJ37_grow 5 = .ok (.iconst 1, 1) := dk_4 (dk_at dksJ37_grow_0 5 rfl rfl)
theorem dJ37_grow_6 : decode cJ37_grow 6 = .ok (.iadd, 1) := dk_96 (dk_at dksJ37_grow_0 6 rfl rfl)
theorem dJ37_grow_7 : decode cJ37_grow 7 = .ok (.invokevirtual 69, 3) := dk_182 0 69 (dk_at dksJ37_grow_0 7 rfl rfl)
theorem dJ37_grow_10 : decode cJ37_grow 10 = .ok (.areturn, 1) := dk_176 (dk_at dksJ37_grow_0 10 rfl rfl)
def dkwJ37_grow_2_2 : List UInt8 := [27, 184, 0, 79, 189, 0, 7, 90, 181, 0, 9, 176]
abbrev dktJ37_grow_2_2 : List UInt8 := dkwJ37_grow_2_2 ++ []
def dkwJ37_grow_2_1 : List UInt8 := [28, 4, 122, 184, 0, 73, 62, 42, 42, 180, 0, 9, 29, 184, 0, 66, 90, 181, 0, 9, 176, 42, 16, 10]
abbrev dktJ37_grow_2_1 : List UInt8 := dkwJ37_grow_2_1 ++ dktJ37_grow_2_2
def dkwJ37_grow_2_0 : List UInt8 := [42, 180, 0, 9, 190, 61, 28, 157, 0, 13, 42, 180, 0, 9, 178, 0, 39, 165, 0, 28, 28, 27, 28, 100]
abbrev dktJ37_grow_2_0 : List UInt8 := dkwJ37_grow_2_0 ++ dktJ37_grow_2_1
theorem dksJ37_grow_2_0 : cJ37_grow_2.data.toList.drop 0 = dktJ37_grow_2_0 := by decide +kernel
theorem dksJ37_grow_2_1 : cJ37_grow_2.data.toList.drop 24 = dktJ37_grow_2_1 := dk_seg dksJ37_grow_2_0 24 rfl rfl
theorem dksJ37_grow_2_2 : cJ37_grow_2.data.toList.drop 48 = dktJ37_grow_2_2 := dk_seg dksJ37_grow_2_1 24 rfl rfl
theorem dJ37_grow_2_0 : decode cJ37_grow_2 0 = .ok (.aload_n 0, 1) := dk_42 (dk_at dksJ37_grow_2_0 0 rfl rfl)
theorem dJ37_grow_2_1 : decode cJ37_grow_2 1 = .ok (.getfield 9, 3) := dk_180 0 9 (dk_at dksJ37_grow_2_0 1 rfl rfl)
theorem dJ37_grow_2_4 : decode cJ37_grow_2 4 = .ok (.arraylength, 1) := dk_190 (dk_at dksJ37_grow_2_0 4 rfl rfl)
theorem dJ37_grow_2_5 : decode cJ37_grow_2 5 = .ok (.istore_n 2, 1) := dk_61 (dk_at dksJ37_grow_2_0 5 rfl rfl)
theorem dJ37_grow_2_6 : decode cJ37_grow_2 6 = .ok (.iload_n 2, 1) := dk_28 (dk_at dksJ37_grow_2_0 6 rfl rfl)
theorem dJ37_grow_2_7 : decode cJ37_grow_2 7 = .ok (.ifCond .gt 13, 3) := dk_157 0 13 (dk_at dksJ37_grow_2_0 7 rfl rfl)
theorem dJ37_grow_2_10 : decode cJ37_grow_2 10 = .ok (.aload_n 0, 1) := dk_42 (dk_at dksJ37_grow_2_0 10 rfl rfl)
theorem dJ37_grow_2_11 : decode cJ37_grow_2 11 = .ok (.getfield 9, 3) := dk_180 0 9 (dk_at dksJ37_grow_2_0 11 rfl rfl)
theorem dJ37_grow_2_14 : decode cJ37_grow_2 14 = .ok (.getstatic 39, 3) := dk_178 0 39 (dk_at dksJ37_grow_2_0 14 rfl rfl)
theorem dJ37_grow_2_17 : decode cJ37_grow_2 17 = .ok (.if_acmp .eq 28, 3) := dk_165 0 28 (dk_at dksJ37_grow_2_0 17 rfl rfl)
theorem dJ37_grow_2_20 : decode cJ37_grow_2 20 = .ok (.iload_n 2, 1) := dk_28 (dk_at dksJ37_grow_2_0 20 rfl rfl)
theorem dJ37_grow_2_21 : decode cJ37_grow_2 21 = .ok (.iload_n 1, 1) := dk_27 (dk_at dksJ37_grow_2_0 21 rfl rfl)
theorem dJ37_grow_2_22 : decode cJ37_grow_2 22 = .ok (.iload_n 2, 1) := dk_28 (dk_at dksJ37_grow_2_0 22 rfl rfl)
theorem dJ37_grow_2_23 : decode cJ37_grow_2 23 = .ok (.isub, 1) := dk_100 (dk_at dksJ37_grow_2_0 23 rfl rfl)
theorem dJ37_grow_2_24 : decode cJ37_grow_2 24 = .ok (.iload_n 2, 1) := dk_28 (dk_at dksJ37_grow_2_1 0 rfl rfl)
theorem dJ37_grow_2_25 : decode cJ37_grow_2 25 = .ok (.iconst 1, 1) := dk_4 (dk_at dksJ37_grow_2_1 1 rfl rfl)
theorem dJ37_grow_2_26 : decode cJ37_grow_2 26 = .ok (.ishr, 1) := dk_122 (dk_at dksJ37_grow_2_1 2 rfl rfl)
theorem dJ37_grow_2_27 : decode cJ37_grow_2 27 = .ok (.invokestatic 73, 3) := dk_184 0 73 (dk_at dksJ37_grow_2_1 3 rfl rfl)
theorem dJ37_grow_2_30 : decode cJ37_grow_2 30 = .ok (.istore_n 3, 1) := dk_62 (dk_at dksJ37_grow_2_1 6 rfl rfl)
theorem dJ37_grow_2_31 : decode cJ37_grow_2 31 = .ok (.aload_n 0, 1) := dk_42 (dk_at dksJ37_grow_2_1 7 rfl rfl)
theorem dJ37_grow_2_32 : decode cJ37_grow_2 32 = .ok (.aload_n 0, 1) := dk_42 (dk_at dksJ37_grow_2_1 8 rfl rfl)
theorem dJ37_grow_2_33 : decode cJ37_grow_2 33 = .ok (.getfield 9, 3) := dk_180 0 9 (dk_at dksJ37_grow_2_1 9 rfl rfl)
theorem dJ37_grow_2_36 : decode cJ37_grow_2 36 = .ok (.iload_n 3, 1) := dk_29 (dk_at dksJ37_grow_2_1 12 rfl rfl)
theorem dJ37_grow_2_37 : decode cJ37_grow_2 37 = .ok (.invokestatic 66, 3) := dk_184 0 66 (dk_at dksJ37_grow_2_1 13 rfl rfl)
theorem dJ37_grow_2_40 : decode cJ37_grow_2 40 = .ok (.dup_x1, 1) := dk_90 (dk_at dksJ37_grow_2_1 16 rfl rfl)
theorem dJ37_grow_2_41 : decode cJ37_grow_2 41 = .ok (.putfield 9, 3) := dk_181 0 9 (dk_at dksJ37_grow_2_1 17 rfl rfl)
theorem dJ37_grow_2_44 : decode cJ37_grow_2 44 = .ok (.areturn, 1) := dk_176 (dk_at dksJ37_grow_2_1 20 rfl rfl)
theorem dJ37_grow_2_45 : decode cJ37_grow_2 45 = .ok (.aload_n 0, 1) := dk_42 (dk_at dksJ37_grow_2_1 21 rfl rfl)
theorem dJ37_grow_2_46 : decode cJ37_grow_2 46 = .ok (.bipush 10, 2) := dk_16 10 (dk_at dksJ37_grow_2_1 22 rfl rfl)
theorem dJ37_grow_2_48 : decode cJ37_grow_2 48 = .ok (.iload_n 1, 1) := dk_27 (dk_at dksJ37_grow_2_2 0 rfl rfl)
theorem dJ37_grow_2_49 : decode cJ37_grow_2 49 = .ok (.invokestatic 79, 3) := dk_184 0 79 (dk_at dksJ37_grow_2_2 1 rfl rfl)
theorem dJ37_grow_2_52 : decode cJ37_grow_2 52 = .ok (.anewarray 7, 3) := dk_189 0 7 (dk_at dksJ37_grow_2_2 4 rfl rfl)
theorem dJ37_grow_2_55 : decode cJ37_grow_2 55 = .ok (.dup_x1, 1) := dk_90 (dk_at dksJ37_grow_2_2 7 rfl rfl)
theorem dJ37_grow_2_56 : decode cJ37_grow_2 56 = .ok (.putfield 9, 3) := dk_181 0 9 (dk_at dksJ37_grow_2_2 8 rfl rfl)
theorem dJ37_grow_2_59 : decode cJ37_grow_2 59 = .ok (.areturn, 1) := dk_176 (dk_at dksJ37_grow_2_2 11 rfl rfl)
def dkwJ37_add_2_1 : List UInt8 := [172]
abbrev dktJ37_add_2_1 : List UInt8 := dkwJ37_add_2_1 ++ []
def dkwJ37_add_2_0 : List UInt8 := [42, 89, 180, 0, 63, 4, 96, 181, 0, 63, 42, 43, 42, 180, 0, 9, 42, 180, 0, 48, 182, 0, 131, 4]
abbrev dktJ37_add_2_0 : List UInt8 := dkwJ37_add_2_0 ++ dktJ37_add_2_1
theorem dksJ37_add_2_0 : cJ37_add_2.data.toList.drop 0 = dktJ37_add_2_0 := by decide +kernel
theorem dksJ37_add_2_1 : cJ37_add_2.data.toList.drop 24 = dktJ37_add_2_1 := dk_seg dksJ37_add_2_0 24 rfl rfl
theorem dJ37_add_2_0 : decode cJ37_add_2 0 = .ok (.aload_n 0, 1) := dk_42 (dk_at dksJ37_add_2_0 0 rfl rfl)
theorem dJ37_add_2_1 : decode cJ37_add_2 1 = .ok (.dup, 1) := dk_89 (dk_at dksJ37_add_2_0 1 rfl rfl)
theorem dJ37_add_2_2 : decode cJ37_add_2 2 = .ok (.getfield 63, 3) := dk_180 0 63 (dk_at dksJ37_add_2_0 2 rfl rfl)
theorem dJ37_add_2_5 : decode cJ37_add_2 5 = .ok (.iconst 1, 1) := dk_4 (dk_at dksJ37_add_2_0 5 rfl rfl)
theorem dJ37_add_2_6 : decode cJ37_add_2 6 = .ok (.iadd, 1) := dk_96 (dk_at dksJ37_add_2_0 6 rfl rfl)
theorem dJ37_add_2_7 : decode cJ37_add_2 7 = .ok (.putfield 63, 3) := dk_181 0 63 (dk_at dksJ37_add_2_0 7 rfl rfl)
theorem dJ37_add_2_10 : decode cJ37_add_2 10 = .ok (.aload_n 0, 1) := dk_42 (dk_at dksJ37_add_2_0 10 rfl rfl)
theorem dJ37_add_2_11 : decode cJ37_add_2 11 = .ok (.aload_n 1, 1) := dk_43 (dk_at dksJ37_add_2_0 11 rfl rfl)
theorem dJ37_add_2_12 : decode cJ37_add_2 12 = .ok (.aload_n 0, 1) := dk_42 (dk_at dksJ37_add_2_0 12 rfl rfl)
theorem dJ37_add_2_13 : decode cJ37_add_2 13 = .ok (.getfield 9, 3) := dk_180 0 9 (dk_at dksJ37_add_2_0 13 rfl rfl)
theorem dJ37_add_2_16 : decode cJ37_add_2 16 = .ok (.aload_n 0, 1) := dk_42 (dk_at dksJ37_add_2_0 16 rfl rfl)
theorem dJ37_add_2_17 : decode cJ37_add_2 17 = .ok (.getfield 48, 3) := dk_180 0 48 (dk_at dksJ37_add_2_0 17 rfl rfl)
theorem dJ37_add_2_20 : decode cJ37_add_2 20 = .ok (.invokevirtual 131, 3) := dk_182 0 131 (dk_at dksJ37_add_2_0 20 rfl rfl)
theorem dJ37_add_2_23 : decode cJ37_add_2 23 = .ok (.iconst 1, 1) := dk_4 (dk_at dksJ37_add_2_0 23 rfl rfl)
theorem dJ37_add_2_24 : decode cJ37_add_2 24 = .ok (.ireturn, 1) := dk_172 (dk_at dksJ37_add_2_1 0 rfl rfl)
def dkwJ37_add_3_0 : List UInt8 := [29, 44, 190, 160, 0, 8, 42, 182, 0, 129, 77, 44, 29, 43, 83, 42, 29, 4, 96, 181, 0, 48, 177]
abbrev dktJ37_add_3_0 : List UInt8 := dkwJ37_add_3_0 ++ []
theorem dksJ37_add_3_0 : cJ37_add_3.data.toList.drop 0 = dktJ37_add_3_0 := by decide +kernel
theorem dJ37_add_3_0 : decode cJ37_add_3 0 = .ok (.iload_n 3, 1) := dk_29 (dk_at dksJ37_add_3_0 0 rfl rfl)
theorem dJ37_add_3_1 : decode cJ37_add_3 1 = .ok (.aload_n 2, 1) := dk_44 (dk_at dksJ37_add_3_0 1 rfl rfl)
theorem dJ37_add_3_2 : decode cJ37_add_3 2 = .ok (.arraylength, 1) := dk_190 (dk_at dksJ37_add_3_0 2 rfl rfl)
theorem dJ37_add_3_3 : decode cJ37_add_3 3 = .ok (.if_icmp .ne 8, 3) := dk_160 0 8 (dk_at dksJ37_add_3_0 3 rfl rfl)
theorem dJ37_add_3_6 : decode cJ37_add_3 6 = .ok (.aload_n 0, 1) := dk_42 (dk_at dksJ37_add_3_0 6 rfl rfl)
theorem dJ37_add_3_7 : decode cJ37_add_3 7 = .ok (.invokevirtual 129, 3) := dk_182 0 129 (dk_at dksJ37_add_3_0 7 rfl rfl)
theorem dJ37_add_3_10 : decode cJ37_add_3 10 = .ok (.astore_n 2, 1) := dk_77 (dk_at dksJ37_add_3_0 10 rfl rfl)
theorem dJ37_add_3_11 : decode cJ37_add_3 11 = .ok (.aload_n 2, 1) := dk_44 (dk_at dksJ37_add_3_0 11 rfl rfl)
theorem dJ37_add_3_12 : decode cJ37_add_3 12 = .ok (.iload_n 3, 1) := dk_29 (dk_at dksJ37_add_3_0 12 rfl rfl)
theorem dJ37_add_3_13 : decode cJ37_add_3 13 = .ok (.aload_n 1, 1) := dk_43 (dk_at dksJ37_add_3_0 13 rfl rfl)
theorem dJ37_add_3_14 : decode cJ37_add_3 14 = .ok (.aastore, 1) := dk_83 (dk_at dksJ37_add_3_0 14 rfl rfl)
theorem dJ37_add_3_15 : decode cJ37_add_3 15 = .ok (.aload_n 0, 1) := dk_42 (dk_at dksJ37_add_3_0 15 rfl rfl)
theorem dJ37_add_3_16 : decode cJ37_add_3 16 = .ok (.iload_n 3, 1) := dk_29 (dk_at dksJ37_add_3_0 16 rfl rfl)
theorem dJ37_add_3_17 : decode cJ37_add_3 17 = .ok (.iconst 1, 1) := dk_4 (dk_at dksJ37_add_3_0 17 rfl rfl)
theorem dJ37_add_3_18 : decode cJ37_add_3 18 = .ok (.iadd, 1) := dk_96 (dk_at dksJ37_add_3_0 18 rfl rfl)
theorem dJ37_add_3_19 : decode cJ37_add_3 19 = .ok (.putfield 48, 3) := dk_181 0 48 (dk_at dksJ37_add_3_0 19 rfl rfl)
theorem dJ37_add_3_22 : decode cJ37_add_3 22 = .ok (.return_, 1) := dk_177 (dk_at dksJ37_add_3_0 22 rfl rfl)
def dkwJ38_checkIndex_0 : List UInt8 := [26, 27, 1, 184, 0, 105, 172]
abbrev dktJ38_checkIndex_0 : List UInt8 := dkwJ38_checkIndex_0 ++ []
theorem dksJ38_checkIndex_0 : cJ38_checkIndex.data.toList.drop 0 = dktJ38_checkIndex_0 := by decide +kernel
theorem dJ38_checkIndex_0 : decode cJ38_checkIndex 0 = .ok (.iload_n 0, 1) := dk_26 (dk_at dksJ38_checkIndex_0 0 rfl rfl)
theorem dJ38_checkIndex_1 : decode cJ38_checkIndex 1 = .ok (.iload_n 1, 1) := dk_27 (dk_at dksJ38_checkIndex_0 1 rfl rfl)
theorem dJ38_checkIndex_2 : decode cJ38_checkIndex 2 = .ok (.aconst_null, 1) := dk_1 (dk_at dksJ38_checkIndex_0 2 rfl rfl)
theorem dJ38_checkIndex_3 : decode cJ38_checkIndex 3 = .ok (.invokestatic 105, 3) := dk_184 0 105 (dk_at dksJ38_checkIndex_0 3 rfl rfl)
theorem dJ38_checkIndex_6 : decode cJ38_checkIndex 6 = .ok (.ireturn, 1) := dk_172 (dk_at dksJ38_checkIndex_0 6 rfl rfl)
theorem dJ39_init_0 : decode cJ39_init 0 = .ok (.aload_n 0, 1) := by decide +kernel
theorem dJ39_init_1 : decode cJ39_init 1 = .ok (.invokespecial 1, 3) := by decide +kernel
theorem dJ39_init_4 : decode cJ39_init 4 = .ok (.return_, 1) := by decide +kernel
def dkwJ39_init_2_0 : List UInt8 := [42, 43, 183, 0, 7, 177]
abbrev dktJ39_init_2_0 : List UInt8 := dkwJ39_init_2_0 ++ []
theorem dksJ39_init_2_0 : cJ39_init_2.data.toList.drop 0 = dktJ39_init_2_0 := by decide +kernel
theorem dJ39_init_2_0 : decode cJ39_init_2 0 = .ok (.aload_n 0, 1) := dk_42 (dk_at dksJ39_init_2_0 0 rfl rfl)
theorem dJ39_init_2_1 : decode cJ39_init_2 1 = .ok (.aload_n 1, 1) := dk_43 (dk_at dksJ39_init_2_0 1 rfl rfl)
theorem dJ39_init_2_2 : decode cJ39_init_2 2 = .ok (.invokespecial 7, 3) := dk_183 0 7 (dk_at dksJ39_init_2_0 2 rfl rfl)
theorem dJ39_init_2_5 : decode cJ39_init_2 5 = .ok (.return_, 1) := dk_177 (dk_at dksJ39_init_2_0 5 rfl rfl)
theorem dJ40_getKey_0 : decode cJ40_getKey 0 = .ok (.aload_n 0, 1) := by decide +kernel
theorem dJ40_getKey_1 : decode cJ40_getKey 1 = .ok (.getfield 13, 3) := by decide +kernel
theorem dJ40_getKey_4 : decode cJ40_getKey 4 = .ok (.areturn, 1) := by decide +kernel
def dkwJ40_init_1 : List UInt8 := [181, 0, 20, 177]
abbrev dktJ40_init_1 : List UInt8 := dkwJ40_init_1 ++ []
def dkwJ40_init_0 : List UInt8 := [42, 183, 0, 1, 42, 27, 181, 0, 7, 42, 44, 181, 0, 13, 42, 45, 181, 0, 17, 42, 25, 4]
abbrev dktJ40_init_0 : List UInt8 := dkwJ40_init_0 ++ dktJ40_init_1
theorem dksJ40_init_0 : cJ40_init.data.toList.drop 0 = dktJ40_init_0 := by decide +kernel
theorem dksJ40_init_1 : cJ40_init.data.toList.drop 22 = dktJ40_init_1 := dk_seg dksJ40_init_0 22 rfl rfl
theorem dJ40_init_0 : decode cJ40_init 0 = .ok (.aload_n 0, 1) := dk_42 (dk_at dksJ40_init_0 0 rfl rfl)
theorem dJ40_init_1 : decode cJ40_init 1 = .ok (.invokespecial 1, 3) := dk_183 0 1 (dk_at dksJ40_init_0 1 rfl rfl)
theorem dJ40_init_4 : decode cJ40_init 4 = .ok (.aload_n 0, 1) := dk_42 (dk_at dksJ40_init_0 4 rfl rfl)
theorem dJ40_init_5 : decode cJ40_init 5 = .ok (.iload_n 1, 1) := dk_27 (dk_at dksJ40_init_0 5 rfl rfl)
theorem dJ40_init_6 : decode cJ40_init 6 = .ok (.putfield 7, 3) := dk_181 0 7 (dk_at dksJ40_init_0 6 rfl rfl)
theorem dJ40_init_9 : decode cJ40_init 9 = .ok (.aload_n 0, 1) := dk_42 (dk_at dksJ40_init_0 9 rfl rfl)
theorem dJ40_init_10 : decode cJ40_init 10 = .ok (.aload_n 2, 1) := dk_44 (dk_at dksJ40_init_0 10 rfl rfl)
theorem dJ40_init_11 : decode cJ40_init 11 = .ok (.putfield 13, 3) := dk_181 0 13 (dk_at dksJ40_init_0 11 rfl rfl)
theorem dJ40_init_14 : decode cJ40_init 14 = .ok (.aload_n 0, 1) := dk_42 (dk_at dksJ40_init_0 14 rfl rfl)
theorem dJ40_init_15 : decode cJ40_init 15 = .ok (.aload_n 3, 1) := dk_45 (dk_at dksJ40_init_0 15 rfl rfl)
theorem dJ40_init_16 : decode cJ40_init 16 = .ok (.putfield 17, 3) := dk_181 0 17 (dk_at dksJ40_init_0 16 rfl rfl)
theorem dJ40_init_19 : decode cJ40_init 19 = .ok (.aload_n 0, 1) := dk_42 (dk_at dksJ40_init_0 19 rfl rfl)
theorem dJ40_init_20 : decode cJ40_init 20 = .ok (.aload 4, 2) := dk_25 4 (dk_at dksJ40_init_0 20 rfl rfl)
theorem dJ40_init_22 : decode cJ40_init 22 = .ok (.putfield 20, 3) := dk_181 0 20 (dk_at dksJ40_init_1 0 rfl rfl)
theorem dJ40_init_25 : decode cJ40_init 25 = .ok (.return_, 1) := dk_177 (dk_at dksJ40_init_1 3 rfl rfl)
def dkwJ41_init_0 : List UInt8 := [42, 27, 44, 45, 25, 4, 183, 0, 1, 177]
abbrev dktJ41_init_0 : List UInt8 := dkwJ41_init_0 ++ []
theorem dksJ41_init_0 : cJ41_init.data.toList.drop 0 = dktJ41_init_0 := by decide +kernel
theorem dJ41_init_0 : decode cJ41_init 0 = .ok (.aload_n 0, 1) := dk_42 (dk_at dksJ41_init_0 0 rfl rfl)
theorem dJ41_init_1 : decode cJ41_init 1 = .ok (.iload_n 1, 1) := dk_27 (dk_at dksJ41_init_0 1 rfl rfl)
theorem dJ41_init_2 : decode cJ41_init 2 = .ok (.aload_n 2, 1) := dk_44 (dk_at dksJ41_init_0 2 rfl rfl)
theorem dJ41_init_3 : decode cJ41_init 3 = .ok (.aload_n 3, 1) := dk_45 (dk_at dksJ41_init_0 3 rfl rfl)
theorem dJ41_init_4 : decode cJ41_init 4 = .ok (.aload 4, 2) := dk_25 4 (dk_at dksJ41_init_0 4 rfl rfl)
theorem dJ41_init_6 : decode cJ41_init 6 = .ok (.invokespecial 1, 3) := dk_183 0 1 (dk_at dksJ41_init_0 6 rfl rfl)
theorem dJ41_init_9 : decode cJ41_init 9 = .ok (.return_, 1) := dk_177 (dk_at dksJ41_init_0 9 rfl rfl)
theorem dJ44_init_0 : decode cJ44_init 0 = .ok (.aload_n 0, 1) := by decide +kernel
theorem dJ44_init_1 : decode cJ44_init 1 = .ok (.invokespecial 1, 3) := by decide +kernel
theorem dJ44_init_4 : decode cJ44_init 4 = .ok (.return_, 1) := by decide +kernel
def dkwJ47_init_0 : List UInt8 := [42, 43, 183, 0, 7, 177]
abbrev dktJ47_init_0 : List UInt8 := dkwJ47_init_0 ++ []
theorem dksJ47_init_0 : cJ47_init.data.toList.drop 0 = dktJ47_init_0 := by decide +kernel
theorem dJ47_init_0 : decode cJ47_init 0 = .ok (.aload_n 0, 1) := dk_42 (dk_at dksJ47_init_0 0 rfl rfl)
theorem dJ47_init_1 : decode cJ47_init 1 = .ok (.aload_n 1, 1) := dk_43 (dk_at dksJ47_init_0 1 rfl rfl)
theorem dJ47_init_2 : decode cJ47_init 2 = .ok (.invokespecial 7, 3) := dk_183 0 7 (dk_at dksJ47_init_0 2 rfl rfl)
theorem dJ47_init_5 : decode cJ47_init 5 = .ok (.return_, 1) := dk_177 (dk_at dksJ47_init_0 5 rfl rfl)
theorem dJ47_init_2_0 : decode cJ47_init_2 0 = .ok (.aload_n 0, 1) := by decide +kernel
theorem dJ47_init_2_1 : decode cJ47_init_2 1 = .ok (.invokespecial 1, 3) := by decide +kernel
theorem dJ47_init_2_4 : decode cJ47_init_2 4 = .ok (.return_, 1) := by decide +kernel
theorem dJ48_init_0 : decode cJ48_init 0 = .ok (.return_, 1) := by decide +kernel
def dkwJ48_equals_0 : List UInt8 := [42, 43, 166, 0, 7, 4, 167, 0, 4, 3, 172]
abbrev dktJ48_equals_0 : List UInt8 := dkwJ48_equals_0 ++ []
theorem dksJ48_equals_0 : cJ48_equals.data.toList.drop 0 = dktJ48_equals_0 := by decide +kernel
theorem dJ48_equals_0 : decode cJ48_equals 0 = .ok (.aload_n 0, 1) := dk_42 (dk_at dksJ48_equals_0 0 rfl rfl)
theorem dJ48_equals_1 : decode cJ48_equals 1 = .ok (.aload_n 1, 1) := dk_43 (dk_at dksJ48_equals_0 1 rfl rfl)
theorem dJ48_equals_2 : decode cJ48_equals 2 = .ok (.if_acmp .ne 7, 3) := dk_166 0 7 (dk_at dksJ48_equals_0 2 rfl rfl)
theorem dJ48_equals_5 : decode cJ48_equals 5 = .ok (.iconst 1, 1) := dk_4 (dk_at dksJ48_equals_0 5 rfl rfl)
theorem dJ48_equals_6 : decode cJ48_equals 6 = .ok (.goto 4, 3) := dk_167 0 4 (dk_at dksJ48_equals_0 6 rfl rfl)
theorem dJ48_equals_9 : decode cJ48_equals 9 = .ok (.iconst 0, 1) := dk_3 (dk_at dksJ48_equals_0 9 rfl rfl)
theorem dJ48_equals_10 : decode cJ48_equals 10 = .ok (.ireturn, 1) := dk_172 (dk_at dksJ48_equals_0 10 rfl rfl)
