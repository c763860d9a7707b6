abbrev b_Md_wantLine : ByteArray := prog_11_method_36_code
def y_Md_wantLine : MethodName := ⟨"LiftBandsModel", "wantLine", "(II)V"⟩
abbrev b_Md_wantLines : ByteArray := prog_11_method_37_code
def y_Md_wantLines : MethodName := ⟨"LiftBandsModel", "wantLines", "(IZ)V"⟩
theorem d_Md_wantLine_0 : decode b_Md_wantLine 0 = .ok (.iload_n 2, 1) := by decide +kernel
theorem d_Md_wantLine_1 : decode b_Md_wantLine 1 = .ok (.iconst 1, 1) := by decide +kernel
theorem d_Md_wantLine_2 : decode b_Md_wantLine 2 = .ok (.if_icmp .ne 7, 3) := by decide +kernel
theorem d_Md_wantLine_5 : decode b_Md_wantLine 5 = .ok (.iconst 0, 1) := by decide +kernel
theorem d_Md_wantLine_6 : decode b_Md_wantLine 6 = .ok (.goto 15, 3) := by decide +kernel
theorem d_Md_wantLine_9 : decode b_Md_wantLine 9 = .ok (.aload_n 0, 1) := by decide +kernel
theorem d_Md_wantLine_10 : decode b_Md_wantLine 10 = .ok (.getfield 97, 3) := by decide +kernel
theorem d_Md_wantLine_13 : decode b_Md_wantLine 13 = .ok (.ifCond .eq 7, 3) := by decide +kernel
theorem d_Md_wantLine_16 : decode b_Md_wantLine 16 = .ok (.iconst 4, 1) := by decide +kernel
theorem d_Md_wantLine_17 : decode b_Md_wantLine 17 = .ok (.goto 4, 3) := by decide +kernel
theorem d_Md_wantLine_20 : decode b_Md_wantLine 20 = .ok (.iconst 2, 1) := by decide +kernel
theorem d_Md_wantLine_21 : decode b_Md_wantLine 21 = .ok (.istore_n 3, 1) := by decide +kernel
theorem d_Md_wantLine_22 : decode b_Md_wantLine 22 = .ok (.iconst 0, 1) := by decide +kernel
theorem d_Md_wantLine_23 : decode b_Md_wantLine 23 = .ok (.istore 4, 2) := by decide +kernel
theorem d_Md_wantLine_25 : decode b_Md_wantLine 25 = .ok (.iload 4, 2) := by decide +kernel
theorem d_Md_wantLine_27 : decode b_Md_wantLine 27 = .ok (.iload_n 3, 1) := by decide +kernel
theorem d_Md_wantLine_28 : decode b_Md_wantLine 28 = .ok (.if_icmp .ge 102, 3) := by decide +kernel
theorem d_Md_wantLine_31 : decode b_Md_wantLine 31 = .ok (.iload 4, 2) := by decide +kernel
theorem d_Md_wantLine_33 : decode b_Md_wantLine 33 = .ok (.iconst 2, 1) := by decide +kernel
theorem d_Md_wantLine_34 : decode b_Md_wantLine 34 = .ok (.irem, 1) := by decide +kernel
theorem d_Md_wantLine_35 : decode b_Md_wantLine 35 = .ok (.ifCond .ne 7, 3) := by decide +kernel
theorem d_Md_wantLine_38 : decode b_Md_wantLine 38 = .ok (.iconst 1, 1) := by decide +kernel
theorem d_Md_wantLine_39 : decode b_Md_wantLine 39 = .ok (.goto 4, 3) := by decide +kernel
theorem d_Md_wantLine_42 : decode b_Md_wantLine 42 = .ok (.iconst 0, 1) := by decide +kernel
theorem d_Md_wantLine_43 : decode b_Md_wantLine 43 = .ok (.istore 5, 2) := by decide +kernel
theorem d_Md_wantLine_45 : decode b_Md_wantLine 45 = .ok (.iconst 0, 1) := by decide +kernel
theorem d_Md_wantLine_46 : decode b_Md_wantLine 46 = .ok (.istore 6, 2) := by decide +kernel
theorem d_Md_wantLine_48 : decode b_Md_wantLine 48 = .ok (.iload 6, 2) := by decide +kernel
theorem d_Md_wantLine_50 : decode b_Md_wantLine 50 = .ok (.iload_n 2, 1) := by decide +kernel
theorem d_Md_wantLine_51 : decode b_Md_wantLine 51 = .ok (.if_icmp .ge 73, 3) := by decide +kernel
theorem d_Md_wantLine_54 : decode b_Md_wantLine 54 = .ok (.iload_n 1, 1) := by decide +kernel
theorem d_Md_wantLine_55 : decode b_Md_wantLine 55 = .ok (.iload 6, 2) := by decide +kernel
theorem d_Md_wantLine_57 : decode b_Md_wantLine 57 = .ok (.iadd, 1) := by decide +kernel
theorem d_Md_wantLine_58 : decode b_Md_wantLine 58 = .ok (.iconst 2, 1) := by decide +kernel
theorem d_Md_wantLine_59 : decode b_Md_wantLine 59 = .ok (.irem, 1) := by decide +kernel
theorem d_Md_wantLine_60 : decode b_Md_wantLine 60 = .ok (.iload 5, 2) := by decide +kernel
theorem d_Md_wantLine_62 : decode b_Md_wantLine 62 = .ok (.if_icmp .ne 56, 3) := by decide +kernel
theorem d_Md_wantLine_65 : decode b_Md_wantLine 65 = .ok (.aload_n 0, 1) := by decide +kernel
theorem d_Md_wantLine_66 : decode b_Md_wantLine 66 = .ok (.getfield 45, 3) := by decide +kernel
theorem d_Md_wantLine_69 : decode b_Md_wantLine 69 = .ok (.iload 6, 2) := by decide +kernel
theorem d_Md_wantLine_71 : decode b_Md_wantLine 71 = .ok (.baload, 1) := by decide +kernel
theorem d_Md_wantLine_72 : decode b_Md_wantLine 72 = .ok (.ifCond .eq 46, 3) := by decide +kernel
theorem d_Md_wantLine_75 : decode b_Md_wantLine 75 = .ok (.aload_n 0, 1) := by decide +kernel
theorem d_Md_wantLine_76 : decode b_Md_wantLine 76 = .ok (.getfield 45, 3) := by decide +kernel
theorem d_Md_wantLine_79 : decode b_Md_wantLine 79 = .ok (.iload 6, 2) := by decide +kernel
theorem d_Md_wantLine_81 : decode b_Md_wantLine 81 = .ok (.ifCond .ne 7, 3) := by decide +kernel
theorem d_Md_wantLine_84 : decode b_Md_wantLine 84 = .ok (.iconst 1, 1) := by decide +kernel
theorem d_Md_wantLine_85 : decode b_Md_wantLine 85 = .ok (.goto 7, 3) := by decide +kernel
theorem d_Md_wantLine_88 : decode b_Md_wantLine 88 = .ok (.iload 6, 2) := by decide +kernel
theorem d_Md_wantLine_90 : decode b_Md_wantLine 90 = .ok (.iconst 1, 1) := by decide +kernel
theorem d_Md_wantLine_91 : decode b_Md_wantLine 91 = .ok (.isub, 1) := by decide +kernel
theorem d_Md_wantLine_92 : decode b_Md_wantLine 92 = .ok (.iconst 1, 1) := by decide +kernel
theorem d_Md_wantLine_93 : decode b_Md_wantLine 93 = .ok (.bastore, 1) := by decide +kernel
theorem d_Md_wantLine_94 : decode b_Md_wantLine 94 = .ok (.aload_n 0, 1) := by decide +kernel
theorem d_Md_wantLine_95 : decode b_Md_wantLine 95 = .ok (.getfield 45, 3) := by decide +kernel
theorem d_Md_wantLine_98 : decode b_Md_wantLine 98 = .ok (.iload 6, 2) := by decide +kernel
theorem d_Md_wantLine_100 : decode b_Md_wantLine 100 = .ok (.iload_n 2, 1) := by decide +kernel
theorem d_Md_wantLine_101 : decode b_Md_wantLine 101 = .ok (.iconst 1, 1) := by decide +kernel
theorem d_Md_wantLine_102 : decode b_Md_wantLine 102 = .ok (.isub, 1) := by decide +kernel
theorem d_Md_wantLine_103 : decode b_Md_wantLine 103 = .ok (.if_icmp .ne 9, 3) := by decide +kernel
theorem d_Md_wantLine_106 : decode b_Md_wantLine 106 = .ok (.iload_n 2, 1) := by decide +kernel
theorem d_Md_wantLine_107 : decode b_Md_wantLine 107 = .ok (.iconst 2, 1) := by decide +kernel
theorem d_Md_wantLine_108 : decode b_Md_wantLine 108 = .ok (.isub, 1) := by decide +kernel
theorem d_Md_wantLine_109 : decode b_Md_wantLine 109 = .ok (.goto 7, 3) := by decide +kernel
theorem d_Md_wantLine_112 : decode b_Md_wantLine 112 = .ok (.iload 6, 2) := by decide +kernel
theorem d_Md_wantLine_114 : decode b_Md_wantLine 114 = .ok (.iconst 1, 1) := by decide +kernel
theorem d_Md_wantLine_115 : decode b_Md_wantLine 115 = .ok (.iadd, 1) := by decide +kernel
theorem d_Md_wantLine_116 : decode b_Md_wantLine 116 = .ok (.iconst 1, 1) := by decide +kernel
theorem d_Md_wantLine_117 : decode b_Md_wantLine 117 = .ok (.bastore, 1) := by decide +kernel
theorem d_Md_wantLine_118 : decode b_Md_wantLine 118 = .ok (.iinc 6 1, 3) := by decide +kernel
theorem d_Md_wantLine_121 : decode b_Md_wantLine 121 = .ok (.goto (-73), 3) := by decide +kernel
theorem d_Md_wantLine_124 : decode b_Md_wantLine 124 = .ok (.iinc 4 1, 3) := by decide +kernel
theorem d_Md_wantLine_127 : decode b_Md_wantLine 127 = .ok (.goto (-102), 3) := by decide +kernel
theorem d_Md_wantLine_130 : decode b_Md_wantLine 130 = .ok (.return_, 1) := by decide +kernel
theorem d_Md_wantLines_0 : decode b_Md_wantLines 0 = .ok (.iload_n 2, 1) := by decide +kernel
theorem d_Md_wantLines_1 : decode b_Md_wantLines 1 = .ok (.ifCond .eq 12, 3) := by decide +kernel
theorem d_Md_wantLines_4 : decode b_Md_wantLines 4 = .ok (.aload_n 0, 1) := by decide +kernel
theorem d_Md_wantLines_5 : decode b_Md_wantLines 5 = .ok (.getfield 29, 3) := by decide +kernel
theorem d_Md_wantLines_8 : decode b_Md_wantLines 8 = .ok (.iload_n 1, 1) := by decide +kernel
theorem d_Md_wantLines_9 : decode b_Md_wantLines 9 = .ok (.iaload, 1) := by decide +kernel
theorem d_Md_wantLines_10 : decode b_Md_wantLines 10 = .ok (.goto 9, 3) := by decide +kernel
theorem d_Md_wantLines_13 : decode b_Md_wantLines 13 = .ok (.aload_n 0, 1) := by decide +kernel
theorem d_Md_wantLines_14 : decode b_Md_wantLines 14 = .ok (.getfield 26, 3) := by decide +kernel
theorem d_Md_wantLines_17 : decode b_Md_wantLines 17 = .ok (.iload_n 1, 1) := by decide +kernel
theorem d_Md_wantLines_18 : decode b_Md_wantLines 18 = .ok (.iaload, 1) := by decide +kernel
theorem d_Md_wantLines_19 : decode b_Md_wantLines 19 = .ok (.istore_n 3, 1) := by decide +kernel
theorem d_Md_wantLines_20 : decode b_Md_wantLines 20 = .ok (.iload_n 2, 1) := by decide +kernel
theorem d_Md_wantLines_21 : decode b_Md_wantLines 21 = .ok (.ifCond .eq 12, 3) := by decide +kernel
theorem d_Md_wantLines_24 : decode b_Md_wantLines 24 = .ok (.aload_n 0, 1) := by decide +kernel
theorem d_Md_wantLines_25 : decode b_Md_wantLines 25 = .ok (.getfield 26, 3) := by decide +kernel
theorem d_Md_wantLines_28 : decode b_Md_wantLines 28 = .ok (.iload_n 1, 1) := by decide +kernel
theorem d_Md_wantLines_29 : decode b_Md_wantLines 29 = .ok (.iaload, 1) := by decide +kernel
theorem d_Md_wantLines_30 : decode b_Md_wantLines 30 = .ok (.goto 9, 3) := by decide +kernel
theorem d_Md_wantLines_33 : decode b_Md_wantLines 33 = .ok (.aload_n 0, 1) := by decide +kernel
theorem d_Md_wantLines_34 : decode b_Md_wantLines 34 = .ok (.getfield 29, 3) := by decide +kernel
theorem d_Md_wantLines_37 : decode b_Md_wantLines 37 = .ok (.iload_n 1, 1) := by decide +kernel
theorem d_Md_wantLines_38 : decode b_Md_wantLines 38 = .ok (.iaload, 1) := by decide +kernel
theorem d_Md_wantLines_39 : decode b_Md_wantLines 39 = .ok (.istore 4, 2) := by decide +kernel
theorem d_Md_wantLines_41 : decode b_Md_wantLines 41 = .ok (.iconst 0, 1) := by decide +kernel
theorem d_Md_wantLines_42 : decode b_Md_wantLines 42 = .ok (.istore 5, 2) := by decide +kernel
theorem d_Md_wantLines_44 : decode b_Md_wantLines 44 = .ok (.iload 5, 2) := by decide +kernel
theorem d_Md_wantLines_46 : decode b_Md_wantLines 46 = .ok (.iload_n 3, 1) := by decide +kernel
theorem d_Md_wantLines_47 : decode b_Md_wantLines 47 = .ok (.if_icmp .ge 152, 3) := by decide +kernel
theorem d_Md_wantLines_50 : decode b_Md_wantLines 50 = .ok (.iconst 0, 1) := by decide +kernel
theorem d_Md_wantLines_51 : decode b_Md_wantLines 51 = .ok (.istore 6, 2) := by decide +kernel
theorem d_Md_wantLines_53 : decode b_Md_wantLines 53 = .ok (.iload 6, 2) := by decide +kernel
theorem d_Md_wantLines_55 : decode b_Md_wantLines 55 = .ok (.iload 4, 2) := by decide +kernel
theorem d_Md_wantLines_57 : decode b_Md_wantLines 57 = .ok (.if_icmp .ge 52, 3) := by decide +kernel
theorem d_Md_wantLines_60 : decode b_Md_wantLines 60 = .ok (.aload_n 0, 1) := by decide +kernel
theorem d_Md_wantLines_61 : decode b_Md_wantLines 61 = .ok (.getfield 45, 3) := by decide +kernel
theorem d_Md_wantLines_64 : decode b_Md_wantLines 64 = .ok (.iload 6, 2) := by decide +kernel
theorem d_Md_wantLines_66 : decode b_Md_wantLines 66 = .ok (.aload_n 0, 1) := by decide +kernel
theorem d_Md_wantLines_67 : decode b_Md_wantLines 67 = .ok (.getfield 38, 3) := by decide +kernel
theorem d_Md_wantLines_70 : decode b_Md_wantLines 70 = .ok (.iload_n 2, 1) := by decide +kernel
theorem d_Md_wantLines_71 : decode b_Md_wantLines 71 = .ok (.ifCond .eq 18, 3) := by decide +kernel
theorem d_Md_wantLines_74 : decode b_Md_wantLines 74 = .ok (.iload 5, 2) := by decide +kernel
theorem d_Md_wantLines_76 : decode b_Md_wantLines 76 = .ok (.aload_n 0, 1) := by decide +kernel
theorem d_Md_wantLines_77 : decode b_Md_wantLines 77 = .ok (.getfield 26, 3) := by decide +kernel
theorem d_Md_wantLines_80 : decode b_Md_wantLines 80 = .ok (.iload_n 1, 1) := by decide +kernel
theorem d_Md_wantLines_81 : decode b_Md_wantLines 81 = .ok (.iaload, 1) := by decide +kernel
theorem d_Md_wantLines_82 : decode b_Md_wantLines 82 = .ok (.imul, 1) := by decide +kernel
theorem d_Md_wantLines_83 : decode b_Md_wantLines 83 = .ok (.iload 6, 2) := by decide +kernel
theorem d_Md_wantLines_85 : decode b_Md_wantLines 85 = .ok (.iadd, 1) := by decide +kernel
theorem d_Md_wantLines_86 : decode b_Md_wantLines 86 = .ok (.goto 15, 3) := by decide +kernel
theorem d_Md_wantLines_89 : decode b_Md_wantLines 89 = .ok (.iload 6, 2) := by decide +kernel
theorem d_Md_wantLines_91 : decode b_Md_wantLines 91 = .ok (.aload_n 0, 1) := by decide +kernel
theorem d_Md_wantLines_92 : decode b_Md_wantLines 92 = .ok (.getfield 26, 3) := by decide +kernel
theorem d_Md_wantLines_95 : decode b_Md_wantLines 95 = .ok (.iload_n 1, 1) := by decide +kernel
theorem d_Md_wantLines_96 : decode b_Md_wantLines 96 = .ok (.iaload, 1) := by decide +kernel
theorem d_Md_wantLines_97 : decode b_Md_wantLines 97 = .ok (.imul, 1) := by decide +kernel
theorem d_Md_wantLines_98 : decode b_Md_wantLines 98 = .ok (.iload 5, 2) := by decide +kernel
theorem d_Md_wantLines_100 : decode b_Md_wantLines 100 = .ok (.iadd, 1) := by decide +kernel
theorem d_Md_wantLines_101 : decode b_Md_wantLines 101 = .ok (.baload, 1) := by decide +kernel
theorem d_Md_wantLines_102 : decode b_Md_wantLines 102 = .ok (.bastore, 1) := by decide +kernel
theorem d_Md_wantLines_103 : decode b_Md_wantLines 103 = .ok (.iinc 6 1, 3) := by decide +kernel
theorem d_Md_wantLines_106 : decode b_Md_wantLines 106 = .ok (.goto (-53), 3) := by decide +kernel
theorem d_Md_wantLines_109 : decode b_Md_wantLines 109 = .ok (.aload_n 0, 1) := by decide +kernel
theorem d_Md_wantLines_110 : decode b_Md_wantLines 110 = .ok (.iload_n 2, 1) := by decide +kernel
theorem d_Md_wantLines_111 : decode b_Md_wantLines 111 = .ok (.ifCond .eq 12, 3) := by decide +kernel
theorem d_Md_wantLines_114 : decode b_Md_wantLines 114 = .ok (.aload_n 0, 1) := by decide +kernel
theorem d_Md_wantLines_115 : decode b_Md_wantLines 115 = .ok (.getfield 19, 3) := by decide +kernel
theorem d_Md_wantLines_118 : decode b_Md_wantLines 118 = .ok (.iload_n 1, 1) := by decide +kernel
theorem d_Md_wantLines_119 : decode b_Md_wantLines 119 = .ok (.iaload, 1) := by decide +kernel
theorem d_Md_wantLines_120 : decode b_Md_wantLines 120 = .ok (.goto 9, 3) := by decide +kernel
theorem d_Md_wantLines_123 : decode b_Md_wantLines 123 = .ok (.aload_n 0, 1) := by decide +kernel
theorem d_Md_wantLines_124 : decode b_Md_wantLines 124 = .ok (.getfield 23, 3) := by decide +kernel
theorem d_Md_wantLines_127 : decode b_Md_wantLines 127 = .ok (.iload_n 1, 1) := by decide +kernel
theorem d_Md_wantLines_128 : decode b_Md_wantLines 128 = .ok (.iaload, 1) := by decide +kernel
theorem d_Md_wantLines_129 : decode b_Md_wantLines 129 = .ok (.iload 4, 2) := by decide +kernel
theorem d_Md_wantLines_131 : decode b_Md_wantLines 131 = .ok (.invokevirtual 175, 3) := by decide +kernel
theorem d_Md_wantLines_134 : decode b_Md_wantLines 134 = .ok (.iconst 0, 1) := by decide +kernel
theorem d_Md_wantLines_135 : decode b_Md_wantLines 135 = .ok (.istore 6, 2) := by decide +kernel
theorem d_Md_wantLines_137 : decode b_Md_wantLines 137 = .ok (.iload 6, 2) := by decide +kernel
theorem d_Md_wantLines_139 : decode b_Md_wantLines 139 = .ok (.iload 4, 2) := by decide +kernel
theorem d_Md_wantLines_141 : decode b_Md_wantLines 141 = .ok (.if_icmp .ge 52, 3) := by decide +kernel
theorem d_Md_wantLines_144 : decode b_Md_wantLines 144 = .ok (.aload_n 0, 1) := by decide +kernel
theorem d_Md_wantLines_145 : decode b_Md_wantLines 145 = .ok (.getfield 38, 3) := by decide +kernel
theorem d_Md_wantLines_148 : decode b_Md_wantLines 148 = .ok (.iload_n 2, 1) := by decide +kernel
theorem d_Md_wantLines_149 : decode b_Md_wantLines 149 = .ok (.ifCond .eq 18, 3) := by decide +kernel
theorem d_Md_wantLines_152 : decode b_Md_wantLines 152 = .ok (.iload 5, 2) := by decide +kernel
theorem d_Md_wantLines_154 : decode b_Md_wantLines 154 = .ok (.aload_n 0, 1) := by decide +kernel
theorem d_Md_wantLines_155 : decode b_Md_wantLines 155 = .ok (.getfield 26, 3) := by decide +kernel
theorem d_Md_wantLines_158 : decode b_Md_wantLines 158 = .ok (.iload_n 1, 1) := by decide +kernel
theorem d_Md_wantLines_159 : decode b_Md_wantLines 159 = .ok (.iaload, 1) := by decide +kernel
theorem d_Md_wantLines_160 : decode b_Md_wantLines 160 = .ok (.imul, 1) := by decide +kernel
theorem d_Md_wantLines_161 : decode b_Md_wantLines 161 = .ok (.iload 6, 2) := by decide +kernel
theorem d_Md_wantLines_163 : decode b_Md_wantLines 163 = .ok (.iadd, 1) := by decide +kernel
theorem d_Md_wantLines_164 : decode b_Md_wantLines 164 = .ok (.goto 15, 3) := by decide +kernel
theorem d_Md_wantLines_167 : decode b_Md_wantLines 167 = .ok (.iload 6, 2) := by decide +kernel
theorem d_Md_wantLines_169 : decode b_Md_wantLines 169 = .ok (.aload_n 0, 1) := by decide +kernel
theorem d_Md_wantLines_170 : decode b_Md_wantLines 170 = .ok (.getfield 26, 3) := by decide +kernel
theorem d_Md_wantLines_173 : decode b_Md_wantLines 173 = .ok (.iload_n 1, 1) := by decide +kernel
theorem d_Md_wantLines_174 : decode b_Md_wantLines 174 = .ok (.iaload, 1) := by decide +kernel
theorem d_Md_wantLines_175 : decode b_Md_wantLines 175 = .ok (.imul, 1) := by decide +kernel
theorem d_Md_wantLines_176 : decode b_Md_wantLines 176 = .ok (.iload 5, 2) := by decide +kernel
theorem d_Md_wantLines_178 : decode b_Md_wantLines 178 = .ok (.iadd, 1) := by decide +kernel
theorem d_Md_wantLines_179 : decode b_Md_wantLines 179 = .ok (.aload_n 0, 1) := by decide +kernel
theorem d_Md_wantLines_180 : decode b_Md_wantLines 180 = .ok (.getfield 45, 3) := by decide +kernel
theorem d_Md_wantLines_183 : decode b_Md_wantLines 183 = .ok (.iload 6, 2) := by decide +kernel
theorem d_Md_wantLines_185 : decode b_Md_wantLines 185 = .ok (.baload, 1) := by decide +kernel
theorem d_Md_wantLines_186 : decode b_Md_wantLines 186 = .ok (.bastore, 1) := by decide +kernel
theorem d_Md_wantLines_187 : decode b_Md_wantLines 187 = .ok (.iinc 6 1, 3) := by decide +kernel
theorem d_Md_wantLines_190 : decode b_Md_wantLines 190 = .ok (.goto (-53), 3) := by decide +kernel
theorem d_Md_wantLines_193 : decode b_Md_wantLines 193 = .ok (.iinc 5 1, 3) := by decide +kernel
theorem d_Md_wantLines_196 : decode b_Md_wantLines 196 = .ok (.goto (-152), 3) := by decide +kernel
theorem d_Md_wantLines_199 : decode b_Md_wantLines 199 = .ok (.return_, 1) := by decide +kernel
set_option maxRecDepth 100000 in
theorem k_797 : Cond.fieldLink "LiftBandsModel" 45 "LiftBandsModel" "lineMarks" "[Z" ∈ lw_g := gm 797 rfl rfl
set_option maxRecDepth 100000 in
theorem k_977 : Cond.methodLink "LiftBandsModel" 175 ⟨"LiftBandsModel", "wantLine", "(II)V"⟩ ∈ lw_g := gm 977 rfl rfl
set_option maxRecDepth 100000 in
theorem k_979 : Cond.instanceMethod ⟨"LiftBandsModel", "wantLine", "(II)V"⟩ ∈ lw_g := gm 979 rfl rfl
set_option maxRecDepth 100000 in
theorem k_980 : Cond.code ⟨"LiftBandsModel", "wantLine", "(II)V"⟩ prog_11_method_36_code 7 (Option.none : Option Jvm.ClassFile.FieldType) ∈ lw_g := gm 980 rfl rfl
theorem kp_32 : Cond.selects "LiftBandsModel" ⟨"LiftBandsModel", "wantLine", "(II)V"⟩ ⟨"LiftBandsModel", "wantLine", "(II)V"⟩ ∈ lw_g := gp 32 rfl rfl
set_option maxRecDepth 100000 in
theorem k_795 : Cond.fieldLink "LiftBandsModel" 38 "LiftBandsModel" "marks" "[Z" ∈ lw_g := gm 795 rfl rfl
theorem mk_Md_wantLine : MOk y_Md_wantLine b_Md_wantLine 7 none 2 := ⟨trivial, k_980, k_9, by decide +kernel, by decide +kernel, by decide +kernel⟩
/-! the model's marks -/
theorem wstTo_odd {s0 par n kk : Nat} {f : Nat → Int32} (hp : ¬ (s0 + kk) % 2 = par % 2) : wstTo s0 par n f kk = wstTo s0 par n f (kk + 1) := by
  funext j
  unfold wstTo
  refine ite_congr (propext ⟨?_, ?_⟩) (fun _ => rfl) (fun _ => rfl)
  · rintro ⟨h1, h2, ⟨a, b, d⟩ | ⟨a, b, d⟩⟩
    · exact ⟨h1, h2, Or.inl ⟨a, by omega, d⟩⟩
    · exact ⟨h1, h2, Or.inr ⟨a, by omega, d⟩⟩
  · rintro ⟨h1, h2, ⟨a, b, d⟩ | ⟨a, b, d⟩⟩
    · exact ⟨h1, h2, Or.inl ⟨a, by omega, d⟩⟩
    · exact ⟨h1, h2, Or.inr ⟨a, by omega, d⟩⟩
theorem wstTo_00 {s0 par n : Nat} {f : Nat → Int32} : f = wstTo s0 par n f 0 := by
  funext j
  unfold wstTo
  rw [if_neg]
  rintro ⟨h1, h2, h3 | h3⟩ <;> omega
theorem wst_n0 {s0 par n : Nat} {f : Nat → Int32} (h : n = 0) : wst s0 par n f = f := by
  funext j
  unfold wst
  rw [if_neg (by omega)]
theorem wnt2_ne {s0 n : Nat} {f : Nat → Int32} (h : n ≠ 1) : wst s0 0 n (wst s0 1 n f) = wnt2 s0 n f := by
  unfold wnt2
  by_cases h0 : n = 0
  · rw [if_pos (by omega), wst_n0 h0, wst_n0 h0]
  · rw [if_neg (by omega)]
theorem wnt4_ne {s0 n : Nat} {f : Nat → Int32} (h : n ≠ 1) : wst s0 0 n (wst s0 1 n (wst s0 0 n (wst s0 1 n f))) = wnt4 s0 n f := by
  unfold wnt4
  by_cases h0 : n = 0
  · rw [if_pos (by omega), wst_n0 h0, wst_n0 h0, wst_n0 h0, wst_n0 h0]
  · rw [if_neg (by omega)]
abbrev is01 (n : Nat) (f : Nat → Int32) : Prop := ∀ j, j < n → f j = 0 ∨ f j = 1
theorem wst_01 {s0 par n : Nat} {f : Nat → Int32} (h : is01 n f) : is01 n (wst s0 par n f) := by
  intro j hj
  unfold wst
  split
  · exact Or.inr rfl
  · exact h j hj
theorem wnt2_01 {s0 n : Nat} {f : Nat → Int32} (h : is01 n f) : is01 n (wnt2 s0 n f) := by
  unfold wnt2
  split
  · exact h
  · exact wst_01 (wst_01 h)
theorem wnt4_01 {s0 n : Nat} {f : Nat → Int32} (h : is01 n f) : is01 n (wnt4 s0 n f) := by
  unfold wnt4
  split
  · exact h
  · exact wst_01 (wst_01 (wst_01 (wst_01 h)))
abbrev LocZ (n : Nat) (op : (Nat → Int32) → Nat → Int32) : Prop := ∀ f g, (∀ j, j < n → f j = g j) → ∀ j, j < n → op f j = op g j
theorem wst_loc {s0 par n : Nat} : LocZ n (wst s0 par n) := by
  intro f g h j hj
  unfold wst
  refine ite_congr (propext ⟨?_, ?_⟩) (fun _ => rfl) (fun _ => h j hj)
  · rintro ⟨h1, h2, ⟨a, d⟩ | ⟨a, d⟩⟩
    · exact ⟨h1, h2, Or.inl ⟨a, by rw [← h _ a]; exact d⟩⟩
    · exact ⟨h1, h2, Or.inr ⟨a, by rw [← h _ (by omega)]; exact d⟩⟩
  · rintro ⟨h1, h2, ⟨a, d⟩ | ⟨a, d⟩⟩
    · exact ⟨h1, h2, Or.inl ⟨a, by rw [h _ a]; exact d⟩⟩
    · exact ⟨h1, h2, Or.inr ⟨a, by rw [h _ (by omega)]; exact d⟩⟩
theorem wnt2_loc {s0 n : Nat} : LocZ n (wnt2 s0 n) := by
  intro f g h
  unfold wnt2
  split
  · exact h
  · exact wst_loc _ _ (wst_loc _ _ h)
theorem wnt4_loc {s0 n : Nat} : LocZ n (wnt4 s0 n) := by
  intro f g h
  unfold wnt4
  split
  · exact h
  · exact wst_loc _ _ (wst_loc _ _ (wst_loc _ _ (wst_loc _ _ h)))
def colsZ (op : (Nat → Int32) → Nat → Int32) (w : Nat) (f : Nat → Int32) : Nat → Int32 := fun j => op (fun i => f (i * w + j % w)) (j / w)
def rowsZ (op : (Nat → Int32) → Nat → Int32) (w : Nat) (f : Nat → Int32) : Nat → Int32 := fun j => op (fun i => f (j / w * w + i)) (j % w)
theorem colsZ_01 {op : (Nat → Int32) → Nat → Int32} {w h : Nat} {f : Nat → Int32} (ho : ∀ g, is01 h g → is01 h (op g)) (hf : is01 (w * h) f) : is01 (w * h) (colsZ op w f) :=
  fun j hj => ho _ (fun i hi => hf _ (dm_lt (Nat.mod_lt j (dm_pos hj)) hi)) _ (Nat.div_lt_of_lt_mul hj)
theorem rowsZ_01 {op : (Nat → Int32) → Nat → Int32} {w h : Nat} {f : Nat → Int32} (ho : ∀ g, is01 w g → is01 w (op g)) (hf : is01 (w * h) f) : is01 (w * h) (rowsZ op w f) :=
  fun j hj => ho _ (fun i hi => hf _ (dm_lt hi (Nat.div_lt_of_lt_mul hj))) _ (Nat.mod_lt j (dm_pos hj))
theorem colsZ_congr {op : (Nat → Int32) → Nat → Int32} {w h : Nat} {f g : Nat → Int32} (ho : LocZ h op) (e : ∀ j, j < w * h → f j = g j) : ∀ j, j < w * h → colsZ op w f j = colsZ op w g j :=
  fun j hj => ho _ _ (fun i hi => e _ (dm_lt (Nat.mod_lt j (dm_pos hj)) hi)) _ (Nat.div_lt_of_lt_mul hj)
theorem rowsZ_congr {op : (Nat → Int32) → Nat → Int32} {w h : Nat} {f g : Nat → Int32} (ho : LocZ w op) (e : ∀ j, j < w * h → f j = g j) : ∀ j, j < w * h → rowsZ op w f j = rowsZ op w g j :=
  fun j hj => ho _ _ (fun i hi => e _ (dm_lt hi (Nat.div_lt_of_lt_mul hj))) _ (Nat.mod_lt j (dm_pos hj))
theorem updI_at {f : Nat → Int32} {j : Nat} {x : Int32} : upd f j x j = x := by
  unfold upd
  rw [if_pos rfl]
theorem updI_ne {f : Nat → Int32} {j q : Nat} {x : Int32} (h : q ≠ j) : upd f j x q = f q := by
  unfold upd
  rw [if_neg h]
theorem ix_inj {w a u i d : Nat} (h1 : u < w) (h2 : d < w) (e : a * w + u = i * w + d) : a = i ∧ u = d := by
  have e1 := dm_mod (cy := a) h1
  have e2 := dm_div (cy := a) h1
  rw [e, dm_mod h2] at e1
  rw [e, dm_div h2] at e2
  exact ⟨e2.symm, e1.symm⟩
abbrev rm_Md_wlR : Room := { frames := 0, cells := 0, slots := 0, locals := 0 }
set_option maxHeartbeats 4000000 in
set_option maxRecDepth 100000 in
/-- Model.wantLine -/
theorem c_Md_wlR (l : Launch) (D : va_G) (k : Nat → ClassId) (sz : Nat) (m0 ms mt mp mx my mw mh ml mn mk mq mm : Nat) (vcode vw vh vl vso : Int32) (f : Nat → Int32) (s0 n : Nat) (hs : s0 ≤ 1000) (hn : n ≤ 40) : Met l y_Md_wantLine (Cond.code y_Md_wantLine b_Md_wantLine 7 none :: lw_g) rm_Md_wlR (Pw D k [(m0, .inr (8, [.int vcode, .int vw, .int vh, .int vl, .ref ms, .int vso, .ref mt, .ref mp, .ref mx, .ref my, .ref mw, .ref mh, .int 1, .ref ml, .ref mn, .ref mk, .ref mq, .ref mm])), (mm, aZ k 40 f)] sz [.ref m0, .int (nI s0), .int (nI n)]) (Qw D (va_A [(m0, .inr (8, [.int vcode, .int vw, .int vh, .int vl, .ref ms, .int vso, .ref mt, .ref mp, .ref mx, .ref my, .ref mw, .ref mh, .int 1, .ref ml, .ref mn, .ref mk, .ref mq, .ref mm])), (mm, aZ k 40 f)] sz) (fun v w1 => v = none ∧ w1 = [(m0, .inr (8, [.int vcode, .int vw, .int vh, .int vl, .ref ms, .int vso, .ref mt, .ref mp, .ref mx, .ref my, .ref mw, .ref mh, .int 1, .ref ml, .ref mn, .ref mk, .ref mq, .ref mm])), (mm, aZ k 40 (wnt4 s0 n f))])) 0 0 (va_A [(m0, .inr (8, [.int vcode, .int vw, .int vh, .int vl, .ref ms, .int vso, .ref mt, .ref mp, .ref mx, .ref my, .ref mw, .ref mh, .int 1, .ref ml, .ref mn, .ref mk, .ref mq, .ref mm])), (mm, aZ k 40 f)] sz) := by
  refine met_of (by decide +kernel) ?_
  intro p e s m below meth c hC hsz hw hin
  subst hsz
  have hC : Cx D k p s m _ meth c "LiftBandsModel" b_Md_wantLine 7 none := hC
  have hx := hC.1
  have hb := hC.2.1
  refine r_ent (Nat.le_of_ble_eq_true rfl) rfl (fun ls hl => ?_)
  have hl : lv_has ls 7 [(0, .ref m0), (1, .int (nI s0)), (2, .int (nI n))] := hl
  have hw : Wd D (va_A [(m0, .inr (8, [.int vcode, .int vw, .int vh, .int vl, .ref ms, .int vso, .ref mt, .ref mp, .ref mx, .ref my, .ref mw, .ref mh, .int 1, .ref ml, .ref mn, .ref mk, .ref mq, .ref mm])), (mm, aZ k 40 f)] s.heap.size) s.heap [(m0, .inr (8, [.int vcode, .int vw, .int vh, .int vl, .ref ms, .int vso, .ref mt, .ref mp, .ref mx, .ref my, .ref mw, .ref mh, .int 1, .ref ml, .ref mn, .ref mk, .ref mq, .ref mm])), (mm, aZ k 40 f)] s.heap [] := hw
  generalize va_A [(m0, .inr (8, [.int vcode, .int vw, .int vh, .int vl, .ref ms, .int vso, .ref mt, .ref mp, .ref mx, .ref my, .ref mw, .ref mh, .int 1, .ref ml, .ref mn, .ref mk, .ref mq, .ref mm])), (mm, aZ k 40 f)] s.heap.size = A at hw ⊢
  generalize ([.ref m0, .int (nI s0), .int (nI n)] : List Value).toArray = args at hC ⊢
  refine lv_iload_n hx hb d_Md_wantLine_0 rfl (lv_at hl 2 rfl) ?_
  refine lv_iconst (v := 1) hx hb d_Md_wantLine_1 (by decide) ?_
  refine lv_icmp_ne (tgt := 9) hx hb d_Md_wantLine_2 (by decide) (fun hc2 => ?_) (fun hc2 => ?_)
  · have hn1 : n ≠ 1 := nI_ne1 hc2
    refine lv_aload_n hx hb d_Md_wantLine_9 rfl (lv_at hl 0 rfl) ?_
    refine r_get hC hw ck_Md 0 rfl 12 (by decide) k_792 rfl rfl d_Md_wantLine_10 ?_
    refine lv_if_eq (tgt := 20) hx hb d_Md_wantLine_13 (by decide) (fun hc13 => absurd hc13 (by decide)) (fun hc13 => ?_)
    refine lv_iconst (v := 4) hx hb d_Md_wantLine_16 (by decide) ?_
    refine lv_goto (tgt := 21) hx hb d_Md_wantLine_17 (by decide) ?_
    refine lv_istore_n (lv' := [(3, .int 4), (0, .ref m0), (1, .int (nI s0)), (2, .int (nI n))]) hx hb d_Md_wantLine_21 rfl hl (by decide) rfl (fun ls hl => ?_)
    refine lv_iconst (v := 0) hx hb d_Md_wantLine_22 (by decide) ?_
    refine lv_istore (lv' := [(4, .int 0), (3, .int 4), (0, .ref m0), (1, .int (nI s0)), (2, .int (nI n))]) hx hb d_Md_wantLine_23 hl (by decide) rfl (fun ls hl => ?_)
    refine lv_iload hx hb d_Md_wantLine_25 (lv_at hl 0 rfl) ?_
    refine lv_iload_n hx hb d_Md_wantLine_27 rfl (lv_at hl 1 rfl) ?_
    refine lv_icmp_ge (tgt := 130) hx hb d_Md_wantLine_28 (by decide) (fun hc28 => absurd hc28 (by decide)) (fun hc28 => ?_)
    refine lv_iload hx hb d_Md_wantLine_31 (lv_at hl 0 rfl) ?_
    refine lv_iconst (v := 2) hx hb d_Md_wantLine_33 (by decide) ?_
    refine lv_irem hx hb d_Md_wantLine_34 (by decide) ?_
    refine r_topi (y := nI 0) (by decide) ?_
    refine lv_if_ne (tgt := 42) hx hb d_Md_wantLine_35 (by decide) (fun hc35 => absurd hc35 (by decide)) (fun hc35 => ?_)
    refine lv_iconst (v := 1) hx hb d_Md_wantLine_38 (by decide) ?_
    refine lv_goto (tgt := 43) hx hb d_Md_wantLine_39 (by decide) ?_
    refine lv_istore (lv' := [(5, .int 1), (4, .int 0), (3, .int 4), (0, .ref m0), (1, .int (nI s0)), (2, .int (nI n))]) hx hb d_Md_wantLine_43 hl (by decide) rfl (fun ls hl => ?_)
    refine lv_iconst (v := 0) hx hb d_Md_wantLine_45 (by decide) ?_
    refine lv_istore (lv' := [(6, .int 0), (5, .int 1), (4, .int 0), (3, .int 4), (0, .ref m0), (1, .int (nI s0)), (2, .int (nI n))]) hx hb d_Md_wantLine_46 hl (by decide) rfl (fun ls hl => ?_)
    have hl : lv_has ls 7 [(6, .int (nI 0)), (5, .int (nI 1)), (4, .int 0), (3, .int 4), (0, .ref m0), (1, .int (nI s0)), (2, .int (nI n))] := lv_sub hl [0, 1, 2, 3, 4, 5, 6] rfl
    have hw : Wd D _ _ [(m0, .inr (8, [.int vcode, .int vw, .int vh, .int vl, .ref ms, .int vso, .ref mt, .ref mp, .ref mx, .ref my, .ref mw, .ref mh, .int 1, .ref ml, .ref mn, .ref mk, .ref mq, .ref mm])), (mm, aZ k 40 (wstTo s0 1 n f 0))] _ _ := hw.cast (by rw [← wstTo_00])
    have L48_0 : ∀ (fu : Nat) (kk : Nat) (H : Heap) (locs : List Loc) (ls : Array Slot), n - kk < fu → kk ≤ n → Wd D A s.heap [(m0, .inr (8, [.int vcode, .int vw, .int vh, .int vl, .ref ms, .int vso, .ref mt, .ref mp, .ref mx, .ref my, .ref mw, .ref mh, .int 1, .ref ml, .ref mn, .ref mk, .ref mq, .ref mm])), (mm, aZ k 40 (wstTo s0 1 n f kk))] H locs → lv_has ls 7 [(6, .int (nI kk)), (5, .int (nI 1)), (4, .int 0), (3, .int 4), (0, .ref m0), (1, .int (nI s0)), (2, .int (nI n))] → W p l e rm_Md_wlR s m args below meth c H locs 0 0 (MQ below (Qw D A (fun v w1 => v = none ∧ w1 = [(m0, .inr (8, [.int vcode, .int vw, .int vh, .int vl, .ref ms, .int vso, .ref mt, .ref mp, .ref mx, .ref my, .ref mw, .ref mh, .int 1, .ref ml, .ref mn, .ref mk, .ref mq, .ref mm])), (mm, aZ k 40 (wnt4 s0 n f))])) args s 0 0 A) (F0 m 48 ls []) := by
      intro fu
      induction fu with
      | zero => intro kk H locs ls hfu; exact absurd hfu (Nat.not_lt_zero _)
      | succ fu ih_L48_0 =>
        intro kk H locs ls hfu_L48_0 hkb hw hl
        refine lv_iload hx hb d_Md_wantLine_48 (lv_at hl 0 rfl) ?_
        refine lv_iload_n hx hb d_Md_wantLine_50 rfl (lv_at hl 6 rfl) ?_
        refine lv_icmp_ge (tgt := 124) hx hb d_Md_wantLine_51 (by decide) (fun hc51 => ?_) (fun hc51 => ?_)
        · have hkn : n ≤ kk := (nI_leI (by omega) (by omega)).mp hc51
          have hw : Wd D _ _ [(m0, .inr (8, [.int vcode, .int vw, .int vh, .int vl, .ref ms, .int vso, .ref mt, .ref mp, .ref mx, .ref my, .ref mw, .ref mh, .int 1, .ref ml, .ref mn, .ref mk, .ref mq, .ref mm])), (mm, aZ k 40 (wst s0 1 n f))] H locs := hw.cast (by rw [wstTo_end hkn])
          refine lv_iinc (v := 1) (lv' := [(4, .int 1), (6, .int (nI kk)), (5, .int (nI 1)), (3, .int 4), (0, .ref m0), (1, .int (nI s0)), (2, .int (nI n))]) hx hb d_Md_wantLine_124 hl (k := 2) rfl (by decide) (by decide) rfl (fun ls hl => ?_)
          refine lv_goto (tgt := 25) hx hb d_Md_wantLine_127 (by decide) ?_
          refine lv_iload hx hb d_Md_wantLine_25 (lv_at hl 0 rfl) ?_
          refine lv_iload_n hx hb d_Md_wantLine_27 rfl (lv_at hl 3 rfl) ?_
          refine lv_icmp_ge (tgt := 130) hx hb d_Md_wantLine_28 (by decide) (fun hc28 => absurd hc28 (by decide)) (fun hc28 => ?_)
          refine lv_iload hx hb d_Md_wantLine_31 (lv_at hl 0 rfl) ?_
          refine lv_iconst (v := 2) hx hb d_Md_wantLine_33 (by decide) ?_
          refine lv_irem hx hb d_Md_wantLine_34 (by decide) ?_
          refine r_topi (y := nI 1) (by decide) ?_
          refine lv_if_ne (tgt := 42) hx hb d_Md_wantLine_35 (by decide) (fun hc35 => ?_) (fun hc35 => absurd hc35 (by decide))
          refine lv_iconst (v := 0) hx hb d_Md_wantLine_42 (by decide) ?_
          refine lv_istore (lv' := [(5, .int 0), (4, .int 1), (6, .int (nI kk)), (3, .int 4), (0, .ref m0), (1, .int (nI s0)), (2, .int (nI n))]) hx hb d_Md_wantLine_43 hl (by decide) rfl (fun ls hl => ?_)
          refine lv_iconst (v := 0) hx hb d_Md_wantLine_45 (by decide) ?_
          refine lv_istore (lv' := [(6, .int 0), (5, .int 0), (4, .int 1), (3, .int 4), (0, .ref m0), (1, .int (nI s0)), (2, .int (nI n))]) hx hb d_Md_wantLine_46 hl (by decide) rfl (fun ls hl => ?_)
          have hl : lv_has ls 7 [(6, .int (nI 0)), (5, .int (nI 0)), (4, .int 1), (3, .int 4), (0, .ref m0), (1, .int (nI s0)), (2, .int (nI n))] := lv_sub hl [0, 1, 2, 3, 4, 5, 6] rfl
          have hw : Wd D _ _ [(m0, .inr (8, [.int vcode, .int vw, .int vh, .int vl, .ref ms, .int vso, .ref mt, .ref mp, .ref mx, .ref my, .ref mw, .ref mh, .int 1, .ref ml, .ref mn, .ref mk, .ref mq, .ref mm])), (mm, aZ k 40 (wstTo s0 0 n (wst s0 1 n f) 0))] _ _ := hw.cast (by rw [← wstTo_00])
          have L48_1 : ∀ (fu : Nat) (kk : Nat) (H : Heap) (locs : List Loc) (ls : Array Slot), n - kk < fu → kk ≤ n → Wd D A s.heap [(m0, .inr (8, [.int vcode, .int vw, .int vh, .int vl, .ref ms, .int vso, .ref mt, .ref mp, .ref mx, .ref my, .ref mw, .ref mh, .int 1, .ref ml, .ref mn, .ref mk, .ref mq, .ref mm])), (mm, aZ k 40 (wstTo s0 0 n (wst s0 1 n f) kk))] H locs → lv_has ls 7 [(6, .int (nI kk)), (5, .int (nI 0)), (4, .int 1), (3, .int 4), (0, .ref m0), (1, .int (nI s0)), (2, .int (nI n))] → W p l e rm_Md_wlR s m args below meth c H locs 0 0 (MQ below (Qw D A (fun v w1 => v = none ∧ w1 = [(m0, .inr (8, [.int vcode, .int vw, .int vh, .int vl, .ref ms, .int vso, .ref mt, .ref mp, .ref mx, .ref my, .ref mw, .ref mh, .int 1, .ref ml, .ref mn, .ref mk, .ref mq, .ref mm])), (mm, aZ k 40 (wnt4 s0 n f))])) args s 0 0 A) (F0 m 48 ls []) := by
            intro fu
            induction fu with
            | zero => intro kk H locs ls hfu; exact absurd hfu (Nat.not_lt_zero _)
            | succ fu ih_L48_1 =>
              intro kk H locs ls hfu_L48_1 hkb hw hl
              refine lv_iload hx hb d_Md_wantLine_48 (lv_at hl 0 rfl) ?_
              refine lv_iload_n hx hb d_Md_wantLine_50 rfl (lv_at hl 6 rfl) ?_
              refine lv_icmp_ge (tgt := 124) hx hb d_Md_wantLine_51 (by decide) (fun hc51 => ?_) (fun hc51 => ?_)
              · have hkn : n ≤ kk := (nI_leI (by omega) (by omega)).mp hc51
                have hw : Wd D _ _ [(m0, .inr (8, [.int vcode, .int vw, .int vh, .int vl, .ref ms, .int vso, .ref mt, .ref mp, .ref mx, .ref my, .ref mw, .ref mh, .int 1, .ref ml, .ref mn, .ref mk, .ref mq, .ref mm])), (mm, aZ k 40 (wst s0 0 n (wst s0 1 n f)))] H locs := hw.cast (by rw [wstTo_end hkn])
                refine lv_iinc (v := 2) (lv' := [(4, .int 2), (6, .int (nI kk)), (5, .int (nI 0)), (3, .int 4), (0, .ref m0), (1, .int (nI s0)), (2, .int (nI n))]) hx hb d_Md_wantLine_124 hl (k := 2) rfl (by decide) (by decide) rfl (fun ls hl => ?_)
                refine lv_goto (tgt := 25) hx hb d_Md_wantLine_127 (by decide) ?_
                refine lv_iload hx hb d_Md_wantLine_25 (lv_at hl 0 rfl) ?_
                refine lv_iload_n hx hb d_Md_wantLine_27 rfl (lv_at hl 3 rfl) ?_
                refine lv_icmp_ge (tgt := 130) hx hb d_Md_wantLine_28 (by decide) (fun hc28 => absurd hc28 (by decide)) (fun hc28 => ?_)
                refine lv_iload hx hb d_Md_wantLine_31 (lv_at hl 0 rfl) ?_
                refine lv_iconst (v := 2) hx hb d_Md_wantLine_33 (by decide) ?_
                refine lv_irem hx hb d_Md_wantLine_34 (by decide) ?_
                refine r_topi (y := nI 0) (by decide) ?_
                refine lv_if_ne (tgt := 42) hx hb d_Md_wantLine_35 (by decide) (fun hc35 => absurd hc35 (by decide)) (fun hc35 => ?_)
                refine lv_iconst (v := 1) hx hb d_Md_wantLine_38 (by decide) ?_
                refine lv_goto (tgt := 43) hx hb d_Md_wantLine_39 (by decide) ?_
                refine lv_istore (lv' := [(5, .int 1), (4, .int 2), (6, .int (nI kk)), (3, .int 4), (0, .ref m0), (1, .int (nI s0)), (2, .int (nI n))]) hx hb d_Md_wantLine_43 hl (by decide) rfl (fun ls hl => ?_)
                refine lv_iconst (v := 0) hx hb d_Md_wantLine_45 (by decide) ?_
                refine lv_istore (lv' := [(6, .int 0), (5, .int 1), (4, .int 2), (3, .int 4), (0, .ref m0), (1, .int (nI s0)), (2, .int (nI n))]) hx hb d_Md_wantLine_46 hl (by decide) rfl (fun ls hl => ?_)
                have hl : lv_has ls 7 [(6, .int (nI 0)), (5, .int (nI 1)), (4, .int 2), (3, .int 4), (0, .ref m0), (1, .int (nI s0)), (2, .int (nI n))] := lv_sub hl [0, 1, 2, 3, 4, 5, 6] rfl
                have hw : Wd D _ _ [(m0, .inr (8, [.int vcode, .int vw, .int vh, .int vl, .ref ms, .int vso, .ref mt, .ref mp, .ref mx, .ref my, .ref mw, .ref mh, .int 1, .ref ml, .ref mn, .ref mk, .ref mq, .ref mm])), (mm, aZ k 40 (wstTo s0 1 n (wst s0 0 n (wst s0 1 n f)) 0))] _ _ := hw.cast (by rw [← wstTo_00])
                have L48_2 : ∀ (fu : Nat) (kk : Nat) (H : Heap) (locs : List Loc) (ls : Array Slot), n - kk < fu → kk ≤ n → Wd D A s.heap [(m0, .inr (8, [.int vcode, .int vw, .int vh, .int vl, .ref ms, .int vso, .ref mt, .ref mp, .ref mx, .ref my, .ref mw, .ref mh, .int 1, .ref ml, .ref mn, .ref mk, .ref mq, .ref mm])), (mm, aZ k 40 (wstTo s0 1 n (wst s0 0 n (wst s0 1 n f)) kk))] H locs → lv_has ls 7 [(6, .int (nI kk)), (5, .int (nI 1)), (4, .int 2), (3, .int 4), (0, .ref m0), (1, .int (nI s0)), (2, .int (nI n))] → W p l e rm_Md_wlR s m args below meth c H locs 0 0 (MQ below (Qw D A (fun v w1 => v = none ∧ w1 = [(m0, .inr (8, [.int vcode, .int vw, .int vh, .int vl, .ref ms, .int vso, .ref mt, .ref mp, .ref mx, .ref my, .ref mw, .ref mh, .int 1, .ref ml, .ref mn, .ref mk, .ref mq, .ref mm])), (mm, aZ k 40 (wnt4 s0 n f))])) args s 0 0 A) (F0 m 48 ls []) := by
                  intro fu
                  induction fu with
                  | zero => intro kk H locs ls hfu; exact absurd hfu (Nat.not_lt_zero _)
                  | succ fu ih_L48_2 =>
                    intro kk H locs ls hfu_L48_2 hkb hw hl
                    refine lv_iload hx hb d_Md_wantLine_48 (lv_at hl 0 rfl) ?_
                    refine lv_iload_n hx hb d_Md_wantLine_50 rfl (lv_at hl 6 rfl) ?_
                    refine lv_icmp_ge (tgt := 124) hx hb d_Md_wantLine_51 (by decide) (fun hc51 => ?_) (fun hc51 => ?_)
                    · have hkn : n ≤ kk := (nI_leI (by omega) (by omega)).mp hc51
                      have hw : Wd D _ _ [(m0, .inr (8, [.int vcode, .int vw, .int vh, .int vl, .ref ms, .int vso, .ref mt, .ref mp, .ref mx, .ref my, .ref mw, .ref mh, .int 1, .ref ml, .ref mn, .ref mk, .ref mq, .ref mm])), (mm, aZ k 40 (wst s0 1 n (wst s0 0 n (wst s0 1 n f))))] H locs := hw.cast (by rw [wstTo_end hkn])
                      refine lv_iinc (v := 3) (lv' := [(4, .int 3), (6, .int (nI kk)), (5, .int (nI 1)), (3, .int 4), (0, .ref m0), (1, .int (nI s0)), (2, .int (nI n))]) hx hb d_Md_wantLine_124 hl (k := 2) rfl (by decide) (by decide) rfl (fun ls hl => ?_)
                      refine lv_goto (tgt := 25) hx hb d_Md_wantLine_127 (by decide) ?_
                      refine lv_iload hx hb d_Md_wantLine_25 (lv_at hl 0 rfl) ?_
                      refine lv_iload_n hx hb d_Md_wantLine_27 rfl (lv_at hl 3 rfl) ?_
                      refine lv_icmp_ge (tgt := 130) hx hb d_Md_wantLine_28 (by decide) (fun hc28 => absurd hc28 (by decide)) (fun hc28 => ?_)
                      refine lv_iload hx hb d_Md_wantLine_31 (lv_at hl 0 rfl) ?_
                      refine lv_iconst (v := 2) hx hb d_Md_wantLine_33 (by decide) ?_
                      refine lv_irem hx hb d_Md_wantLine_34 (by decide) ?_
                      refine r_topi (y := nI 1) (by decide) ?_
                      refine lv_if_ne (tgt := 42) hx hb d_Md_wantLine_35 (by decide) (fun hc35 => ?_) (fun hc35 => absurd hc35 (by decide))
                      refine lv_iconst (v := 0) hx hb d_Md_wantLine_42 (by decide) ?_
                      refine lv_istore (lv' := [(5, .int 0), (4, .int 3), (6, .int (nI kk)), (3, .int 4), (0, .ref m0), (1, .int (nI s0)), (2, .int (nI n))]) hx hb d_Md_wantLine_43 hl (by decide) rfl (fun ls hl => ?_)
                      refine lv_iconst (v := 0) hx hb d_Md_wantLine_45 (by decide) ?_
                      refine lv_istore (lv' := [(6, .int 0), (5, .int 0), (4, .int 3), (3, .int 4), (0, .ref m0), (1, .int (nI s0)), (2, .int (nI n))]) hx hb d_Md_wantLine_46 hl (by decide) rfl (fun ls hl => ?_)
                      have hl : lv_has ls 7 [(6, .int (nI 0)), (5, .int (nI 0)), (4, .int 3), (3, .int 4), (0, .ref m0), (1, .int (nI s0)), (2, .int (nI n))] := lv_sub hl [0, 1, 2, 3, 4, 5, 6] rfl
                      have hw : Wd D _ _ [(m0, .inr (8, [.int vcode, .int vw, .int vh, .int vl, .ref ms, .int vso, .ref mt, .ref mp, .ref mx, .ref my, .ref mw, .ref mh, .int 1, .ref ml, .ref mn, .ref mk, .ref mq, .ref mm])), (mm, aZ k 40 (wstTo s0 0 n (wst s0 1 n (wst s0 0 n (wst s0 1 n f))) 0))] _ _ := hw.cast (by rw [← wstTo_00])
                      have L48_3 : ∀ (fu : Nat) (kk : Nat) (H : Heap) (locs : List Loc) (ls : Array Slot), n - kk < fu → kk ≤ n → Wd D A s.heap [(m0, .inr (8, [.int vcode, .int vw, .int vh, .int vl, .ref ms, .int vso, .ref mt, .ref mp, .ref mx, .ref my, .ref mw, .ref mh, .int 1, .ref ml, .ref mn, .ref mk, .ref mq, .ref mm])), (mm, aZ k 40 (wstTo s0 0 n (wst s0 1 n (wst s0 0 n (wst s0 1 n f))) kk))] H locs → lv_has ls 7 [(6, .int (nI kk)), (5, .int (nI 0)), (4, .int 3), (3, .int 4), (0, .ref m0), (1, .int (nI s0)), (2, .int (nI n))] → W p l e rm_Md_wlR s m args below meth c H locs 0 0 (MQ below (Qw D A (fun v w1 => v = none ∧ w1 = [(m0, .inr (8, [.int vcode, .int vw, .int vh, .int vl, .ref ms, .int vso, .ref mt, .ref mp, .ref mx, .ref my, .ref mw, .ref mh, .int 1, .ref ml, .ref mn, .ref mk, .ref mq, .ref mm])), (mm, aZ k 40 (wnt4 s0 n f))])) args s 0 0 A) (F0 m 48 ls []) := by
                        intro fu
                        induction fu with
                        | zero => intro kk H locs ls hfu; exact absurd hfu (Nat.not_lt_zero _)
                        | succ fu ih_L48_3 =>
                          intro kk H locs ls hfu_L48_3 hkb hw hl
                          refine lv_iload hx hb d_Md_wantLine_48 (lv_at hl 0 rfl) ?_
                          refine lv_iload_n hx hb d_Md_wantLine_50 rfl (lv_at hl 6 rfl) ?_
                          refine lv_icmp_ge (tgt := 124) hx hb d_Md_wantLine_51 (by decide) (fun hc51 => ?_) (fun hc51 => ?_)
                          · have hkn : n ≤ kk := (nI_leI (by omega) (by omega)).mp hc51
                            have hw : Wd D _ _ [(m0, .inr (8, [.int vcode, .int vw, .int vh, .int vl, .ref ms, .int vso, .ref mt, .ref mp, .ref mx, .ref my, .ref mw, .ref mh, .int 1, .ref ml, .ref mn, .ref mk, .ref mq, .ref mm])), (mm, aZ k 40 (wst s0 0 n (wst s0 1 n (wst s0 0 n (wst s0 1 n f)))))] H locs := hw.cast (by rw [wstTo_end hkn])
                            refine lv_iinc (v := 4) (lv' := [(4, .int 4), (6, .int (nI kk)), (5, .int (nI 0)), (3, .int 4), (0, .ref m0), (1, .int (nI s0)), (2, .int (nI n))]) hx hb d_Md_wantLine_124 hl (k := 2) rfl (by decide) (by decide) rfl (fun ls hl => ?_)
                            refine lv_goto (tgt := 25) hx hb d_Md_wantLine_127 (by decide) ?_
                            refine lv_iload hx hb d_Md_wantLine_25 (lv_at hl 0 rfl) ?_
                            refine lv_iload_n hx hb d_Md_wantLine_27 rfl (lv_at hl 3 rfl) ?_
                            refine lv_icmp_ge (tgt := 130) hx hb d_Md_wantLine_28 (by decide) (fun hc28 => ?_) (fun hc28 => absurd (by decide) hc28)
                            have hw : Wd D _ _ [(m0, .inr (8, [.int vcode, .int vw, .int vh, .int vl, .ref ms, .int vso, .ref mt, .ref mp, .ref mx, .ref my, .ref mw, .ref mh, .int 1, .ref ml, .ref mn, .ref mk, .ref mq, .ref mm])), (mm, aZ k 40 (wnt4 s0 n f))] H locs := hw.cast (by rw [wnt4_ne hn1])
                            exact ew_v (w1 := [(m0, .inr (8, [.int vcode, .int vw, .int vh, .int vl, .ref ms, .int vso, .ref mt, .ref mp, .ref mx, .ref my, .ref mw, .ref mh, .int 1, .ref ml, .ref mn, .ref mk, .ref mq, .ref mm])), (mm, aZ k 40 (wnt4 s0 n f))]) hC hw [0, 1] rfl rfl ⟨rfl, rfl⟩ d_Md_wantLine_130
                          · have hkn : kk < n := le_nI hc51 (by omega) (by omega)
                            have hn2 : 2 ≤ n := by omega
                            refine lv_iload_n hx hb d_Md_wantLine_54 rfl (lv_at hl 5 rfl) ?_
                            refine lv_iload hx hb d_Md_wantLine_55 (lv_at hl 0 rfl) ?_
                            refine lv_iadd hx hb d_Md_wantLine_57 ?_
                            refine r_topi (y := nI (s0 + kk)) (nI_add _ _) ?_
                            refine lv_iconst (v := 2) hx hb d_Md_wantLine_58 (by decide) ?_
                            refine lv_irem hx hb d_Md_wantLine_59 (by decide) ?_
                            refine r_topi (y := nI ((s0 + kk) % 2)) (rem2 (by omega)) ?_
                            refine lv_iload hx hb d_Md_wantLine_60 (lv_at hl 1 rfl) ?_
                            refine lv_icmp_ne (tgt := 118) hx hb d_Md_wantLine_62 (by decide) (fun hc62 => ?_) (fun hc62 => ?_)
                            · have hpk : ¬ (s0 + kk) % 2 = 0 % 2 := fun q => hc62 (by rw [q])
                              have hw : Wd D _ _ [(m0, .inr (8, [.int vcode, .int vw, .int vh, .int vl, .ref ms, .int vso, .ref mt, .ref mp, .ref mx, .ref my, .ref mw, .ref mh, .int 1, .ref ml, .ref mn, .ref mk, .ref mq, .ref mm])), (mm, aZ k 40 (wstTo s0 0 n (wst s0 1 n (wst s0 0 n (wst s0 1 n f))) (kk + 1)))] _ _ := hw.cast (by rw [wstTo_odd hpk])
                              refine lv_iinc (v := nI (kk + 1)) (lv' := [(6, .int (nI (kk + 1))), (5, .int (nI 0)), (4, .int 3), (3, .int 4), (0, .ref m0), (1, .int (nI s0)), (2, .int (nI n))]) hx hb d_Md_wantLine_118 hl (k := 0) rfl (nI_add kk 1) (by decide) rfl (fun ls hl => ?_)
                              refine lv_goto (tgt := 48) hx hb d_Md_wantLine_121 (by decide) ?_
                              exact ih_L48_3 (kk + 1) _ _ _ (by omega) (by omega) hw (lv_sub hl [0, 1, 2, 3, 4, 5, 6] rfl)
                            · have hpk : (s0 + kk) % 2 = 0 % 2 := (nI_eq (b := 0) (by omega) (by omega)).mp hc62
                              have hpo : ¬ (s0 + (kk + 1)) % 2 = 0 % 2 := by omega
                              refine lv_aload_n hx hb d_Md_wantLine_65 rfl (lv_at hl 4 rfl) ?_
                              refine r_get hC hw ck_Md 0 rfl 17 (by decide) k_797 rfl rfl d_Md_wantLine_66 ?_
                              refine lv_iload hx hb d_Md_wantLine_69 (lv_at hl 0 rfl) ?_
                              refine r_zald hC hw 1 rfl kk rfl (by omega) (by decide) d_Md_wantLine_71 ?_
                              refine r_topi (y := (wst s0 1 n (wst s0 0 n (wst s0 1 n f))) kk) (wstTo_par hpk) ?_
                              refine lv_if_eq (tgt := 118) hx hb d_Md_wantLine_72 (by decide) (fun hc72 => ?_) (fun hc72 => ?_)
                              · have hw : Wd D _ _ [(m0, .inr (8, [.int vcode, .int vw, .int vh, .int vl, .ref ms, .int vso, .ref mt, .ref mp, .ref mx, .ref my, .ref mw, .ref mh, .int 1, .ref ml, .ref mn, .ref mk, .ref mq, .ref mm])), (mm, aZ k 40 (wstTo s0 0 n (wst s0 1 n (wst s0 0 n (wst s0 1 n f))) (kk + 1)))] _ _ := hw.cast (by rw [wstTo_skip hpk hc72, ← wstTo_odd hpo])
                                refine lv_iinc (v := nI (kk + 1)) (lv' := [(6, .int (nI (kk + 1))), (5, .int (nI 0)), (4, .int 3), (3, .int 4), (0, .ref m0), (1, .int (nI s0)), (2, .int (nI n))]) hx hb d_Md_wantLine_118 hl (k := 0) rfl (nI_add kk 1) (by decide) rfl (fun ls hl => ?_)
                                refine lv_goto (tgt := 48) hx hb d_Md_wantLine_121 (by decide) ?_
                                exact ih_L48_3 (kk + 1) _ _ _ (by omega) (by omega) hw (lv_sub hl [0, 1, 2, 3, 4, 5, 6] rfl)
                              · refine lv_aload_n hx hb d_Md_wantLine_75 rfl (lv_at hl 4 rfl) ?_
                                refine r_get hC hw ck_Md 0 rfl 17 (by decide) k_797 rfl rfl d_Md_wantLine_76 ?_
                                refine lv_iload hx hb d_Md_wantLine_79 (lv_at hl 0 rfl) ?_
                                have hmL := mirL_lt hkn hn2
                                have hmR := mirR_lt hkn hn2
                                refine lv_if_ne (tgt := 88) hx hb d_Md_wantLine_81 (by decide) (fun hc81 => ?_) (fun hc81 => ?_)
                                · have hk0 : kk ≠ 0 := fun e => hc81 (by rw [e]; rfl)
                                  refine lv_iload hx hb d_Md_wantLine_88 (lv_at hl 0 rfl) ?_
                                  refine lv_iconst (v := 1) hx hb d_Md_wantLine_90 (by decide) ?_
                                  refine lv_isub hx hb d_Md_wantLine_91 ?_
                                  refine r_topi (y := nI (mirL kk)) (by unfold mirL; rw [if_neg hk0]; exact pk_sub (b := 1) (by omega)) ?_
                                  refine lv_iconst (v := 1) hx hb d_Md_wantLine_92 (by decide) ?_
                                  refine r_zast hC hw 1 rfl (mirL kk) rfl (by omega) (by decide) (by decide) d_Md_wantLine_93 (fun H locs hw => ?_)
                                  have hw : Wd D _ _ [(m0, .inr (8, [.int vcode, .int vw, .int vh, .int vl, .ref ms, .int vso, .ref mt, .ref mp, .ref mx, .ref my, .ref mw, .ref mh, .int 1, .ref ml, .ref mn, .ref mk, .ref mq, .ref mm])), (mm, aZ k 40 (upd (wstTo s0 0 n (wst s0 1 n (wst s0 0 n (wst s0 1 n f))) kk) (mirL kk) 1))] _ _ := hw
                                  refine lv_aload_n hx hb d_Md_wantLine_94 rfl (lv_at hl 4 rfl) ?_
                                  refine r_get hC hw ck_Md 0 rfl 17 (by decide) k_797 rfl rfl d_Md_wantLine_95 ?_
                                  refine lv_iload hx hb d_Md_wantLine_98 (lv_at hl 0 rfl) ?_
                                  refine lv_iload_n hx hb d_Md_wantLine_100 rfl (lv_at hl 6 rfl) ?_
                                  refine lv_iconst (v := 1) hx hb d_Md_wantLine_101 (by decide) ?_
                                  refine lv_isub hx hb d_Md_wantLine_102 ?_
                                  refine r_topi (y := nI (n - 1)) (pk_sub (b := 1) (by omega)) ?_
                                  refine lv_icmp_ne (tgt := 112) hx hb d_Md_wantLine_103 (by decide) (fun hc103 => ?_) (fun hc103 => ?_)
                                  · have hkl : ¬ kk + 1 = n := fun e => hc103 (by rw [← e]; rfl)
                                    refine lv_iload hx hb d_Md_wantLine_112 (lv_at hl 0 rfl) ?_
                                    refine lv_iconst (v := 1) hx hb d_Md_wantLine_114 (by decide) ?_
                                    refine lv_iadd hx hb d_Md_wantLine_115 ?_
                                    refine r_topi (y := nI (mirR kk n)) (by unfold mirR; rw [if_neg hkl]; exact nI_add kk 1) ?_
                                    refine lv_iconst (v := 1) hx hb d_Md_wantLine_116 (by decide) ?_
                                    refine r_zast hC hw 1 rfl (mirR kk n) rfl (by omega) (by decide) (by decide) d_Md_wantLine_117 (fun H locs hw => ?_)
                                    have hw : Wd D _ _ [(m0, .inr (8, [.int vcode, .int vw, .int vh, .int vl, .ref ms, .int vso, .ref mt, .ref mp, .ref mx, .ref my, .ref mw, .ref mh, .int 1, .ref ml, .ref mn, .ref mk, .ref mq, .ref mm])), (mm, aZ k 40 (upd (upd (wstTo s0 0 n (wst s0 1 n (wst s0 0 n (wst s0 1 n f))) kk) (mirL kk) 1) (mirR kk n) 1))] _ _ := hw
                                    have hw : Wd D _ _ [(m0, .inr (8, [.int vcode, .int vw, .int vh, .int vl, .ref ms, .int vso, .ref mt, .ref mp, .ref mx, .ref my, .ref mw, .ref mh, .int 1, .ref ml, .ref mn, .ref mk, .ref mq, .ref mm])), (mm, aZ k 40 (wstTo s0 0 n (wst s0 1 n (wst s0 0 n (wst s0 1 n f))) (kk + 1)))] _ _ := hw.cast (by rw [wstTo_step hpk hkn hn2 hc72, ← wstTo_odd hpo])
                                    refine lv_iinc (v := nI (kk + 1)) (lv' := [(6, .int (nI (kk + 1))), (5, .int (nI 0)), (4, .int 3), (3, .int 4), (0, .ref m0), (1, .int (nI s0)), (2, .int (nI n))]) hx hb d_Md_wantLine_118 hl (k := 0) rfl (nI_add kk 1) (by decide) rfl (fun ls hl => ?_)
                                    refine lv_goto (tgt := 48) hx hb d_Md_wantLine_121 (by decide) ?_
                                    exact ih_L48_3 (kk + 1) _ _ _ (by omega) (by omega) hw (lv_sub hl [0, 1, 2, 3, 4, 5, 6] rfl)
                                  · have hkl : kk + 1 = n := by have := (nI_eq (by omega) (by omega)).mp hc103; omega
                                    refine lv_iload_n hx hb d_Md_wantLine_106 rfl (lv_at hl 6 rfl) ?_
                                    refine lv_iconst (v := 2) hx hb d_Md_wantLine_107 (by decide) ?_
                                    refine lv_isub hx hb d_Md_wantLine_108 ?_
                                    refine r_topi (y := nI (mirR kk n)) (by unfold mirR; rw [if_pos hkl]; exact pk_sub (b := 2) (by omega)) ?_
                                    refine lv_goto (tgt := 116) hx hb d_Md_wantLine_109 (by decide) ?_
                                    refine lv_iconst (v := 1) hx hb d_Md_wantLine_116 (by decide) ?_
                                    refine r_zast hC hw 1 rfl (mirR kk n) rfl (by omega) (by decide) (by decide) d_Md_wantLine_117 (fun H locs hw => ?_)
                                    have hw : Wd D _ _ [(m0, .inr (8, [.int vcode, .int vw, .int vh, .int vl, .ref ms, .int vso, .ref mt, .ref mp, .ref mx, .ref my, .ref mw, .ref mh, .int 1, .ref ml, .ref mn, .ref mk, .ref mq, .ref mm])), (mm, aZ k 40 (upd (upd (wstTo s0 0 n (wst s0 1 n (wst s0 0 n (wst s0 1 n f))) kk) (mirL kk) 1) (mirR kk n) 1))] _ _ := hw
                                    have hw : Wd D _ _ [(m0, .inr (8, [.int vcode, .int vw, .int vh, .int vl, .ref ms, .int vso, .ref mt, .ref mp, .ref mx, .ref my, .ref mw, .ref mh, .int 1, .ref ml, .ref mn, .ref mk, .ref mq, .ref mm])), (mm, aZ k 40 (wstTo s0 0 n (wst s0 1 n (wst s0 0 n (wst s0 1 n f))) (kk + 1)))] _ _ := hw.cast (by rw [wstTo_step hpk hkn hn2 hc72, ← wstTo_odd hpo])
                                    refine lv_iinc (v := nI (kk + 1)) (lv' := [(6, .int (nI (kk + 1))), (5, .int (nI 0)), (4, .int 3), (3, .int 4), (0, .ref m0), (1, .int (nI s0)), (2, .int (nI n))]) hx hb d_Md_wantLine_118 hl (k := 0) rfl (nI_add kk 1) (by decide) rfl (fun ls hl => ?_)
                                    refine lv_goto (tgt := 48) hx hb d_Md_wantLine_121 (by decide) ?_
                                    exact ih_L48_3 (kk + 1) _ _ _ (by omega) (by omega) hw (lv_sub hl [0, 1, 2, 3, 4, 5, 6] rfl)
                                · have hk0 : kk = 0 := (nI_eq (b := 0) (by omega) (by omega)).mp hc81
                                  refine lv_iconst (v := 1) hx hb d_Md_wantLine_84 (by decide) ?_
                                  refine lv_goto (tgt := 92) hx hb d_Md_wantLine_85 (by decide) ?_
                                  refine r_topi (y := nI (mirL kk)) (by unfold mirL; rw [if_pos hk0]; rfl) ?_
                                  refine lv_iconst (v := 1) hx hb d_Md_wantLine_92 (by decide) ?_
                                  refine r_zast hC hw 1 rfl (mirL kk) rfl (by omega) (by decide) (by decide) d_Md_wantLine_93 (fun H locs hw => ?_)
                                  have hw : Wd D _ _ [(m0, .inr (8, [.int vcode, .int vw, .int vh, .int vl, .ref ms, .int vso, .ref mt, .ref mp, .ref mx, .ref my, .ref mw, .ref mh, .int 1, .ref ml, .ref mn, .ref mk, .ref mq, .ref mm])), (mm, aZ k 40 (upd (wstTo s0 0 n (wst s0 1 n (wst s0 0 n (wst s0 1 n f))) kk) (mirL kk) 1))] _ _ := hw
                                  refine lv_aload_n hx hb d_Md_wantLine_94 rfl (lv_at hl 4 rfl) ?_
                                  refine r_get hC hw ck_Md 0 rfl 17 (by decide) k_797 rfl rfl d_Md_wantLine_95 ?_
                                  refine lv_iload hx hb d_Md_wantLine_98 (lv_at hl 0 rfl) ?_
                                  refine lv_iload_n hx hb d_Md_wantLine_100 rfl (lv_at hl 6 rfl) ?_
                                  refine lv_iconst (v := 1) hx hb d_Md_wantLine_101 (by decide) ?_
                                  refine lv_isub hx hb d_Md_wantLine_102 ?_
                                  refine r_topi (y := nI (n - 1)) (pk_sub (b := 1) (by omega)) ?_
                                  refine lv_icmp_ne (tgt := 112) hx hb d_Md_wantLine_103 (by decide) (fun hc103 => ?_) (fun hc103 => ?_)
                                  · have hkl : ¬ kk + 1 = n := fun e => hc103 (by rw [← e]; rfl)
                                    refine lv_iload hx hb d_Md_wantLine_112 (lv_at hl 0 rfl) ?_
                                    refine lv_iconst (v := 1) hx hb d_Md_wantLine_114 (by decide) ?_
                                    refine lv_iadd hx hb d_Md_wantLine_115 ?_
                                    refine r_topi (y := nI (mirR kk n)) (by unfold mirR; rw [if_neg hkl]; exact nI_add kk 1) ?_
                                    refine lv_iconst (v := 1) hx hb d_Md_wantLine_116 (by decide) ?_
                                    refine r_zast hC hw 1 rfl (mirR kk n) rfl (by omega) (by decide) (by decide) d_Md_wantLine_117 (fun H locs hw => ?_)
                                    have hw : Wd D _ _ [(m0, .inr (8, [.int vcode, .int vw, .int vh, .int vl, .ref ms, .int vso, .ref mt, .ref mp, .ref mx, .ref my, .ref mw, .ref mh, .int 1, .ref ml, .ref mn, .ref mk, .ref mq, .ref mm])), (mm, aZ k 40 (upd (upd (wstTo s0 0 n (wst s0 1 n (wst s0 0 n (wst s0 1 n f))) kk) (mirL kk) 1) (mirR kk n) 1))] _ _ := hw
                                    have hw : Wd D _ _ [(m0, .inr (8, [.int vcode, .int vw, .int vh, .int vl, .ref ms, .int vso, .ref mt, .ref mp, .ref mx, .ref my, .ref mw, .ref mh, .int 1, .ref ml, .ref mn, .ref mk, .ref mq, .ref mm])), (mm, aZ k 40 (wstTo s0 0 n (wst s0 1 n (wst s0 0 n (wst s0 1 n f))) (kk + 1)))] _ _ := hw.cast (by rw [wstTo_step hpk hkn hn2 hc72, ← wstTo_odd hpo])
                                    refine lv_iinc (v := nI (kk + 1)) (lv' := [(6, .int (nI (kk + 1))), (5, .int (nI 0)), (4, .int 3), (3, .int 4), (0, .ref m0), (1, .int (nI s0)), (2, .int (nI n))]) hx hb d_Md_wantLine_118 hl (k := 0) rfl (nI_add kk 1) (by decide) rfl (fun ls hl => ?_)
                                    refine lv_goto (tgt := 48) hx hb d_Md_wantLine_121 (by decide) ?_
                                    exact ih_L48_3 (kk + 1) _ _ _ (by omega) (by omega) hw (lv_sub hl [0, 1, 2, 3, 4, 5, 6] rfl)
                                  · have hkl : kk + 1 = n := by have := (nI_eq (by omega) (by omega)).mp hc103; omega
                                    refine lv_iload_n hx hb d_Md_wantLine_106 rfl (lv_at hl 6 rfl) ?_
                                    refine lv_iconst (v := 2) hx hb d_Md_wantLine_107 (by decide) ?_
                                    refine lv_isub hx hb d_Md_wantLine_108 ?_
                                    refine r_topi (y := nI (mirR kk n)) (by unfold mirR; rw [if_pos hkl]; exact pk_sub (b := 2) (by omega)) ?_
                                    refine lv_goto (tgt := 116) hx hb d_Md_wantLine_109 (by decide) ?_
                                    refine lv_iconst (v := 1) hx hb d_Md_wantLine_116 (by decide) ?_
                                    refine r_zast hC hw 1 rfl (mirR kk n) rfl (by omega) (by decide) (by decide) d_Md_wantLine_117 (fun H locs hw => ?_)
                                    have hw : Wd D _ _ [(m0, .inr (8, [.int vcode, .int vw, .int vh, .int vl, .ref ms, .int vso, .ref mt, .ref mp, .ref mx, .ref my, .ref mw, .ref mh, .int 1, .ref ml, .ref mn, .ref mk, .ref mq, .ref mm])), (mm, aZ k 40 (upd (upd (wstTo s0 0 n (wst s0 1 n (wst s0 0 n (wst s0 1 n f))) kk) (mirL kk) 1) (mirR kk n) 1))] _ _ := hw
                                    have hw : Wd D _ _ [(m0, .inr (8, [.int vcode, .int vw, .int vh, .int vl, .ref ms, .int vso, .ref mt, .ref mp, .ref mx, .ref my, .ref mw, .ref mh, .int 1, .ref ml, .ref mn, .ref mk, .ref mq, .ref mm])), (mm, aZ k 40 (wstTo s0 0 n (wst s0 1 n (wst s0 0 n (wst s0 1 n f))) (kk + 1)))] _ _ := hw.cast (by rw [wstTo_step hpk hkn hn2 hc72, ← wstTo_odd hpo])
                                    refine lv_iinc (v := nI (kk + 1)) (lv' := [(6, .int (nI (kk + 1))), (5, .int (nI 0)), (4, .int 3), (3, .int 4), (0, .ref m0), (1, .int (nI s0)), (2, .int (nI n))]) hx hb d_Md_wantLine_118 hl (k := 0) rfl (nI_add kk 1) (by decide) rfl (fun ls hl => ?_)
                                    refine lv_goto (tgt := 48) hx hb d_Md_wantLine_121 (by decide) ?_
                                    exact ih_L48_3 (kk + 1) _ _ _ (by omega) (by omega) hw (lv_sub hl [0, 1, 2, 3, 4, 5, 6] rfl)
                      exact L48_3 (n + 1) 0 _ _ _ (by omega) (by omega) hw (lv_sub hl [0, 1, 2, 3, 4, 5, 6] rfl)
                    · have hkn : kk < n := le_nI hc51 (by omega) (by omega)
                      have hn2 : 2 ≤ n := by omega
                      refine lv_iload_n hx hb d_Md_wantLine_54 rfl (lv_at hl 5 rfl) ?_
                      refine lv_iload hx hb d_Md_wantLine_55 (lv_at hl 0 rfl) ?_
                      refine lv_iadd hx hb d_Md_wantLine_57 ?_
                      refine r_topi (y := nI (s0 + kk)) (nI_add _ _) ?_
                      refine lv_iconst (v := 2) hx hb d_Md_wantLine_58 (by decide) ?_
                      refine lv_irem hx hb d_Md_wantLine_59 (by decide) ?_
                      refine r_topi (y := nI ((s0 + kk) % 2)) (rem2 (by omega)) ?_
                      refine lv_iload hx hb d_Md_wantLine_60 (lv_at hl 1 rfl) ?_
                      refine lv_icmp_ne (tgt := 118) hx hb d_Md_wantLine_62 (by decide) (fun hc62 => ?_) (fun hc62 => ?_)
                      · have hpk : ¬ (s0 + kk) % 2 = 1 % 2 := fun q => hc62 (by rw [q])
                        have hw : Wd D _ _ [(m0, .inr (8, [.int vcode, .int vw, .int vh, .int vl, .ref ms, .int vso, .ref mt, .ref mp, .ref mx, .ref my, .ref mw, .ref mh, .int 1, .ref ml, .ref mn, .ref mk, .ref mq, .ref mm])), (mm, aZ k 40 (wstTo s0 1 n (wst s0 0 n (wst s0 1 n f)) (kk + 1)))] _ _ := hw.cast (by rw [wstTo_odd hpk])
                        refine lv_iinc (v := nI (kk + 1)) (lv' := [(6, .int (nI (kk + 1))), (5, .int (nI 1)), (4, .int 2), (3, .int 4), (0, .ref m0), (1, .int (nI s0)), (2, .int (nI n))]) hx hb d_Md_wantLine_118 hl (k := 0) rfl (nI_add kk 1) (by decide) rfl (fun ls hl => ?_)
                        refine lv_goto (tgt := 48) hx hb d_Md_wantLine_121 (by decide) ?_
                        exact ih_L48_2 (kk + 1) _ _ _ (by omega) (by omega) hw (lv_sub hl [0, 1, 2, 3, 4, 5, 6] rfl)
                      · have hpk : (s0 + kk) % 2 = 1 % 2 := (nI_eq (b := 1) (by omega) (by omega)).mp hc62
                        have hpo : ¬ (s0 + (kk + 1)) % 2 = 1 % 2 := by omega
                        refine lv_aload_n hx hb d_Md_wantLine_65 rfl (lv_at hl 4 rfl) ?_
                        refine r_get hC hw ck_Md 0 rfl 17 (by decide) k_797 rfl rfl d_Md_wantLine_66 ?_
                        refine lv_iload hx hb d_Md_wantLine_69 (lv_at hl 0 rfl) ?_
                        refine r_zald hC hw 1 rfl kk rfl (by omega) (by decide) d_Md_wantLine_71 ?_
                        refine r_topi (y := (wst s0 0 n (wst s0 1 n f)) kk) (wstTo_par hpk) ?_
                        refine lv_if_eq (tgt := 118) hx hb d_Md_wantLine_72 (by decide) (fun hc72 => ?_) (fun hc72 => ?_)
                        · have hw : Wd D _ _ [(m0, .inr (8, [.int vcode, .int vw, .int vh, .int vl, .ref ms, .int vso, .ref mt, .ref mp, .ref mx, .ref my, .ref mw, .ref mh, .int 1, .ref ml, .ref mn, .ref mk, .ref mq, .ref mm])), (mm, aZ k 40 (wstTo s0 1 n (wst s0 0 n (wst s0 1 n f)) (kk + 1)))] _ _ := hw.cast (by rw [wstTo_skip hpk hc72, ← wstTo_odd hpo])
                          refine lv_iinc (v := nI (kk + 1)) (lv' := [(6, .int (nI (kk + 1))), (5, .int (nI 1)), (4, .int 2), (3, .int 4), (0, .ref m0), (1, .int (nI s0)), (2, .int (nI n))]) hx hb d_Md_wantLine_118 hl (k := 0) rfl (nI_add kk 1) (by decide) rfl (fun ls hl => ?_)
                          refine lv_goto (tgt := 48) hx hb d_Md_wantLine_121 (by decide) ?_
                          exact ih_L48_2 (kk + 1) _ _ _ (by omega) (by omega) hw (lv_sub hl [0, 1, 2, 3, 4, 5, 6] rfl)
                        · refine lv_aload_n hx hb d_Md_wantLine_75 rfl (lv_at hl 4 rfl) ?_
                          refine r_get hC hw ck_Md 0 rfl 17 (by decide) k_797 rfl rfl d_Md_wantLine_76 ?_
                          refine lv_iload hx hb d_Md_wantLine_79 (lv_at hl 0 rfl) ?_
                          have hmL := mirL_lt hkn hn2
                          have hmR := mirR_lt hkn hn2
                          refine lv_if_ne (tgt := 88) hx hb d_Md_wantLine_81 (by decide) (fun hc81 => ?_) (fun hc81 => ?_)
                          · have hk0 : kk ≠ 0 := fun e => hc81 (by rw [e]; rfl)
                            refine lv_iload hx hb d_Md_wantLine_88 (lv_at hl 0 rfl) ?_
                            refine lv_iconst (v := 1) hx hb d_Md_wantLine_90 (by decide) ?_
                            refine lv_isub hx hb d_Md_wantLine_91 ?_
                            refine r_topi (y := nI (mirL kk)) (by unfold mirL; rw [if_neg hk0]; exact pk_sub (b := 1) (by omega)) ?_
                            refine lv_iconst (v := 1) hx hb d_Md_wantLine_92 (by decide) ?_
                            refine r_zast hC hw 1 rfl (mirL kk) rfl (by omega) (by decide) (by decide) d_Md_wantLine_93 (fun H locs hw => ?_)
                            have hw : Wd D _ _ [(m0, .inr (8, [.int vcode, .int vw, .int vh, .int vl, .ref ms, .int vso, .ref mt, .ref mp, .ref mx, .ref my, .ref mw, .ref mh, .int 1, .ref ml, .ref mn, .ref mk, .ref mq, .ref mm])), (mm, aZ k 40 (upd (wstTo s0 1 n (wst s0 0 n (wst s0 1 n f)) kk) (mirL kk) 1))] _ _ := hw
                            refine lv_aload_n hx hb d_Md_wantLine_94 rfl (lv_at hl 4 rfl) ?_
                            refine r_get hC hw ck_Md 0 rfl 17 (by decide) k_797 rfl rfl d_Md_wantLine_95 ?_
                            refine lv_iload hx hb d_Md_wantLine_98 (lv_at hl 0 rfl) ?_
                            refine lv_iload_n hx hb d_Md_wantLine_100 rfl (lv_at hl 6 rfl) ?_
                            refine lv_iconst (v := 1) hx hb d_Md_wantLine_101 (by decide) ?_
                            refine lv_isub hx hb d_Md_wantLine_102 ?_
                            refine r_topi (y := nI (n - 1)) (pk_sub (b := 1) (by omega)) ?_
                            refine lv_icmp_ne (tgt := 112) hx hb d_Md_wantLine_103 (by decide) (fun hc103 => ?_) (fun hc103 => ?_)
                            · have hkl : ¬ kk + 1 = n := fun e => hc103 (by rw [← e]; rfl)
                              refine lv_iload hx hb d_Md_wantLine_112 (lv_at hl 0 rfl) ?_
                              refine lv_iconst (v := 1) hx hb d_Md_wantLine_114 (by decide) ?_
                              refine lv_iadd hx hb d_Md_wantLine_115 ?_
                              refine r_topi (y := nI (mirR kk n)) (by unfold mirR; rw [if_neg hkl]; exact nI_add kk 1) ?_
                              refine lv_iconst (v := 1) hx hb d_Md_wantLine_116 (by decide) ?_
                              refine r_zast hC hw 1 rfl (mirR kk n) rfl (by omega) (by decide) (by decide) d_Md_wantLine_117 (fun H locs hw => ?_)
                              have hw : Wd D _ _ [(m0, .inr (8, [.int vcode, .int vw, .int vh, .int vl, .ref ms, .int vso, .ref mt, .ref mp, .ref mx, .ref my, .ref mw, .ref mh, .int 1, .ref ml, .ref mn, .ref mk, .ref mq, .ref mm])), (mm, aZ k 40 (upd (upd (wstTo s0 1 n (wst s0 0 n (wst s0 1 n f)) kk) (mirL kk) 1) (mirR kk n) 1))] _ _ := hw
                              have hw : Wd D _ _ [(m0, .inr (8, [.int vcode, .int vw, .int vh, .int vl, .ref ms, .int vso, .ref mt, .ref mp, .ref mx, .ref my, .ref mw, .ref mh, .int 1, .ref ml, .ref mn, .ref mk, .ref mq, .ref mm])), (mm, aZ k 40 (wstTo s0 1 n (wst s0 0 n (wst s0 1 n f)) (kk + 1)))] _ _ := hw.cast (by rw [wstTo_step hpk hkn hn2 hc72, ← wstTo_odd hpo])
                              refine lv_iinc (v := nI (kk + 1)) (lv' := [(6, .int (nI (kk + 1))), (5, .int (nI 1)), (4, .int 2), (3, .int 4), (0, .ref m0), (1, .int (nI s0)), (2, .int (nI n))]) hx hb d_Md_wantLine_118 hl (k := 0) rfl (nI_add kk 1) (by decide) rfl (fun ls hl => ?_)
                              refine lv_goto (tgt := 48) hx hb d_Md_wantLine_121 (by decide) ?_
                              exact ih_L48_2 (kk + 1) _ _ _ (by omega) (by omega) hw (lv_sub hl [0, 1, 2, 3, 4, 5, 6] rfl)
                            · have hkl : kk + 1 = n := by have := (nI_eq (by omega) (by omega)).mp hc103; omega
                              refine lv_iload_n hx hb d_Md_wantLine_106 rfl (lv_at hl 6 rfl) ?_
                              refine lv_iconst (v := 2) hx hb d_Md_wantLine_107 (by decide) ?_
                              refine lv_isub hx hb d_Md_wantLine_108 ?_
                              refine r_topi (y := nI (mirR kk n)) (by unfold mirR; rw [if_pos hkl]; exact pk_sub (b := 2) (by omega)) ?_
                              refine lv_goto (tgt := 116) hx hb d_Md_wantLine_109 (by decide) ?_
                              refine lv_iconst (v := 1) hx hb d_Md_wantLine_116 (by decide) ?_
                              refine r_zast hC hw 1 rfl (mirR kk n) rfl (by omega) (by decide) (by decide) d_Md_wantLine_117 (fun H locs hw => ?_)
                              have hw : Wd D _ _ [(m0, .inr (8, [.int vcode, .int vw, .int vh, .int vl, .ref ms, .int vso, .ref mt, .ref mp, .ref mx, .ref my, .ref mw, .ref mh, .int 1, .ref ml, .ref mn, .ref mk, .ref mq, .ref mm])), (mm, aZ k 40 (upd (upd (wstTo s0 1 n (wst s0 0 n (wst s0 1 n f)) kk) (mirL kk) 1) (mirR kk n) 1))] _ _ := hw
                              have hw : Wd D _ _ [(m0, .inr (8, [.int vcode, .int vw, .int vh, .int vl, .ref ms, .int vso, .ref mt, .ref mp, .ref mx, .ref my, .ref mw, .ref mh, .int 1, .ref ml, .ref mn, .ref mk, .ref mq, .ref mm])), (mm, aZ k 40 (wstTo s0 1 n (wst s0 0 n (wst s0 1 n f)) (kk + 1)))] _ _ := hw.cast (by rw [wstTo_step hpk hkn hn2 hc72, ← wstTo_odd hpo])
                              refine lv_iinc (v := nI (kk + 1)) (lv' := [(6, .int (nI (kk + 1))), (5, .int (nI 1)), (4, .int 2), (3, .int 4), (0, .ref m0), (1, .int (nI s0)), (2, .int (nI n))]) hx hb d_Md_wantLine_118 hl (k := 0) rfl (nI_add kk 1) (by decide) rfl (fun ls hl => ?_)
                              refine lv_goto (tgt := 48) hx hb d_Md_wantLine_121 (by decide) ?_
                              exact ih_L48_2 (kk + 1) _ _ _ (by omega) (by omega) hw (lv_sub hl [0, 1, 2, 3, 4, 5, 6] rfl)
                          · have hk0 : kk = 0 := (nI_eq (b := 0) (by omega) (by omega)).mp hc81
                            refine lv_iconst (v := 1) hx hb d_Md_wantLine_84 (by decide) ?_
                            refine lv_goto (tgt := 92) hx hb d_Md_wantLine_85 (by decide) ?_
                            refine r_topi (y := nI (mirL kk)) (by unfold mirL; rw [if_pos hk0]; rfl) ?_
                            refine lv_iconst (v := 1) hx hb d_Md_wantLine_92 (by decide) ?_
                            refine r_zast hC hw 1 rfl (mirL kk) rfl (by omega) (by decide) (by decide) d_Md_wantLine_93 (fun H locs hw => ?_)
                            have hw : Wd D _ _ [(m0, .inr (8, [.int vcode, .int vw, .int vh, .int vl, .ref ms, .int vso, .ref mt, .ref mp, .ref mx, .ref my, .ref mw, .ref mh, .int 1, .ref ml, .ref mn, .ref mk, .ref mq, .ref mm])), (mm, aZ k 40 (upd (wstTo s0 1 n (wst s0 0 n (wst s0 1 n f)) kk) (mirL kk) 1))] _ _ := hw
                            refine lv_aload_n hx hb d_Md_wantLine_94 rfl (lv_at hl 4 rfl) ?_
                            refine r_get hC hw ck_Md 0 rfl 17 (by decide) k_797 rfl rfl d_Md_wantLine_95 ?_
                            refine lv_iload hx hb d_Md_wantLine_98 (lv_at hl 0 rfl) ?_
                            refine lv_iload_n hx hb d_Md_wantLine_100 rfl (lv_at hl 6 rfl) ?_
                            refine lv_iconst (v := 1) hx hb d_Md_wantLine_101 (by decide) ?_
                            refine lv_isub hx hb d_Md_wantLine_102 ?_
                            refine r_topi (y := nI (n - 1)) (pk_sub (b := 1) (by omega)) ?_
                            refine lv_icmp_ne (tgt := 112) hx hb d_Md_wantLine_103 (by decide) (fun hc103 => ?_) (fun hc103 => ?_)
                            · have hkl : ¬ kk + 1 = n := fun e => hc103 (by rw [← e]; rfl)
                              refine lv_iload hx hb d_Md_wantLine_112 (lv_at hl 0 rfl) ?_
                              refine lv_iconst (v := 1) hx hb d_Md_wantLine_114 (by decide) ?_
                              refine lv_iadd hx hb d_Md_wantLine_115 ?_
                              refine r_topi (y := nI (mirR kk n)) (by unfold mirR; rw [if_neg hkl]; exact nI_add kk 1) ?_
                              refine lv_iconst (v := 1) hx hb d_Md_wantLine_116 (by decide) ?_
                              refine r_zast hC hw 1 rfl (mirR kk n) rfl (by omega) (by decide) (by decide) d_Md_wantLine_117 (fun H locs hw => ?_)
                              have hw : Wd D _ _ [(m0, .inr (8, [.int vcode, .int vw, .int vh, .int vl, .ref ms, .int vso, .ref mt, .ref mp, .ref mx, .ref my, .ref mw, .ref mh, .int 1, .ref ml, .ref mn, .ref mk, .ref mq, .ref mm])), (mm, aZ k 40 (upd (upd (wstTo s0 1 n (wst s0 0 n (wst s0 1 n f)) kk) (mirL kk) 1) (mirR kk n) 1))] _ _ := hw
                              have hw : Wd D _ _ [(m0, .inr (8, [.int vcode, .int vw, .int vh, .int vl, .ref ms, .int vso, .ref mt, .ref mp, .ref mx, .ref my, .ref mw, .ref mh, .int 1, .ref ml, .ref mn, .ref mk, .ref mq, .ref mm])), (mm, aZ k 40 (wstTo s0 1 n (wst s0 0 n (wst s0 1 n f)) (kk + 1)))] _ _ := hw.cast (by rw [wstTo_step hpk hkn hn2 hc72, ← wstTo_odd hpo])
                              refine lv_iinc (v := nI (kk + 1)) (lv' := [(6, .int (nI (kk + 1))), (5, .int (nI 1)), (4, .int 2), (3, .int 4), (0, .ref m0), (1, .int (nI s0)), (2, .int (nI n))]) hx hb d_Md_wantLine_118 hl (k := 0) rfl (nI_add kk 1) (by decide) rfl (fun ls hl => ?_)
                              refine lv_goto (tgt := 48) hx hb d_Md_wantLine_121 (by decide) ?_
                              exact ih_L48_2 (kk + 1) _ _ _ (by omega) (by omega) hw (lv_sub hl [0, 1, 2, 3, 4, 5, 6] rfl)
                            · have hkl : kk + 1 = n := by have := (nI_eq (by omega) (by omega)).mp hc103; omega
                              refine lv_iload_n hx hb d_Md_wantLine_106 rfl (lv_at hl 6 rfl) ?_
                              refine lv_iconst (v := 2) hx hb d_Md_wantLine_107 (by decide) ?_
                              refine lv_isub hx hb d_Md_wantLine_108 ?_
                              refine r_topi (y := nI (mirR kk n)) (by unfold mirR; rw [if_pos hkl]; exact pk_sub (b := 2) (by omega)) ?_
                              refine lv_goto (tgt := 116) hx hb d_Md_wantLine_109 (by decide) ?_
                              refine lv_iconst (v := 1) hx hb d_Md_wantLine_116 (by decide) ?_
                              refine r_zast hC hw 1 rfl (mirR kk n) rfl (by omega) (by decide) (by decide) d_Md_wantLine_117 (fun H locs hw => ?_)
                              have hw : Wd D _ _ [(m0, .inr (8, [.int vcode, .int vw, .int vh, .int vl, .ref ms, .int vso, .ref mt, .ref mp, .ref mx, .ref my, .ref mw, .ref mh, .int 1, .ref ml, .ref mn, .ref mk, .ref mq, .ref mm])), (mm, aZ k 40 (upd (upd (wstTo s0 1 n (wst s0 0 n (wst s0 1 n f)) kk) (mirL kk) 1) (mirR kk n) 1))] _ _ := hw
                              have hw : Wd D _ _ [(m0, .inr (8, [.int vcode, .int vw, .int vh, .int vl, .ref ms, .int vso, .ref mt, .ref mp, .ref mx, .ref my, .ref mw, .ref mh, .int 1, .ref ml, .ref mn, .ref mk, .ref mq, .ref mm])), (mm, aZ k 40 (wstTo s0 1 n (wst s0 0 n (wst s0 1 n f)) (kk + 1)))] _ _ := hw.cast (by rw [wstTo_step hpk hkn hn2 hc72, ← wstTo_odd hpo])
                              refine lv_iinc (v := nI (kk + 1)) (lv' := [(6, .int (nI (kk + 1))), (5, .int (nI 1)), (4, .int 2), (3, .int 4), (0, .ref m0), (1, .int (nI s0)), (2, .int (nI n))]) hx hb d_Md_wantLine_118 hl (k := 0) rfl (nI_add kk 1) (by decide) rfl (fun ls hl => ?_)
                              refine lv_goto (tgt := 48) hx hb d_Md_wantLine_121 (by decide) ?_
                              exact ih_L48_2 (kk + 1) _ _ _ (by omega) (by omega) hw (lv_sub hl [0, 1, 2, 3, 4, 5, 6] rfl)
                exact L48_2 (n + 1) 0 _ _ _ (by omega) (by omega) hw (lv_sub hl [0, 1, 2, 3, 4, 5, 6] rfl)
              · have hkn : kk < n := le_nI hc51 (by omega) (by omega)
                have hn2 : 2 ≤ n := by omega
                refine lv_iload_n hx hb d_Md_wantLine_54 rfl (lv_at hl 5 rfl) ?_
                refine lv_iload hx hb d_Md_wantLine_55 (lv_at hl 0 rfl) ?_
                refine lv_iadd hx hb d_Md_wantLine_57 ?_
                refine r_topi (y := nI (s0 + kk)) (nI_add _ _) ?_
                refine lv_iconst (v := 2) hx hb d_Md_wantLine_58 (by decide) ?_
                refine lv_irem hx hb d_Md_wantLine_59 (by decide) ?_
                refine r_topi (y := nI ((s0 + kk) % 2)) (rem2 (by omega)) ?_
                refine lv_iload hx hb d_Md_wantLine_60 (lv_at hl 1 rfl) ?_
                refine lv_icmp_ne (tgt := 118) hx hb d_Md_wantLine_62 (by decide) (fun hc62 => ?_) (fun hc62 => ?_)
                · have hpk : ¬ (s0 + kk) % 2 = 0 % 2 := fun q => hc62 (by rw [q])
                  have hw : Wd D _ _ [(m0, .inr (8, [.int vcode, .int vw, .int vh, .int vl, .ref ms, .int vso, .ref mt, .ref mp, .ref mx, .ref my, .ref mw, .ref mh, .int 1, .ref ml, .ref mn, .ref mk, .ref mq, .ref mm])), (mm, aZ k 40 (wstTo s0 0 n (wst s0 1 n f) (kk + 1)))] _ _ := hw.cast (by rw [wstTo_odd hpk])
                  refine lv_iinc (v := nI (kk + 1)) (lv' := [(6, .int (nI (kk + 1))), (5, .int (nI 0)), (4, .int 1), (3, .int 4), (0, .ref m0), (1, .int (nI s0)), (2, .int (nI n))]) hx hb d_Md_wantLine_118 hl (k := 0) rfl (nI_add kk 1) (by decide) rfl (fun ls hl => ?_)
                  refine lv_goto (tgt := 48) hx hb d_Md_wantLine_121 (by decide) ?_
                  exact ih_L48_1 (kk + 1) _ _ _ (by omega) (by omega) hw (lv_sub hl [0, 1, 2, 3, 4, 5, 6] rfl)
                · have hpk : (s0 + kk) % 2 = 0 % 2 := (nI_eq (b := 0) (by omega) (by omega)).mp hc62
                  have hpo : ¬ (s0 + (kk + 1)) % 2 = 0 % 2 := by omega
                  refine lv_aload_n hx hb d_Md_wantLine_65 rfl (lv_at hl 4 rfl) ?_
                  refine r_get hC hw ck_Md 0 rfl 17 (by decide) k_797 rfl rfl d_Md_wantLine_66 ?_
                  refine lv_iload hx hb d_Md_wantLine_69 (lv_at hl 0 rfl) ?_
                  refine r_zald hC hw 1 rfl kk rfl (by omega) (by decide) d_Md_wantLine_71 ?_
                  refine r_topi (y := (wst s0 1 n f) kk) (wstTo_par hpk) ?_
                  refine lv_if_eq (tgt := 118) hx hb d_Md_wantLine_72 (by decide) (fun hc72 => ?_) (fun hc72 => ?_)
                  · have hw : Wd D _ _ [(m0, .inr (8, [.int vcode, .int vw, .int vh, .int vl, .ref ms, .int vso, .ref mt, .ref mp, .ref mx, .ref my, .ref mw, .ref mh, .int 1, .ref ml, .ref mn, .ref mk, .ref mq, .ref mm])), (mm, aZ k 40 (wstTo s0 0 n (wst s0 1 n f) (kk + 1)))] _ _ := hw.cast (by rw [wstTo_skip hpk hc72, ← wstTo_odd hpo])
                    refine lv_iinc (v := nI (kk + 1)) (lv' := [(6, .int (nI (kk + 1))), (5, .int (nI 0)), (4, .int 1), (3, .int 4), (0, .ref m0), (1, .int (nI s0)), (2, .int (nI n))]) hx hb d_Md_wantLine_118 hl (k := 0) rfl (nI_add kk 1) (by decide) rfl (fun ls hl => ?_)
                    refine lv_goto (tgt := 48) hx hb d_Md_wantLine_121 (by decide) ?_
                    exact ih_L48_1 (kk + 1) _ _ _ (by omega) (by omega) hw (lv_sub hl [0, 1, 2, 3, 4, 5, 6] rfl)
                  · refine lv_aload_n hx hb d_Md_wantLine_75 rfl (lv_at hl 4 rfl) ?_
                    refine r_get hC hw ck_Md 0 rfl 17 (by decide) k_797 rfl rfl d_Md_wantLine_76 ?_
                    refine lv_iload hx hb d_Md_wantLine_79 (lv_at hl 0 rfl) ?_
                    have hmL := mirL_lt hkn hn2
                    have hmR := mirR_lt hkn hn2
                    refine lv_if_ne (tgt := 88) hx hb d_Md_wantLine_81 (by decide) (fun hc81 => ?_) (fun hc81 => ?_)
                    · have hk0 : kk ≠ 0 := fun e => hc81 (by rw [e]; rfl)
                      refine lv_iload hx hb d_Md_wantLine_88 (lv_at hl 0 rfl) ?_
                      refine lv_iconst (v := 1) hx hb d_Md_wantLine_90 (by decide) ?_
                      refine lv_isub hx hb d_Md_wantLine_91 ?_
                      refine r_topi (y := nI (mirL kk)) (by unfold mirL; rw [if_neg hk0]; exact pk_sub (b := 1) (by omega)) ?_
                      refine lv_iconst (v := 1) hx hb d_Md_wantLine_92 (by decide) ?_
                      refine r_zast hC hw 1 rfl (mirL kk) rfl (by omega) (by decide) (by decide) d_Md_wantLine_93 (fun H locs hw => ?_)
                      have hw : Wd D _ _ [(m0, .inr (8, [.int vcode, .int vw, .int vh, .int vl, .ref ms, .int vso, .ref mt, .ref mp, .ref mx, .ref my, .ref mw, .ref mh, .int 1, .ref ml, .ref mn, .ref mk, .ref mq, .ref mm])), (mm, aZ k 40 (upd (wstTo s0 0 n (wst s0 1 n f) kk) (mirL kk) 1))] _ _ := hw
                      refine lv_aload_n hx hb d_Md_wantLine_94 rfl (lv_at hl 4 rfl) ?_
                      refine r_get hC hw ck_Md 0 rfl 17 (by decide) k_797 rfl rfl d_Md_wantLine_95 ?_
                      refine lv_iload hx hb d_Md_wantLine_98 (lv_at hl 0 rfl) ?_
                      refine lv_iload_n hx hb d_Md_wantLine_100 rfl (lv_at hl 6 rfl) ?_
                      refine lv_iconst (v := 1) hx hb d_Md_wantLine_101 (by decide) ?_
                      refine lv_isub hx hb d_Md_wantLine_102 ?_
                      refine r_topi (y := nI (n - 1)) (pk_sub (b := 1) (by omega)) ?_
                      refine lv_icmp_ne (tgt := 112) hx hb d_Md_wantLine_103 (by decide) (fun hc103 => ?_) (fun hc103 => ?_)
                      · have hkl : ¬ kk + 1 = n := fun e => hc103 (by rw [← e]; rfl)
                        refine lv_iload hx hb d_Md_wantLine_112 (lv_at hl 0 rfl) ?_
                        refine lv_iconst (v := 1) hx hb d_Md_wantLine_114 (by decide) ?_
                        refine lv_iadd hx hb d_Md_wantLine_115 ?_
                        refine r_topi (y := nI (mirR kk n)) (by unfold mirR; rw [if_neg hkl]; exact nI_add kk 1) ?_
                        refine lv_iconst (v := 1) hx hb d_Md_wantLine_116 (by decide) ?_
                        refine r_zast hC hw 1 rfl (mirR kk n) rfl (by omega) (by decide) (by decide) d_Md_wantLine_117 (fun H locs hw => ?_)
                        have hw : Wd D _ _ [(m0, .inr (8, [.int vcode, .int vw, .int vh, .int vl, .ref ms, .int vso, .ref mt, .ref mp, .ref mx, .ref my, .ref mw, .ref mh, .int 1, .ref ml, .ref mn, .ref mk, .ref mq, .ref mm])), (mm, aZ k 40 (upd (upd (wstTo s0 0 n (wst s0 1 n f) kk) (mirL kk) 1) (mirR kk n) 1))] _ _ := hw
                        have hw : Wd D _ _ [(m0, .inr (8, [.int vcode, .int vw, .int vh, .int vl, .ref ms, .int vso, .ref mt, .ref mp, .ref mx, .ref my, .ref mw, .ref mh, .int 1, .ref ml, .ref mn, .ref mk, .ref mq, .ref mm])), (mm, aZ k 40 (wstTo s0 0 n (wst s0 1 n f) (kk + 1)))] _ _ := hw.cast (by rw [wstTo_step hpk hkn hn2 hc72, ← wstTo_odd hpo])
                        refine lv_iinc (v := nI (kk + 1)) (lv' := [(6, .int (nI (kk + 1))), (5, .int (nI 0)), (4, .int 1), (3, .int 4), (0, .ref m0), (1, .int (nI s0)), (2, .int (nI n))]) hx hb d_Md_wantLine_118 hl (k := 0) rfl (nI_add kk 1) (by decide) rfl (fun ls hl => ?_)
                        refine lv_goto (tgt := 48) hx hb d_Md_wantLine_121 (by decide) ?_
                        exact ih_L48_1 (kk + 1) _ _ _ (by omega) (by omega) hw (lv_sub hl [0, 1, 2, 3, 4, 5, 6] rfl)
                      · have hkl : kk + 1 = n := by have := (nI_eq (by omega) (by omega)).mp hc103; omega
                        refine lv_iload_n hx hb d_Md_wantLine_106 rfl (lv_at hl 6 rfl) ?_
                        refine lv_iconst (v := 2) hx hb d_Md_wantLine_107 (by decide) ?_
                        refine lv_isub hx hb d_Md_wantLine_108 ?_
                        refine r_topi (y := nI (mirR kk n)) (by unfold mirR; rw [if_pos hkl]; exact pk_sub (b := 2) (by omega)) ?_
                        refine lv_goto (tgt := 116) hx hb d_Md_wantLine_109 (by decide) ?_
                        refine lv_iconst (v := 1) hx hb d_Md_wantLine_116 (by decide) ?_
                        refine r_zast hC hw 1 rfl (mirR kk n) rfl (by omega) (by decide) (by decide) d_Md_wantLine_117 (fun H locs hw => ?_)
                        have hw : Wd D _ _ [(m0, .inr (8, [.int vcode, .int vw, .int vh, .int vl, .ref ms, .int vso, .ref mt, .ref mp, .ref mx, .ref my, .ref mw, .ref mh, .int 1, .ref ml, .ref mn, .ref mk, .ref mq, .ref mm])), (mm, aZ k 40 (upd (upd (wstTo s0 0 n (wst s0 1 n f) kk) (mirL kk) 1) (mirR kk n) 1))] _ _ := hw
                        have hw : Wd D _ _ [(m0, .inr (8, [.int vcode, .int vw, .int vh, .int vl, .ref ms, .int vso, .ref mt, .ref mp, .ref mx, .ref my, .ref mw, .ref mh, .int 1, .ref ml, .ref mn, .ref mk, .ref mq, .ref mm])), (mm, aZ k 40 (wstTo s0 0 n (wst s0 1 n f) (kk + 1)))] _ _ := hw.cast (by rw [wstTo_step hpk hkn hn2 hc72, ← wstTo_odd hpo])
                        refine lv_iinc (v := nI (kk + 1)) (lv' := [(6, .int (nI (kk + 1))), (5, .int (nI 0)), (4, .int 1), (3, .int 4), (0, .ref m0), (1, .int (nI s0)), (2, .int (nI n))]) hx hb d_Md_wantLine_118 hl (k := 0) rfl (nI_add kk 1) (by decide) rfl (fun ls hl => ?_)
                        refine lv_goto (tgt := 48) hx hb d_Md_wantLine_121 (by decide) ?_
                        exact ih_L48_1 (kk + 1) _ _ _ (by omega) (by omega) hw (lv_sub hl [0, 1, 2, 3, 4, 5, 6] rfl)
                    · have hk0 : kk = 0 := (nI_eq (b := 0) (by omega) (by omega)).mp hc81
                      refine lv_iconst (v := 1) hx hb d_Md_wantLine_84 (by decide) ?_
                      refine lv_goto (tgt := 92) hx hb d_Md_wantLine_85 (by decide) ?_
                      refine r_topi (y := nI (mirL kk)) (by unfold mirL; rw [if_pos hk0]; rfl) ?_
                      refine lv_iconst (v := 1) hx hb d_Md_wantLine_92 (by decide) ?_
                      refine r_zast hC hw 1 rfl (mirL kk) rfl (by omega) (by decide) (by decide) d_Md_wantLine_93 (fun H locs hw => ?_)
                      have hw : Wd D _ _ [(m0, .inr (8, [.int vcode, .int vw, .int vh, .int vl, .ref ms, .int vso, .ref mt, .ref mp, .ref mx, .ref my, .ref mw, .ref mh, .int 1, .ref ml, .ref mn, .ref mk, .ref mq, .ref mm])), (mm, aZ k 40 (upd (wstTo s0 0 n (wst s0 1 n f) kk) (mirL kk) 1))] _ _ := hw
                      refine lv_aload_n hx hb d_Md_wantLine_94 rfl (lv_at hl 4 rfl) ?_
                      refine r_get hC hw ck_Md 0 rfl 17 (by decide) k_797 rfl rfl d_Md_wantLine_95 ?_
                      refine lv_iload hx hb d_Md_wantLine_98 (lv_at hl 0 rfl) ?_
                      refine lv_iload_n hx hb d_Md_wantLine_100 rfl (lv_at hl 6 rfl) ?_
                      refine lv_iconst (v := 1) hx hb d_Md_wantLine_101 (by decide) ?_
                      refine lv_isub hx hb d_Md_wantLine_102 ?_
                      refine r_topi (y := nI (n - 1)) (pk_sub (b := 1) (by omega)) ?_
                      refine lv_icmp_ne (tgt := 112) hx hb d_Md_wantLine_103 (by decide) (fun hc103 => ?_) (fun hc103 => ?_)
                      · have hkl : ¬ kk + 1 = n := fun e => hc103 (by rw [← e]; rfl)
                        refine lv_iload hx hb d_Md_wantLine_112 (lv_at hl 0 rfl) ?_
                        refine lv_iconst (v := 1) hx hb d_Md_wantLine_114 (by decide) ?_
                        refine lv_iadd hx hb d_Md_wantLine_115 ?_
                        refine r_topi (y := nI (mirR kk n)) (by unfold mirR; rw [if_neg hkl]; exact nI_add kk 1) ?_
                        refine lv_iconst (v := 1) hx hb d_Md_wantLine_116 (by decide) ?_
                        refine r_zast hC hw 1 rfl (mirR kk n) rfl (by omega) (by decide) (by decide) d_Md_wantLine_117 (fun H locs hw => ?_)
                        have hw : Wd D _ _ [(m0, .inr (8, [.int vcode, .int vw, .int vh, .int vl, .ref ms, .int vso, .ref mt, .ref mp, .ref mx, .ref my, .ref mw, .ref mh, .int 1, .ref ml, .ref mn, .ref mk, .ref mq, .ref mm])), (mm, aZ k 40 (upd (upd (wstTo s0 0 n (wst s0 1 n f) kk) (mirL kk) 1) (mirR kk n) 1))] _ _ := hw
                        have hw : Wd D _ _ [(m0, .inr (8, [.int vcode, .int vw, .int vh, .int vl, .ref ms, .int vso, .ref mt, .ref mp, .ref mx, .ref my, .ref mw, .ref mh, .int 1, .ref ml, .ref mn, .ref mk, .ref mq, .ref mm])), (mm, aZ k 40 (wstTo s0 0 n (wst s0 1 n f) (kk + 1)))] _ _ := hw.cast (by rw [wstTo_step hpk hkn hn2 hc72, ← wstTo_odd hpo])
                        refine lv_iinc (v := nI (kk + 1)) (lv' := [(6, .int (nI (kk + 1))), (5, .int (nI 0)), (4, .int 1), (3, .int 4), (0, .ref m0), (1, .int (nI s0)), (2, .int (nI n))]) hx hb d_Md_wantLine_118 hl (k := 0) rfl (nI_add kk 1) (by decide) rfl (fun ls hl => ?_)
                        refine lv_goto (tgt := 48) hx hb d_Md_wantLine_121 (by decide) ?_
                        exact ih_L48_1 (kk + 1) _ _ _ (by omega) (by omega) hw (lv_sub hl [0, 1, 2, 3, 4, 5, 6] rfl)
                      · have hkl : kk + 1 = n := by have := (nI_eq (by omega) (by omega)).mp hc103; omega
                        refine lv_iload_n hx hb d_Md_wantLine_106 rfl (lv_at hl 6 rfl) ?_
                        refine lv_iconst (v := 2) hx hb d_Md_wantLine_107 (by decide) ?_
                        refine lv_isub hx hb d_Md_wantLine_108 ?_
                        refine r_topi (y := nI (mirR kk n)) (by unfold mirR; rw [if_pos hkl]; exact pk_sub (b := 2) (by omega)) ?_
                        refine lv_goto (tgt := 116) hx hb d_Md_wantLine_109 (by decide) ?_
                        refine lv_iconst (v := 1) hx hb d_Md_wantLine_116 (by decide) ?_
                        refine r_zast hC hw 1 rfl (mirR kk n) rfl (by omega) (by decide) (by decide) d_Md_wantLine_117 (fun H locs hw => ?_)
                        have hw : Wd D _ _ [(m0, .inr (8, [.int vcode, .int vw, .int vh, .int vl, .ref ms, .int vso, .ref mt, .ref mp, .ref mx, .ref my, .ref mw, .ref mh, .int 1, .ref ml, .ref mn, .ref mk, .ref mq, .ref mm])), (mm, aZ k 40 (upd (upd (wstTo s0 0 n (wst s0 1 n f) kk) (mirL kk) 1) (mirR kk n) 1))] _ _ := hw
                        have hw : Wd D _ _ [(m0, .inr (8, [.int vcode, .int vw, .int vh, .int vl, .ref ms, .int vso, .ref mt, .ref mp, .ref mx, .ref my, .ref mw, .ref mh, .int 1, .ref ml, .ref mn, .ref mk, .ref mq, .ref mm])), (mm, aZ k 40 (wstTo s0 0 n (wst s0 1 n f) (kk + 1)))] _ _ := hw.cast (by rw [wstTo_step hpk hkn hn2 hc72, ← wstTo_odd hpo])
                        refine lv_iinc (v := nI (kk + 1)) (lv' := [(6, .int (nI (kk + 1))), (5, .int (nI 0)), (4, .int 1), (3, .int 4), (0, .ref m0), (1, .int (nI s0)), (2, .int (nI n))]) hx hb d_Md_wantLine_118 hl (k := 0) rfl (nI_add kk 1) (by decide) rfl (fun ls hl => ?_)
                        refine lv_goto (tgt := 48) hx hb d_Md_wantLine_121 (by decide) ?_
                        exact ih_L48_1 (kk + 1) _ _ _ (by omega) (by omega) hw (lv_sub hl [0, 1, 2, 3, 4, 5, 6] rfl)
          exact L48_1 (n + 1) 0 _ _ _ (by omega) (by omega) hw (lv_sub hl [0, 1, 2, 3, 4, 5, 6] rfl)
        · have hkn : kk < n := le_nI hc51 (by omega) (by omega)
          have hn2 : 2 ≤ n := by omega
          refine lv_iload_n hx hb d_Md_wantLine_54 rfl (lv_at hl 5 rfl) ?_
          refine lv_iload hx hb d_Md_wantLine_55 (lv_at hl 0 rfl) ?_
          refine lv_iadd hx hb d_Md_wantLine_57 ?_
          refine r_topi (y := nI (s0 + kk)) (nI_add _ _) ?_
          refine lv_iconst (v := 2) hx hb d_Md_wantLine_58 (by decide) ?_
          refine lv_irem hx hb d_Md_wantLine_59 (by decide) ?_
          refine r_topi (y := nI ((s0 + kk) % 2)) (rem2 (by omega)) ?_
          refine lv_iload hx hb d_Md_wantLine_60 (lv_at hl 1 rfl) ?_
          refine lv_icmp_ne (tgt := 118) hx hb d_Md_wantLine_62 (by decide) (fun hc62 => ?_) (fun hc62 => ?_)
          · have hpk : ¬ (s0 + kk) % 2 = 1 % 2 := fun q => hc62 (by rw [q])
            have hw : Wd D _ _ [(m0, .inr (8, [.int vcode, .int vw, .int vh, .int vl, .ref ms, .int vso, .ref mt, .ref mp, .ref mx, .ref my, .ref mw, .ref mh, .int 1, .ref ml, .ref mn, .ref mk, .ref mq, .ref mm])), (mm, aZ k 40 (wstTo s0 1 n f (kk + 1)))] _ _ := hw.cast (by rw [wstTo_odd hpk])
            refine lv_iinc (v := nI (kk + 1)) (lv' := [(6, .int (nI (kk + 1))), (5, .int (nI 1)), (4, .int 0), (3, .int 4), (0, .ref m0), (1, .int (nI s0)), (2, .int (nI n))]) hx hb d_Md_wantLine_118 hl (k := 0) rfl (nI_add kk 1) (by decide) rfl (fun ls hl => ?_)
            refine lv_goto (tgt := 48) hx hb d_Md_wantLine_121 (by decide) ?_
            exact ih_L48_0 (kk + 1) _ _ _ (by omega) (by omega) hw (lv_sub hl [0, 1, 2, 3, 4, 5, 6] rfl)
          · have hpk : (s0 + kk) % 2 = 1 % 2 := (nI_eq (b := 1) (by omega) (by omega)).mp hc62
            have hpo : ¬ (s0 + (kk + 1)) % 2 = 1 % 2 := by omega
            refine lv_aload_n hx hb d_Md_wantLine_65 rfl (lv_at hl 4 rfl) ?_
            refine r_get hC hw ck_Md 0 rfl 17 (by decide) k_797 rfl rfl d_Md_wantLine_66 ?_
            refine lv_iload hx hb d_Md_wantLine_69 (lv_at hl 0 rfl) ?_
            refine r_zald hC hw 1 rfl kk rfl (by omega) (by decide) d_Md_wantLine_71 ?_
            refine r_topi (y := f kk) (wstTo_par hpk) ?_
            refine lv_if_eq (tgt := 118) hx hb d_Md_wantLine_72 (by decide) (fun hc72 => ?_) (fun hc72 => ?_)
            · have hw : Wd D _ _ [(m0, .inr (8, [.int vcode, .int vw, .int vh, .int vl, .ref ms, .int vso, .ref mt, .ref mp, .ref mx, .ref my, .ref mw, .ref mh, .int 1, .ref ml, .ref mn, .ref mk, .ref mq, .ref mm])), (mm, aZ k 40 (wstTo s0 1 n f (kk + 1)))] _ _ := hw.cast (by rw [wstTo_skip hpk hc72, ← wstTo_odd hpo])
              refine lv_iinc (v := nI (kk + 1)) (lv' := [(6, .int (nI (kk + 1))), (5, .int (nI 1)), (4, .int 0), (3, .int 4), (0, .ref m0), (1, .int (nI s0)), (2, .int (nI n))]) hx hb d_Md_wantLine_118 hl (k := 0) rfl (nI_add kk 1) (by decide) rfl (fun ls hl => ?_)
              refine lv_goto (tgt := 48) hx hb d_Md_wantLine_121 (by decide) ?_
              exact ih_L48_0 (kk + 1) _ _ _ (by omega) (by omega) hw (lv_sub hl [0, 1, 2, 3, 4, 5, 6] rfl)
            · refine lv_aload_n hx hb d_Md_wantLine_75 rfl (lv_at hl 4 rfl) ?_
              refine r_get hC hw ck_Md 0 rfl 17 (by decide) k_797 rfl rfl d_Md_wantLine_76 ?_
              refine lv_iload hx hb d_Md_wantLine_79 (lv_at hl 0 rfl) ?_
              have hmL := mirL_lt hkn hn2
              have hmR := mirR_lt hkn hn2
              refine lv_if_ne (tgt := 88) hx hb d_Md_wantLine_81 (by decide) (fun hc81 => ?_) (fun hc81 => ?_)
              · have hk0 : kk ≠ 0 := fun e => hc81 (by rw [e]; rfl)
                refine lv_iload hx hb d_Md_wantLine_88 (lv_at hl 0 rfl) ?_
                refine lv_iconst (v := 1) hx hb d_Md_wantLine_90 (by decide) ?_
                refine lv_isub hx hb d_Md_wantLine_91 ?_
                refine r_topi (y := nI (mirL kk)) (by unfold mirL; rw [if_neg hk0]; exact pk_sub (b := 1) (by omega)) ?_
                refine lv_iconst (v := 1) hx hb d_Md_wantLine_92 (by decide) ?_
                refine r_zast hC hw 1 rfl (mirL kk) rfl (by omega) (by decide) (by decide) d_Md_wantLine_93 (fun H locs hw => ?_)
                have hw : Wd D _ _ [(m0, .inr (8, [.int vcode, .int vw, .int vh, .int vl, .ref ms, .int vso, .ref mt, .ref mp, .ref mx, .ref my, .ref mw, .ref mh, .int 1, .ref ml, .ref mn, .ref mk, .ref mq, .ref mm])), (mm, aZ k 40 (upd (wstTo s0 1 n f kk) (mirL kk) 1))] _ _ := hw
                refine lv_aload_n hx hb d_Md_wantLine_94 rfl (lv_at hl 4 rfl) ?_
                refine r_get hC hw ck_Md 0 rfl 17 (by decide) k_797 rfl rfl d_Md_wantLine_95 ?_
                refine lv_iload hx hb d_Md_wantLine_98 (lv_at hl 0 rfl) ?_
                refine lv_iload_n hx hb d_Md_wantLine_100 rfl (lv_at hl 6 rfl) ?_
                refine lv_iconst (v := 1) hx hb d_Md_wantLine_101 (by decide) ?_
                refine lv_isub hx hb d_Md_wantLine_102 ?_
                refine r_topi (y := nI (n - 1)) (pk_sub (b := 1) (by omega)) ?_
                refine lv_icmp_ne (tgt := 112) hx hb d_Md_wantLine_103 (by decide) (fun hc103 => ?_) (fun hc103 => ?_)
                · have hkl : ¬ kk + 1 = n := fun e => hc103 (by rw [← e]; rfl)
                  refine lv_iload hx hb d_Md_wantLine_112 (lv_at hl 0 rfl) ?_
                  refine lv_iconst (v := 1) hx hb d_Md_wantLine_114 (by decide) ?_
                  refine lv_iadd hx hb d_Md_wantLine_115 ?_
                  refine r_topi (y := nI (mirR kk n)) (by unfold mirR; rw [if_neg hkl]; exact nI_add kk 1) ?_
                  refine lv_iconst (v := 1) hx hb d_Md_wantLine_116 (by decide) ?_
                  refine r_zast hC hw 1 rfl (mirR kk n) rfl (by omega) (by decide) (by decide) d_Md_wantLine_117 (fun H locs hw => ?_)
                  have hw : Wd D _ _ [(m0, .inr (8, [.int vcode, .int vw, .int vh, .int vl, .ref ms, .int vso, .ref mt, .ref mp, .ref mx, .ref my, .ref mw, .ref mh, .int 1, .ref ml, .ref mn, .ref mk, .ref mq, .ref mm])), (mm, aZ k 40 (upd (upd (wstTo s0 1 n f kk) (mirL kk) 1) (mirR kk n) 1))] _ _ := hw
                  have hw : Wd D _ _ [(m0, .inr (8, [.int vcode, .int vw, .int vh, .int vl, .ref ms, .int vso, .ref mt, .ref mp, .ref mx, .ref my, .ref mw, .ref mh, .int 1, .ref ml, .ref mn, .ref mk, .ref mq, .ref mm])), (mm, aZ k 40 (wstTo s0 1 n f (kk + 1)))] _ _ := hw.cast (by rw [wstTo_step hpk hkn hn2 hc72, ← wstTo_odd hpo])
                  refine lv_iinc (v := nI (kk + 1)) (lv' := [(6, .int (nI (kk + 1))), (5, .int (nI 1)), (4, .int 0), (3, .int 4), (0, .ref m0), (1, .int (nI s0)), (2, .int (nI n))]) hx hb d_Md_wantLine_118 hl (k := 0) rfl (nI_add kk 1) (by decide) rfl (fun ls hl => ?_)
                  refine lv_goto (tgt := 48) hx hb d_Md_wantLine_121 (by decide) ?_
                  exact ih_L48_0 (kk + 1) _ _ _ (by omega) (by omega) hw (lv_sub hl [0, 1, 2, 3, 4, 5, 6] rfl)
                · have hkl : kk + 1 = n := by have := (nI_eq (by omega) (by omega)).mp hc103; omega
                  refine lv_iload_n hx hb d_Md_wantLine_106 rfl (lv_at hl 6 rfl) ?_
                  refine lv_iconst (v := 2) hx hb d_Md_wantLine_107 (by decide) ?_
                  refine lv_isub hx hb d_Md_wantLine_108 ?_
                  refine r_topi (y := nI (mirR kk n)) (by unfold mirR; rw [if_pos hkl]; exact pk_sub (b := 2) (by omega)) ?_
                  refine lv_goto (tgt := 116) hx hb d_Md_wantLine_109 (by decide) ?_
                  refine lv_iconst (v := 1) hx hb d_Md_wantLine_116 (by decide) ?_
                  refine r_zast hC hw 1 rfl (mirR kk n) rfl (by omega) (by decide) (by decide) d_Md_wantLine_117 (fun H locs hw => ?_)
                  have hw : Wd D _ _ [(m0, .inr (8, [.int vcode, .int vw, .int vh, .int vl, .ref ms, .int vso, .ref mt, .ref mp, .ref mx, .ref my, .ref mw, .ref mh, .int 1, .ref ml, .ref mn, .ref mk, .ref mq, .ref mm])), (mm, aZ k 40 (upd (upd (wstTo s0 1 n f kk) (mirL kk) 1) (mirR kk n) 1))] _ _ := hw
                  have hw : Wd D _ _ [(m0, .inr (8, [.int vcode, .int vw, .int vh, .int vl, .ref ms, .int vso, .ref mt, .ref mp, .ref mx, .ref my, .ref mw, .ref mh, .int 1, .ref ml, .ref mn, .ref mk, .ref mq, .ref mm])), (mm, aZ k 40 (wstTo s0 1 n f (kk + 1)))] _ _ := hw.cast (by rw [wstTo_step hpk hkn hn2 hc72, ← wstTo_odd hpo])
                  refine lv_iinc (v := nI (kk + 1)) (lv' := [(6, .int (nI (kk + 1))), (5, .int (nI 1)), (4, .int 0), (3, .int 4), (0, .ref m0), (1, .int (nI s0)), (2, .int (nI n))]) hx hb d_Md_wantLine_118 hl (k := 0) rfl (nI_add kk 1) (by decide) rfl (fun ls hl => ?_)
                  refine lv_goto (tgt := 48) hx hb d_Md_wantLine_121 (by decide) ?_
                  exact ih_L48_0 (kk + 1) _ _ _ (by omega) (by omega) hw (lv_sub hl [0, 1, 2, 3, 4, 5, 6] rfl)
              · have hk0 : kk = 0 := (nI_eq (b := 0) (by omega) (by omega)).mp hc81
                refine lv_iconst (v := 1) hx hb d_Md_wantLine_84 (by decide) ?_
                refine lv_goto (tgt := 92) hx hb d_Md_wantLine_85 (by decide) ?_
                refine r_topi (y := nI (mirL kk)) (by unfold mirL; rw [if_pos hk0]; rfl) ?_
                refine lv_iconst (v := 1) hx hb d_Md_wantLine_92 (by decide) ?_
                refine r_zast hC hw 1 rfl (mirL kk) rfl (by omega) (by decide) (by decide) d_Md_wantLine_93 (fun H locs hw => ?_)
                have hw : Wd D _ _ [(m0, .inr (8, [.int vcode, .int vw, .int vh, .int vl, .ref ms, .int vso, .ref mt, .ref mp, .ref mx, .ref my, .ref mw, .ref mh, .int 1, .ref ml, .ref mn, .ref mk, .ref mq, .ref mm])), (mm, aZ k 40 (upd (wstTo s0 1 n f kk) (mirL kk) 1))] _ _ := hw
                refine lv_aload_n hx hb d_Md_wantLine_94 rfl (lv_at hl 4 rfl) ?_
                refine r_get hC hw ck_Md 0 rfl 17 (by decide) k_797 rfl rfl d_Md_wantLine_95 ?_
                refine lv_iload hx hb d_Md_wantLine_98 (lv_at hl 0 rfl) ?_
                refine lv_iload_n hx hb d_Md_wantLine_100 rfl (lv_at hl 6 rfl) ?_
                refine lv_iconst (v := 1) hx hb d_Md_wantLine_101 (by decide) ?_
                refine lv_isub hx hb d_Md_wantLine_102 ?_
                refine r_topi (y := nI (n - 1)) (pk_sub (b := 1) (by omega)) ?_
                refine lv_icmp_ne (tgt := 112) hx hb d_Md_wantLine_103 (by decide) (fun hc103 => ?_) (fun hc103 => ?_)
                · have hkl : ¬ kk + 1 = n := fun e => hc103 (by rw [← e]; rfl)
                  refine lv_iload hx hb d_Md_wantLine_112 (lv_at hl 0 rfl) ?_
                  refine lv_iconst (v := 1) hx hb d_Md_wantLine_114 (by decide) ?_
                  refine lv_iadd hx hb d_Md_wantLine_115 ?_
                  refine r_topi (y := nI (mirR kk n)) (by unfold mirR; rw [if_neg hkl]; exact nI_add kk 1) ?_
                  refine lv_iconst (v := 1) hx hb d_Md_wantLine_116 (by decide) ?_
                  refine r_zast hC hw 1 rfl (mirR kk n) rfl (by omega) (by decide) (by decide) d_Md_wantLine_117 (fun H locs hw => ?_)
                  have hw : Wd D _ _ [(m0, .inr (8, [.int vcode, .int vw, .int vh, .int vl, .ref ms, .int vso, .ref mt, .ref mp, .ref mx, .ref my, .ref mw, .ref mh, .int 1, .ref ml, .ref mn, .ref mk, .ref mq, .ref mm])), (mm, aZ k 40 (upd (upd (wstTo s0 1 n f kk) (mirL kk) 1) (mirR kk n) 1))] _ _ := hw
                  have hw : Wd D _ _ [(m0, .inr (8, [.int vcode, .int vw, .int vh, .int vl, .ref ms, .int vso, .ref mt, .ref mp, .ref mx, .ref my, .ref mw, .ref mh, .int 1, .ref ml, .ref mn, .ref mk, .ref mq, .ref mm])), (mm, aZ k 40 (wstTo s0 1 n f (kk + 1)))] _ _ := hw.cast (by rw [wstTo_step hpk hkn hn2 hc72, ← wstTo_odd hpo])
                  refine lv_iinc (v := nI (kk + 1)) (lv' := [(6, .int (nI (kk + 1))), (5, .int (nI 1)), (4, .int 0), (3, .int 4), (0, .ref m0), (1, .int (nI s0)), (2, .int (nI n))]) hx hb d_Md_wantLine_118 hl (k := 0) rfl (nI_add kk 1) (by decide) rfl (fun ls hl => ?_)
                  refine lv_goto (tgt := 48) hx hb d_Md_wantLine_121 (by decide) ?_
                  exact ih_L48_0 (kk + 1) _ _ _ (by omega) (by omega) hw (lv_sub hl [0, 1, 2, 3, 4, 5, 6] rfl)
                · have hkl : kk + 1 = n := by have := (nI_eq (by omega) (by omega)).mp hc103; omega
                  refine lv_iload_n hx hb d_Md_wantLine_106 rfl (lv_at hl 6 rfl) ?_
                  refine lv_iconst (v := 2) hx hb d_Md_wantLine_107 (by decide) ?_
                  refine lv_isub hx hb d_Md_wantLine_108 ?_
                  refine r_topi (y := nI (mirR kk n)) (by unfold mirR; rw [if_pos hkl]; exact pk_sub (b := 2) (by omega)) ?_
                  refine lv_goto (tgt := 116) hx hb d_Md_wantLine_109 (by decide) ?_
                  refine lv_iconst (v := 1) hx hb d_Md_wantLine_116 (by decide) ?_
                  refine r_zast hC hw 1 rfl (mirR kk n) rfl (by omega) (by decide) (by decide) d_Md_wantLine_117 (fun H locs hw => ?_)
                  have hw : Wd D _ _ [(m0, .inr (8, [.int vcode, .int vw, .int vh, .int vl, .ref ms, .int vso, .ref mt, .ref mp, .ref mx, .ref my, .ref mw, .ref mh, .int 1, .ref ml, .ref mn, .ref mk, .ref mq, .ref mm])), (mm, aZ k 40 (upd (upd (wstTo s0 1 n f kk) (mirL kk) 1) (mirR kk n) 1))] _ _ := hw
                  have hw : Wd D _ _ [(m0, .inr (8, [.int vcode, .int vw, .int vh, .int vl, .ref ms, .int vso, .ref mt, .ref mp, .ref mx, .ref my, .ref mw, .ref mh, .int 1, .ref ml, .ref mn, .ref mk, .ref mq, .ref mm])), (mm, aZ k 40 (wstTo s0 1 n f (kk + 1)))] _ _ := hw.cast (by rw [wstTo_step hpk hkn hn2 hc72, ← wstTo_odd hpo])
                  refine lv_iinc (v := nI (kk + 1)) (lv' := [(6, .int (nI (kk + 1))), (5, .int (nI 1)), (4, .int 0), (3, .int 4), (0, .ref m0), (1, .int (nI s0)), (2, .int (nI n))]) hx hb d_Md_wantLine_118 hl (k := 0) rfl (nI_add kk 1) (by decide) rfl (fun ls hl => ?_)
                  refine lv_goto (tgt := 48) hx hb d_Md_wantLine_121 (by decide) ?_
                  exact ih_L48_0 (kk + 1) _ _ _ (by omega) (by omega) hw (lv_sub hl [0, 1, 2, 3, 4, 5, 6] rfl)
    exact L48_0 (n + 1) 0 _ _ _ (by omega) (by omega) hw (lv_sub hl [0, 1, 2, 3, 4, 5, 6] rfl)
  · have hn1 : n = 1 := nI_eq1 hc2 (by omega)
    refine lv_iconst (v := 0) hx hb d_Md_wantLine_5 (by decide) ?_
    refine lv_goto (tgt := 21) hx hb d_Md_wantLine_6 (by decide) ?_
    refine lv_istore_n (lv' := [(3, .int 0), (0, .ref m0), (1, .int (nI s0)), (2, .int (nI n))]) hx hb d_Md_wantLine_21 rfl hl (by decide) rfl (fun ls hl => ?_)
    refine lv_iconst (v := 0) hx hb d_Md_wantLine_22 (by decide) ?_
    refine lv_istore (lv' := [(4, .int 0), (3, .int 0), (0, .ref m0), (1, .int (nI s0)), (2, .int (nI n))]) hx hb d_Md_wantLine_23 hl (by decide) rfl (fun ls hl => ?_)
    refine lv_iload hx hb d_Md_wantLine_25 (lv_at hl 0 rfl) ?_
    refine lv_iload_n hx hb d_Md_wantLine_27 rfl (lv_at hl 1 rfl) ?_
    refine lv_icmp_ge (tgt := 130) hx hb d_Md_wantLine_28 (by decide) (fun hc28 => ?_) (fun hc28 => absurd (by decide) hc28)
    have hw : Wd D _ _ [(m0, .inr (8, [.int vcode, .int vw, .int vh, .int vl, .ref ms, .int vso, .ref mt, .ref mp, .ref mx, .ref my, .ref mw, .ref mh, .int 1, .ref ml, .ref mn, .ref mk, .ref mq, .ref mm])), (mm, aZ k 40 (wnt4 s0 n f))] _ _ := hw.cast (by unfold wnt4; rw [if_pos (by omega)])
    exact ew_v (w1 := [(m0, .inr (8, [.int vcode, .int vw, .int vh, .int vl, .ref ms, .int vso, .ref mt, .ref mp, .ref mx, .ref my, .ref mw, .ref mh, .int 1, .ref ml, .ref mn, .ref mk, .ref mq, .ref mm])), (mm, aZ k 40 (wnt4 s0 n f))]) hC hw [0, 1] rfl rfl ⟨rfl, rfl⟩ d_Md_wantLine_130
abbrev rm_Md_wlW : Room := { frames := 0, cells := 0, slots := 0, locals := 0 }
set_option maxHeartbeats 4000000 in
set_option maxRecDepth 100000 in
/-- Model.wantLine -/
theorem c_Md_wlW (l : Launch) (D : va_G) (k : Nat → ClassId) (sz : Nat) (m0 ms mt mp mx my mw mh ml mn mk mq mm : Nat) (vcode vw vh vl vso : Int32) (f : Nat → Int32) (s0 n : Nat) (hs : s0 ≤ 1000) (hn : n ≤ 40) : Met l y_Md_wantLine (Cond.code y_Md_wantLine b_Md_wantLine 7 none :: lw_g) rm_Md_wlW (Pw D k [(m0, .inr (8, [.int vcode, .int vw, .int vh, .int vl, .ref ms, .int vso, .ref mt, .ref mp, .ref mx, .ref my, .ref mw, .ref mh, .int 0, .ref ml, .ref mn, .ref mk, .ref mq, .ref mm])), (mm, aZ k 40 f)] sz [.ref m0, .int (nI s0), .int (nI n)]) (Qw D (va_A [(m0, .inr (8, [.int vcode, .int vw, .int vh, .int vl, .ref ms, .int vso, .ref mt, .ref mp, .ref mx, .ref my, .ref mw, .ref mh, .int 0, .ref ml, .ref mn, .ref mk, .ref mq, .ref mm])), (mm, aZ k 40 f)] sz) (fun v w1 => v = none ∧ w1 = [(m0, .inr (8, [.int vcode, .int vw, .int vh, .int vl, .ref ms, .int vso, .ref mt, .ref mp, .ref mx, .ref my, .ref mw, .ref mh, .int 0, .ref ml, .ref mn, .ref mk, .ref mq, .ref mm])), (mm, aZ k 40 (wnt2 s0 n f))])) 0 0 (va_A [(m0, .inr (8, [.int vcode, .int vw, .int vh, .int vl, .ref ms, .int vso, .ref mt, .ref mp, .ref mx, .ref my, .ref mw, .ref mh, .int 0, .ref ml, .ref mn, .ref mk, .ref mq, .ref mm])), (mm, aZ k 40 f)] sz) := by
  refine met_of (by decide +kernel) ?_
  intro p e s m below meth c hC hsz hw hin
  subst hsz
  have hC : Cx D k p s m _ meth c "LiftBandsModel" b_Md_wantLine 7 none := hC
  have hx := hC.1
  have hb := hC.2.1
  refine r_ent (Nat.le_of_ble_eq_true rfl) rfl (fun ls hl => ?_)
  have hl : lv_has ls 7 [(0, .ref m0), (1, .int (nI s0)), (2, .int (nI n))] := hl
  have hw : Wd D (va_A [(m0, .inr (8, [.int vcode, .int vw, .int vh, .int vl, .ref ms, .int vso, .ref mt, .ref mp, .ref mx, .ref my, .ref mw, .ref mh, .int 0, .ref ml, .ref mn, .ref mk, .ref mq, .ref mm])), (mm, aZ k 40 f)] s.heap.size) s.heap [(m0, .inr (8, [.int vcode, .int vw, .int vh, .int vl, .ref ms, .int vso, .ref mt, .ref mp, .ref mx, .ref my, .ref mw, .ref mh, .int 0, .ref ml, .ref mn, .ref mk, .ref mq, .ref mm])), (mm, aZ k 40 f)] s.heap [] := hw
  generalize va_A [(m0, .inr (8, [.int vcode, .int vw, .int vh, .int vl, .ref ms, .int vso, .ref mt, .ref mp, .ref mx, .ref my, .ref mw, .ref mh, .int 0, .ref ml, .ref mn, .ref mk, .ref mq, .ref mm])), (mm, aZ k 40 f)] s.heap.size = A at hw ⊢
  generalize ([.ref m0, .int (nI s0), .int (nI n)] : List Value).toArray = args at hC ⊢
  refine lv_iload_n hx hb d_Md_wantLine_0 rfl (lv_at hl 2 rfl) ?_
  refine lv_iconst (v := 1) hx hb d_Md_wantLine_1 (by decide) ?_
  refine lv_icmp_ne (tgt := 9) hx hb d_Md_wantLine_2 (by decide) (fun hc2 => ?_) (fun hc2 => ?_)
  · have hn1 : n ≠ 1 := nI_ne1 hc2
    refine lv_aload_n hx hb d_Md_wantLine_9 rfl (lv_at hl 0 rfl) ?_
    refine r_get hC hw ck_Md 0 rfl 12 (by decide) k_792 rfl rfl d_Md_wantLine_10 ?_
    refine lv_if_eq (tgt := 20) hx hb d_Md_wantLine_13 (by decide) (fun hc13 => ?_) (fun hc13 => absurd rfl hc13)
    refine lv_iconst (v := 2) hx hb d_Md_wantLine_20 (by decide) ?_
    refine lv_istore_n (lv' := [(3, .int 2), (0, .ref m0), (1, .int (nI s0)), (2, .int (nI n))]) hx hb d_Md_wantLine_21 rfl hl (by decide) rfl (fun ls hl => ?_)
    refine lv_iconst (v := 0) hx hb d_Md_wantLine_22 (by decide) ?_
    refine lv_istore (lv' := [(4, .int 0), (3, .int 2), (0, .ref m0), (1, .int (nI s0)), (2, .int (nI n))]) hx hb d_Md_wantLine_23 hl (by decide) rfl (fun ls hl => ?_)
    refine lv_iload hx hb d_Md_wantLine_25 (lv_at hl 0 rfl) ?_
    refine lv_iload_n hx hb d_Md_wantLine_27 rfl (lv_at hl 1 rfl) ?_
    refine lv_icmp_ge (tgt := 130) hx hb d_Md_wantLine_28 (by decide) (fun hc28 => absurd hc28 (by decide)) (fun hc28 => ?_)
    refine lv_iload hx hb d_Md_wantLine_31 (lv_at hl 0 rfl) ?_
    refine lv_iconst (v := 2) hx hb d_Md_wantLine_33 (by decide) ?_
    refine lv_irem hx hb d_Md_wantLine_34 (by decide) ?_
    refine r_topi (y := nI 0) (by decide) ?_
    refine lv_if_ne (tgt := 42) hx hb d_Md_wantLine_35 (by decide) (fun hc35 => absurd hc35 (by decide)) (fun hc35 => ?_)
    refine lv_iconst (v := 1) hx hb d_Md_wantLine_38 (by decide) ?_
    refine lv_goto (tgt := 43) hx hb d_Md_wantLine_39 (by decide) ?_
    refine lv_istore (lv' := [(5, .int 1), (4, .int 0), (3, .int 2), (0, .ref m0), (1, .int (nI s0)), (2, .int (nI n))]) hx hb d_Md_wantLine_43 hl (by decide) rfl (fun ls hl => ?_)
    refine lv_iconst (v := 0) hx hb d_Md_wantLine_45 (by decide) ?_
    refine lv_istore (lv' := [(6, .int 0), (5, .int 1), (4, .int 0), (3, .int 2), (0, .ref m0), (1, .int (nI s0)), (2, .int (nI n))]) hx hb d_Md_wantLine_46 hl (by decide) rfl (fun ls hl => ?_)
    have hl : lv_has ls 7 [(6, .int (nI 0)), (5, .int (nI 1)), (4, .int 0), (3, .int 2), (0, .ref m0), (1, .int (nI s0)), (2, .int (nI n))] := lv_sub hl [0, 1, 2, 3, 4, 5, 6] rfl
    have hw : Wd D _ _ [(m0, .inr (8, [.int vcode, .int vw, .int vh, .int vl, .ref ms, .int vso, .ref mt, .ref mp, .ref mx, .ref my, .ref mw, .ref mh, .int 0, .ref ml, .ref mn, .ref mk, .ref mq, .ref mm])), (mm, aZ k 40 (wstTo s0 1 n f 0))] _ _ := hw.cast (by rw [← wstTo_00])
    have L48_0 : ∀ (fu : Nat) (kk : Nat) (H : Heap) (locs : List Loc) (ls : Array Slot), n - kk < fu → kk ≤ n → Wd D A s.heap [(m0, .inr (8, [.int vcode, .int vw, .int vh, .int vl, .ref ms, .int vso, .ref mt, .ref mp, .ref mx, .ref my, .ref mw, .ref mh, .int 0, .ref ml, .ref mn, .ref mk, .ref mq, .ref mm])), (mm, aZ k 40 (wstTo s0 1 n f kk))] H locs → lv_has ls 7 [(6, .int (nI kk)), (5, .int (nI 1)), (4, .int 0), (3, .int 2), (0, .ref m0), (1, .int (nI s0)), (2, .int (nI n))] → W p l e rm_Md_wlW s m args below meth c H locs 0 0 (MQ below (Qw D A (fun v w1 => v = none ∧ w1 = [(m0, .inr (8, [.int vcode, .int vw, .int vh, .int vl, .ref ms, .int vso, .ref mt, .ref mp, .ref mx, .ref my, .ref mw, .ref mh, .int 0, .ref ml, .ref mn, .ref mk, .ref mq, .ref mm])), (mm, aZ k 40 (wnt2 s0 n f))])) args s 0 0 A) (F0 m 48 ls []) := by
      intro fu
      induction fu with
      | zero => intro kk H locs ls hfu; exact absurd hfu (Nat.not_lt_zero _)
      | succ fu ih_L48_0 =>
        intro kk H locs ls hfu_L48_0 hkb hw hl
        refine lv_iload hx hb d_Md_wantLine_48 (lv_at hl 0 rfl) ?_
        refine lv_iload_n hx hb d_Md_wantLine_50 rfl (lv_at hl 6 rfl) ?_
        refine lv_icmp_ge (tgt := 124) hx hb d_Md_wantLine_51 (by decide) (fun hc51 => ?_) (fun hc51 => ?_)
        · have hkn : n ≤ kk := (nI_leI (by omega) (by omega)).mp hc51
          have hw : Wd D _ _ [(m0, .inr (8, [.int vcode, .int vw, .int vh, .int vl, .ref ms, .int vso, .ref mt, .ref mp, .ref mx, .ref my, .ref mw, .ref mh, .int 0, .ref ml, .ref mn, .ref mk, .ref mq, .ref mm])), (mm, aZ k 40 (wst s0 1 n f))] H locs := hw.cast (by rw [wstTo_end hkn])
          refine lv_iinc (v := 1) (lv' := [(4, .int 1), (6, .int (nI kk)), (5, .int (nI 1)), (3, .int 2), (0, .ref m0), (1, .int (nI s0)), (2, .int (nI n))]) hx hb d_Md_wantLine_124 hl (k := 2) rfl (by decide) (by decide) rfl (fun ls hl => ?_)
          refine lv_goto (tgt := 25) hx hb d_Md_wantLine_127 (by decide) ?_
          refine lv_iload hx hb d_Md_wantLine_25 (lv_at hl 0 rfl) ?_
          refine lv_iload_n hx hb d_Md_wantLine_27 rfl (lv_at hl 3 rfl) ?_
          refine lv_icmp_ge (tgt := 130) hx hb d_Md_wantLine_28 (by decide) (fun hc28 => absurd hc28 (by decide)) (fun hc28 => ?_)
          refine lv_iload hx hb d_Md_wantLine_31 (lv_at hl 0 rfl) ?_
          refine lv_iconst (v := 2) hx hb d_Md_wantLine_33 (by decide) ?_
          refine lv_irem hx hb d_Md_wantLine_34 (by decide) ?_
          refine r_topi (y := nI 1) (by decide) ?_
          refine lv_if_ne (tgt := 42) hx hb d_Md_wantLine_35 (by decide) (fun hc35 => ?_) (fun hc35 => absurd hc35 (by decide))
          refine lv_iconst (v := 0) hx hb d_Md_wantLine_42 (by decide) ?_
          refine lv_istore (lv' := [(5, .int 0), (4, .int 1), (6, .int (nI kk)), (3, .int 2), (0, .ref m0), (1, .int (nI s0)), (2, .int (nI n))]) hx hb d_Md_wantLine_43 hl (by decide) rfl (fun ls hl => ?_)
          refine lv_iconst (v := 0) hx hb d_Md_wantLine_45 (by decide) ?_
          refine lv_istore (lv' := [(6, .int 0), (5, .int 0), (4, .int 1), (3, .int 2), (0, .ref m0), (1, .int (nI s0)), (2, .int (nI n))]) hx hb d_Md_wantLine_46 hl (by decide) rfl (fun ls hl => ?_)
          have hl : lv_has ls 7 [(6, .int (nI 0)), (5, .int (nI 0)), (4, .int 1), (3, .int 2), (0, .ref m0), (1, .int (nI s0)), (2, .int (nI n))] := lv_sub hl [0, 1, 2, 3, 4, 5, 6] rfl
          have hw : Wd D _ _ [(m0, .inr (8, [.int vcode, .int vw, .int vh, .int vl, .ref ms, .int vso, .ref mt, .ref mp, .ref mx, .ref my, .ref mw, .ref mh, .int 0, .ref ml, .ref mn, .ref mk, .ref mq, .ref mm])), (mm, aZ k 40 (wstTo s0 0 n (wst s0 1 n f) 0))] _ _ := hw.cast (by rw [← wstTo_00])
          have L48_1 : ∀ (fu : Nat) (kk : Nat) (H : Heap) (locs : List Loc) (ls : Array Slot), n - kk < fu → kk ≤ n → Wd D A s.heap [(m0, .inr (8, [.int vcode, .int vw, .int vh, .int vl, .ref ms, .int vso, .ref mt, .ref mp, .ref mx, .ref my, .ref mw, .ref mh, .int 0, .ref ml, .ref mn, .ref mk, .ref mq, .ref mm])), (mm, aZ k 40 (wstTo s0 0 n (wst s0 1 n f) kk))] H locs → lv_has ls 7 [(6, .int (nI kk)), (5, .int (nI 0)), (4, .int 1), (3, .int 2), (0, .ref m0), (1, .int (nI s0)), (2, .int (nI n))] → W p l e rm_Md_wlW s m args below meth c H locs 0 0 (MQ below (Qw D A (fun v w1 => v = none ∧ w1 = [(m0, .inr (8, [.int vcode, .int vw, .int vh, .int vl, .ref ms, .int vso, .ref mt, .ref mp, .ref mx, .ref my, .ref mw, .ref mh, .int 0, .ref ml, .ref mn, .ref mk, .ref mq, .ref mm])), (mm, aZ k 40 (wnt2 s0 n f))])) args s 0 0 A) (F0 m 48 ls []) := by
            intro fu
            induction fu with
            | zero => intro kk H locs ls hfu; exact absurd hfu (Nat.not_lt_zero _)
            | succ fu ih_L48_1 =>
              intro kk H locs ls hfu_L48_1 hkb hw hl
              refine lv_iload hx hb d_Md_wantLine_48 (lv_at hl 0 rfl) ?_
              refine lv_iload_n hx hb d_Md_wantLine_50 rfl (lv_at hl 6 rfl) ?_
              refine lv_icmp_ge (tgt := 124) hx hb d_Md_wantLine_51 (by decide) (fun hc51 => ?_) (fun hc51 => ?_)
              · have hkn : n ≤ kk := (nI_leI (by omega) (by omega)).mp hc51
                have hw : Wd D _ _ [(m0, .inr (8, [.int vcode, .int vw, .int vh, .int vl, .ref ms, .int vso, .ref mt, .ref mp, .ref mx, .ref my, .ref mw, .ref mh, .int 0, .ref ml, .ref mn, .ref mk, .ref mq, .ref mm])), (mm, aZ k 40 (wst s0 0 n (wst s0 1 n f)))] H locs := hw.cast (by rw [wstTo_end hkn])
                refine lv_iinc (v := 2) (lv' := [(4, .int 2), (6, .int (nI kk)), (5, .int (nI 0)), (3, .int 2), (0, .ref m0), (1, .int (nI s0)), (2, .int (nI n))]) hx hb d_Md_wantLine_124 hl (k := 2) rfl (by decide) (by decide) rfl (fun ls hl => ?_)
                refine lv_goto (tgt := 25) hx hb d_Md_wantLine_127 (by decide) ?_
                refine lv_iload hx hb d_Md_wantLine_25 (lv_at hl 0 rfl) ?_
                refine lv_iload_n hx hb d_Md_wantLine_27 rfl (lv_at hl 3 rfl) ?_
                refine lv_icmp_ge (tgt := 130) hx hb d_Md_wantLine_28 (by decide) (fun hc28 => ?_) (fun hc28 => absurd (by decide) hc28)
                have hw : Wd D _ _ [(m0, .inr (8, [.int vcode, .int vw, .int vh, .int vl, .ref ms, .int vso, .ref mt, .ref mp, .ref mx, .ref my, .ref mw, .ref mh, .int 0, .ref ml, .ref mn, .ref mk, .ref mq, .ref mm])), (mm, aZ k 40 (wnt2 s0 n f))] H locs := hw.cast (by rw [wnt2_ne hn1])
                exact ew_v (w1 := [(m0, .inr (8, [.int vcode, .int vw, .int vh, .int vl, .ref ms, .int vso, .ref mt, .ref mp, .ref mx, .ref my, .ref mw, .ref mh, .int 0, .ref ml, .ref mn, .ref mk, .ref mq, .ref mm])), (mm, aZ k 40 (wnt2 s0 n f))]) hC hw [0, 1] rfl rfl ⟨rfl, rfl⟩ d_Md_wantLine_130
              · have hkn : kk < n := le_nI hc51 (by omega) (by omega)
                have hn2 : 2 ≤ n := by omega
                refine lv_iload_n hx hb d_Md_wantLine_54 rfl (lv_at hl 5 rfl) ?_
                refine lv_iload hx hb d_Md_wantLine_55 (lv_at hl 0 rfl) ?_
                refine lv_iadd hx hb d_Md_wantLine_57 ?_
                refine r_topi (y := nI (s0 + kk)) (nI_add _ _) ?_
                refine lv_iconst (v := 2) hx hb d_Md_wantLine_58 (by decide) ?_
                refine lv_irem hx hb d_Md_wantLine_59 (by decide) ?_
                refine r_topi (y := nI ((s0 + kk) % 2)) (rem2 (by omega)) ?_
                refine lv_iload hx hb d_Md_wantLine_60 (lv_at hl 1 rfl) ?_
                refine lv_icmp_ne (tgt := 118) hx hb d_Md_wantLine_62 (by decide) (fun hc62 => ?_) (fun hc62 => ?_)
                · have hpk : ¬ (s0 + kk) % 2 = 0 % 2 := fun q => hc62 (by rw [q])
                  have hw : Wd D _ _ [(m0, .inr (8, [.int vcode, .int vw, .int vh, .int vl, .ref ms, .int vso, .ref mt, .ref mp, .ref mx, .ref my, .ref mw, .ref mh, .int 0, .ref ml, .ref mn, .ref mk, .ref mq, .ref mm])), (mm, aZ k 40 (wstTo s0 0 n (wst s0 1 n f) (kk + 1)))] _ _ := hw.cast (by rw [wstTo_odd hpk])
                  refine lv_iinc (v := nI (kk + 1)) (lv' := [(6, .int (nI (kk + 1))), (5, .int (nI 0)), (4, .int 1), (3, .int 2), (0, .ref m0), (1, .int (nI s0)), (2, .int (nI n))]) hx hb d_Md_wantLine_118 hl (k := 0) rfl (nI_add kk 1) (by decide) rfl (fun ls hl => ?_)
                  refine lv_goto (tgt := 48) hx hb d_Md_wantLine_121 (by decide) ?_
                  exact ih_L48_1 (kk + 1) _ _ _ (by omega) (by omega) hw (lv_sub hl [0, 1, 2, 3, 4, 5, 6] rfl)
                · have hpk : (s0 + kk) % 2 = 0 % 2 := (nI_eq (b := 0) (by omega) (by omega)).mp hc62
                  have hpo : ¬ (s0 + (kk + 1)) % 2 = 0 % 2 := by omega
                  refine lv_aload_n hx hb d_Md_wantLine_65 rfl (lv_at hl 4 rfl) ?_
                  refine r_get hC hw ck_Md 0 rfl 17 (by decide) k_797 rfl rfl d_Md_wantLine_66 ?_
                  refine lv_iload hx hb d_Md_wantLine_69 (lv_at hl 0 rfl) ?_
                  refine r_zald hC hw 1 rfl kk rfl (by omega) (by decide) d_Md_wantLine_71 ?_
                  refine r_topi (y := (wst s0 1 n f) kk) (wstTo_par hpk) ?_
                  refine lv_if_eq (tgt := 118) hx hb d_Md_wantLine_72 (by decide) (fun hc72 => ?_) (fun hc72 => ?_)
                  · have hw : Wd D _ _ [(m0, .inr (8, [.int vcode, .int vw, .int vh, .int vl, .ref ms, .int vso, .ref mt, .ref mp, .ref mx, .ref my, .ref mw, .ref mh, .int 0, .ref ml, .ref mn, .ref mk, .ref mq, .ref mm])), (mm, aZ k 40 (wstTo s0 0 n (wst s0 1 n f) (kk + 1)))] _ _ := hw.cast (by rw [wstTo_skip hpk hc72, ← wstTo_odd hpo])
                    refine lv_iinc (v := nI (kk + 1)) (lv' := [(6, .int (nI (kk + 1))), (5, .int (nI 0)), (4, .int 1), (3, .int 2), (0, .ref m0), (1, .int (nI s0)), (2, .int (nI n))]) hx hb d_Md_wantLine_118 hl (k := 0) rfl (nI_add kk 1) (by decide) rfl (fun ls hl => ?_)
                    refine lv_goto (tgt := 48) hx hb d_Md_wantLine_121 (by decide) ?_
                    exact ih_L48_1 (kk + 1) _ _ _ (by omega) (by omega) hw (lv_sub hl [0, 1, 2, 3, 4, 5, 6] rfl)
                  · refine lv_aload_n hx hb d_Md_wantLine_75 rfl (lv_at hl 4 rfl) ?_
                    refine r_get hC hw ck_Md 0 rfl 17 (by decide) k_797 rfl rfl d_Md_wantLine_76 ?_
                    refine lv_iload hx hb d_Md_wantLine_79 (lv_at hl 0 rfl) ?_
                    have hmL := mirL_lt hkn hn2
                    have hmR := mirR_lt hkn hn2
                    refine lv_if_ne (tgt := 88) hx hb d_Md_wantLine_81 (by decide) (fun hc81 => ?_) (fun hc81 => ?_)
                    · have hk0 : kk ≠ 0 := fun e => hc81 (by rw [e]; rfl)
                      refine lv_iload hx hb d_Md_wantLine_88 (lv_at hl 0 rfl) ?_
                      refine lv_iconst (v := 1) hx hb d_Md_wantLine_90 (by decide) ?_
                      refine lv_isub hx hb d_Md_wantLine_91 ?_
                      refine r_topi (y := nI (mirL kk)) (by unfold mirL; rw [if_neg hk0]; exact pk_sub (b := 1) (by omega)) ?_
                      refine lv_iconst (v := 1) hx hb d_Md_wantLine_92 (by decide) ?_
                      refine r_zast hC hw 1 rfl (mirL kk) rfl (by omega) (by decide) (by decide) d_Md_wantLine_93 (fun H locs hw => ?_)
                      have hw : Wd D _ _ [(m0, .inr (8, [.int vcode, .int vw, .int vh, .int vl, .ref ms, .int vso, .ref mt, .ref mp, .ref mx, .ref my, .ref mw, .ref mh, .int 0, .ref ml, .ref mn, .ref mk, .ref mq, .ref mm])), (mm, aZ k 40 (upd (wstTo s0 0 n (wst s0 1 n f) kk) (mirL kk) 1))] _ _ := hw
                      refine lv_aload_n hx hb d_Md_wantLine_94 rfl (lv_at hl 4 rfl) ?_
                      refine r_get hC hw ck_Md 0 rfl 17 (by decide) k_797 rfl rfl d_Md_wantLine_95 ?_
                      refine lv_iload hx hb d_Md_wantLine_98 (lv_at hl 0 rfl) ?_
                      refine lv_iload_n hx hb d_Md_wantLine_100 rfl (lv_at hl 6 rfl) ?_
                      refine lv_iconst (v := 1) hx hb d_Md_wantLine_101 (by decide) ?_
                      refine lv_isub hx hb d_Md_wantLine_102 ?_
                      refine r_topi (y := nI (n - 1)) (pk_sub (b := 1) (by omega)) ?_
                      refine lv_icmp_ne (tgt := 112) hx hb d_Md_wantLine_103 (by decide) (fun hc103 => ?_) (fun hc103 => ?_)
                      · have hkl : ¬ kk + 1 = n := fun e => hc103 (by rw [← e]; rfl)
                        refine lv_iload hx hb d_Md_wantLine_112 (lv_at hl 0 rfl) ?_
                        refine lv_iconst (v := 1) hx hb d_Md_wantLine_114 (by decide) ?_
                        refine lv_iadd hx hb d_Md_wantLine_115 ?_
                        refine r_topi (y := nI (mirR kk n)) (by unfold mirR; rw [if_neg hkl]; exact nI_add kk 1) ?_
                        refine lv_iconst (v := 1) hx hb d_Md_wantLine_116 (by decide) ?_
                        refine r_zast hC hw 1 rfl (mirR kk n) rfl (by omega) (by decide) (by decide) d_Md_wantLine_117 (fun H locs hw => ?_)
                        have hw : Wd D _ _ [(m0, .inr (8, [.int vcode, .int vw, .int vh, .int vl, .ref ms, .int vso, .ref mt, .ref mp, .ref mx, .ref my, .ref mw, .ref mh, .int 0, .ref ml, .ref mn, .ref mk, .ref mq, .ref mm])), (mm, aZ k 40 (upd (upd (wstTo s0 0 n (wst s0 1 n f) kk) (mirL kk) 1) (mirR kk n) 1))] _ _ := hw
                        have hw : Wd D _ _ [(m0, .inr (8, [.int vcode, .int vw, .int vh, .int vl, .ref ms, .int vso, .ref mt, .ref mp, .ref mx, .ref my, .ref mw, .ref mh, .int 0, .ref ml, .ref mn, .ref mk, .ref mq, .ref mm])), (mm, aZ k 40 (wstTo s0 0 n (wst s0 1 n f) (kk + 1)))] _ _ := hw.cast (by rw [wstTo_step hpk hkn hn2 hc72, ← wstTo_odd hpo])
                        refine lv_iinc (v := nI (kk + 1)) (lv' := [(6, .int (nI (kk + 1))), (5, .int (nI 0)), (4, .int 1), (3, .int 2), (0, .ref m0), (1, .int (nI s0)), (2, .int (nI n))]) hx hb d_Md_wantLine_118 hl (k := 0) rfl (nI_add kk 1) (by decide) rfl (fun ls hl => ?_)
                        refine lv_goto (tgt := 48) hx hb d_Md_wantLine_121 (by decide) ?_
                        exact ih_L48_1 (kk + 1) _ _ _ (by omega) (by omega) hw (lv_sub hl [0, 1, 2, 3, 4, 5, 6] rfl)
                      · have hkl : kk + 1 = n := by have := (nI_eq (by omega) (by omega)).mp hc103; omega
                        refine lv_iload_n hx hb d_Md_wantLine_106 rfl (lv_at hl 6 rfl) ?_
                        refine lv_iconst (v := 2) hx hb d_Md_wantLine_107 (by decide) ?_
                        refine lv_isub hx hb d_Md_wantLine_108 ?_
                        refine r_topi (y := nI (mirR kk n)) (by unfold mirR; rw [if_pos hkl]; exact pk_sub (b := 2) (by omega)) ?_
                        refine lv_goto (tgt := 116) hx hb d_Md_wantLine_109 (by decide) ?_
                        refine lv_iconst (v := 1) hx hb d_Md_wantLine_116 (by decide) ?_
                        refine r_zast hC hw 1 rfl (mirR kk n) rfl (by omega) (by decide) (by decide) d_Md_wantLine_117 (fun H locs hw => ?_)
                        have hw : Wd D _ _ [(m0, .inr (8, [.int vcode, .int vw, .int vh, .int vl, .ref ms, .int vso, .ref mt, .ref mp, .ref mx, .ref my, .ref mw, .ref mh, .int 0, .ref ml, .ref mn, .ref mk, .ref mq, .ref mm])), (mm, aZ k 40 (upd (upd (wstTo s0 0 n (wst s0 1 n f) kk) (mirL kk) 1) (mirR kk n) 1))] _ _ := hw
                        have hw : Wd D _ _ [(m0, .inr (8, [.int vcode, .int vw, .int vh, .int vl, .ref ms, .int vso, .ref mt, .ref mp, .ref mx, .ref my, .ref mw, .ref mh, .int 0, .ref ml, .ref mn, .ref mk, .ref mq, .ref mm])), (mm, aZ k 40 (wstTo s0 0 n (wst s0 1 n f) (kk + 1)))] _ _ := hw.cast (by rw [wstTo_step hpk hkn hn2 hc72, ← wstTo_odd hpo])
                        refine lv_iinc (v := nI (kk + 1)) (lv' := [(6, .int (nI (kk + 1))), (5, .int (nI 0)), (4, .int 1), (3, .int 2), (0, .ref m0), (1, .int (nI s0)), (2, .int (nI n))]) hx hb d_Md_wantLine_118 hl (k := 0) rfl (nI_add kk 1) (by decide) rfl (fun ls hl => ?_)
                        refine lv_goto (tgt := 48) hx hb d_Md_wantLine_121 (by decide) ?_
                        exact ih_L48_1 (kk + 1) _ _ _ (by omega) (by omega) hw (lv_sub hl [0, 1, 2, 3, 4, 5, 6] rfl)
                    · have hk0 : kk = 0 := (nI_eq (b := 0) (by omega) (by omega)).mp hc81
                      refine lv_iconst (v := 1) hx hb d_Md_wantLine_84 (by decide) ?_
                      refine lv_goto (tgt := 92) hx hb d_Md_wantLine_85 (by decide) ?_
                      refine r_topi (y := nI (mirL kk)) (by unfold mirL; rw [if_pos hk0]; rfl) ?_
                      refine lv_iconst (v := 1) hx hb d_Md_wantLine_92 (by decide) ?_
                      refine r_zast hC hw 1 rfl (mirL kk) rfl (by omega) (by decide) (by decide) d_Md_wantLine_93 (fun H locs hw => ?_)
                      have hw : Wd D _ _ [(m0, .inr (8, [.int vcode, .int vw, .int vh, .int vl, .ref ms, .int vso, .ref mt, .ref mp, .ref mx, .ref my, .ref mw, .ref mh, .int 0, .ref ml, .ref mn, .ref mk, .ref mq, .ref mm])), (mm, aZ k 40 (upd (wstTo s0 0 n (wst s0 1 n f) kk) (mirL kk) 1))] _ _ := hw
                      refine lv_aload_n hx hb d_Md_wantLine_94 rfl (lv_at hl 4 rfl) ?_
                      refine r_get hC hw ck_Md 0 rfl 17 (by decide) k_797 rfl rfl d_Md_wantLine_95 ?_
                      refine lv_iload hx hb d_Md_wantLine_98 (lv_at hl 0 rfl) ?_
                      refine lv_iload_n hx hb d_Md_wantLine_100 rfl (lv_at hl 6 rfl) ?_
                      refine lv_iconst (v := 1) hx hb d_Md_wantLine_101 (by decide) ?_
                      refine lv_isub hx hb d_Md_wantLine_102 ?_
                      refine r_topi (y := nI (n - 1)) (pk_sub (b := 1) (by omega)) ?_
                      refine lv_icmp_ne (tgt := 112) hx hb d_Md_wantLine_103 (by decide) (fun hc103 => ?_) (fun hc103 => ?_)
                      · have hkl : ¬ kk + 1 = n := fun e => hc103 (by rw [← e]; rfl)
                        refine lv_iload hx hb d_Md_wantLine_112 (lv_at hl 0 rfl) ?_
                        refine lv_iconst (v := 1) hx hb d_Md_wantLine_114 (by decide) ?_
                        refine lv_iadd hx hb d_Md_wantLine_115 ?_
                        refine r_topi (y := nI (mirR kk n)) (by unfold mirR; rw [if_neg hkl]; exact nI_add kk 1) ?_
                        refine lv_iconst (v := 1) hx hb d_Md_wantLine_116 (by decide) ?_
                        refine r_zast hC hw 1 rfl (mirR kk n) rfl (by omega) (by decide) (by decide) d_Md_wantLine_117 (fun H locs hw => ?_)
                        have hw : Wd D _ _ [(m0, .inr (8, [.int vcode, .int vw, .int vh, .int vl, .ref ms, .int vso, .ref mt, .ref mp, .ref mx, .ref my, .ref mw, .ref mh, .int 0, .ref ml, .ref mn, .ref mk, .ref mq, .ref mm])), (mm, aZ k 40 (upd (upd (wstTo s0 0 n (wst s0 1 n f) kk) (mirL kk) 1) (mirR kk n) 1))] _ _ := hw
                        have hw : Wd D _ _ [(m0, .inr (8, [.int vcode, .int vw, .int vh, .int vl, .ref ms, .int vso, .ref mt, .ref mp, .ref mx, .ref my, .ref mw, .ref mh, .int 0, .ref ml, .ref mn, .ref mk, .ref mq, .ref mm])), (mm, aZ k 40 (wstTo s0 0 n (wst s0 1 n f) (kk + 1)))] _ _ := hw.cast (by rw [wstTo_step hpk hkn hn2 hc72, ← wstTo_odd hpo])
                        refine lv_iinc (v := nI (kk + 1)) (lv' := [(6, .int (nI (kk + 1))), (5, .int (nI 0)), (4, .int 1), (3, .int 2), (0, .ref m0), (1, .int (nI s0)), (2, .int (nI n))]) hx hb d_Md_wantLine_118 hl (k := 0) rfl (nI_add kk 1) (by decide) rfl (fun ls hl => ?_)
                        refine lv_goto (tgt := 48) hx hb d_Md_wantLine_121 (by decide) ?_
                        exact ih_L48_1 (kk + 1) _ _ _ (by omega) (by omega) hw (lv_sub hl [0, 1, 2, 3, 4, 5, 6] rfl)
                      · have hkl : kk + 1 = n := by have := (nI_eq (by omega) (by omega)).mp hc103; omega
                        refine lv_iload_n hx hb d_Md_wantLine_106 rfl (lv_at hl 6 rfl) ?_
                        refine lv_iconst (v := 2) hx hb d_Md_wantLine_107 (by decide) ?_
                        refine lv_isub hx hb d_Md_wantLine_108 ?_
                        refine r_topi (y := nI (mirR kk n)) (by unfold mirR; rw [if_pos hkl]; exact pk_sub (b := 2) (by omega)) ?_
                        refine lv_goto (tgt := 116) hx hb d_Md_wantLine_109 (by decide) ?_
                        refine lv_iconst (v := 1) hx hb d_Md_wantLine_116 (by decide) ?_
                        refine r_zast hC hw 1 rfl (mirR kk n) rfl (by omega) (by decide) (by decide) d_Md_wantLine_117 (fun H locs hw => ?_)
                        have hw : Wd D _ _ [(m0, .inr (8, [.int vcode, .int vw, .int vh, .int vl, .ref ms, .int vso, .ref mt, .ref mp, .ref mx, .ref my, .ref mw, .ref mh, .int 0, .ref ml, .ref mn, .ref mk, .ref mq, .ref mm])), (mm, aZ k 40 (upd (upd (wstTo s0 0 n (wst s0 1 n f) kk) (mirL kk) 1) (mirR kk n) 1))] _ _ := hw
                        have hw : Wd D _ _ [(m0, .inr (8, [.int vcode, .int vw, .int vh, .int vl, .ref ms, .int vso, .ref mt, .ref mp, .ref mx, .ref my, .ref mw, .ref mh, .int 0, .ref ml, .ref mn, .ref mk, .ref mq, .ref mm])), (mm, aZ k 40 (wstTo s0 0 n (wst s0 1 n f) (kk + 1)))] _ _ := hw.cast (by rw [wstTo_step hpk hkn hn2 hc72, ← wstTo_odd hpo])
                        refine lv_iinc (v := nI (kk + 1)) (lv' := [(6, .int (nI (kk + 1))), (5, .int (nI 0)), (4, .int 1), (3, .int 2), (0, .ref m0), (1, .int (nI s0)), (2, .int (nI n))]) hx hb d_Md_wantLine_118 hl (k := 0) rfl (nI_add kk 1) (by decide) rfl (fun ls hl => ?_)
                        refine lv_goto (tgt := 48) hx hb d_Md_wantLine_121 (by decide) ?_
                        exact ih_L48_1 (kk + 1) _ _ _ (by omega) (by omega) hw (lv_sub hl [0, 1, 2, 3, 4, 5, 6] rfl)
          exact L48_1 (n + 1) 0 _ _ _ (by omega) (by omega) hw (lv_sub hl [0, 1, 2, 3, 4, 5, 6] rfl)
        · have hkn : kk < n := le_nI hc51 (by omega) (by omega)
          have hn2 : 2 ≤ n := by omega
          refine lv_iload_n hx hb d_Md_wantLine_54 rfl (lv_at hl 5 rfl) ?_
          refine lv_iload hx hb d_Md_wantLine_55 (lv_at hl 0 rfl) ?_
          refine lv_iadd hx hb d_Md_wantLine_57 ?_
          refine r_topi (y := nI (s0 + kk)) (nI_add _ _) ?_
          refine lv_iconst (v := 2) hx hb d_Md_wantLine_58 (by decide) ?_
          refine lv_irem hx hb d_Md_wantLine_59 (by decide) ?_
          refine r_topi (y := nI ((s0 + kk) % 2)) (rem2 (by omega)) ?_
          refine lv_iload hx hb d_Md_wantLine_60 (lv_at hl 1 rfl) ?_
          refine lv_icmp_ne (tgt := 118) hx hb d_Md_wantLine_62 (by decide) (fun hc62 => ?_) (fun hc62 => ?_)
          · have hpk : ¬ (s0 + kk) % 2 = 1 % 2 := fun q => hc62 (by rw [q])
            have hw : Wd D _ _ [(m0, .inr (8, [.int vcode, .int vw, .int vh, .int vl, .ref ms, .int vso, .ref mt, .ref mp, .ref mx, .ref my, .ref mw, .ref mh, .int 0, .ref ml, .ref mn, .ref mk, .ref mq, .ref mm])), (mm, aZ k 40 (wstTo s0 1 n f (kk + 1)))] _ _ := hw.cast (by rw [wstTo_odd hpk])
            refine lv_iinc (v := nI (kk + 1)) (lv' := [(6, .int (nI (kk + 1))), (5, .int (nI 1)), (4, .int 0), (3, .int 2), (0, .ref m0), (1, .int (nI s0)), (2, .int (nI n))]) hx hb d_Md_wantLine_118 hl (k := 0) rfl (nI_add kk 1) (by decide) rfl (fun ls hl => ?_)
            refine lv_goto (tgt := 48) hx hb d_Md_wantLine_121 (by decide) ?_
            exact ih_L48_0 (kk + 1) _ _ _ (by omega) (by omega) hw (lv_sub hl [0, 1, 2, 3, 4, 5, 6] rfl)
          · have hpk : (s0 + kk) % 2 = 1 % 2 := (nI_eq (b := 1) (by omega) (by omega)).mp hc62
            have hpo : ¬ (s0 + (kk + 1)) % 2 = 1 % 2 := by omega
            refine lv_aload_n hx hb d_Md_wantLine_65 rfl (lv_at hl 4 rfl) ?_
            refine r_get hC hw ck_Md 0 rfl 17 (by decide) k_797 rfl rfl d_Md_wantLine_66 ?_
            refine lv_iload hx hb d_Md_wantLine_69 (lv_at hl 0 rfl) ?_
            refine r_zald hC hw 1 rfl kk rfl (by omega) (by decide) d_Md_wantLine_71 ?_
            refine r_topi (y := f kk) (wstTo_par hpk) ?_
            refine lv_if_eq (tgt := 118) hx hb d_Md_wantLine_72 (by decide) (fun hc72 => ?_) (fun hc72 => ?_)
            · have hw : Wd D _ _ [(m0, .inr (8, [.int vcode, .int vw, .int vh, .int vl, .ref ms, .int vso, .ref mt, .ref mp, .ref mx, .ref my, .ref mw, .ref mh, .int 0, .ref ml, .ref mn, .ref mk, .ref mq, .ref mm])), (mm, aZ k 40 (wstTo s0 1 n f (kk + 1)))] _ _ := hw.cast (by rw [wstTo_skip hpk hc72, ← wstTo_odd hpo])
              refine lv_iinc (v := nI (kk + 1)) (lv' := [(6, .int (nI (kk + 1))), (5, .int (nI 1)), (4, .int 0), (3, .int 2), (0, .ref m0), (1, .int (nI s0)), (2, .int (nI n))]) hx hb d_Md_wantLine_118 hl (k := 0) rfl (nI_add kk 1) (by decide) rfl (fun ls hl => ?_)
              refine lv_goto (tgt := 48) hx hb d_Md_wantLine_121 (by decide) ?_
              exact ih_L48_0 (kk + 1) _ _ _ (by omega) (by omega) hw (lv_sub hl [0, 1, 2, 3, 4, 5, 6] rfl)
            · refine lv_aload_n hx hb d_Md_wantLine_75 rfl (lv_at hl 4 rfl) ?_
              refine r_get hC hw ck_Md 0 rfl 17 (by decide) k_797 rfl rfl d_Md_wantLine_76 ?_
              refine lv_iload hx hb d_Md_wantLine_79 (lv_at hl 0 rfl) ?_
              have hmL := mirL_lt hkn hn2
              have hmR := mirR_lt hkn hn2
              refine lv_if_ne (tgt := 88) hx hb d_Md_wantLine_81 (by decide) (fun hc81 => ?_) (fun hc81 => ?_)
              · have hk0 : kk ≠ 0 := fun e => hc81 (by rw [e]; rfl)
                refine lv_iload hx hb d_Md_wantLine_88 (lv_at hl 0 rfl) ?_
                refine lv_iconst (v := 1) hx hb d_Md_wantLine_90 (by decide) ?_
                refine lv_isub hx hb d_Md_wantLine_91 ?_
                refine r_topi (y := nI (mirL kk)) (by unfold mirL; rw [if_neg hk0]; exact pk_sub (b := 1) (by omega)) ?_
                refine lv_iconst (v := 1) hx hb d_Md_wantLine_92 (by decide) ?_
                refine r_zast hC hw 1 rfl (mirL kk) rfl (by omega) (by decide) (by decide) d_Md_wantLine_93 (fun H locs hw => ?_)
                have hw : Wd D _ _ [(m0, .inr (8, [.int vcode, .int vw, .int vh, .int vl, .ref ms, .int vso, .ref mt, .ref mp, .ref mx, .ref my, .ref mw, .ref mh, .int 0, .ref ml, .ref mn, .ref mk, .ref mq, .ref mm])), (mm, aZ k 40 (upd (wstTo s0 1 n f kk) (mirL kk) 1))] _ _ := hw
                refine lv_aload_n hx hb d_Md_wantLine_94 rfl (lv_at hl 4 rfl) ?_
                refine r_get hC hw ck_Md 0 rfl 17 (by decide) k_797 rfl rfl d_Md_wantLine_95 ?_
                refine lv_iload hx hb d_Md_wantLine_98 (lv_at hl 0 rfl) ?_
                refine lv_iload_n hx hb d_Md_wantLine_100 rfl (lv_at hl 6 rfl) ?_
                refine lv_iconst (v := 1) hx hb d_Md_wantLine_101 (by decide) ?_
                refine lv_isub hx hb d_Md_wantLine_102 ?_
                refine r_topi (y := nI (n - 1)) (pk_sub (b := 1) (by omega)) ?_
                refine lv_icmp_ne (tgt := 112) hx hb d_Md_wantLine_103 (by decide) (fun hc103 => ?_) (fun hc103 => ?_)
                · have hkl : ¬ kk + 1 = n := fun e => hc103 (by rw [← e]; rfl)
                  refine lv_iload hx hb d_Md_wantLine_112 (lv_at hl 0 rfl) ?_
                  refine lv_iconst (v := 1) hx hb d_Md_wantLine_114 (by decide) ?_
                  refine lv_iadd hx hb d_Md_wantLine_115 ?_
                  refine r_topi (y := nI (mirR kk n)) (by unfold mirR; rw [if_neg hkl]; exact nI_add kk 1) ?_
                  refine lv_iconst (v := 1) hx hb d_Md_wantLine_116 (by decide) ?_
                  refine r_zast hC hw 1 rfl (mirR kk n) rfl (by omega) (by decide) (by decide) d_Md_wantLine_117 (fun H locs hw => ?_)
                  have hw : Wd D _ _ [(m0, .inr (8, [.int vcode, .int vw, .int vh, .int vl, .ref ms, .int vso, .ref mt, .ref mp, .ref mx, .ref my, .ref mw, .ref mh, .int 0, .ref ml, .ref mn, .ref mk, .ref mq, .ref mm])), (mm, aZ k 40 (upd (upd (wstTo s0 1 n f kk) (mirL kk) 1) (mirR kk n) 1))] _ _ := hw
                  have hw : Wd D _ _ [(m0, .inr (8, [.int vcode, .int vw, .int vh, .int vl, .ref ms, .int vso, .ref mt, .ref mp, .ref mx, .ref my, .ref mw, .ref mh, .int 0, .ref ml, .ref mn, .ref mk, .ref mq, .ref mm])), (mm, aZ k 40 (wstTo s0 1 n f (kk + 1)))] _ _ := hw.cast (by rw [wstTo_step hpk hkn hn2 hc72, ← wstTo_odd hpo])
                  refine lv_iinc (v := nI (kk + 1)) (lv' := [(6, .int (nI (kk + 1))), (5, .int (nI 1)), (4, .int 0), (3, .int 2), (0, .ref m0), (1, .int (nI s0)), (2, .int (nI n))]) hx hb d_Md_wantLine_118 hl (k := 0) rfl (nI_add kk 1) (by decide) rfl (fun ls hl => ?_)
                  refine lv_goto (tgt := 48) hx hb d_Md_wantLine_121 (by decide) ?_
                  exact ih_L48_0 (kk + 1) _ _ _ (by omega) (by omega) hw (lv_sub hl [0, 1, 2, 3, 4, 5, 6] rfl)
                · have hkl : kk + 1 = n := by have := (nI_eq (by omega) (by omega)).mp hc103; omega
                  refine lv_iload_n hx hb d_Md_wantLine_106 rfl (lv_at hl 6 rfl) ?_
                  refine lv_iconst (v := 2) hx hb d_Md_wantLine_107 (by decide) ?_
                  refine lv_isub hx hb d_Md_wantLine_108 ?_
                  refine r_topi (y := nI (mirR kk n)) (by unfold mirR; rw [if_pos hkl]; exact pk_sub (b := 2) (by omega)) ?_
                  refine lv_goto (tgt := 116) hx hb d_Md_wantLine_109 (by decide) ?_
                  refine lv_iconst (v := 1) hx hb d_Md_wantLine_116 (by decide) ?_
                  refine r_zast hC hw 1 rfl (mirR kk n) rfl (by omega) (by decide) (by decide) d_Md_wantLine_117 (fun H locs hw => ?_)
                  have hw : Wd D _ _ [(m0, .inr (8, [.int vcode, .int vw, .int vh, .int vl, .ref ms, .int vso, .ref mt, .ref mp, .ref mx, .ref my, .ref mw, .ref mh, .int 0, .ref ml, .ref mn, .ref mk, .ref mq, .ref mm])), (mm, aZ k 40 (upd (upd (wstTo s0 1 n f kk) (mirL kk) 1) (mirR kk n) 1))] _ _ := hw
                  have hw : Wd D _ _ [(m0, .inr (8, [.int vcode, .int vw, .int vh, .int vl, .ref ms, .int vso, .ref mt, .ref mp, .ref mx, .ref my, .ref mw, .ref mh, .int 0, .ref ml, .ref mn, .ref mk, .ref mq, .ref mm])), (mm, aZ k 40 (wstTo s0 1 n f (kk + 1)))] _ _ := hw.cast (by rw [wstTo_step hpk hkn hn2 hc72, ← wstTo_odd hpo])
                  refine lv_iinc (v := nI (kk + 1)) (lv' := [(6, .int (nI (kk + 1))), (5, .int (nI 1)), (4, .int 0), (3, .int 2), (0, .ref m0), (1, .int (nI s0)), (2, .int (nI n))]) hx hb d_Md_wantLine_118 hl (k := 0) rfl (nI_add kk 1) (by decide) rfl (fun ls hl => ?_)
                  refine lv_goto (tgt := 48) hx hb d_Md_wantLine_121 (by decide) ?_
                  exact ih_L48_0 (kk + 1) _ _ _ (by omega) (by omega) hw (lv_sub hl [0, 1, 2, 3, 4, 5, 6] rfl)
              · have hk0 : kk = 0 := (nI_eq (b := 0) (by omega) (by omega)).mp hc81
                refine lv_iconst (v := 1) hx hb d_Md_wantLine_84 (by decide) ?_
                refine lv_goto (tgt := 92) hx hb d_Md_wantLine_85 (by decide) ?_
                refine r_topi (y := nI (mirL kk)) (by unfold mirL; rw [if_pos hk0]; rfl) ?_
                refine lv_iconst (v := 1) hx hb d_Md_wantLine_92 (by decide) ?_
                refine r_zast hC hw 1 rfl (mirL kk) rfl (by omega) (by decide) (by decide) d_Md_wantLine_93 (fun H locs hw => ?_)
                have hw : Wd D _ _ [(m0, .inr (8, [.int vcode, .int vw, .int vh, .int vl, .ref ms, .int vso, .ref mt, .ref mp, .ref mx, .ref my, .ref mw, .ref mh, .int 0, .ref ml, .ref mn, .ref mk, .ref mq, .ref mm])), (mm, aZ k 40 (upd (wstTo s0 1 n f kk) (mirL kk) 1))] _ _ := hw
                refine lv_aload_n hx hb d_Md_wantLine_94 rfl (lv_at hl 4 rfl) ?_
                refine r_get hC hw ck_Md 0 rfl 17 (by decide) k_797 rfl rfl d_Md_wantLine_95 ?_
                refine lv_iload hx hb d_Md_wantLine_98 (lv_at hl 0 rfl) ?_
                refine lv_iload_n hx hb d_Md_wantLine_100 rfl (lv_at hl 6 rfl) ?_
                refine lv_iconst (v := 1) hx hb d_Md_wantLine_101 (by decide) ?_
                refine lv_isub hx hb d_Md_wantLine_102 ?_
                refine r_topi (y := nI (n - 1)) (pk_sub (b := 1) (by omega)) ?_
                refine lv_icmp_ne (tgt := 112) hx hb d_Md_wantLine_103 (by decide) (fun hc103 => ?_) (fun hc103 => ?_)
                · have hkl : ¬ kk + 1 = n := fun e => hc103 (by rw [← e]; rfl)
                  refine lv_iload hx hb d_Md_wantLine_112 (lv_at hl 0 rfl) ?_
                  refine lv_iconst (v := 1) hx hb d_Md_wantLine_114 (by decide) ?_
                  refine lv_iadd hx hb d_Md_wantLine_115 ?_
                  refine r_topi (y := nI (mirR kk n)) (by unfold mirR; rw [if_neg hkl]; exact nI_add kk 1) ?_
                  refine lv_iconst (v := 1) hx hb d_Md_wantLine_116 (by decide) ?_
                  refine r_zast hC hw 1 rfl (mirR kk n) rfl (by omega) (by decide) (by decide) d_Md_wantLine_117 (fun H locs hw => ?_)
                  have hw : Wd D _ _ [(m0, .inr (8, [.int vcode, .int vw, .int vh, .int vl, .ref ms, .int vso, .ref mt, .ref mp, .ref mx, .ref my, .ref mw, .ref mh, .int 0, .ref ml, .ref mn, .ref mk, .ref mq, .ref mm])), (mm, aZ k 40 (upd (upd (wstTo s0 1 n f kk) (mirL kk) 1) (mirR kk n) 1))] _ _ := hw
                  have hw : Wd D _ _ [(m0, .inr (8, [.int vcode, .int vw, .int vh, .int vl, .ref ms, .int vso, .ref mt, .ref mp, .ref mx, .ref my, .ref mw, .ref mh, .int 0, .ref ml, .ref mn, .ref mk, .ref mq, .ref mm])), (mm, aZ k 40 (wstTo s0 1 n f (kk + 1)))] _ _ := hw.cast (by rw [wstTo_step hpk hkn hn2 hc72, ← wstTo_odd hpo])
                  refine lv_iinc (v := nI (kk + 1)) (lv' := [(6, .int (nI (kk + 1))), (5, .int (nI 1)), (4, .int 0), (3, .int 2), (0, .ref m0), (1, .int (nI s0)), (2, .int (nI n))]) hx hb d_Md_wantLine_118 hl (k := 0) rfl (nI_add kk 1) (by decide) rfl (fun ls hl => ?_)
                  refine lv_goto (tgt := 48) hx hb d_Md_wantLine_121 (by decide) ?_
                  exact ih_L48_0 (kk + 1) _ _ _ (by omega) (by omega) hw (lv_sub hl [0, 1, 2, 3, 4, 5, 6] rfl)
                · have hkl : kk + 1 = n := by have := (nI_eq (by omega) (by omega)).mp hc103; omega
                  refine lv_iload_n hx hb d_Md_wantLine_106 rfl (lv_at hl 6 rfl) ?_
                  refine lv_iconst (v := 2) hx hb d_Md_wantLine_107 (by decide) ?_
                  refine lv_isub hx hb d_Md_wantLine_108 ?_
                  refine r_topi (y := nI (mirR kk n)) (by unfold mirR; rw [if_pos hkl]; exact pk_sub (b := 2) (by omega)) ?_
                  refine lv_goto (tgt := 116) hx hb d_Md_wantLine_109 (by decide) ?_
                  refine lv_iconst (v := 1) hx hb d_Md_wantLine_116 (by decide) ?_
                  refine r_zast hC hw 1 rfl (mirR kk n) rfl (by omega) (by decide) (by decide) d_Md_wantLine_117 (fun H locs hw => ?_)
                  have hw : Wd D _ _ [(m0, .inr (8, [.int vcode, .int vw, .int vh, .int vl, .ref ms, .int vso, .ref mt, .ref mp, .ref mx, .ref my, .ref mw, .ref mh, .int 0, .ref ml, .ref mn, .ref mk, .ref mq, .ref mm])), (mm, aZ k 40 (upd (upd (wstTo s0 1 n f kk) (mirL kk) 1) (mirR kk n) 1))] _ _ := hw
                  have hw : Wd D _ _ [(m0, .inr (8, [.int vcode, .int vw, .int vh, .int vl, .ref ms, .int vso, .ref mt, .ref mp, .ref mx, .ref my, .ref mw, .ref mh, .int 0, .ref ml, .ref mn, .ref mk, .ref mq, .ref mm])), (mm, aZ k 40 (wstTo s0 1 n f (kk + 1)))] _ _ := hw.cast (by rw [wstTo_step hpk hkn hn2 hc72, ← wstTo_odd hpo])
                  refine lv_iinc (v := nI (kk + 1)) (lv' := [(6, .int (nI (kk + 1))), (5, .int (nI 1)), (4, .int 0), (3, .int 2), (0, .ref m0), (1, .int (nI s0)), (2, .int (nI n))]) hx hb d_Md_wantLine_118 hl (k := 0) rfl (nI_add kk 1) (by decide) rfl (fun ls hl => ?_)
                  refine lv_goto (tgt := 48) hx hb d_Md_wantLine_121 (by decide) ?_
                  exact ih_L48_0 (kk + 1) _ _ _ (by omega) (by omega) hw (lv_sub hl [0, 1, 2, 3, 4, 5, 6] rfl)
    exact L48_0 (n + 1) 0 _ _ _ (by omega) (by omega) hw (lv_sub hl [0, 1, 2, 3, 4, 5, 6] rfl)
  · have hn1 : n = 1 := nI_eq1 hc2 (by omega)
    refine lv_iconst (v := 0) hx hb d_Md_wantLine_5 (by decide) ?_
    refine lv_goto (tgt := 21) hx hb d_Md_wantLine_6 (by decide) ?_
    refine lv_istore_n (lv' := [(3, .int 0), (0, .ref m0), (1, .int (nI s0)), (2, .int (nI n))]) hx hb d_Md_wantLine_21 rfl hl (by decide) rfl (fun ls hl => ?_)
    refine lv_iconst (v := 0) hx hb d_Md_wantLine_22 (by decide) ?_
    refine lv_istore (lv' := [(4, .int 0), (3, .int 0), (0, .ref m0), (1, .int (nI s0)), (2, .int (nI n))]) hx hb d_Md_wantLine_23 hl (by decide) rfl (fun ls hl => ?_)
    refine lv_iload hx hb d_Md_wantLine_25 (lv_at hl 0 rfl) ?_
    refine lv_iload_n hx hb d_Md_wantLine_27 rfl (lv_at hl 1 rfl) ?_
    refine lv_icmp_ge (tgt := 130) hx hb d_Md_wantLine_28 (by decide) (fun hc28 => ?_) (fun hc28 => absurd (by decide) hc28)
    have hw : Wd D _ _ [(m0, .inr (8, [.int vcode, .int vw, .int vh, .int vl, .ref ms, .int vso, .ref mt, .ref mp, .ref mx, .ref my, .ref mw, .ref mh, .int 0, .ref ml, .ref mn, .ref mk, .ref mq, .ref mm])), (mm, aZ k 40 (wnt2 s0 n f))] _ _ := hw.cast (by unfold wnt2; rw [if_pos (by omega)])
    exact ew_v (w1 := [(m0, .inr (8, [.int vcode, .int vw, .int vh, .int vl, .ref ms, .int vso, .ref mt, .ref mp, .ref mx, .ref my, .ref mw, .ref mh, .int 0, .ref ml, .ref mn, .ref mk, .ref mq, .ref mm])), (mm, aZ k 40 (wnt2 s0 n f))]) hC hw [0, 1] rfl rfl ⟨rfl, rfl⟩ d_Md_wantLine_130
abbrev rm_Md_wsRr : Room := { frames := 1, cells := 0, slots := 0, locals := 34 }
set_option maxHeartbeats 4000000 in
set_option maxRecDepth 100000 in
/-- Model.wantLines -/
theorem c_Md_wsRr (l : Launch) (D : va_G) (k : Nat → ClassId) (sz : Nat) (m0 ms mt mp mx my mw mh ml mn mk mq mm : Nat) (vcode vw vh vl vso : Int32) (f g : Nat → Int32) (X Y Wi Hi : Nat → Nat) (hG : Geo X Y Wi Hi) (lv : Nat) (hlv : lv < 5) (hz : is01 (Wi lv * Hi lv) f) : Met l y_Md_wantLines (Cond.code y_Md_wantLines b_Md_wantLines 7 none :: lw_g) rm_Md_wsRr (Pw D k [(m0, .inr (8, [.int vcode, .int vw, .int vh, .int vl, .ref ms, .int vso, .ref mt, .ref mp, .ref mx, .ref my, .ref mw, .ref mh, .int 1, .ref ml, .ref mn, .ref mk, .ref mq, .ref mm])), (mk, aZ k 1600 f), (mx, aI k 6 (fun j => nI (X j))), (my, aI k 6 (fun j => nI (Y j))), (mw, aI k 6 (fun j => nI (Wi j))), (mh, aI k 6 (fun j => nI (Hi j))), (mm, aZ k 40 g)] sz [.ref m0, .int (nI lv), .int 1]) (Qw D (va_A [(m0, .inr (8, [.int vcode, .int vw, .int vh, .int vl, .ref ms, .int vso, .ref mt, .ref mp, .ref mx, .ref my, .ref mw, .ref mh, .int 1, .ref ml, .ref mn, .ref mk, .ref mq, .ref mm])), (mk, aZ k 1600 f), (mx, aI k 6 (fun j => nI (X j))), (my, aI k 6 (fun j => nI (Y j))), (mw, aI k 6 (fun j => nI (Wi j))), (mh, aI k 6 (fun j => nI (Hi j))), (mm, aZ k 40 g)] sz) (fun v w1 => v = none ∧ ∃ f2 g2 : Nat → Int32, w1 = [(m0, .inr (8, [.int vcode, .int vw, .int vh, .int vl, .ref ms, .int vso, .ref mt, .ref mp, .ref mx, .ref my, .ref mw, .ref mh, .int 1, .ref ml, .ref mn, .ref mk, .ref mq, .ref mm])), (mk, aZ k 1600 f2), (mx, aI k 6 (fun j => nI (X j))), (my, aI k 6 (fun j => nI (Y j))), (mw, aI k 6 (fun j => nI (Wi j))), (mh, aI k 6 (fun j => nI (Hi j))), (mm, aZ k 40 g2)] ∧ (∀ j, j < Wi lv * Hi lv → f2 j = rowsZ (wnt4 (X lv) (Wi lv)) (Wi lv) f j))) 0 0 (va_A [(m0, .inr (8, [.int vcode, .int vw, .int vh, .int vl, .ref ms, .int vso, .ref mt, .ref mp, .ref mx, .ref my, .ref mw, .ref mh, .int 1, .ref ml, .ref mn, .ref mk, .ref mq, .ref mm])), (mk, aZ k 1600 f), (mx, aI k 6 (fun j => nI (X j))), (my, aI k 6 (fun j => nI (Y j))), (mw, aI k 6 (fun j => nI (Wi j))), (mh, aI k 6 (fun j => nI (Hi j))), (mm, aZ k 40 g)] sz) := by
  refine met_of (by decide +kernel) ?_
  intro p e s m below meth c hC hsz hw hin
  subst hsz
  have hC : Cx D k p s m _ meth c "LiftBandsModel" b_Md_wantLines 7 none := hC
  have hx := hC.1
  have hb := hC.2.1
  refine r_ent (Nat.le_of_ble_eq_true rfl) rfl (fun ls hl => ?_)
  have hl : lv_has ls 7 [(0, .ref m0), (1, .int (nI lv)), (2, .int 1)] := hl
  have hw : Wd D (va_A [(m0, .inr (8, [.int vcode, .int vw, .int vh, .int vl, .ref ms, .int vso, .ref mt, .ref mp, .ref mx, .ref my, .ref mw, .ref mh, .int 1, .ref ml, .ref mn, .ref mk, .ref mq, .ref mm])), (mk, aZ k 1600 f), (mx, aI k 6 (fun j => nI (X j))), (my, aI k 6 (fun j => nI (Y j))), (mw, aI k 6 (fun j => nI (Wi j))), (mh, aI k 6 (fun j => nI (Hi j))), (mm, aZ k 40 g)] s.heap.size) s.heap [(m0, .inr (8, [.int vcode, .int vw, .int vh, .int vl, .ref ms, .int vso, .ref mt, .ref mp, .ref mx, .ref my, .ref mw, .ref mh, .int 1, .ref ml, .ref mn, .ref mk, .ref mq, .ref mm])), (mk, aZ k 1600 f), (mx, aI k 6 (fun j => nI (X j))), (my, aI k 6 (fun j => nI (Y j))), (mw, aI k 6 (fun j => nI (Wi j))), (mh, aI k 6 (fun j => nI (Hi j))), (mm, aZ k 40 g)] s.heap [] := hw
  generalize va_A [(m0, .inr (8, [.int vcode, .int vw, .int vh, .int vl, .ref ms, .int vso, .ref mt, .ref mp, .ref mx, .ref my, .ref mw, .ref mh, .int 1, .ref ml, .ref mn, .ref mk, .ref mq, .ref mm])), (mk, aZ k 1600 f), (mx, aI k 6 (fun j => nI (X j))), (my, aI k 6 (fun j => nI (Y j))), (mw, aI k 6 (fun j => nI (Wi j))), (mh, aI k 6 (fun j => nI (Hi j))), (mm, aZ k 40 g)] s.heap.size = A at hw ⊢
  generalize ([.ref m0, .int (nI lv), .int 1] : List Value).toArray = args at hC ⊢
  have hal := hG.a (j := lv) (by omega)
  have hXl := hG.x lv (by omega)
  have hYl := hG.y lv (by omega)
  have hWl := hG.w lv (by omega)
  have hHl := hG.h lv (by omega)
  refine lv_iload_n hx hb d_Md_wantLines_0 rfl (lv_at hl 2 rfl) ?_
  refine lv_if_eq (tgt := 13) hx hb d_Md_wantLines_1 (by decide) (fun hc1 => absurd hc1 (by decide)) (fun hc1 => ?_)
  refine lv_aload_n hx hb d_Md_wantLines_4 rfl (lv_at hl 0 rfl) ?_
  refine r_get hC hw ck_Md 0 rfl 11 (by decide) k_791 rfl rfl d_Md_wantLines_5 ?_
  refine lv_iload_n hx hb d_Md_wantLines_8 rfl (lv_at hl 1 rfl) ?_
  refine r_iald hC hw 5 rfl lv rfl (by omega) (by decide) d_Md_wantLines_9 ?_
  refine lv_goto (tgt := 19) hx hb d_Md_wantLines_10 (by decide) ?_
  refine lv_istore_n (lv' := [(3, .int (nI (Hi lv))), (0, .ref m0), (1, .int (nI lv)), (2, .int 1)]) hx hb d_Md_wantLines_19 rfl hl (by decide) rfl (fun ls hl => ?_)
  refine lv_iload_n hx hb d_Md_wantLines_20 rfl (lv_at hl 3 rfl) ?_
  refine lv_if_eq (tgt := 33) hx hb d_Md_wantLines_21 (by decide) (fun hc21 => absurd hc21 (by decide)) (fun hc21 => ?_)
  refine lv_aload_n hx hb d_Md_wantLines_24 rfl (lv_at hl 1 rfl) ?_
  refine r_get hC hw ck_Md 0 rfl 10 (by decide) k_790 rfl rfl d_Md_wantLines_25 ?_
  refine lv_iload_n hx hb d_Md_wantLines_28 rfl (lv_at hl 2 rfl) ?_
  refine r_iald hC hw 4 rfl lv rfl (by omega) (by decide) d_Md_wantLines_29 ?_
  refine lv_goto (tgt := 39) hx hb d_Md_wantLines_30 (by decide) ?_
  refine lv_istore (lv' := [(4, .int (nI (Wi lv))), (3, .int (nI (Hi lv))), (0, .ref m0), (1, .int (nI lv)), (2, .int 1)]) hx hb d_Md_wantLines_39 hl (by decide) rfl (fun ls hl => ?_)
  refine lv_iconst (v := 0) hx hb d_Md_wantLines_41 (by decide) ?_
  refine lv_istore (lv' := [(5, .int 0), (4, .int (nI (Wi lv))), (3, .int (nI (Hi lv))), (0, .ref m0), (1, .int (nI lv)), (2, .int 1)]) hx hb d_Md_wantLines_42 hl (by decide) rfl (fun ls hl => ?_)
  have hl : lv_has ls 7 [(5, .int (nI 0)), (4, .int (nI (Wi lv))), (3, .int (nI (Hi lv))), (0, .ref m0), (1, .int (nI lv)), (2, .int 1)] := lv_sub hl [0, 1, 2, 3, 4, 5] rfl
  have L44 : ∀ (fu : Nat) (i : Nat) (M2 : Nat → Int32) (gg : Nat → Int32) (H : Heap) (locs : List Loc) (ls : Array Slot), Hi lv - i < fu → i ≤ Hi lv → (∀ a u, a < Hi lv → u < Wi lv → M2 (a * Wi lv + u) = if a < i then wnt4 (X lv) (Wi lv) (fun b => f (a * Wi lv + b)) u else f (a * Wi lv + u)) → Wd D A s.heap [(m0, .inr (8, [.int vcode, .int vw, .int vh, .int vl, .ref ms, .int vso, .ref mt, .ref mp, .ref mx, .ref my, .ref mw, .ref mh, .int 1, .ref ml, .ref mn, .ref mk, .ref mq, .ref mm])), (mk, aZ k 1600 M2), (mx, aI k 6 (fun j => nI (X j))), (my, aI k 6 (fun j => nI (Y j))), (mw, aI k 6 (fun j => nI (Wi j))), (mh, aI k 6 (fun j => nI (Hi j))), (mm, aZ k 40 gg)] H locs → lv_has ls 7 [(5, .int (nI i)), (4, .int (nI (Wi lv))), (3, .int (nI (Hi lv))), (0, .ref m0), (1, .int (nI lv)), (2, .int 1)] → W p l e rm_Md_wsRr s m args below meth c H locs 0 0 (MQ below (Qw D A (fun v w1 => v = none ∧ ∃ f2 g2 : Nat → Int32, w1 = [(m0, .inr (8, [.int vcode, .int vw, .int vh, .int vl, .ref ms, .int vso, .ref mt, .ref mp, .ref mx, .ref my, .ref mw, .ref mh, .int 1, .ref ml, .ref mn, .ref mk, .ref mq, .ref mm])), (mk, aZ k 1600 f2), (mx, aI k 6 (fun j => nI (X j))), (my, aI k 6 (fun j => nI (Y j))), (mw, aI k 6 (fun j => nI (Wi j))), (mh, aI k 6 (fun j => nI (Hi j))), (mm, aZ k 40 g2)] ∧ (∀ j, j < Wi lv * Hi lv → f2 j = rowsZ (wnt4 (X lv) (Wi lv)) (Wi lv) f j))) args s 0 0 A) (F0 m 44 ls []) := by
    intro fu
    induction fu with
    | zero => intro i M2 gg H locs ls hfu; exact absurd hfu (Nat.not_lt_zero _)
    | succ fu ih_L44 =>
      intro i M2 gg H locs ls hfu_L44 hib hM hw hl
      refine lv_iload hx hb d_Md_wantLines_44 (lv_at hl 0 rfl) ?_
      refine lv_iload_n hx hb d_Md_wantLines_46 rfl (lv_at hl 2 rfl) ?_
      refine lv_icmp_ge (tgt := 199) hx hb d_Md_wantLines_47 (by decide) (fun hc47 => ?_) (fun hc47 => ?_)
      · have hin : Hi lv ≤ i := (nI_leI (by omega) (by omega)).mp hc47
        have hfin : ∀ j, j < Wi lv * Hi lv → M2 j = rowsZ (wnt4 (X lv) (Wi lv)) (Wi lv) f j := by
          intro j hj
          have h1 := Nat.mod_lt j (dm_pos hj)
          have h2 : j / Wi lv < Hi lv := Nat.div_lt_of_lt_mul hj
          have h3 := hM (j / Wi lv) (j % Wi lv) h2 h1
          rw [if_pos (by omega), ← dm_self] at h3
          exact h3
        exact ew_v (w1 := [(m0, .inr (8, [.int vcode, .int vw, .int vh, .int vl, .ref ms, .int vso, .ref mt, .ref mp, .ref mx, .ref my, .ref mw, .ref mh, .int 1, .ref ml, .ref mn, .ref mk, .ref mq, .ref mm])), (mk, aZ k 1600 M2), (mx, aI k 6 (fun j => nI (X j))), (my, aI k 6 (fun j => nI (Y j))), (mw, aI k 6 (fun j => nI (Wi j))), (mh, aI k 6 (fun j => nI (Hi j))), (mm, aZ k 40 gg)]) hC hw [0, 1, 2, 3, 4, 5, 6] rfl rfl ⟨rfl, _, _, rfl, hfin⟩ d_Md_wantLines_199
      · have hin : i < Hi lv := le_nI hc47 (by omega) (by omega)
        refine lv_iconst (v := 0) hx hb d_Md_wantLines_50 (by decide) ?_
        refine lv_istore (lv' := [(6, .int 0), (5, .int (nI i)), (4, .int (nI (Wi lv))), (3, .int (nI (Hi lv))), (0, .ref m0), (1, .int (nI lv)), (2, .int 1)]) hx hb d_Md_wantLines_51 hl (by decide) rfl (fun ls hl => ?_)
        have hl : lv_has ls 7 [(6, .int (nI 0)), (5, .int (nI i)), (4, .int (nI (Wi lv))), (3, .int (nI (Hi lv))), (0, .ref m0), (1, .int (nI lv)), (2, .int 1)] := lv_sub hl [0, 1, 2, 3, 4, 5, 6] rfl
        have L53 : ∀ (fu : Nat) (u : Nat) (g3 : Nat → Int32) (H : Heap) (locs : List Loc) (ls : Array Slot), Wi lv - u < fu → u ≤ Wi lv → (∀ j, j < u → g3 j = f (i * Wi lv + j)) → Wd D A s.heap [(m0, .inr (8, [.int vcode, .int vw, .int vh, .int vl, .ref ms, .int vso, .ref mt, .ref mp, .ref mx, .ref my, .ref mw, .ref mh, .int 1, .ref ml, .ref mn, .ref mk, .ref mq, .ref mm])), (mk, aZ k 1600 M2), (mx, aI k 6 (fun j => nI (X j))), (my, aI k 6 (fun j => nI (Y j))), (mw, aI k 6 (fun j => nI (Wi j))), (mh, aI k 6 (fun j => nI (Hi j))), (mm, aZ k 40 g3)] H locs → lv_has ls 7 [(6, .int (nI u)), (5, .int (nI i)), (4, .int (nI (Wi lv))), (3, .int (nI (Hi lv))), (0, .ref m0), (1, .int (nI lv)), (2, .int 1)] → W p l e rm_Md_wsRr s m args below meth c H locs 0 0 (MQ below (Qw D A (fun v w1 => v = none ∧ ∃ f2 g2 : Nat → Int32, w1 = [(m0, .inr (8, [.int vcode, .int vw, .int vh, .int vl, .ref ms, .int vso, .ref mt, .ref mp, .ref mx, .ref my, .ref mw, .ref mh, .int 1, .ref ml, .ref mn, .ref mk, .ref mq, .ref mm])), (mk, aZ k 1600 f2), (mx, aI k 6 (fun j => nI (X j))), (my, aI k 6 (fun j => nI (Y j))), (mw, aI k 6 (fun j => nI (Wi j))), (mh, aI k 6 (fun j => nI (Hi j))), (mm, aZ k 40 g2)] ∧ (∀ j, j < Wi lv * Hi lv → f2 j = rowsZ (wnt4 (X lv) (Wi lv)) (Wi lv) f j))) args s 0 0 A) (F0 m 53 ls []) := by
          intro fu
          induction fu with
          | zero => intro u g3 H locs ls hfu; exact absurd hfu (Nat.not_lt_zero _)
          | succ fu ih_L53 =>
            intro u g3 H locs ls hfu_L53 hub hg hw hl
            refine lv_iload hx hb d_Md_wantLines_53 (lv_at hl 0 rfl) ?_
            refine lv_iload hx hb d_Md_wantLines_55 (lv_at hl 2 rfl) ?_
            refine lv_icmp_ge (tgt := 109) hx hb d_Md_wantLines_57 (by decide) (fun hc57 => ?_) (fun hc57 => ?_)
            · have hcn : Wi lv ≤ u := (nI_leI (by omega) (by omega)).mp hc57
              have hg : ∀ j, j < Wi lv → g3 j = f (i * Wi lv + j) := fun j hj => hg j (by omega)
              refine lv_aload_n hx hb d_Md_wantLines_109 rfl (lv_at hl 4 rfl) ?_
              refine lv_iload_n hx hb d_Md_wantLines_110 rfl (lv_at hl 6 rfl) ?_
              refine lv_if_eq (tgt := 123) hx hb d_Md_wantLines_111 (by decide) (fun hc111 => absurd hc111 (by decide)) (fun hc111 => ?_)
              refine lv_aload_n hx hb d_Md_wantLines_114 rfl (lv_at hl 4 rfl) ?_
              refine r_get hC hw ck_Md 0 rfl 8 (by decide) k_788 rfl rfl d_Md_wantLines_115 ?_
              refine lv_iload_n hx hb d_Md_wantLines_118 rfl (lv_at hl 5 rfl) ?_
              refine r_iald hC hw 2 rfl lv rfl (by omega) (by decide) d_Md_wantLines_119 ?_
              refine lv_goto (tgt := 129) hx hb d_Md_wantLines_120 (by decide) ?_
              refine lv_iload hx hb d_Md_wantLines_129 (lv_at hl 2 rfl) ?_
              refine r_w hw [0, 6] rfl rfl (rn_V (b := m0) (As := [.int (nI (X lv)), .int (nI (Wi lv))]) (rest := []) (C := "LiftBandsModel") hC (c_Md_wlR l D k _ m0 ms mt mp mx my mw mh ml mn mk mq mm vcode vw vh vl vso g3 (X lv) (Wi lv) (by omega) (by omega)) mk_Md_wantLine k_979 kp_32 k_977 ⟨rfl, rfl, (Nat.le_of_ble_eq_true rfl), (Nat.le_of_ble_eq_true rfl)⟩ (r_recv hC hw ck_Md 0 rfl) rfl hl.1 rfl (Nat.le_of_ble_eq_true rfl) d_Md_wantLines_131 ⟨(Nat.le_of_ble_eq_true rfl), (Nat.le_of_ble_eq_true rfl)⟩ (Pw.pre hC.2.2.2.2.2.1 hw [0, 6] rfl rfl)) (fun v w1 hp_ H locs hw1 => ?_)
              obtain ⟨rfl, rfl⟩ := hp_
              have hw := hw1 [(m0, .inr (8, [.int vcode, .int vw, .int vh, .int vl, .ref ms, .int vso, .ref mt, .ref mp, .ref mx, .ref my, .ref mw, .ref mh, .int 1, .ref ml, .ref mn, .ref mk, .ref mq, .ref mm])), (mm, aZ k 40 (wnt4 (X lv) (Wi lv) g3))] [] rfl (by simp only [List.map_cons, List.map_nil])
              have hw : Wd D _ _ [(m0, .inr (8, [.int vcode, .int vw, .int vh, .int vl, .ref ms, .int vso, .ref mt, .ref mp, .ref mx, .ref my, .ref mw, .ref mh, .int 1, .ref ml, .ref mn, .ref mk, .ref mq, .ref mm])), (mk, aZ k 1600 M2), (mx, aI k 6 (fun j => nI (X j))), (my, aI k 6 (fun j => nI (Y j))), (mw, aI k 6 (fun j => nI (Wi j))), (mh, aI k 6 (fun j => nI (Hi j))), (mm, aZ k 40 (wnt4 (X lv) (Wi lv) g3))] _ _ := hw
              refine W.eq (g2 := F0 m 134 ls []) rfl ?_
              have hout : ∀ j, j < Wi lv → wnt4 (X lv) (Wi lv) g3 j = wnt4 (X lv) (Wi lv) (fun b => f (i * Wi lv + b)) j := wnt4_loc _ _ hg
              have ho1 : is01 (Wi lv) (wnt4 (X lv) (Wi lv) (fun b => f (i * Wi lv + b))) := wnt4_01 (fun j hj => hz _ (dm_lt hj hin))
              generalize wnt4 (X lv) (Wi lv) g3 = lf at hw hout
              refine lv_iconst (v := 0) hx hb d_Md_wantLines_134 (by decide) ?_
              refine lv_istore (lv' := [(6, .int 0), (5, .int (nI i)), (4, .int (nI (Wi lv))), (3, .int (nI (Hi lv))), (0, .ref m0), (1, .int (nI lv)), (2, .int 1)]) hx hb d_Md_wantLines_135 hl (by decide) rfl (fun ls hl => ?_)
              have hl : lv_has ls 7 [(6, .int (nI 0)), (5, .int (nI i)), (4, .int (nI (Wi lv))), (3, .int (nI (Hi lv))), (0, .ref m0), (1, .int (nI lv)), (2, .int 1)] := lv_sub hl [0, 1, 2, 3, 4, 5, 6] rfl
              have L137 : ∀ (fu : Nat) (d : Nat) (M3 : Nat → Int32) (H : Heap) (locs : List Loc) (ls : Array Slot), Wi lv - d < fu → d ≤ Wi lv → (∀ a u, a < Hi lv → u < Wi lv → M3 (a * Wi lv + u) = if (a < i ∨ a = i ∧ u < d) then wnt4 (X lv) (Wi lv) (fun b => f (a * Wi lv + b)) u else f (a * Wi lv + u)) → Wd D A s.heap [(m0, .inr (8, [.int vcode, .int vw, .int vh, .int vl, .ref ms, .int vso, .ref mt, .ref mp, .ref mx, .ref my, .ref mw, .ref mh, .int 1, .ref ml, .ref mn, .ref mk, .ref mq, .ref mm])), (mk, aZ k 1600 M3), (mx, aI k 6 (fun j => nI (X j))), (my, aI k 6 (fun j => nI (Y j))), (mw, aI k 6 (fun j => nI (Wi j))), (mh, aI k 6 (fun j => nI (Hi j))), (mm, aZ k 40 lf)] H locs → lv_has ls 7 [(6, .int (nI d)), (5, .int (nI i)), (4, .int (nI (Wi lv))), (3, .int (nI (Hi lv))), (0, .ref m0), (1, .int (nI lv)), (2, .int 1)] → W p l e rm_Md_wsRr s m args below meth c H locs 0 0 (MQ below (Qw D A (fun v w1 => v = none ∧ ∃ f2 g2 : Nat → Int32, w1 = [(m0, .inr (8, [.int vcode, .int vw, .int vh, .int vl, .ref ms, .int vso, .ref mt, .ref mp, .ref mx, .ref my, .ref mw, .ref mh, .int 1, .ref ml, .ref mn, .ref mk, .ref mq, .ref mm])), (mk, aZ k 1600 f2), (mx, aI k 6 (fun j => nI (X j))), (my, aI k 6 (fun j => nI (Y j))), (mw, aI k 6 (fun j => nI (Wi j))), (mh, aI k 6 (fun j => nI (Hi j))), (mm, aZ k 40 g2)] ∧ (∀ j, j < Wi lv * Hi lv → f2 j = rowsZ (wnt4 (X lv) (Wi lv)) (Wi lv) f j))) args s 0 0 A) (F0 m 137 ls []) := by
                intro fu
                induction fu with
                | zero => intro d M3 H locs ls hfu; exact absurd hfu (Nat.not_lt_zero _)
                | succ fu ih_L137 =>
                  intro d M3 H locs ls hfu_L137 hdb hM3 hw hl
                  refine lv_iload hx hb d_Md_wantLines_137 (lv_at hl 0 rfl) ?_
                  refine lv_iload hx hb d_Md_wantLines_139 (lv_at hl 2 rfl) ?_
                  refine lv_icmp_ge (tgt := 193) hx hb d_Md_wantLines_141 (by decide) (fun hc141 => ?_) (fun hc141 => ?_)
                  · have hdn : Wi lv ≤ d := (nI_leI (by omega) (by omega)).mp hc141
                    have hM4 : (∀ a u, a < Hi lv → u < Wi lv → M3 (a * Wi lv + u) = if a < i + 1 then wnt4 (X lv) (Wi lv) (fun b => f (a * Wi lv + b)) u else f (a * Wi lv + u)) := by
                      intro a u ha hu
                      rw [hM3 a u ha hu]
                      exact ite_congr (propext ⟨by omega, by omega⟩) (fun _ => rfl) (fun _ => rfl)
                    refine lv_iinc (v := nI (i + 1)) (lv' := [(5, .int (nI (i + 1))), (6, .int (nI d)), (4, .int (nI (Wi lv))), (3, .int (nI (Hi lv))), (0, .ref m0), (1, .int (nI lv)), (2, .int 1)]) hx hb d_Md_wantLines_193 hl (k := 1) rfl (nI_add i 1) (by decide) rfl (fun ls hl => ?_)
                    refine lv_goto (tgt := 44) hx hb d_Md_wantLines_196 (by decide) ?_
                    exact ih_L44 (i + 1) M3 lf _ _ _ (by omega) (by omega) hM4 hw (lv_sub hl [0, 2, 3, 4, 5, 6] rfl)
                  · have hdn : d < Wi lv := le_nI hc141 (by omega) (by omega)
                    have hix := (dm_lt hdn hin)
                    refine lv_aload_n hx hb d_Md_wantLines_144 rfl (lv_at hl 4 rfl) ?_
                    refine r_get hC hw ck_Md 0 rfl 15 (by decide) k_795 rfl rfl d_Md_wantLines_145 ?_
                    refine lv_iload_n hx hb d_Md_wantLines_148 rfl (lv_at hl 6 rfl) ?_
                    refine lv_if_eq (tgt := 167) hx hb d_Md_wantLines_149 (by decide) (fun hc149 => absurd hc149 (by decide)) (fun hc149 => ?_)
                    refine lv_iload hx hb d_Md_wantLines_152 (lv_at hl 1 rfl) ?_
                    refine lv_aload_n hx hb d_Md_wantLines_154 rfl (lv_at hl 4 rfl) ?_
                    refine r_get hC hw ck_Md 0 rfl 10 (by decide) k_790 rfl rfl d_Md_wantLines_155 ?_
                    refine lv_iload_n hx hb d_Md_wantLines_158 rfl (lv_at hl 5 rfl) ?_
                    refine r_iald hC hw 4 rfl lv rfl (by omega) (by decide) d_Md_wantLines_159 ?_
                    refine lv_imul hx hb d_Md_wantLines_160 ?_
                    refine r_topi (y := nI (i * Wi lv)) (pk_mul _ _) ?_
                    refine lv_iload hx hb d_Md_wantLines_161 (lv_at hl 0 rfl) ?_
                    refine lv_iadd hx hb d_Md_wantLines_163 ?_
                    refine r_topi (y := nI (i * Wi lv + d)) (nI_add _ _) ?_
                    refine lv_goto (tgt := 179) hx hb d_Md_wantLines_164 (by decide) ?_
                    refine lv_aload_n hx hb d_Md_wantLines_179 rfl (lv_at hl 4 rfl) ?_
                    refine r_get hC hw ck_Md 0 rfl 17 (by decide) k_797 rfl rfl d_Md_wantLines_180 ?_
                    refine lv_iload hx hb d_Md_wantLines_183 (lv_at hl 0 rfl) ?_
                    refine r_zald hC hw 6 rfl d rfl (by omega) (by decide) d_Md_wantLines_185 ?_
                    refine r_topi (y := wnt4 (X lv) (Wi lv) (fun b => f (i * Wi lv + b)) d) (hout d hdn) ?_
                    refine r_zast hC hw 1 rfl (i * Wi lv + d) rfl (by omega) (by decide) (ho1 d hdn) d_Md_wantLines_186 (fun H locs hw => ?_)
                    have hw : Wd D _ _ [(m0, .inr (8, [.int vcode, .int vw, .int vh, .int vl, .ref ms, .int vso, .ref mt, .ref mp, .ref mx, .ref my, .ref mw, .ref mh, .int 1, .ref ml, .ref mn, .ref mk, .ref mq, .ref mm])), (mk, aZ k 1600 (upd M3 (i * Wi lv + d) (wnt4 (X lv) (Wi lv) (fun b => f (i * Wi lv + b)) d))), (mx, aI k 6 (fun j => nI (X j))), (my, aI k 6 (fun j => nI (Y j))), (mw, aI k 6 (fun j => nI (Wi j))), (mh, aI k 6 (fun j => nI (Hi j))), (mm, aZ k 40 lf)] _ _ := hw
                    refine lv_iinc (v := nI (d + 1)) (lv' := [(6, .int (nI (d + 1))), (5, .int (nI i)), (4, .int (nI (Wi lv))), (3, .int (nI (Hi lv))), (0, .ref m0), (1, .int (nI lv)), (2, .int 1)]) hx hb d_Md_wantLines_187 hl (k := 0) rfl (nI_add d 1) (by decide) rfl (fun ls hl => ?_)
                    refine lv_goto (tgt := 137) hx hb d_Md_wantLines_190 (by decide) ?_
                    exact ih_L137 (d + 1) (upd M3 (i * Wi lv + d) (wnt4 (X lv) (Wi lv) (fun b => f (i * Wi lv + b)) d)) _ _ _ (by omega) (by omega) (fun a u ha hu => by by_cases e : (a * Wi lv + u) = (i * Wi lv + d); obtain ⟨e1, e2⟩ := ix_inj hu hdn e; subst e1; subst e2; rw [updI_at, if_pos (by omega)]; rw [updI_ne e, hM3 a u ha hu]; exact ite_congr (propext ⟨by omega, fun q => by rcases q with q | ⟨q1, q2⟩; exact Or.inl q; rcases Nat.lt_or_ge u d with z | z; exact Or.inr ⟨q1, z⟩; exact absurd (by rw [q1, show u = d by omega]) e⟩) (fun _ => rfl) (fun _ => rfl)) hw (lv_sub hl [0, 1, 2, 3, 4, 5, 6] rfl)
              exact L137 (Wi lv + 1) 0 M2 _ _ _ (by omega) (by omega) (fun a u ha hu => by rw [hM a u ha hu]; exact ite_congr (propext ⟨by omega, by omega⟩) (fun _ => rfl) (fun _ => rfl)) hw (lv_sub hl [0, 1, 2, 3, 4, 5, 6] rfl)
            · have hcn : u < Wi lv := le_nI hc57 (by omega) (by omega)
              have hix := (dm_lt hcn hin)
              refine lv_aload_n hx hb d_Md_wantLines_60 rfl (lv_at hl 4 rfl) ?_
              refine r_get hC hw ck_Md 0 rfl 17 (by decide) k_797 rfl rfl d_Md_wantLines_61 ?_
              refine lv_iload hx hb d_Md_wantLines_64 (lv_at hl 0 rfl) ?_
              refine lv_aload_n hx hb d_Md_wantLines_66 rfl (lv_at hl 4 rfl) ?_
              refine r_get hC hw ck_Md 0 rfl 15 (by decide) k_795 rfl rfl d_Md_wantLines_67 ?_
              refine lv_iload_n hx hb d_Md_wantLines_70 rfl (lv_at hl 6 rfl) ?_
              refine lv_if_eq (tgt := 89) hx hb d_Md_wantLines_71 (by decide) (fun hc71 => absurd hc71 (by decide)) (fun hc71 => ?_)
              refine lv_iload hx hb d_Md_wantLines_74 (lv_at hl 1 rfl) ?_
              refine lv_aload_n hx hb d_Md_wantLines_76 rfl (lv_at hl 4 rfl) ?_
              refine r_get hC hw ck_Md 0 rfl 10 (by decide) k_790 rfl rfl d_Md_wantLines_77 ?_
              refine lv_iload_n hx hb d_Md_wantLines_80 rfl (lv_at hl 5 rfl) ?_
              refine r_iald hC hw 4 rfl lv rfl (by omega) (by decide) d_Md_wantLines_81 ?_
              refine lv_imul hx hb d_Md_wantLines_82 ?_
              refine r_topi (y := nI (i * Wi lv)) (pk_mul _ _) ?_
              refine lv_iload hx hb d_Md_wantLines_83 (lv_at hl 0 rfl) ?_
              refine lv_iadd hx hb d_Md_wantLines_85 ?_
              refine r_topi (y := nI (i * Wi lv + u)) (nI_add _ _) ?_
              refine lv_goto (tgt := 101) hx hb d_Md_wantLines_86 (by decide) ?_
              refine r_zald hC hw 1 rfl (i * Wi lv + u) rfl (by omega) (by decide) d_Md_wantLines_101 ?_
              refine r_topi (y := f (i * Wi lv + u)) ((hM i u hin hcn).trans (if_neg (by omega))) ?_
              refine r_zast hC hw 6 rfl u rfl (by omega) (by decide) (hz _ hix) d_Md_wantLines_102 (fun H locs hw => ?_)
              have hw : Wd D _ _ [(m0, .inr (8, [.int vcode, .int vw, .int vh, .int vl, .ref ms, .int vso, .ref mt, .ref mp, .ref mx, .ref my, .ref mw, .ref mh, .int 1, .ref ml, .ref mn, .ref mk, .ref mq, .ref mm])), (mk, aZ k 1600 M2), (mx, aI k 6 (fun j => nI (X j))), (my, aI k 6 (fun j => nI (Y j))), (mw, aI k 6 (fun j => nI (Wi j))), (mh, aI k 6 (fun j => nI (Hi j))), (mm, aZ k 40 (upd g3 u (f (i * Wi lv + u))))] _ _ := hw
              refine lv_iinc (v := nI (u + 1)) (lv' := [(6, .int (nI (u + 1))), (5, .int (nI i)), (4, .int (nI (Wi lv))), (3, .int (nI (Hi lv))), (0, .ref m0), (1, .int (nI lv)), (2, .int 1)]) hx hb d_Md_wantLines_103 hl (k := 0) rfl (nI_add u 1) (by decide) rfl (fun ls hl => ?_)
              refine lv_goto (tgt := 53) hx hb d_Md_wantLines_106 (by decide) ?_
              exact ih_L53 (u + 1) (upd g3 u (f (i * Wi lv + u))) _ _ _ (by omega) (by omega) (fun j hj => by by_cases e : j = u; rw [e, updI_at]; rw [updI_ne e]; exact hg j (by omega)) hw (lv_sub hl [0, 1, 2, 3, 4, 5, 6] rfl)
        exact L53 (Wi lv + 1) 0 gg _ _ _ (by omega) (by omega) (fun j hj => absurd hj (Nat.not_lt_zero _)) hw (lv_sub hl [0, 1, 2, 3, 4, 5, 6] rfl)
  exact L44 (Hi lv + 1) 0 f g _ _ _ (by omega) (by omega) (fun a u _ _ => (if_neg (Nat.not_lt_zero a)).symm) hw (lv_sub hl [0, 1, 2, 3, 4, 5] rfl)
abbrev rm_Md_wsRc : Room := { frames := 1, cells := 0, slots := 0, locals := 34 }
set_option maxHeartbeats 4000000 in
set_option maxRecDepth 100000 in
/-- Model.wantLines -/
theorem c_Md_wsRc (l : Launch) (D : va_G) (k : Nat → ClassId) (sz : Nat) (m0 ms mt mp mx my mw mh ml mn mk mq mm : Nat) (vcode vw vh vl vso : Int32) (f g : Nat → Int32) (X Y Wi Hi : Nat → Nat) (hG : Geo X Y Wi Hi) (lv : Nat) (hlv : lv < 5) (hz : is01 (Wi lv * Hi lv) f) : Met l y_Md_wantLines (Cond.code y_Md_wantLines b_Md_wantLines 7 none :: lw_g) rm_Md_wsRc (Pw D k [(m0, .inr (8, [.int vcode, .int vw, .int vh, .int vl, .ref ms, .int vso, .ref mt, .ref mp, .ref mx, .ref my, .ref mw, .ref mh, .int 1, .ref ml, .ref mn, .ref mk, .ref mq, .ref mm])), (mk, aZ k 1600 f), (mx, aI k 6 (fun j => nI (X j))), (my, aI k 6 (fun j => nI (Y j))), (mw, aI k 6 (fun j => nI (Wi j))), (mh, aI k 6 (fun j => nI (Hi j))), (mm, aZ k 40 g)] sz [.ref m0, .int (nI lv), .int 0]) (Qw D (va_A [(m0, .inr (8, [.int vcode, .int vw, .int vh, .int vl, .ref ms, .int vso, .ref mt, .ref mp, .ref mx, .ref my, .ref mw, .ref mh, .int 1, .ref ml, .ref mn, .ref mk, .ref mq, .ref mm])), (mk, aZ k 1600 f), (mx, aI k 6 (fun j => nI (X j))), (my, aI k 6 (fun j => nI (Y j))), (mw, aI k 6 (fun j => nI (Wi j))), (mh, aI k 6 (fun j => nI (Hi j))), (mm, aZ k 40 g)] sz) (fun v w1 => v = none ∧ ∃ f2 g2 : Nat → Int32, w1 = [(m0, .inr (8, [.int vcode, .int vw, .int vh, .int vl, .ref ms, .int vso, .ref mt, .ref mp, .ref mx, .ref my, .ref mw, .ref mh, .int 1, .ref ml, .ref mn, .ref mk, .ref mq, .ref mm])), (mk, aZ k 1600 f2), (mx, aI k 6 (fun j => nI (X j))), (my, aI k 6 (fun j => nI (Y j))), (mw, aI k 6 (fun j => nI (Wi j))), (mh, aI k 6 (fun j => nI (Hi j))), (mm, aZ k 40 g2)] ∧ (∀ j, j < Wi lv * Hi lv → f2 j = colsZ (wnt4 (Y lv) (Hi lv)) (Wi lv) f j))) 0 0 (va_A [(m0, .inr (8, [.int vcode, .int vw, .int vh, .int vl, .ref ms, .int vso, .ref mt, .ref mp, .ref mx, .ref my, .ref mw, .ref mh, .int 1, .ref ml, .ref mn, .ref mk, .ref mq, .ref mm])), (mk, aZ k 1600 f), (mx, aI k 6 (fun j => nI (X j))), (my, aI k 6 (fun j => nI (Y j))), (mw, aI k 6 (fun j => nI (Wi j))), (mh, aI k 6 (fun j => nI (Hi j))), (mm, aZ k 40 g)] sz) := by
  refine met_of (by decide +kernel) ?_
  intro p e s m below meth c hC hsz hw hin
  subst hsz
  have hC : Cx D k p s m _ meth c "LiftBandsModel" b_Md_wantLines 7 none := hC
  have hx := hC.1
  have hb := hC.2.1
  refine r_ent (Nat.le_of_ble_eq_true rfl) rfl (fun ls hl => ?_)
  have hl : lv_has ls 7 [(0, .ref m0), (1, .int (nI lv)), (2, .int 0)] := hl
  have hw : Wd D (va_A [(m0, .inr (8, [.int vcode, .int vw, .int vh, .int vl, .ref ms, .int vso, .ref mt, .ref mp, .ref mx, .ref my, .ref mw, .ref mh, .int 1, .ref ml, .ref mn, .ref mk, .ref mq, .ref mm])), (mk, aZ k 1600 f), (mx, aI k 6 (fun j => nI (X j))), (my, aI k 6 (fun j => nI (Y j))), (mw, aI k 6 (fun j => nI (Wi j))), (mh, aI k 6 (fun j => nI (Hi j))), (mm, aZ k 40 g)] s.heap.size) s.heap [(m0, .inr (8, [.int vcode, .int vw, .int vh, .int vl, .ref ms, .int vso, .ref mt, .ref mp, .ref mx, .ref my, .ref mw, .ref mh, .int 1, .ref ml, .ref mn, .ref mk, .ref mq, .ref mm])), (mk, aZ k 1600 f), (mx, aI k 6 (fun j => nI (X j))), (my, aI k 6 (fun j => nI (Y j))), (mw, aI k 6 (fun j => nI (Wi j))), (mh, aI k 6 (fun j => nI (Hi j))), (mm, aZ k 40 g)] s.heap [] := hw
  generalize va_A [(m0, .inr (8, [.int vcode, .int vw, .int vh, .int vl, .ref ms, .int vso, .ref mt, .ref mp, .ref mx, .ref my, .ref mw, .ref mh, .int 1, .ref ml, .ref mn, .ref mk, .ref mq, .ref mm])), (mk, aZ k 1600 f), (mx, aI k 6 (fun j => nI (X j))), (my, aI k 6 (fun j => nI (Y j))), (mw, aI k 6 (fun j => nI (Wi j))), (mh, aI k 6 (fun j => nI (Hi j))), (mm, aZ k 40 g)] s.heap.size = A at hw ⊢
  generalize ([.ref m0, .int (nI lv), .int 0] : List Value).toArray = args at hC ⊢
  have hal := hG.a (j := lv) (by omega)
  have hXl := hG.x lv (by omega)
  have hYl := hG.y lv (by omega)
  have hWl := hG.w lv (by omega)
  have hHl := hG.h lv (by omega)
  refine lv_iload_n hx hb d_Md_wantLines_0 rfl (lv_at hl 2 rfl) ?_
  refine lv_if_eq (tgt := 13) hx hb d_Md_wantLines_1 (by decide) (fun hc1 => ?_) (fun hc1 => absurd rfl hc1)
  refine lv_aload_n hx hb d_Md_wantLines_13 rfl (lv_at hl 0 rfl) ?_
  refine r_get hC hw ck_Md 0 rfl 10 (by decide) k_790 rfl rfl d_Md_wantLines_14 ?_
  refine lv_iload_n hx hb d_Md_wantLines_17 rfl (lv_at hl 1 rfl) ?_
  refine r_iald hC hw 4 rfl lv rfl (by omega) (by decide) d_Md_wantLines_18 ?_
  refine lv_istore_n (lv' := [(3, .int (nI (Wi lv))), (0, .ref m0), (1, .int (nI lv)), (2, .int 0)]) hx hb d_Md_wantLines_19 rfl hl (by decide) rfl (fun ls hl => ?_)
  refine lv_iload_n hx hb d_Md_wantLines_20 rfl (lv_at hl 3 rfl) ?_
  refine lv_if_eq (tgt := 33) hx hb d_Md_wantLines_21 (by decide) (fun hc21 => ?_) (fun hc21 => absurd rfl hc21)
  refine lv_aload_n hx hb d_Md_wantLines_33 rfl (lv_at hl 1 rfl) ?_
  refine r_get hC hw ck_Md 0 rfl 11 (by decide) k_791 rfl rfl d_Md_wantLines_34 ?_
  refine lv_iload_n hx hb d_Md_wantLines_37 rfl (lv_at hl 2 rfl) ?_
  refine r_iald hC hw 5 rfl lv rfl (by omega) (by decide) d_Md_wantLines_38 ?_
  refine lv_istore (lv' := [(4, .int (nI (Hi lv))), (3, .int (nI (Wi lv))), (0, .ref m0), (1, .int (nI lv)), (2, .int 0)]) hx hb d_Md_wantLines_39 hl (by decide) rfl (fun ls hl => ?_)
  refine lv_iconst (v := 0) hx hb d_Md_wantLines_41 (by decide) ?_
  refine lv_istore (lv' := [(5, .int 0), (4, .int (nI (Hi lv))), (3, .int (nI (Wi lv))), (0, .ref m0), (1, .int (nI lv)), (2, .int 0)]) hx hb d_Md_wantLines_42 hl (by decide) rfl (fun ls hl => ?_)
  have hl : lv_has ls 7 [(5, .int (nI 0)), (4, .int (nI (Hi lv))), (3, .int (nI (Wi lv))), (0, .ref m0), (1, .int (nI lv)), (2, .int 0)] := lv_sub hl [0, 1, 2, 3, 4, 5] rfl
  have L44 : ∀ (fu : Nat) (i : Nat) (M2 : Nat → Int32) (gg : Nat → Int32) (H : Heap) (locs : List Loc) (ls : Array Slot), Wi lv - i < fu → i ≤ Wi lv → (∀ a u, a < Wi lv → u < Hi lv → M2 (u * Wi lv + a) = if a < i then wnt4 (Y lv) (Hi lv) (fun b => f (b * Wi lv + a)) u else f (u * Wi lv + a)) → Wd D A s.heap [(m0, .inr (8, [.int vcode, .int vw, .int vh, .int vl, .ref ms, .int vso, .ref mt, .ref mp, .ref mx, .ref my, .ref mw, .ref mh, .int 1, .ref ml, .ref mn, .ref mk, .ref mq, .ref mm])), (mk, aZ k 1600 M2), (mx, aI k 6 (fun j => nI (X j))), (my, aI k 6 (fun j => nI (Y j))), (mw, aI k 6 (fun j => nI (Wi j))), (mh, aI k 6 (fun j => nI (Hi j))), (mm, aZ k 40 gg)] H locs → lv_has ls 7 [(5, .int (nI i)), (4, .int (nI (Hi lv))), (3, .int (nI (Wi lv))), (0, .ref m0), (1, .int (nI lv)), (2, .int 0)] → W p l e rm_Md_wsRc s m args below meth c H locs 0 0 (MQ below (Qw D A (fun v w1 => v = none ∧ ∃ f2 g2 : Nat → Int32, w1 = [(m0, .inr (8, [.int vcode, .int vw, .int vh, .int vl, .ref ms, .int vso, .ref mt, .ref mp, .ref mx, .ref my, .ref mw, .ref mh, .int 1, .ref ml, .ref mn, .ref mk, .ref mq, .ref mm])), (mk, aZ k 1600 f2), (mx, aI k 6 (fun j => nI (X j))), (my, aI k 6 (fun j => nI (Y j))), (mw, aI k 6 (fun j => nI (Wi j))), (mh, aI k 6 (fun j => nI (Hi j))), (mm, aZ k 40 g2)] ∧ (∀ j, j < Wi lv * Hi lv → f2 j = colsZ (wnt4 (Y lv) (Hi lv)) (Wi lv) f j))) args s 0 0 A) (F0 m 44 ls []) := by
    intro fu
    induction fu with
    | zero => intro i M2 gg H locs ls hfu; exact absurd hfu (Nat.not_lt_zero _)
    | succ fu ih_L44 =>
      intro i M2 gg H locs ls hfu_L44 hib hM hw hl
      refine lv_iload hx hb d_Md_wantLines_44 (lv_at hl 0 rfl) ?_
      refine lv_iload_n hx hb d_Md_wantLines_46 rfl (lv_at hl 2 rfl) ?_
      refine lv_icmp_ge (tgt := 199) hx hb d_Md_wantLines_47 (by decide) (fun hc47 => ?_) (fun hc47 => ?_)
      · have hin : Wi lv ≤ i := (nI_leI (by omega) (by omega)).mp hc47
        have hfin : ∀ j, j < Wi lv * Hi lv → M2 j = colsZ (wnt4 (Y lv) (Hi lv)) (Wi lv) f j := by
          intro j hj
          have h1 := Nat.mod_lt j (dm_pos hj)
          have h2 : j / Wi lv < Hi lv := Nat.div_lt_of_lt_mul hj
          have h3 := hM (j % Wi lv) (j / Wi lv) h1 h2
          rw [if_pos (by omega), ← dm_self] at h3
          exact h3
        exact ew_v (w1 := [(m0, .inr (8, [.int vcode, .int vw, .int vh, .int vl, .ref ms, .int vso, .ref mt, .ref mp, .ref mx, .ref my, .ref mw, .ref mh, .int 1, .ref ml, .ref mn, .ref mk, .ref mq, .ref mm])), (mk, aZ k 1600 M2), (mx, aI k 6 (fun j => nI (X j))), (my, aI k 6 (fun j => nI (Y j))), (mw, aI k 6 (fun j => nI (Wi j))), (mh, aI k 6 (fun j => nI (Hi j))), (mm, aZ k 40 gg)]) hC hw [0, 1, 2, 3, 4, 5, 6] rfl rfl ⟨rfl, _, _, rfl, hfin⟩ d_Md_wantLines_199
      · have hin : i < Wi lv := le_nI hc47 (by omega) (by omega)
        refine lv_iconst (v := 0) hx hb d_Md_wantLines_50 (by decide) ?_
        refine lv_istore (lv' := [(6, .int 0), (5, .int (nI i)), (4, .int (nI (Hi lv))), (3, .int (nI (Wi lv))), (0, .ref m0), (1, .int (nI lv)), (2, .int 0)]) hx hb d_Md_wantLines_51 hl (by decide) rfl (fun ls hl => ?_)
        have hl : lv_has ls 7 [(6, .int (nI 0)), (5, .int (nI i)), (4, .int (nI (Hi lv))), (3, .int (nI (Wi lv))), (0, .ref m0), (1, .int (nI lv)), (2, .int 0)] := lv_sub hl [0, 1, 2, 3, 4, 5, 6] rfl
        have L53 : ∀ (fu : Nat) (u : Nat) (g3 : Nat → Int32) (H : Heap) (locs : List Loc) (ls : Array Slot), Hi lv - u < fu → u ≤ Hi lv → (∀ j, j < u → g3 j = f (j * Wi lv + i)) → Wd D A s.heap [(m0, .inr (8, [.int vcode, .int vw, .int vh, .int vl, .ref ms, .int vso, .ref mt, .ref mp, .ref mx, .ref my, .ref mw, .ref mh, .int 1, .ref ml, .ref mn, .ref mk, .ref mq, .ref mm])), (mk, aZ k 1600 M2), (mx, aI k 6 (fun j => nI (X j))), (my, aI k 6 (fun j => nI (Y j))), (mw, aI k 6 (fun j => nI (Wi j))), (mh, aI k 6 (fun j => nI (Hi j))), (mm, aZ k 40 g3)] H locs → lv_has ls 7 [(6, .int (nI u)), (5, .int (nI i)), (4, .int (nI (Hi lv))), (3, .int (nI (Wi lv))), (0, .ref m0), (1, .int (nI lv)), (2, .int 0)] → W p l e rm_Md_wsRc s m args below meth c H locs 0 0 (MQ below (Qw D A (fun v w1 => v = none ∧ ∃ f2 g2 : Nat → Int32, w1 = [(m0, .inr (8, [.int vcode, .int vw, .int vh, .int vl, .ref ms, .int vso, .ref mt, .ref mp, .ref mx, .ref my, .ref mw, .ref mh, .int 1, .ref ml, .ref mn, .ref mk, .ref mq, .ref mm])), (mk, aZ k 1600 f2), (mx, aI k 6 (fun j => nI (X j))), (my, aI k 6 (fun j => nI (Y j))), (mw, aI k 6 (fun j => nI (Wi j))), (mh, aI k 6 (fun j => nI (Hi j))), (mm, aZ k 40 g2)] ∧ (∀ j, j < Wi lv * Hi lv → f2 j = colsZ (wnt4 (Y lv) (Hi lv)) (Wi lv) f j))) args s 0 0 A) (F0 m 53 ls []) := by
          intro fu
          induction fu with
          | zero => intro u g3 H locs ls hfu; exact absurd hfu (Nat.not_lt_zero _)
          | succ fu ih_L53 =>
            intro u g3 H locs ls hfu_L53 hub hg hw hl
            refine lv_iload hx hb d_Md_wantLines_53 (lv_at hl 0 rfl) ?_
            refine lv_iload hx hb d_Md_wantLines_55 (lv_at hl 2 rfl) ?_
            refine lv_icmp_ge (tgt := 109) hx hb d_Md_wantLines_57 (by decide) (fun hc57 => ?_) (fun hc57 => ?_)
            · have hcn : Hi lv ≤ u := (nI_leI (by omega) (by omega)).mp hc57
              have hg : ∀ j, j < Hi lv → g3 j = f (j * Wi lv + i) := fun j hj => hg j (by omega)
              refine lv_aload_n hx hb d_Md_wantLines_109 rfl (lv_at hl 4 rfl) ?_
              refine lv_iload_n hx hb d_Md_wantLines_110 rfl (lv_at hl 6 rfl) ?_
              refine lv_if_eq (tgt := 123) hx hb d_Md_wantLines_111 (by decide) (fun hc111 => ?_) (fun hc111 => absurd rfl hc111)
              refine lv_aload_n hx hb d_Md_wantLines_123 rfl (lv_at hl 4 rfl) ?_
              refine r_get hC hw ck_Md 0 rfl 9 (by decide) k_789 rfl rfl d_Md_wantLines_124 ?_
              refine lv_iload_n hx hb d_Md_wantLines_127 rfl (lv_at hl 5 rfl) ?_
              refine r_iald hC hw 3 rfl lv rfl (by omega) (by decide) d_Md_wantLines_128 ?_
              refine lv_iload hx hb d_Md_wantLines_129 (lv_at hl 2 rfl) ?_
              refine r_w hw [0, 6] rfl rfl (rn_V (b := m0) (As := [.int (nI (Y lv)), .int (nI (Hi lv))]) (rest := []) (C := "LiftBandsModel") hC (c_Md_wlR l D k _ m0 ms mt mp mx my mw mh ml mn mk mq mm vcode vw vh vl vso g3 (Y lv) (Hi lv) (by omega) (by omega)) mk_Md_wantLine k_979 kp_32 k_977 ⟨rfl, rfl, (Nat.le_of_ble_eq_true rfl), (Nat.le_of_ble_eq_true rfl)⟩ (r_recv hC hw ck_Md 0 rfl) rfl hl.1 rfl (Nat.le_of_ble_eq_true rfl) d_Md_wantLines_131 ⟨(Nat.le_of_ble_eq_true rfl), (Nat.le_of_ble_eq_true rfl)⟩ (Pw.pre hC.2.2.2.2.2.1 hw [0, 6] rfl rfl)) (fun v w1 hp_ H locs hw1 => ?_)
              obtain ⟨rfl, rfl⟩ := hp_
              have hw := hw1 [(m0, .inr (8, [.int vcode, .int vw, .int vh, .int vl, .ref ms, .int vso, .ref mt, .ref mp, .ref mx, .ref my, .ref mw, .ref mh, .int 1, .ref ml, .ref mn, .ref mk, .ref mq, .ref mm])), (mm, aZ k 40 (wnt4 (Y lv) (Hi lv) g3))] [] rfl (by simp only [List.map_cons, List.map_nil])
              have hw : Wd D _ _ [(m0, .inr (8, [.int vcode, .int vw, .int vh, .int vl, .ref ms, .int vso, .ref mt, .ref mp, .ref mx, .ref my, .ref mw, .ref mh, .int 1, .ref ml, .ref mn, .ref mk, .ref mq, .ref mm])), (mk, aZ k 1600 M2), (mx, aI k 6 (fun j => nI (X j))), (my, aI k 6 (fun j => nI (Y j))), (mw, aI k 6 (fun j => nI (Wi j))), (mh, aI k 6 (fun j => nI (Hi j))), (mm, aZ k 40 (wnt4 (Y lv) (Hi lv) g3))] _ _ := hw
              refine W.eq (g2 := F0 m 134 ls []) rfl ?_
              have hout : ∀ j, j < Hi lv → wnt4 (Y lv) (Hi lv) g3 j = wnt4 (Y lv) (Hi lv) (fun b => f (b * Wi lv + i)) j := wnt4_loc _ _ hg
              have ho1 : is01 (Hi lv) (wnt4 (Y lv) (Hi lv) (fun b => f (b * Wi lv + i))) := wnt4_01 (fun j hj => hz _ (dm_lt hin hj))
              generalize wnt4 (Y lv) (Hi lv) g3 = lf at hw hout
              refine lv_iconst (v := 0) hx hb d_Md_wantLines_134 (by decide) ?_
              refine lv_istore (lv' := [(6, .int 0), (5, .int (nI i)), (4, .int (nI (Hi lv))), (3, .int (nI (Wi lv))), (0, .ref m0), (1, .int (nI lv)), (2, .int 0)]) hx hb d_Md_wantLines_135 hl (by decide) rfl (fun ls hl => ?_)
              have hl : lv_has ls 7 [(6, .int (nI 0)), (5, .int (nI i)), (4, .int (nI (Hi lv))), (3, .int (nI (Wi lv))), (0, .ref m0), (1, .int (nI lv)), (2, .int 0)] := lv_sub hl [0, 1, 2, 3, 4, 5, 6] rfl
              have L137 : ∀ (fu : Nat) (d : Nat) (M3 : Nat → Int32) (H : Heap) (locs : List Loc) (ls : Array Slot), Hi lv - d < fu → d ≤ Hi lv → (∀ a u, a < Wi lv → u < Hi lv → M3 (u * Wi lv + a) = if (a < i ∨ a = i ∧ u < d) then wnt4 (Y lv) (Hi lv) (fun b => f (b * Wi lv + a)) u else f (u * Wi lv + a)) → Wd D A s.heap [(m0, .inr (8, [.int vcode, .int vw, .int vh, .int vl, .ref ms, .int vso, .ref mt, .ref mp, .ref mx, .ref my, .ref mw, .ref mh, .int 1, .ref ml, .ref mn, .ref mk, .ref mq, .ref mm])), (mk, aZ k 1600 M3), (mx, aI k 6 (fun j => nI (X j))), (my, aI k 6 (fun j => nI (Y j))), (mw, aI k 6 (fun j => nI (Wi j))), (mh, aI k 6 (fun j => nI (Hi j))), (mm, aZ k 40 lf)] H locs → lv_has ls 7 [(6, .int (nI d)), (5, .int (nI i)), (4, .int (nI (Hi lv))), (3, .int (nI (Wi lv))), (0, .ref m0), (1, .int (nI lv)), (2, .int 0)] → W p l e rm_Md_wsRc s m args below meth c H locs 0 0 (MQ below (Qw D A (fun v w1 => v = none ∧ ∃ f2 g2 : Nat → Int32, w1 = [(m0, .inr (8, [.int vcode, .int vw, .int vh, .int vl, .ref ms, .int vso, .ref mt, .ref mp, .ref mx, .ref my, .ref mw, .ref mh, .int 1, .ref ml, .ref mn, .ref mk, .ref mq, .ref mm])), (mk, aZ k 1600 f2), (mx, aI k 6 (fun j => nI (X j))), (my, aI k 6 (fun j => nI (Y j))), (mw, aI k 6 (fun j => nI (Wi j))), (mh, aI k 6 (fun j => nI (Hi j))), (mm, aZ k 40 g2)] ∧ (∀ j, j < Wi lv * Hi lv → f2 j = colsZ (wnt4 (Y lv) (Hi lv)) (Wi lv) f j))) args s 0 0 A) (F0 m 137 ls []) := by
                intro fu
                induction fu with
                | zero => intro d M3 H locs ls hfu; exact absurd hfu (Nat.not_lt_zero _)
                | succ fu ih_L137 =>
                  intro d M3 H locs ls hfu_L137 hdb hM3 hw hl
                  refine lv_iload hx hb d_Md_wantLines_137 (lv_at hl 0 rfl) ?_
                  refine lv_iload hx hb d_Md_wantLines_139 (lv_at hl 2 rfl) ?_
                  refine lv_icmp_ge (tgt := 193) hx hb d_Md_wantLines_141 (by decide) (fun hc141 => ?_) (fun hc141 => ?_)
                  · have hdn : Hi lv ≤ d := (nI_leI (by omega) (by omega)).mp hc141
                    have hM4 : (∀ a u, a < Wi lv → u < Hi lv → M3 (u * Wi lv + a) = if a < i + 1 then wnt4 (Y lv) (Hi lv) (fun b => f (b * Wi lv + a)) u else f (u * Wi lv + a)) := by
                      intro a u ha hu
                      rw [hM3 a u ha hu]
                      exact ite_congr (propext ⟨by omega, by omega⟩) (fun _ => rfl) (fun _ => rfl)
                    refine lv_iinc (v := nI (i + 1)) (lv' := [(5, .int (nI (i + 1))), (6, .int (nI d)), (4, .int (nI (Hi lv))), (3, .int (nI (Wi lv))), (0, .ref m0), (1, .int (nI lv)), (2, .int 0)]) hx hb d_Md_wantLines_193 hl (k := 1) rfl (nI_add i 1) (by decide) rfl (fun ls hl => ?_)
                    refine lv_goto (tgt := 44) hx hb d_Md_wantLines_196 (by decide) ?_
                    exact ih_L44 (i + 1) M3 lf _ _ _ (by omega) (by omega) hM4 hw (lv_sub hl [0, 2, 3, 4, 5, 6] rfl)
                  · have hdn : d < Hi lv := le_nI hc141 (by omega) (by omega)
                    have hix := (dm_lt hin hdn)
                    refine lv_aload_n hx hb d_Md_wantLines_144 rfl (lv_at hl 4 rfl) ?_
                    refine r_get hC hw ck_Md 0 rfl 15 (by decide) k_795 rfl rfl d_Md_wantLines_145 ?_
                    refine lv_iload_n hx hb d_Md_wantLines_148 rfl (lv_at hl 6 rfl) ?_
                    refine lv_if_eq (tgt := 167) hx hb d_Md_wantLines_149 (by decide) (fun hc149 => ?_) (fun hc149 => absurd rfl hc149)
                    refine lv_iload hx hb d_Md_wantLines_167 (lv_at hl 0 rfl) ?_
                    refine lv_aload_n hx hb d_Md_wantLines_169 rfl (lv_at hl 4 rfl) ?_
                    refine r_get hC hw ck_Md 0 rfl 10 (by decide) k_790 rfl rfl d_Md_wantLines_170 ?_
                    refine lv_iload_n hx hb d_Md_wantLines_173 rfl (lv_at hl 5 rfl) ?_
                    refine r_iald hC hw 4 rfl lv rfl (by omega) (by decide) d_Md_wantLines_174 ?_
                    refine lv_imul hx hb d_Md_wantLines_175 ?_
                    refine r_topi (y := nI (d * Wi lv)) (pk_mul _ _) ?_
                    refine lv_iload hx hb d_Md_wantLines_176 (lv_at hl 1 rfl) ?_
                    refine lv_iadd hx hb d_Md_wantLines_178 ?_
                    refine r_topi (y := nI (d * Wi lv + i)) (nI_add _ _) ?_
                    refine lv_aload_n hx hb d_Md_wantLines_179 rfl (lv_at hl 4 rfl) ?_
                    refine r_get hC hw ck_Md 0 rfl 17 (by decide) k_797 rfl rfl d_Md_wantLines_180 ?_
                    refine lv_iload hx hb d_Md_wantLines_183 (lv_at hl 0 rfl) ?_
                    refine r_zald hC hw 6 rfl d rfl (by omega) (by decide) d_Md_wantLines_185 ?_
                    refine r_topi (y := wnt4 (Y lv) (Hi lv) (fun b => f (b * Wi lv + i)) d) (hout d hdn) ?_
                    refine r_zast hC hw 1 rfl (d * Wi lv + i) rfl (by omega) (by decide) (ho1 d hdn) d_Md_wantLines_186 (fun H locs hw => ?_)
                    have hw : Wd D _ _ [(m0, .inr (8, [.int vcode, .int vw, .int vh, .int vl, .ref ms, .int vso, .ref mt, .ref mp, .ref mx, .ref my, .ref mw, .ref mh, .int 1, .ref ml, .ref mn, .ref mk, .ref mq, .ref mm])), (mk, aZ k 1600 (upd M3 (d * Wi lv + i) (wnt4 (Y lv) (Hi lv) (fun b => f (b * Wi lv + i)) d))), (mx, aI k 6 (fun j => nI (X j))), (my, aI k 6 (fun j => nI (Y j))), (mw, aI k 6 (fun j => nI (Wi j))), (mh, aI k 6 (fun j => nI (Hi j))), (mm, aZ k 40 lf)] _ _ := hw
                    refine lv_iinc (v := nI (d + 1)) (lv' := [(6, .int (nI (d + 1))), (5, .int (nI i)), (4, .int (nI (Hi lv))), (3, .int (nI (Wi lv))), (0, .ref m0), (1, .int (nI lv)), (2, .int 0)]) hx hb d_Md_wantLines_187 hl (k := 0) rfl (nI_add d 1) (by decide) rfl (fun ls hl => ?_)
                    refine lv_goto (tgt := 137) hx hb d_Md_wantLines_190 (by decide) ?_
                    exact ih_L137 (d + 1) (upd M3 (d * Wi lv + i) (wnt4 (Y lv) (Hi lv) (fun b => f (b * Wi lv + i)) d)) _ _ _ (by omega) (by omega) (fun a u ha hu => by by_cases e : (u * Wi lv + a) = (d * Wi lv + i); obtain ⟨e1, e2⟩ := ix_inj ha hin e; subst e1; subst e2; rw [updI_at, if_pos (by omega)]; rw [updI_ne e, hM3 a u ha hu]; exact ite_congr (propext ⟨by omega, fun q => by rcases q with q | ⟨q1, q2⟩; exact Or.inl q; rcases Nat.lt_or_ge u d with z | z; exact Or.inr ⟨q1, z⟩; exact absurd (by rw [q1, show u = d by omega]) e⟩) (fun _ => rfl) (fun _ => rfl)) hw (lv_sub hl [0, 1, 2, 3, 4, 5, 6] rfl)
              exact L137 (Hi lv + 1) 0 M2 _ _ _ (by omega) (by omega) (fun a u ha hu => by rw [hM a u ha hu]; exact ite_congr (propext ⟨by omega, by omega⟩) (fun _ => rfl) (fun _ => rfl)) hw (lv_sub hl [0, 1, 2, 3, 4, 5, 6] rfl)
            · have hcn : u < Hi lv := le_nI hc57 (by omega) (by omega)
              have hix := (dm_lt hin hcn)
              refine lv_aload_n hx hb d_Md_wantLines_60 rfl (lv_at hl 4 rfl) ?_
              refine r_get hC hw ck_Md 0 rfl 17 (by decide) k_797 rfl rfl d_Md_wantLines_61 ?_
              refine lv_iload hx hb d_Md_wantLines_64 (lv_at hl 0 rfl) ?_
              refine lv_aload_n hx hb d_Md_wantLines_66 rfl (lv_at hl 4 rfl) ?_
              refine r_get hC hw ck_Md 0 rfl 15 (by decide) k_795 rfl rfl d_Md_wantLines_67 ?_
              refine lv_iload_n hx hb d_Md_wantLines_70 rfl (lv_at hl 6 rfl) ?_
              refine lv_if_eq (tgt := 89) hx hb d_Md_wantLines_71 (by decide) (fun hc71 => ?_) (fun hc71 => absurd rfl hc71)
              refine lv_iload hx hb d_Md_wantLines_89 (lv_at hl 0 rfl) ?_
              refine lv_aload_n hx hb d_Md_wantLines_91 rfl (lv_at hl 4 rfl) ?_
              refine r_get hC hw ck_Md 0 rfl 10 (by decide) k_790 rfl rfl d_Md_wantLines_92 ?_
              refine lv_iload_n hx hb d_Md_wantLines_95 rfl (lv_at hl 5 rfl) ?_
              refine r_iald hC hw 4 rfl lv rfl (by omega) (by decide) d_Md_wantLines_96 ?_
              refine lv_imul hx hb d_Md_wantLines_97 ?_
              refine r_topi (y := nI (u * Wi lv)) (pk_mul _ _) ?_
              refine lv_iload hx hb d_Md_wantLines_98 (lv_at hl 1 rfl) ?_
              refine lv_iadd hx hb d_Md_wantLines_100 ?_
              refine r_topi (y := nI (u * Wi lv + i)) (nI_add _ _) ?_
              refine r_zald hC hw 1 rfl (u * Wi lv + i) rfl (by omega) (by decide) d_Md_wantLines_101 ?_
              refine r_topi (y := f (u * Wi lv + i)) ((hM i u hin hcn).trans (if_neg (by omega))) ?_
              refine r_zast hC hw 6 rfl u rfl (by omega) (by decide) (hz _ hix) d_Md_wantLines_102 (fun H locs hw => ?_)
              have hw : Wd D _ _ [(m0, .inr (8, [.int vcode, .int vw, .int vh, .int vl, .ref ms, .int vso, .ref mt, .ref mp, .ref mx, .ref my, .ref mw, .ref mh, .int 1, .ref ml, .ref mn, .ref mk, .ref mq, .ref mm])), (mk, aZ k 1600 M2), (mx, aI k 6 (fun j => nI (X j))), (my, aI k 6 (fun j => nI (Y j))), (mw, aI k 6 (fun j => nI (Wi j))), (mh, aI k 6 (fun j => nI (Hi j))), (mm, aZ k 40 (upd g3 u (f (u * Wi lv + i))))] _ _ := hw
              refine lv_iinc (v := nI (u + 1)) (lv' := [(6, .int (nI (u + 1))), (5, .int (nI i)), (4, .int (nI (Hi lv))), (3, .int (nI (Wi lv))), (0, .ref m0), (1, .int (nI lv)), (2, .int 0)]) hx hb d_Md_wantLines_103 hl (k := 0) rfl (nI_add u 1) (by decide) rfl (fun ls hl => ?_)
              refine lv_goto (tgt := 53) hx hb d_Md_wantLines_106 (by decide) ?_
              exact ih_L53 (u + 1) (upd g3 u (f (u * Wi lv + i))) _ _ _ (by omega) (by omega) (fun j hj => by by_cases e : j = u; rw [e, updI_at]; rw [updI_ne e]; exact hg j (by omega)) hw (lv_sub hl [0, 1, 2, 3, 4, 5, 6] rfl)
        exact L53 (Hi lv + 1) 0 gg _ _ _ (by omega) (by omega) (fun j hj => absurd hj (Nat.not_lt_zero _)) hw (lv_sub hl [0, 1, 2, 3, 4, 5, 6] rfl)
  exact L44 (Wi lv + 1) 0 f g _ _ _ (by omega) (by omega) (fun a u _ _ => (if_neg (Nat.not_lt_zero a)).symm) hw (lv_sub hl [0, 1, 2, 3, 4, 5] rfl)
abbrev rm_Md_wsWr : Room := { frames := 1, cells := 0, slots := 0, locals := 34 }
set_option maxHeartbeats 4000000 in
set_option maxRecDepth 100000 in
/-- Model.wantLines -/
theorem c_Md_wsWr (l : Launch) (D : va_G) (k : Nat → ClassId) (sz : Nat) (m0 ms mt mp mx my mw mh ml mn mk mq mm : Nat) (vcode vw vh vl vso : Int32) (f g : Nat → Int32) (X Y Wi Hi : Nat → Nat) (hG : Geo X Y Wi Hi) (lv : Nat) (hlv : lv < 5) (hz : is01 (Wi lv * Hi lv) f) : Met l y_Md_wantLines (Cond.code y_Md_wantLines b_Md_wantLines 7 none :: lw_g) rm_Md_wsWr (Pw D k [(m0, .inr (8, [.int vcode, .int vw, .int vh, .int vl, .ref ms, .int vso, .ref mt, .ref mp, .ref mx, .ref my, .ref mw, .ref mh, .int 0, .ref ml, .ref mn, .ref mk, .ref mq, .ref mm])), (mk, aZ k 1600 f), (mx, aI k 6 (fun j => nI (X j))), (my, aI k 6 (fun j => nI (Y j))), (mw, aI k 6 (fun j => nI (Wi j))), (mh, aI k 6 (fun j => nI (Hi j))), (mm, aZ k 40 g)] sz [.ref m0, .int (nI lv), .int 1]) (Qw D (va_A [(m0, .inr (8, [.int vcode, .int vw, .int vh, .int vl, .ref ms, .int vso, .ref mt, .ref mp, .ref mx, .ref my, .ref mw, .ref mh, .int 0, .ref ml, .ref mn, .ref mk, .ref mq, .ref mm])), (mk, aZ k 1600 f), (mx, aI k 6 (fun j => nI (X j))), (my, aI k 6 (fun j => nI (Y j))), (mw, aI k 6 (fun j => nI (Wi j))), (mh, aI k 6 (fun j => nI (Hi j))), (mm, aZ k 40 g)] sz) (fun v w1 => v = none ∧ ∃ f2 g2 : Nat → Int32, w1 = [(m0, .inr (8, [.int vcode, .int vw, .int vh, .int vl, .ref ms, .int vso, .ref mt, .ref mp, .ref mx, .ref my, .ref mw, .ref mh, .int 0, .ref ml, .ref mn, .ref mk, .ref mq, .ref mm])), (mk, aZ k 1600 f2), (mx, aI k 6 (fun j => nI (X j))), (my, aI k 6 (fun j => nI (Y j))), (mw, aI k 6 (fun j => nI (Wi j))), (mh, aI k 6 (fun j => nI (Hi j))), (mm, aZ k 40 g2)] ∧ (∀ j, j < Wi lv * Hi lv → f2 j = rowsZ (wnt2 (X lv) (Wi lv)) (Wi lv) f j))) 0 0 (va_A [(m0, .inr (8, [.int vcode, .int vw, .int vh, .int vl, .ref ms, .int vso, .ref mt, .ref mp, .ref mx, .ref my, .ref mw, .ref mh, .int 0, .ref ml, .ref mn, .ref mk, .ref mq, .ref mm])), (mk, aZ k 1600 f), (mx, aI k 6 (fun j => nI (X j))), (my, aI k 6 (fun j => nI (Y j))), (mw, aI k 6 (fun j => nI (Wi j))), (mh, aI k 6 (fun j => nI (Hi j))), (mm, aZ k 40 g)] sz) := by
  refine met_of (by decide +kernel) ?_
  intro p e s m below meth c hC hsz hw hin
  subst hsz
  have hC : Cx D k p s m _ meth c "LiftBandsModel" b_Md_wantLines 7 none := hC
  have hx := hC.1
  have hb := hC.2.1
  refine r_ent (Nat.le_of_ble_eq_true rfl) rfl (fun ls hl => ?_)
  have hl : lv_has ls 7 [(0, .ref m0), (1, .int (nI lv)), (2, .int 1)] := hl
  have hw : Wd D (va_A [(m0, .inr (8, [.int vcode, .int vw, .int vh, .int vl, .ref ms, .int vso, .ref mt, .ref mp, .ref mx, .ref my, .ref mw, .ref mh, .int 0, .ref ml, .ref mn, .ref mk, .ref mq, .ref mm])), (mk, aZ k 1600 f), (mx, aI k 6 (fun j => nI (X j))), (my, aI k 6 (fun j => nI (Y j))), (mw, aI k 6 (fun j => nI (Wi j))), (mh, aI k 6 (fun j => nI (Hi j))), (mm, aZ k 40 g)] s.heap.size) s.heap [(m0, .inr (8, [.int vcode, .int vw, .int vh, .int vl, .ref ms, .int vso, .ref mt, .ref mp, .ref mx, .ref my, .ref mw, .ref mh, .int 0, .ref ml, .ref mn, .ref mk, .ref mq, .ref mm])), (mk, aZ k 1600 f), (mx, aI k 6 (fun j => nI (X j))), (my, aI k 6 (fun j => nI (Y j))), (mw, aI k 6 (fun j => nI (Wi j))), (mh, aI k 6 (fun j => nI (Hi j))), (mm, aZ k 40 g)] s.heap [] := hw
  generalize va_A [(m0, .inr (8, [.int vcode, .int vw, .int vh, .int vl, .ref ms, .int vso, .ref mt, .ref mp, .ref mx, .ref my, .ref mw, .ref mh, .int 0, .ref ml, .ref mn, .ref mk, .ref mq, .ref mm])), (mk, aZ k 1600 f), (mx, aI k 6 (fun j => nI (X j))), (my, aI k 6 (fun j => nI (Y j))), (mw, aI k 6 (fun j => nI (Wi j))), (mh, aI k 6 (fun j => nI (Hi j))), (mm, aZ k 40 g)] s.heap.size = A at hw ⊢
  generalize ([.ref m0, .int (nI lv), .int 1] : List Value).toArray = args at hC ⊢
  have hal := hG.a (j := lv) (by omega)
  have hXl := hG.x lv (by omega)
  have hYl := hG.y lv (by omega)
  have hWl := hG.w lv (by omega)
  have hHl := hG.h lv (by omega)
  refine lv_iload_n hx hb d_Md_wantLines_0 rfl (lv_at hl 2 rfl) ?_
  refine lv_if_eq (tgt := 13) hx hb d_Md_wantLines_1 (by decide) (fun hc1 => absurd hc1 (by decide)) (fun hc1 => ?_)
  refine lv_aload_n hx hb d_Md_wantLines_4 rfl (lv_at hl 0 rfl) ?_
  refine r_get hC hw ck_Md 0 rfl 11 (by decide) k_791 rfl rfl d_Md_wantLines_5 ?_
  refine lv_iload_n hx hb d_Md_wantLines_8 rfl (lv_at hl 1 rfl) ?_
  refine r_iald hC hw 5 rfl lv rfl (by omega) (by decide) d_Md_wantLines_9 ?_
  refine lv_goto (tgt := 19) hx hb d_Md_wantLines_10 (by decide) ?_
  refine lv_istore_n (lv' := [(3, .int (nI (Hi lv))), (0, .ref m0), (1, .int (nI lv)), (2, .int 1)]) hx hb d_Md_wantLines_19 rfl hl (by decide) rfl (fun ls hl => ?_)
  refine lv_iload_n hx hb d_Md_wantLines_20 rfl (lv_at hl 3 rfl) ?_
  refine lv_if_eq (tgt := 33) hx hb d_Md_wantLines_21 (by decide) (fun hc21 => absurd hc21 (by decide)) (fun hc21 => ?_)
  refine lv_aload_n hx hb d_Md_wantLines_24 rfl (lv_at hl 1 rfl) ?_
  refine r_get hC hw ck_Md 0 rfl 10 (by decide) k_790 rfl rfl d_Md_wantLines_25 ?_
  refine lv_iload_n hx hb d_Md_wantLines_28 rfl (lv_at hl 2 rfl) ?_
  refine r_iald hC hw 4 rfl lv rfl (by omega) (by decide) d_Md_wantLines_29 ?_
  refine lv_goto (tgt := 39) hx hb d_Md_wantLines_30 (by decide) ?_
  refine lv_istore (lv' := [(4, .int (nI (Wi lv))), (3, .int (nI (Hi lv))), (0, .ref m0), (1, .int (nI lv)), (2, .int 1)]) hx hb d_Md_wantLines_39 hl (by decide) rfl (fun ls hl => ?_)
  refine lv_iconst (v := 0) hx hb d_Md_wantLines_41 (by decide) ?_
  refine lv_istore (lv' := [(5, .int 0), (4, .int (nI (Wi lv))), (3, .int (nI (Hi lv))), (0, .ref m0), (1, .int (nI lv)), (2, .int 1)]) hx hb d_Md_wantLines_42 hl (by decide) rfl (fun ls hl => ?_)
  have hl : lv_has ls 7 [(5, .int (nI 0)), (4, .int (nI (Wi lv))), (3, .int (nI (Hi lv))), (0, .ref m0), (1, .int (nI lv)), (2, .int 1)] := lv_sub hl [0, 1, 2, 3, 4, 5] rfl
  have L44 : ∀ (fu : Nat) (i : Nat) (M2 : Nat → Int32) (gg : Nat → Int32) (H : Heap) (locs : List Loc) (ls : Array Slot), Hi lv - i < fu → i ≤ Hi lv → (∀ a u, a < Hi lv → u < Wi lv → M2 (a * Wi lv + u) = if a < i then wnt2 (X lv) (Wi lv) (fun b => f (a * Wi lv + b)) u else f (a * Wi lv + u)) → Wd D A s.heap [(m0, .inr (8, [.int vcode, .int vw, .int vh, .int vl, .ref ms, .int vso, .ref mt, .ref mp, .ref mx, .ref my, .ref mw, .ref mh, .int 0, .ref ml, .ref mn, .ref mk, .ref mq, .ref mm])), (mk, aZ k 1600 M2), (mx, aI k 6 (fun j => nI (X j))), (my, aI k 6 (fun j => nI (Y j))), (mw, aI k 6 (fun j => nI (Wi j))), (mh, aI k 6 (fun j => nI (Hi j))), (mm, aZ k 40 gg)] H locs → lv_has ls 7 [(5, .int (nI i)), (4, .int (nI (Wi lv))), (3, .int (nI (Hi lv))), (0, .ref m0), (1, .int (nI lv)), (2, .int 1)] → W p l e rm_Md_wsWr s m args below meth c H locs 0 0 (MQ below (Qw D A (fun v w1 => v = none ∧ ∃ f2 g2 : Nat → Int32, w1 = [(m0, .inr (8, [.int vcode, .int vw, .int vh, .int vl, .ref ms, .int vso, .ref mt, .ref mp, .ref mx, .ref my, .ref mw, .ref mh, .int 0, .ref ml, .ref mn, .ref mk, .ref mq, .ref mm])), (mk, aZ k 1600 f2), (mx, aI k 6 (fun j => nI (X j))), (my, aI k 6 (fun j => nI (Y j))), (mw, aI k 6 (fun j => nI (Wi j))), (mh, aI k 6 (fun j => nI (Hi j))), (mm, aZ k 40 g2)] ∧ (∀ j, j < Wi lv * Hi lv → f2 j = rowsZ (wnt2 (X lv) (Wi lv)) (Wi lv) f j))) args s 0 0 A) (F0 m 44 ls []) := by
    intro fu
    induction fu with
    | zero => intro i M2 gg H locs ls hfu; exact absurd hfu (Nat.not_lt_zero _)
    | succ fu ih_L44 =>
      intro i M2 gg H locs ls hfu_L44 hib hM hw hl
      refine lv_iload hx hb d_Md_wantLines_44 (lv_at hl 0 rfl) ?_
      refine lv_iload_n hx hb d_Md_wantLines_46 rfl (lv_at hl 2 rfl) ?_
      refine lv_icmp_ge (tgt := 199) hx hb d_Md_wantLines_47 (by decide) (fun hc47 => ?_) (fun hc47 => ?_)
      · have hin : Hi lv ≤ i := (nI_leI (by omega) (by omega)).mp hc47
        have hfin : ∀ j, j < Wi lv * Hi lv → M2 j = rowsZ (wnt2 (X lv) (Wi lv)) (Wi lv) f j := by
          intro j hj
          have h1 := Nat.mod_lt j (dm_pos hj)
          have h2 : j / Wi lv < Hi lv := Nat.div_lt_of_lt_mul hj
          have h3 := hM (j / Wi lv) (j % Wi lv) h2 h1
          rw [if_pos (by omega), ← dm_self] at h3
          exact h3
        exact ew_v (w1 := [(m0, .inr (8, [.int vcode, .int vw, .int vh, .int vl, .ref ms, .int vso, .ref mt, .ref mp, .ref mx, .ref my, .ref mw, .ref mh, .int 0, .ref ml, .ref mn, .ref mk, .ref mq, .ref mm])), (mk, aZ k 1600 M2), (mx, aI k 6 (fun j => nI (X j))), (my, aI k 6 (fun j => nI (Y j))), (mw, aI k 6 (fun j => nI (Wi j))), (mh, aI k 6 (fun j => nI (Hi j))), (mm, aZ k 40 gg)]) hC hw [0, 1, 2, 3, 4, 5, 6] rfl rfl ⟨rfl, _, _, rfl, hfin⟩ d_Md_wantLines_199
      · have hin : i < Hi lv := le_nI hc47 (by omega) (by omega)
        refine lv_iconst (v := 0) hx hb d_Md_wantLines_50 (by decide) ?_
        refine lv_istore (lv' := [(6, .int 0), (5, .int (nI i)), (4, .int (nI (Wi lv))), (3, .int (nI (Hi lv))), (0, .ref m0), (1, .int (nI lv)), (2, .int 1)]) hx hb d_Md_wantLines_51 hl (by decide) rfl (fun ls hl => ?_)
        have hl : lv_has ls 7 [(6, .int (nI 0)), (5, .int (nI i)), (4, .int (nI (Wi lv))), (3, .int (nI (Hi lv))), (0, .ref m0), (1, .int (nI lv)), (2, .int 1)] := lv_sub hl [0, 1, 2, 3, 4, 5, 6] rfl
        have L53 : ∀ (fu : Nat) (u : Nat) (g3 : Nat → Int32) (H : Heap) (locs : List Loc) (ls : Array Slot), Wi lv - u < fu → u ≤ Wi lv → (∀ j, j < u → g3 j = f (i * Wi lv + j)) → Wd D A s.heap [(m0, .inr (8, [.int vcode, .int vw, .int vh, .int vl, .ref ms, .int vso, .ref mt, .ref mp, .ref mx, .ref my, .ref mw, .ref mh, .int 0, .ref ml, .ref mn, .ref mk, .ref mq, .ref mm])), (mk, aZ k 1600 M2), (mx, aI k 6 (fun j => nI (X j))), (my, aI k 6 (fun j => nI (Y j))), (mw, aI k 6 (fun j => nI (Wi j))), (mh, aI k 6 (fun j => nI (Hi j))), (mm, aZ k 40 g3)] H locs → lv_has ls 7 [(6, .int (nI u)), (5, .int (nI i)), (4, .int (nI (Wi lv))), (3, .int (nI (Hi lv))), (0, .ref m0), (1, .int (nI lv)), (2, .int 1)] → W p l e rm_Md_wsWr s m args below meth c H locs 0 0 (MQ below (Qw D A (fun v w1 => v = none ∧ ∃ f2 g2 : Nat → Int32, w1 = [(m0, .inr (8, [.int vcode, .int vw, .int vh, .int vl, .ref ms, .int vso, .ref mt, .ref mp, .ref mx, .ref my, .ref mw, .ref mh, .int 0, .ref ml, .ref mn, .ref mk, .ref mq, .ref mm])), (mk, aZ k 1600 f2), (mx, aI k 6 (fun j => nI (X j))), (my, aI k 6 (fun j => nI (Y j))), (mw, aI k 6 (fun j => nI (Wi j))), (mh, aI k 6 (fun j => nI (Hi j))), (mm, aZ k 40 g2)] ∧ (∀ j, j < Wi lv * Hi lv → f2 j = rowsZ (wnt2 (X lv) (Wi lv)) (Wi lv) f j))) args s 0 0 A) (F0 m 53 ls []) := by
          intro fu
          induction fu with
          | zero => intro u g3 H locs ls hfu; exact absurd hfu (Nat.not_lt_zero _)
          | succ fu ih_L53 =>
            intro u g3 H locs ls hfu_L53 hub hg hw hl
            refine lv_iload hx hb d_Md_wantLines_53 (lv_at hl 0 rfl) ?_
            refine lv_iload hx hb d_Md_wantLines_55 (lv_at hl 2 rfl) ?_
            refine lv_icmp_ge (tgt := 109) hx hb d_Md_wantLines_57 (by decide) (fun hc57 => ?_) (fun hc57 => ?_)
            · have hcn : Wi lv ≤ u := (nI_leI (by omega) (by omega)).mp hc57
              have hg : ∀ j, j < Wi lv → g3 j = f (i * Wi lv + j) := fun j hj => hg j (by omega)
              refine lv_aload_n hx hb d_Md_wantLines_109 rfl (lv_at hl 4 rfl) ?_
              refine lv_iload_n hx hb d_Md_wantLines_110 rfl (lv_at hl 6 rfl) ?_
              refine lv_if_eq (tgt := 123) hx hb d_Md_wantLines_111 (by decide) (fun hc111 => absurd hc111 (by decide)) (fun hc111 => ?_)
              refine lv_aload_n hx hb d_Md_wantLines_114 rfl (lv_at hl 4 rfl) ?_
              refine r_get hC hw ck_Md 0 rfl 8 (by decide) k_788 rfl rfl d_Md_wantLines_115 ?_
              refine lv_iload_n hx hb d_Md_wantLines_118 rfl (lv_at hl 5 rfl) ?_
              refine r_iald hC hw 2 rfl lv rfl (by omega) (by decide) d_Md_wantLines_119 ?_
              refine lv_goto (tgt := 129) hx hb d_Md_wantLines_120 (by decide) ?_
              refine lv_iload hx hb d_Md_wantLines_129 (lv_at hl 2 rfl) ?_
              refine r_w hw [0, 6] rfl rfl (rn_V (b := m0) (As := [.int (nI (X lv)), .int (nI (Wi lv))]) (rest := []) (C := "LiftBandsModel") hC (c_Md_wlW l D k _ m0 ms mt mp mx my mw mh ml mn mk mq mm vcode vw vh vl vso g3 (X lv) (Wi lv) (by omega) (by omega)) mk_Md_wantLine k_979 kp_32 k_977 ⟨rfl, rfl, (Nat.le_of_ble_eq_true rfl), (Nat.le_of_ble_eq_true rfl)⟩ (r_recv hC hw ck_Md 0 rfl) rfl hl.1 rfl (Nat.le_of_ble_eq_true rfl) d_Md_wantLines_131 ⟨(Nat.le_of_ble_eq_true rfl), (Nat.le_of_ble_eq_true rfl)⟩ (Pw.pre hC.2.2.2.2.2.1 hw [0, 6] rfl rfl)) (fun v w1 hp_ H locs hw1 => ?_)
              obtain ⟨rfl, rfl⟩ := hp_
              have hw := hw1 [(m0, .inr (8, [.int vcode, .int vw, .int vh, .int vl, .ref ms, .int vso, .ref mt, .ref mp, .ref mx, .ref my, .ref mw, .ref mh, .int 0, .ref ml, .ref mn, .ref mk, .ref mq, .ref mm])), (mm, aZ k 40 (wnt2 (X lv) (Wi lv) g3))] [] rfl (by simp only [List.map_cons, List.map_nil])
              have hw : Wd D _ _ [(m0, .inr (8, [.int vcode, .int vw, .int vh, .int vl, .ref ms, .int vso, .ref mt, .ref mp, .ref mx, .ref my, .ref mw, .ref mh, .int 0, .ref ml, .ref mn, .ref mk, .ref mq, .ref mm])), (mk, aZ k 1600 M2), (mx, aI k 6 (fun j => nI (X j))), (my, aI k 6 (fun j => nI (Y j))), (mw, aI k 6 (fun j => nI (Wi j))), (mh, aI k 6 (fun j => nI (Hi j))), (mm, aZ k 40 (wnt2 (X lv) (Wi lv) g3))] _ _ := hw
              refine W.eq (g2 := F0 m 134 ls []) rfl ?_
              have hout : ∀ j, j < Wi lv → wnt2 (X lv) (Wi lv) g3 j = wnt2 (X lv) (Wi lv) (fun b => f (i * Wi lv + b)) j := wnt2_loc _ _ hg
              have ho1 : is01 (Wi lv) (wnt2 (X lv) (Wi lv) (fun b => f (i * Wi lv + b))) := wnt2_01 (fun j hj => hz _ (dm_lt hj hin))
              generalize wnt2 (X lv) (Wi lv) g3 = lf at hw hout
              refine lv_iconst (v := 0) hx hb d_Md_wantLines_134 (by decide) ?_
              refine lv_istore (lv' := [(6, .int 0), (5, .int (nI i)), (4, .int (nI (Wi lv))), (3, .int (nI (Hi lv))), (0, .ref m0), (1, .int (nI lv)), (2, .int 1)]) hx hb d_Md_wantLines_135 hl (by decide) rfl (fun ls hl => ?_)
              have hl : lv_has ls 7 [(6, .int (nI 0)), (5, .int (nI i)), (4, .int (nI (Wi lv))), (3, .int (nI (Hi lv))), (0, .ref m0), (1, .int (nI lv)), (2, .int 1)] := lv_sub hl [0, 1, 2, 3, 4, 5, 6] rfl
              have L137 : ∀ (fu : Nat) (d : Nat) (M3 : Nat → Int32) (H : Heap) (locs : List Loc) (ls : Array Slot), Wi lv - d < fu → d ≤ Wi lv → (∀ a u, a < Hi lv → u < Wi lv → M3 (a * Wi lv + u) = if (a < i ∨ a = i ∧ u < d) then wnt2 (X lv) (Wi lv) (fun b => f (a * Wi lv + b)) u else f (a * Wi lv + u)) → Wd D A s.heap [(m0, .inr (8, [.int vcode, .int vw, .int vh, .int vl, .ref ms, .int vso, .ref mt, .ref mp, .ref mx, .ref my, .ref mw, .ref mh, .int 0, .ref ml, .ref mn, .ref mk, .ref mq, .ref mm])), (mk, aZ k 1600 M3), (mx, aI k 6 (fun j => nI (X j))), (my, aI k 6 (fun j => nI (Y j))), (mw, aI k 6 (fun j => nI (Wi j))), (mh, aI k 6 (fun j => nI (Hi j))), (mm, aZ k 40 lf)] H locs → lv_has ls 7 [(6, .int (nI d)), (5, .int (nI i)), (4, .int (nI (Wi lv))), (3, .int (nI (Hi lv))), (0, .ref m0), (1, .int (nI lv)), (2, .int 1)] → W p l e rm_Md_wsWr s m args below meth c H locs 0 0 (MQ below (Qw D A (fun v w1 => v = none ∧ ∃ f2 g2 : Nat → Int32, w1 = [(m0, .inr (8, [.int vcode, .int vw, .int vh, .int vl, .ref ms, .int vso, .ref mt, .ref mp, .ref mx, .ref my, .ref mw, .ref mh, .int 0, .ref ml, .ref mn, .ref mk, .ref mq, .ref mm])), (mk, aZ k 1600 f2), (mx, aI k 6 (fun j => nI (X j))), (my, aI k 6 (fun j => nI (Y j))), (mw, aI k 6 (fun j => nI (Wi j))), (mh, aI k 6 (fun j => nI (Hi j))), (mm, aZ k 40 g2)] ∧ (∀ j, j < Wi lv * Hi lv → f2 j = rowsZ (wnt2 (X lv) (Wi lv)) (Wi lv) f j))) args s 0 0 A) (F0 m 137 ls []) := by
                intro fu
                induction fu with
                | zero => intro d M3 H locs ls hfu; exact absurd hfu (Nat.not_lt_zero _)
                | succ fu ih_L137 =>
                  intro d M3 H locs ls hfu_L137 hdb hM3 hw hl
                  refine lv_iload hx hb d_Md_wantLines_137 (lv_at hl 0 rfl) ?_
                  refine lv_iload hx hb d_Md_wantLines_139 (lv_at hl 2 rfl) ?_
                  refine lv_icmp_ge (tgt := 193) hx hb d_Md_wantLines_141 (by decide) (fun hc141 => ?_) (fun hc141 => ?_)
                  · have hdn : Wi lv ≤ d := (nI_leI (by omega) (by omega)).mp hc141
                    have hM4 : (∀ a u, a < Hi lv → u < Wi lv → M3 (a * Wi lv + u) = if a < i + 1 then wnt2 (X lv) (Wi lv) (fun b => f (a * Wi lv + b)) u else f (a * Wi lv + u)) := by
                      intro a u ha hu
                      rw [hM3 a u ha hu]
                      exact ite_congr (propext ⟨by omega, by omega⟩) (fun _ => rfl) (fun _ => rfl)
                    refine lv_iinc (v := nI (i + 1)) (lv' := [(5, .int (nI (i + 1))), (6, .int (nI d)), (4, .int (nI (Wi lv))), (3, .int (nI (Hi lv))), (0, .ref m0), (1, .int (nI lv)), (2, .int 1)]) hx hb d_Md_wantLines_193 hl (k := 1) rfl (nI_add i 1) (by decide) rfl (fun ls hl => ?_)
                    refine lv_goto (tgt := 44) hx hb d_Md_wantLines_196 (by decide) ?_
                    exact ih_L44 (i + 1) M3 lf _ _ _ (by omega) (by omega) hM4 hw (lv_sub hl [0, 2, 3, 4, 5, 6] rfl)
                  · have hdn : d < Wi lv := le_nI hc141 (by omega) (by omega)
                    have hix := (dm_lt hdn hin)
                    refine lv_aload_n hx hb d_Md_wantLines_144 rfl (lv_at hl 4 rfl) ?_
                    refine r_get hC hw ck_Md 0 rfl 15 (by decide) k_795 rfl rfl d_Md_wantLines_145 ?_
                    refine lv_iload_n hx hb d_Md_wantLines_148 rfl (lv_at hl 6 rfl) ?_
                    refine lv_if_eq (tgt := 167) hx hb d_Md_wantLines_149 (by decide) (fun hc149 => absurd hc149 (by decide)) (fun hc149 => ?_)
                    refine lv_iload hx hb d_Md_wantLines_152 (lv_at hl 1 rfl) ?_
                    refine lv_aload_n hx hb d_Md_wantLines_154 rfl (lv_at hl 4 rfl) ?_
                    refine r_get hC hw ck_Md 0 rfl 10 (by decide) k_790 rfl rfl d_Md_wantLines_155 ?_
                    refine lv_iload_n hx hb d_Md_wantLines_158 rfl (lv_at hl 5 rfl) ?_
                    refine r_iald hC hw 4 rfl lv rfl (by omega) (by decide) d_Md_wantLines_159 ?_
                    refine lv_imul hx hb d_Md_wantLines_160 ?_
                    refine r_topi (y := nI (i * Wi lv)) (pk_mul _ _) ?_
                    refine lv_iload hx hb d_Md_wantLines_161 (lv_at hl 0 rfl) ?_
                    refine lv_iadd hx hb d_Md_wantLines_163 ?_
                    refine r_topi (y := nI (i * Wi lv + d)) (nI_add _ _) ?_
                    refine lv_goto (tgt := 179) hx hb d_Md_wantLines_164 (by decide) ?_
                    refine lv_aload_n hx hb d_Md_wantLines_179 rfl (lv_at hl 4 rfl) ?_
                    refine r_get hC hw ck_Md 0 rfl 17 (by decide) k_797 rfl rfl d_Md_wantLines_180 ?_
                    refine lv_iload hx hb d_Md_wantLines_183 (lv_at hl 0 rfl) ?_
                    refine r_zald hC hw 6 rfl d rfl (by omega) (by decide) d_Md_wantLines_185 ?_
                    refine r_topi (y := wnt2 (X lv) (Wi lv) (fun b => f (i * Wi lv + b)) d) (hout d hdn) ?_
                    refine r_zast hC hw 1 rfl (i * Wi lv + d) rfl (by omega) (by decide) (ho1 d hdn) d_Md_wantLines_186 (fun H locs hw => ?_)
                    have hw : Wd D _ _ [(m0, .inr (8, [.int vcode, .int vw, .int vh, .int vl, .ref ms, .int vso, .ref mt, .ref mp, .ref mx, .ref my, .ref mw, .ref mh, .int 0, .ref ml, .ref mn, .ref mk, .ref mq, .ref mm])), (mk, aZ k 1600 (upd M3 (i * Wi lv + d) (wnt2 (X lv) (Wi lv) (fun b => f (i * Wi lv + b)) d))), (mx, aI k 6 (fun j => nI (X j))), (my, aI k 6 (fun j => nI (Y j))), (mw, aI k 6 (fun j => nI (Wi j))), (mh, aI k 6 (fun j => nI (Hi j))), (mm, aZ k 40 lf)] _ _ := hw
                    refine lv_iinc (v := nI (d + 1)) (lv' := [(6, .int (nI (d + 1))), (5, .int (nI i)), (4, .int (nI (Wi lv))), (3, .int (nI (Hi lv))), (0, .ref m0), (1, .int (nI lv)), (2, .int 1)]) hx hb d_Md_wantLines_187 hl (k := 0) rfl (nI_add d 1) (by decide) rfl (fun ls hl => ?_)
                    refine lv_goto (tgt := 137) hx hb d_Md_wantLines_190 (by decide) ?_
                    exact ih_L137 (d + 1) (upd M3 (i * Wi lv + d) (wnt2 (X lv) (Wi lv) (fun b => f (i * Wi lv + b)) d)) _ _ _ (by omega) (by omega) (fun a u ha hu => by by_cases e : (a * Wi lv + u) = (i * Wi lv + d); obtain ⟨e1, e2⟩ := ix_inj hu hdn e; subst e1; subst e2; rw [updI_at, if_pos (by omega)]; rw [updI_ne e, hM3 a u ha hu]; exact ite_congr (propext ⟨by omega, fun q => by rcases q with q | ⟨q1, q2⟩; exact Or.inl q; rcases Nat.lt_or_ge u d with z | z; exact Or.inr ⟨q1, z⟩; exact absurd (by rw [q1, show u = d by omega]) e⟩) (fun _ => rfl) (fun _ => rfl)) hw (lv_sub hl [0, 1, 2, 3, 4, 5, 6] rfl)
              exact L137 (Wi lv + 1) 0 M2 _ _ _ (by omega) (by omega) (fun a u ha hu => by rw [hM a u ha hu]; exact ite_congr (propext ⟨by omega, by omega⟩) (fun _ => rfl) (fun _ => rfl)) hw (lv_sub hl [0, 1, 2, 3, 4, 5, 6] rfl)
            · have hcn : u < Wi lv := le_nI hc57 (by omega) (by omega)
              have hix := (dm_lt hcn hin)
              refine lv_aload_n hx hb d_Md_wantLines_60 rfl (lv_at hl 4 rfl) ?_
              refine r_get hC hw ck_Md 0 rfl 17 (by decide) k_797 rfl rfl d_Md_wantLines_61 ?_
              refine lv_iload hx hb d_Md_wantLines_64 (lv_at hl 0 rfl) ?_
              refine lv_aload_n hx hb d_Md_wantLines_66 rfl (lv_at hl 4 rfl) ?_
              refine r_get hC hw ck_Md 0 rfl 15 (by decide) k_795 rfl rfl d_Md_wantLines_67 ?_
              refine lv_iload_n hx hb d_Md_wantLines_70 rfl (lv_at hl 6 rfl) ?_
              refine lv_if_eq (tgt := 89) hx hb d_Md_wantLines_71 (by decide) (fun hc71 => absurd hc71 (by decide)) (fun hc71 => ?_)
              refine lv_iload hx hb d_Md_wantLines_74 (lv_at hl 1 rfl) ?_
              refine lv_aload_n hx hb d_Md_wantLines_76 rfl (lv_at hl 4 rfl) ?_
              refine r_get hC hw ck_Md 0 rfl 10 (by decide) k_790 rfl rfl d_Md_wantLines_77 ?_
              refine lv_iload_n hx hb d_Md_wantLines_80 rfl (lv_at hl 5 rfl) ?_
              refine r_iald hC hw 4 rfl lv rfl (by omega) (by decide) d_Md_wantLines_81 ?_
              refine lv_imul hx hb d_Md_wantLines_82 ?_
              refine r_topi (y := nI (i * Wi lv)) (pk_mul _ _) ?_
              refine lv_iload hx hb d_Md_wantLines_83 (lv_at hl 0 rfl) ?_
              refine lv_iadd hx hb d_Md_wantLines_85 ?_
              refine r_topi (y := nI (i * Wi lv + u)) (nI_add _ _) ?_
              refine lv_goto (tgt := 101) hx hb d_Md_wantLines_86 (by decide) ?_
              refine r_zald hC hw 1 rfl (i * Wi lv + u) rfl (by omega) (by decide) d_Md_wantLines_101 ?_
              refine r_topi (y := f (i * Wi lv + u)) ((hM i u hin hcn).trans (if_neg (by omega))) ?_
              refine r_zast hC hw 6 rfl u rfl (by omega) (by decide) (hz _ hix) d_Md_wantLines_102 (fun H locs hw => ?_)
              have hw : Wd D _ _ [(m0, .inr (8, [.int vcode, .int vw, .int vh, .int vl, .ref ms, .int vso, .ref mt, .ref mp, .ref mx, .ref my, .ref mw, .ref mh, .int 0, .ref ml, .ref mn, .ref mk, .ref mq, .ref mm])), (mk, aZ k 1600 M2), (mx, aI k 6 (fun j => nI (X j))), (my, aI k 6 (fun j => nI (Y j))), (mw, aI k 6 (fun j => nI (Wi j))), (mh, aI k 6 (fun j => nI (Hi j))), (mm, aZ k 40 (upd g3 u (f (i * Wi lv + u))))] _ _ := hw
              refine lv_iinc (v := nI (u + 1)) (lv' := [(6, .int (nI (u + 1))), (5, .int (nI i)), (4, .int (nI (Wi lv))), (3, .int (nI (Hi lv))), (0, .ref m0), (1, .int (nI lv)), (2, .int 1)]) hx hb d_Md_wantLines_103 hl (k := 0) rfl (nI_add u 1) (by decide) rfl (fun ls hl => ?_)
              refine lv_goto (tgt := 53) hx hb d_Md_wantLines_106 (by decide) ?_
              exact ih_L53 (u + 1) (upd g3 u (f (i * Wi lv + u))) _ _ _ (by omega) (by omega) (fun j hj => by by_cases e : j = u; rw [e, updI_at]; rw [updI_ne e]; exact hg j (by omega)) hw (lv_sub hl [0, 1, 2, 3, 4, 5, 6] rfl)
        exact L53 (Wi lv + 1) 0 gg _ _ _ (by omega) (by omega) (fun j hj => absurd hj (Nat.not_lt_zero _)) hw (lv_sub hl [0, 1, 2, 3, 4, 5, 6] rfl)
  exact L44 (Hi lv + 1) 0 f g _ _ _ (by omega) (by omega) (fun a u _ _ => (if_neg (Nat.not_lt_zero a)).symm) hw (lv_sub hl [0, 1, 2, 3, 4, 5] rfl)
abbrev rm_Md_wsWc : Room := { frames := 1, cells := 0, slots := 0, locals := 34 }
set_option maxHeartbeats 4000000 in
set_option maxRecDepth 100000 in
/-- Model.wantLines -/
theorem c_Md_wsWc (l : Launch) (D : va_G) (k : Nat → ClassId) (sz : Nat) (m0 ms mt mp mx my mw mh ml mn mk mq mm : Nat) (vcode vw vh vl vso : Int32) (f g : Nat → Int32) (X Y Wi Hi : Nat → Nat) (hG : Geo X Y Wi Hi) (lv : Nat) (hlv : lv < 5) (hz : is01 (Wi lv * Hi lv) f) : Met l y_Md_wantLines (Cond.code y_Md_wantLines b_Md_wantLines 7 none :: lw_g) rm_Md_wsWc (Pw D k [(m0, .inr (8, [.int vcode, .int vw, .int vh, .int vl, .ref ms, .int vso, .ref mt, .ref mp, .ref mx, .ref my, .ref mw, .ref mh, .int 0, .ref ml, .ref mn, .ref mk, .ref mq, .ref mm])), (mk, aZ k 1600 f), (mx, aI k 6 (fun j => nI (X j))), (my, aI k 6 (fun j => nI (Y j))), (mw, aI k 6 (fun j => nI (Wi j))), (mh, aI k 6 (fun j => nI (Hi j))), (mm, aZ k 40 g)] sz [.ref m0, .int (nI lv), .int 0]) (Qw D (va_A [(m0, .inr (8, [.int vcode, .int vw, .int vh, .int vl, .ref ms, .int vso, .ref mt, .ref mp, .ref mx, .ref my, .ref mw, .ref mh, .int 0, .ref ml, .ref mn, .ref mk, .ref mq, .ref mm])), (mk, aZ k 1600 f), (mx, aI k 6 (fun j => nI (X j))), (my, aI k 6 (fun j => nI (Y j))), (mw, aI k 6 (fun j => nI (Wi j))), (mh, aI k 6 (fun j => nI (Hi j))), (mm, aZ k 40 g)] sz) (fun v w1 => v = none ∧ ∃ f2 g2 : Nat → Int32, w1 = [(m0, .inr (8, [.int vcode, .int vw, .int vh, .int vl, .ref ms, .int vso, .ref mt, .ref mp, .ref mx, .ref my, .ref mw, .ref mh, .int 0, .ref ml, .ref mn, .ref mk, .ref mq, .ref mm])), (mk, aZ k 1600 f2), (mx, aI k 6 (fun j => nI (X j))), (my, aI k 6 (fun j => nI (Y j))), (mw, aI k 6 (fun j => nI (Wi j))), (mh, aI k 6 (fun j => nI (Hi j))), (mm, aZ k 40 g2)] ∧ (∀ j, j < Wi lv * Hi lv → f2 j = colsZ (wnt2 (Y lv) (Hi lv)) (Wi lv) f j))) 0 0 (va_A [(m0, .inr (8, [.int vcode, .int vw, .int vh, .int vl, .ref ms, .int vso, .ref mt, .ref mp, .ref mx, .ref my, .ref mw, .ref mh, .int 0, .ref ml, .ref mn, .ref mk, .ref mq, .ref mm])), (mk, aZ k 1600 f), (mx, aI k 6 (fun j => nI (X j))), (my, aI k 6 (fun j => nI (Y j))), (mw, aI k 6 (fun j => nI (Wi j))), (mh, aI k 6 (fun j => nI (Hi j))), (mm, aZ k 40 g)] sz) := by
  refine met_of (by decide +kernel) ?_
  intro p e s m below meth c hC hsz hw hin
  subst hsz
  have hC : Cx D k p s m _ meth c "LiftBandsModel" b_Md_wantLines 7 none := hC
  have hx := hC.1
  have hb := hC.2.1
  refine r_ent (Nat.le_of_ble_eq_true rfl) rfl (fun ls hl => ?_)
  have hl : lv_has ls 7 [(0, .ref m0), (1, .int (nI lv)), (2, .int 0)] := hl
  have hw : Wd D (va_A [(m0, .inr (8, [.int vcode, .int vw, .int vh, .int vl, .ref ms, .int vso, .ref mt, .ref mp, .ref mx, .ref my, .ref mw, .ref mh, .int 0, .ref ml, .ref mn, .ref mk, .ref mq, .ref mm])), (mk, aZ k 1600 f), (mx, aI k 6 (fun j => nI (X j))), (my, aI k 6 (fun j => nI (Y j))), (mw, aI k 6 (fun j => nI (Wi j))), (mh, aI k 6 (fun j => nI (Hi j))), (mm, aZ k 40 g)] s.heap.size) s.heap [(m0, .inr (8, [.int vcode, .int vw, .int vh, .int vl, .ref ms, .int vso, .ref mt, .ref mp, .ref mx, .ref my, .ref mw, .ref mh, .int 0, .ref ml, .ref mn, .ref mk, .ref mq, .ref mm])), (mk, aZ k 1600 f), (mx, aI k 6 (fun j => nI (X j))), (my, aI k 6 (fun j => nI (Y j))), (mw, aI k 6 (fun j => nI (Wi j))), (mh, aI k 6 (fun j => nI (Hi j))), (mm, aZ k 40 g)] s.heap [] := hw
  generalize va_A [(m0, .inr (8, [.int vcode, .int vw, .int vh, .int vl, .ref ms, .int vso, .ref mt, .ref mp, .ref mx, .ref my, .ref mw, .ref mh, .int 0, .ref ml, .ref mn, .ref mk, .ref mq, .ref mm])), (mk, aZ k 1600 f), (mx, aI k 6 (fun j => nI (X j))), (my, aI k 6 (fun j => nI (Y j))), (mw, aI k 6 (fun j => nI (Wi j))), (mh, aI k 6 (fun j => nI (Hi j))), (mm, aZ k 40 g)] s.heap.size = A at hw ⊢
  generalize ([.ref m0, .int (nI lv), .int 0] : List Value).toArray = args at hC ⊢
  have hal := hG.a (j := lv) (by omega)
  have hXl := hG.x lv (by omega)
  have hYl := hG.y lv (by omega)
  have hWl := hG.w lv (by omega)
  have hHl := hG.h lv (by omega)
  refine lv_iload_n hx hb d_Md_wantLines_0 rfl (lv_at hl 2 rfl) ?_
  refine lv_if_eq (tgt := 13) hx hb d_Md_wantLines_1 (by decide) (fun hc1 => ?_) (fun hc1 => absurd rfl hc1)
  refine lv_aload_n hx hb d_Md_wantLines_13 rfl (lv_at hl 0 rfl) ?_
  refine r_get hC hw ck_Md 0 rfl 10 (by decide) k_790 rfl rfl d_Md_wantLines_14 ?_
  refine lv_iload_n hx hb d_Md_wantLines_17 rfl (lv_at hl 1 rfl) ?_
  refine r_iald hC hw 4 rfl lv rfl (by omega) (by decide) d_Md_wantLines_18 ?_
  refine lv_istore_n (lv' := [(3, .int (nI (Wi lv))), (0, .ref m0), (1, .int (nI lv)), (2, .int 0)]) hx hb d_Md_wantLines_19 rfl hl (by decide) rfl (fun ls hl => ?_)
  refine lv_iload_n hx hb d_Md_wantLines_20 rfl (lv_at hl 3 rfl) ?_
  refine lv_if_eq (tgt := 33) hx hb d_Md_wantLines_21 (by decide) (fun hc21 => ?_) (fun hc21 => absurd rfl hc21)
  refine lv_aload_n hx hb d_Md_wantLines_33 rfl (lv_at hl 1 rfl) ?_
  refine r_get hC hw ck_Md 0 rfl 11 (by decide) k_791 rfl rfl d_Md_wantLines_34 ?_
  refine lv_iload_n hx hb d_Md_wantLines_37 rfl (lv_at hl 2 rfl) ?_
  refine r_iald hC hw 5 rfl lv rfl (by omega) (by decide) d_Md_wantLines_38 ?_
  refine lv_istore (lv' := [(4, .int (nI (Hi lv))), (3, .int (nI (Wi lv))), (0, .ref m0), (1, .int (nI lv)), (2, .int 0)]) hx hb d_Md_wantLines_39 hl (by decide) rfl (fun ls hl => ?_)
  refine lv_iconst (v := 0) hx hb d_Md_wantLines_41 (by decide) ?_
  refine lv_istore (lv' := [(5, .int 0), (4, .int (nI (Hi lv))), (3, .int (nI (Wi lv))), (0, .ref m0), (1, .int (nI lv)), (2, .int 0)]) hx hb d_Md_wantLines_42 hl (by decide) rfl (fun ls hl => ?_)
  have hl : lv_has ls 7 [(5, .int (nI 0)), (4, .int (nI (Hi lv))), (3, .int (nI (Wi lv))), (0, .ref m0), (1, .int (nI lv)), (2, .int 0)] := lv_sub hl [0, 1, 2, 3, 4, 5] rfl
  have L44 : ∀ (fu : Nat) (i : Nat) (M2 : Nat → Int32) (gg : Nat → Int32) (H : Heap) (locs : List Loc) (ls : Array Slot), Wi lv - i < fu → i ≤ Wi lv → (∀ a u, a < Wi lv → u < Hi lv → M2 (u * Wi lv + a) = if a < i then wnt2 (Y lv) (Hi lv) (fun b => f (b * Wi lv + a)) u else f (u * Wi lv + a)) → Wd D A s.heap [(m0, .inr (8, [.int vcode, .int vw, .int vh, .int vl, .ref ms, .int vso, .ref mt, .ref mp, .ref mx, .ref my, .ref mw, .ref mh, .int 0, .ref ml, .ref mn, .ref mk, .ref mq, .ref mm])), (mk, aZ k 1600 M2), (mx, aI k 6 (fun j => nI (X j))), (my, aI k 6 (fun j => nI (Y j))), (mw, aI k 6 (fun j => nI (Wi j))), (mh, aI k 6 (fun j => nI (Hi j))), (mm, aZ k 40 gg)] H locs → lv_has ls 7 [(5, .int (nI i)), (4, .int (nI (Hi lv))), (3, .int (nI (Wi lv))), (0, .ref m0), (1, .int (nI lv)), (2, .int 0)] → W p l e rm_Md_wsWc s m args below meth c H locs 0 0 (MQ below (Qw D A (fun v w1 => v = none ∧ ∃ f2 g2 : Nat → Int32, w1 = [(m0, .inr (8, [.int vcode, .int vw, .int vh, .int vl, .ref ms, .int vso, .ref mt, .ref mp, .ref mx, .ref my, .ref mw, .ref mh, .int 0, .ref ml, .ref mn, .ref mk, .ref mq, .ref mm])), (mk, aZ k 1600 f2), (mx, aI k 6 (fun j => nI (X j))), (my, aI k 6 (fun j => nI (Y j))), (mw, aI k 6 (fun j => nI (Wi j))), (mh, aI k 6 (fun j => nI (Hi j))), (mm, aZ k 40 g2)] ∧ (∀ j, j < Wi lv * Hi lv → f2 j = colsZ (wnt2 (Y lv) (Hi lv)) (Wi lv) f j))) args s 0 0 A) (F0 m 44 ls []) := by
    intro fu
    induction fu with
    | zero => intro i M2 gg H locs ls hfu; exact absurd hfu (Nat.not_lt_zero _)
    | succ fu ih_L44 =>
      intro i M2 gg H locs ls hfu_L44 hib hM hw hl
      refine lv_iload hx hb d_Md_wantLines_44 (lv_at hl 0 rfl) ?_
      refine lv_iload_n hx hb d_Md_wantLines_46 rfl (lv_at hl 2 rfl) ?_
      refine lv_icmp_ge (tgt := 199) hx hb d_Md_wantLines_47 (by decide) (fun hc47 => ?_) (fun hc47 => ?_)
      · have hin : Wi lv ≤ i := (nI_leI (by omega) (by omega)).mp hc47
        have hfin : ∀ j, j < Wi lv * Hi lv → M2 j = colsZ (wnt2 (Y lv) (Hi lv)) (Wi lv) f j := by
          intro j hj
          have h1 := Nat.mod_lt j (dm_pos hj)
          have h2 : j / Wi lv < Hi lv := Nat.div_lt_of_lt_mul hj
          have h3 := hM (j % Wi lv) (j / Wi lv) h1 h2
          rw [if_pos (by omega), ← dm_self] at h3
          exact h3
        exact ew_v (w1 := [(m0, .inr (8, [.int vcode, .int vw, .int vh, .int vl, .ref ms, .int vso, .ref mt, .ref mp, .ref mx, .ref my, .ref mw, .ref mh, .int 0, .ref ml, .ref mn, .ref mk, .ref mq, .ref mm])), (mk, aZ k 1600 M2), (mx, aI k 6 (fun j => nI (X j))), (my, aI k 6 (fun j => nI (Y j))), (mw, aI k 6 (fun j => nI (Wi j))), (mh, aI k 6 (fun j => nI (Hi j))), (mm, aZ k 40 gg)]) hC hw [0, 1, 2, 3, 4, 5, 6] rfl rfl ⟨rfl, _, _, rfl, hfin⟩ d_Md_wantLines_199
      · have hin : i < Wi lv := le_nI hc47 (by omega) (by omega)
        refine lv_iconst (v := 0) hx hb d_Md_wantLines_50 (by decide) ?_
        refine lv_istore (lv' := [(6, .int 0), (5, .int (nI i)), (4, .int (nI (Hi lv))), (3, .int (nI (Wi lv))), (0, .ref m0), (1, .int (nI lv)), (2, .int 0)]) hx hb d_Md_wantLines_51 hl (by decide) rfl (fun ls hl => ?_)
        have hl : lv_has ls 7 [(6, .int (nI 0)), (5, .int (nI i)), (4, .int (nI (Hi lv))), (3, .int (nI (Wi lv))), (0, .ref m0), (1, .int (nI lv)), (2, .int 0)] := lv_sub hl [0, 1, 2, 3, 4, 5, 6] rfl
        have L53 : ∀ (fu : Nat) (u : Nat) (g3 : Nat → Int32) (H : Heap) (locs : List Loc) (ls : Array Slot), Hi lv - u < fu → u ≤ Hi lv → (∀ j, j < u → g3 j = f (j * Wi lv + i)) → Wd D A s.heap [(m0, .inr (8, [.int vcode, .int vw, .int vh, .int vl, .ref ms, .int vso, .ref mt, .ref mp, .ref mx, .ref my, .ref mw, .ref mh, .int 0, .ref ml, .ref mn, .ref mk, .ref mq, .ref mm])), (mk, aZ k 1600 M2), (mx, aI k 6 (fun j => nI (X j))), (my, aI k 6 (fun j => nI (Y j))), (mw, aI k 6 (fun j => nI (Wi j))), (mh, aI k 6 (fun j => nI (Hi j))), (mm, aZ k 40 g3)] H locs → lv_has ls 7 [(6, .int (nI u)), (5, .int (nI i)), (4, .int (nI (Hi lv))), (3, .int (nI (Wi lv))), (0, .ref m0), (1, .int (nI lv)), (2, .int 0)] → W p l e rm_Md_wsWc s m args below meth c H locs 0 0 (MQ below (Qw D A (fun v w1 => v = none ∧ ∃ f2 g2 : Nat → Int32, w1 = [(m0, .inr (8, [.int vcode, .int vw, .int vh, .int vl, .ref ms, .int vso, .ref mt, .ref mp, .ref mx, .ref my, .ref mw, .ref mh, .int 0, .ref ml, .ref mn, .ref mk, .ref mq, .ref mm])), (mk, aZ k 1600 f2), (mx, aI k 6 (fun j => nI (X j))), (my, aI k 6 (fun j => nI (Y j))), (mw, aI k 6 (fun j => nI (Wi j))), (mh, aI k 6 (fun j => nI (Hi j))), (mm, aZ k 40 g2)] ∧ (∀ j, j < Wi lv * Hi lv → f2 j = colsZ (wnt2 (Y lv) (Hi lv)) (Wi lv) f j))) args s 0 0 A) (F0 m 53 ls []) := by
          intro fu
          induction fu with
          | zero => intro u g3 H locs ls hfu; exact absurd hfu (Nat.not_lt_zero _)
          | succ fu ih_L53 =>
            intro u g3 H locs ls hfu_L53 hub hg hw hl
            refine lv_iload hx hb d_Md_wantLines_53 (lv_at hl 0 rfl) ?_
            refine lv_iload hx hb d_Md_wantLines_55 (lv_at hl 2 rfl) ?_
            refine lv_icmp_ge (tgt := 109) hx hb d_Md_wantLines_57 (by decide) (fun hc57 => ?_) (fun hc57 => ?_)
            · have hcn : Hi lv ≤ u := (nI_leI (by omega) (by omega)).mp hc57
              have hg : ∀ j, j < Hi lv → g3 j = f (j * Wi lv + i) := fun j hj => hg j (by omega)
              refine lv_aload_n hx hb d_Md_wantLines_109 rfl (lv_at hl 4 rfl) ?_
              refine lv_iload_n hx hb d_Md_wantLines_110 rfl (lv_at hl 6 rfl) ?_
              refine lv_if_eq (tgt := 123) hx hb d_Md_wantLines_111 (by decide) (fun hc111 => ?_) (fun hc111 => absurd rfl hc111)
              refine lv_aload_n hx hb d_Md_wantLines_123 rfl (lv_at hl 4 rfl) ?_
              refine r_get hC hw ck_Md 0 rfl 9 (by decide) k_789 rfl rfl d_Md_wantLines_124 ?_
              refine lv_iload_n hx hb d_Md_wantLines_127 rfl (lv_at hl 5 rfl) ?_
              refine r_iald hC hw 3 rfl lv rfl (by omega) (by decide) d_Md_wantLines_128 ?_
              refine lv_iload hx hb d_Md_wantLines_129 (lv_at hl 2 rfl) ?_
              refine r_w hw [0, 6] rfl rfl (rn_V (b := m0) (As := [.int (nI (Y lv)), .int (nI (Hi lv))]) (rest := []) (C := "LiftBandsModel") hC (c_Md_wlW l D k _ m0 ms mt mp mx my mw mh ml mn mk mq mm vcode vw vh vl vso g3 (Y lv) (Hi lv) (by omega) (by omega)) mk_Md_wantLine k_979 kp_32 k_977 ⟨rfl, rfl, (Nat.le_of_ble_eq_true rfl), (Nat.le_of_ble_eq_true rfl)⟩ (r_recv hC hw ck_Md 0 rfl) rfl hl.1 rfl (Nat.le_of_ble_eq_true rfl) d_Md_wantLines_131 ⟨(Nat.le_of_ble_eq_true rfl), (Nat.le_of_ble_eq_true rfl)⟩ (Pw.pre hC.2.2.2.2.2.1 hw [0, 6] rfl rfl)) (fun v w1 hp_ H locs hw1 => ?_)
              obtain ⟨rfl, rfl⟩ := hp_
              have hw := hw1 [(m0, .inr (8, [.int vcode, .int vw, .int vh, .int vl, .ref ms, .int vso, .ref mt, .ref mp, .ref mx, .ref my, .ref mw, .ref mh, .int 0, .ref ml, .ref mn, .ref mk, .ref mq, .ref mm])), (mm, aZ k 40 (wnt2 (Y lv) (Hi lv) g3))] [] rfl (by simp only [List.map_cons, List.map_nil])
              have hw : Wd D _ _ [(m0, .inr (8, [.int vcode, .int vw, .int vh, .int vl, .ref ms, .int vso, .ref mt, .ref mp, .ref mx, .ref my, .ref mw, .ref mh, .int 0, .ref ml, .ref mn, .ref mk, .ref mq, .ref mm])), (mk, aZ k 1600 M2), (mx, aI k 6 (fun j => nI (X j))), (my, aI k 6 (fun j => nI (Y j))), (mw, aI k 6 (fun j => nI (Wi j))), (mh, aI k 6 (fun j => nI (Hi j))), (mm, aZ k 40 (wnt2 (Y lv) (Hi lv) g3))] _ _ := hw
              refine W.eq (g2 := F0 m 134 ls []) rfl ?_
              have hout : ∀ j, j < Hi lv → wnt2 (Y lv) (Hi lv) g3 j = wnt2 (Y lv) (Hi lv) (fun b => f (b * Wi lv + i)) j := wnt2_loc _ _ hg
              have ho1 : is01 (Hi lv) (wnt2 (Y lv) (Hi lv) (fun b => f (b * Wi lv + i))) := wnt2_01 (fun j hj => hz _ (dm_lt hin hj))
              generalize wnt2 (Y lv) (Hi lv) g3 = lf at hw hout
              refine lv_iconst (v := 0) hx hb d_Md_wantLines_134 (by decide) ?_
              refine lv_istore (lv' := [(6, .int 0), (5, .int (nI i)), (4, .int (nI (Hi lv))), (3, .int (nI (Wi lv))), (0, .ref m0), (1, .int (nI lv)), (2, .int 0)]) hx hb d_Md_wantLines_135 hl (by decide) rfl (fun ls hl => ?_)
              have hl : lv_has ls 7 [(6, .int (nI 0)), (5, .int (nI i)), (4, .int (nI (Hi lv))), (3, .int (nI (Wi lv))), (0, .ref m0), (1, .int (nI lv)), (2, .int 0)] := lv_sub hl [0, 1, 2, 3, 4, 5, 6] rfl
              have L137 : ∀ (fu : Nat) (d : Nat) (M3 : Nat → Int32) (H : Heap) (locs : List Loc) (ls : Array Slot), Hi lv - d < fu → d ≤ Hi lv → (∀ a u, a < Wi lv → u < Hi lv → M3 (u * Wi lv + a) = if (a < i ∨ a = i ∧ u < d) then wnt2 (Y lv) (Hi lv) (fun b => f (b * Wi lv + a)) u else f (u * Wi lv + a)) → Wd D A s.heap [(m0, .inr (8, [.int vcode, .int vw, .int vh, .int vl, .ref ms, .int vso, .ref mt, .ref mp, .ref mx, .ref my, .ref mw, .ref mh, .int 0, .ref ml, .ref mn, .ref mk, .ref mq, .ref mm])), (mk, aZ k 1600 M3), (mx, aI k 6 (fun j => nI (X j))), (my, aI k 6 (fun j => nI (Y j))), (mw, aI k 6 (fun j => nI (Wi j))), (mh, aI k 6 (fun j => nI (Hi j))), (mm, aZ k 40 lf)] H locs → lv_has ls 7 [(6, .int (nI d)), (5, .int (nI i)), (4, .int (nI (Hi lv))), (3, .int (nI (Wi lv))), (0, .ref m0), (1, .int (nI lv)), (2, .int 0)] → W p l e rm_Md_wsWc s m args below meth c H locs 0 0 (MQ below (Qw D A (fun v w1 => v = none ∧ ∃ f2 g2 : Nat → Int32, w1 = [(m0, .inr (8, [.int vcode, .int vw, .int vh, .int vl, .ref ms, .int vso, .ref mt, .ref mp, .ref mx, .ref my, .ref mw, .ref mh, .int 0, .ref ml, .ref mn, .ref mk, .ref mq, .ref mm])), (mk, aZ k 1600 f2), (mx, aI k 6 (fun j => nI (X j))), (my, aI k 6 (fun j => nI (Y j))), (mw, aI k 6 (fun j => nI (Wi j))), (mh, aI k 6 (fun j => nI (Hi j))), (mm, aZ k 40 g2)] ∧ (∀ j, j < Wi lv * Hi lv → f2 j = colsZ (wnt2 (Y lv) (Hi lv)) (Wi lv) f j))) args s 0 0 A) (F0 m 137 ls []) := by
                intro fu
                induction fu with
                | zero => intro d M3 H locs ls hfu; exact absurd hfu (Nat.not_lt_zero _)
                | succ fu ih_L137 =>
                  intro d M3 H locs ls hfu_L137 hdb hM3 hw hl
                  refine lv_iload hx hb d_Md_wantLines_137 (lv_at hl 0 rfl) ?_
                  refine lv_iload hx hb d_Md_wantLines_139 (lv_at hl 2 rfl) ?_
                  refine lv_icmp_ge (tgt := 193) hx hb d_Md_wantLines_141 (by decide) (fun hc141 => ?_) (fun hc141 => ?_)
                  · have hdn : Hi lv ≤ d := (nI_leI (by omega) (by omega)).mp hc141
                    have hM4 : (∀ a u, a < Wi lv → u < Hi lv → M3 (u * Wi lv + a) = if a < i + 1 then wnt2 (Y lv) (Hi lv) (fun b => f (b * Wi lv + a)) u else f (u * Wi lv + a)) := by
                      intro a u ha hu
                      rw [hM3 a u ha hu]
                      exact ite_congr (propext ⟨by omega, by omega⟩) (fun _ => rfl) (fun _ => rfl)
                    refine lv_iinc (v := nI (i + 1)) (lv' := [(5, .int (nI (i + 1))), (6, .int (nI d)), (4, .int (nI (Hi lv))), (3, .int (nI (Wi lv))), (0, .ref m0), (1, .int (nI lv)), (2, .int 0)]) hx hb d_Md_wantLines_193 hl (k := 1) rfl (nI_add i 1) (by decide) rfl (fun ls hl => ?_)
                    refine lv_goto (tgt := 44) hx hb d_Md_wantLines_196 (by decide) ?_
                    exact ih_L44 (i + 1) M3 lf _ _ _ (by omega) (by omega) hM4 hw (lv_sub hl [0, 2, 3, 4, 5, 6] rfl)
                  · have hdn : d < Hi lv := le_nI hc141 (by omega) (by omega)
                    have hix := (dm_lt hin hdn)
                    refine lv_aload_n hx hb d_Md_wantLines_144 rfl (lv_at hl 4 rfl) ?_
                    refine r_get hC hw ck_Md 0 rfl 15 (by decide) k_795 rfl rfl d_Md_wantLines_145 ?_
                    refine lv_iload_n hx hb d_Md_wantLines_148 rfl (lv_at hl 6 rfl) ?_
                    refine lv_if_eq (tgt := 167) hx hb d_Md_wantLines_149 (by decide) (fun hc149 => ?_) (fun hc149 => absurd rfl hc149)
                    refine lv_iload hx hb d_Md_wantLines_167 (lv_at hl 0 rfl) ?_
                    refine lv_aload_n hx hb d_Md_wantLines_169 rfl (lv_at hl 4 rfl) ?_
                    refine r_get hC hw ck_Md 0 rfl 10 (by decide) k_790 rfl rfl d_Md_wantLines_170 ?_
                    refine lv_iload_n hx hb d_Md_wantLines_173 rfl (lv_at hl 5 rfl) ?_
                    refine r_iald hC hw 4 rfl lv rfl (by omega) (by decide) d_Md_wantLines_174 ?_
                    refine lv_imul hx hb d_Md_wantLines_175 ?_
                    refine r_topi (y := nI (d * Wi lv)) (pk_mul _ _) ?_
                    refine lv_iload hx hb d_Md_wantLines_176 (lv_at hl 1 rfl) ?_
                    refine lv_iadd hx hb d_Md_wantLines_178 ?_
                    refine r_topi (y := nI (d * Wi lv + i)) (nI_add _ _) ?_
                    refine lv_aload_n hx hb d_Md_wantLines_179 rfl (lv_at hl 4 rfl) ?_
                    refine r_get hC hw ck_Md 0 rfl 17 (by decide) k_797 rfl rfl d_Md_wantLines_180 ?_
                    refine lv_iload hx hb d_Md_wantLines_183 (lv_at hl 0 rfl) ?_
                    refine r_zald hC hw 6 rfl d rfl (by omega) (by decide) d_Md_wantLines_185 ?_
                    refine r_topi (y := wnt2 (Y lv) (Hi lv) (fun b => f (b * Wi lv + i)) d) (hout d hdn) ?_
                    refine r_zast hC hw 1 rfl (d * Wi lv + i) rfl (by omega) (by decide) (ho1 d hdn) d_Md_wantLines_186 (fun H locs hw => ?_)
                    have hw : Wd D _ _ [(m0, .inr (8, [.int vcode, .int vw, .int vh, .int vl, .ref ms, .int vso, .ref mt, .ref mp, .ref mx, .ref my, .ref mw, .ref mh, .int 0, .ref ml, .ref mn, .ref mk, .ref mq, .ref mm])), (mk, aZ k 1600 (upd M3 (d * Wi lv + i) (wnt2 (Y lv) (Hi lv) (fun b => f (b * Wi lv + i)) d))), (mx, aI k 6 (fun j => nI (X j))), (my, aI k 6 (fun j => nI (Y j))), (mw, aI k 6 (fun j => nI (Wi j))), (mh, aI k 6 (fun j => nI (Hi j))), (mm, aZ k 40 lf)] _ _ := hw
                    refine lv_iinc (v := nI (d + 1)) (lv' := [(6, .int (nI (d + 1))), (5, .int (nI i)), (4, .int (nI (Hi lv))), (3, .int (nI (Wi lv))), (0, .ref m0), (1, .int (nI lv)), (2, .int 0)]) hx hb d_Md_wantLines_187 hl (k := 0) rfl (nI_add d 1) (by decide) rfl (fun ls hl => ?_)
                    refine lv_goto (tgt := 137) hx hb d_Md_wantLines_190 (by decide) ?_
                    exact ih_L137 (d + 1) (upd M3 (d * Wi lv + i) (wnt2 (Y lv) (Hi lv) (fun b => f (b * Wi lv + i)) d)) _ _ _ (by omega) (by omega) (fun a u ha hu => by by_cases e : (u * Wi lv + a) = (d * Wi lv + i); obtain ⟨e1, e2⟩ := ix_inj ha hin e; subst e1; subst e2; rw [updI_at, if_pos (by omega)]; rw [updI_ne e, hM3 a u ha hu]; exact ite_congr (propext ⟨by omega, fun q => by rcases q with q | ⟨q1, q2⟩; exact Or.inl q; rcases Nat.lt_or_ge u d with z | z; exact Or.inr ⟨q1, z⟩; exact absurd (by rw [q1, show u = d by omega]) e⟩) (fun _ => rfl) (fun _ => rfl)) hw (lv_sub hl [0, 1, 2, 3, 4, 5, 6] rfl)
              exact L137 (Hi lv + 1) 0 M2 _ _ _ (by omega) (by omega) (fun a u ha hu => by rw [hM a u ha hu]; exact ite_congr (propext ⟨by omega, by omega⟩) (fun _ => rfl) (fun _ => rfl)) hw (lv_sub hl [0, 1, 2, 3, 4, 5, 6] rfl)
            · have hcn : u < Hi lv := le_nI hc57 (by omega) (by omega)
              have hix := (dm_lt hin hcn)
              refine lv_aload_n hx hb d_Md_wantLines_60 rfl (lv_at hl 4 rfl) ?_
              refine r_get hC hw ck_Md 0 rfl 17 (by decide) k_797 rfl rfl d_Md_wantLines_61 ?_
              refine lv_iload hx hb d_Md_wantLines_64 (lv_at hl 0 rfl) ?_
              refine lv_aload_n hx hb d_Md_wantLines_66 rfl (lv_at hl 4 rfl) ?_
              refine r_get hC hw ck_Md 0 rfl 15 (by decide) k_795 rfl rfl d_Md_wantLines_67 ?_
              refine lv_iload_n hx hb d_Md_wantLines_70 rfl (lv_at hl 6 rfl) ?_
              refine lv_if_eq (tgt := 89) hx hb d_Md_wantLines_71 (by decide) (fun hc71 => ?_) (fun hc71 => absurd rfl hc71)
              refine lv_iload hx hb d_Md_wantLines_89 (lv_at hl 0 rfl) ?_
              refine lv_aload_n hx hb d_Md_wantLines_91 rfl (lv_at hl 4 rfl) ?_
              refine r_get hC hw ck_Md 0 rfl 10 (by decide) k_790 rfl rfl d_Md_wantLines_92 ?_
              refine lv_iload_n hx hb d_Md_wantLines_95 rfl (lv_at hl 5 rfl) ?_
              refine r_iald hC hw 4 rfl lv rfl (by omega) (by decide) d_Md_wantLines_96 ?_
              refine lv_imul hx hb d_Md_wantLines_97 ?_
              refine r_topi (y := nI (u * Wi lv)) (pk_mul _ _) ?_
              refine lv_iload hx hb d_Md_wantLines_98 (lv_at hl 1 rfl) ?_
              refine lv_iadd hx hb d_Md_wantLines_100 ?_
              refine r_topi (y := nI (u * Wi lv + i)) (nI_add _ _) ?_
              refine r_zald hC hw 1 rfl (u * Wi lv + i) rfl (by omega) (by decide) d_Md_wantLines_101 ?_
              refine r_topi (y := f (u * Wi lv + i)) ((hM i u hin hcn).trans (if_neg (by omega))) ?_
              refine r_zast hC hw 6 rfl u rfl (by omega) (by decide) (hz _ hix) d_Md_wantLines_102 (fun H locs hw => ?_)
              have hw : Wd D _ _ [(m0, .inr (8, [.int vcode, .int vw, .int vh, .int vl, .ref ms, .int vso, .ref mt, .ref mp, .ref mx, .ref my, .ref mw, .ref mh, .int 0, .ref ml, .ref mn, .ref mk, .ref mq, .ref mm])), (mk, aZ k 1600 M2), (mx, aI k 6 (fun j => nI (X j))), (my, aI k 6 (fun j => nI (Y j))), (mw, aI k 6 (fun j => nI (Wi j))), (mh, aI k 6 (fun j => nI (Hi j))), (mm, aZ k 40 (upd g3 u (f (u * Wi lv + i))))] _ _ := hw
              refine lv_iinc (v := nI (u + 1)) (lv' := [(6, .int (nI (u + 1))), (5, .int (nI i)), (4, .int (nI (Hi lv))), (3, .int (nI (Wi lv))), (0, .ref m0), (1, .int (nI lv)), (2, .int 0)]) hx hb d_Md_wantLines_103 hl (k := 0) rfl (nI_add u 1) (by decide) rfl (fun ls hl => ?_)
              refine lv_goto (tgt := 53) hx hb d_Md_wantLines_106 (by decide) ?_
              exact ih_L53 (u + 1) (upd g3 u (f (u * Wi lv + i))) _ _ _ (by omega) (by omega) (fun j hj => by by_cases e : j = u; rw [e, updI_at]; rw [updI_ne e]; exact hg j (by omega)) hw (lv_sub hl [0, 1, 2, 3, 4, 5, 6] rfl)
        exact L53 (Hi lv + 1) 0 gg _ _ _ (by omega) (by omega) (fun j hj => absurd hj (Nat.not_lt_zero _)) hw (lv_sub hl [0, 1, 2, 3, 4, 5, 6] rfl)
  exact L44 (Wi lv + 1) 0 f g _ _ _ (by omega) (by omega) (fun a u _ _ => (if_neg (Nat.not_lt_zero a)).symm) hw (lv_sub hl [0, 1, 2, 3, 4, 5] rfl)
