abbrev b_Md_joinTile : ByteArray := prog_11_method_19_code
def y_Md_joinTile : MethodName := ⟨"LiftBandsModel", "joinTile", "(I)V"⟩
abbrev b_Md_back : ByteArray := prog_11_method_18_code
def y_Md_back : MethodName := ⟨"LiftBandsModel", "back", "(Z)I"⟩
theorem d_Md_joinTile_0 : decode b_Md_joinTile 0 = .ok (.aload_n 0, 1) := by decide +kernel
theorem d_Md_joinTile_1 : decode b_Md_joinTile 1 = .ok (.getfield 26, 3) := by decide +kernel
theorem d_Md_joinTile_4 : decode b_Md_joinTile 4 = .ok (.iload_n 1, 1) := by decide +kernel
theorem d_Md_joinTile_5 : decode b_Md_joinTile 5 = .ok (.iaload, 1) := by decide +kernel
theorem d_Md_joinTile_6 : decode b_Md_joinTile 6 = .ok (.aload_n 0, 1) := by decide +kernel
theorem d_Md_joinTile_7 : decode b_Md_joinTile 7 = .ok (.getfield 29, 3) := by decide +kernel
theorem d_Md_joinTile_10 : decode b_Md_joinTile 10 = .ok (.iload_n 1, 1) := by decide +kernel
theorem d_Md_joinTile_11 : decode b_Md_joinTile 11 = .ok (.iaload, 1) := by decide +kernel
theorem d_Md_joinTile_12 : decode b_Md_joinTile 12 = .ok (.imul, 1) := by decide +kernel
theorem d_Md_joinTile_13 : decode b_Md_joinTile 13 = .ok (.istore_n 2, 1) := by decide +kernel
theorem d_Md_joinTile_14 : decode b_Md_joinTile 14 = .ok (.iconst 0, 1) := by decide +kernel
theorem d_Md_joinTile_15 : decode b_Md_joinTile 15 = .ok (.istore_n 3, 1) := by decide +kernel
theorem d_Md_joinTile_16 : decode b_Md_joinTile 16 = .ok (.iload_n 3, 1) := by decide +kernel
theorem d_Md_joinTile_17 : decode b_Md_joinTile 17 = .ok (.iload_n 2, 1) := by decide +kernel
theorem d_Md_joinTile_18 : decode b_Md_joinTile 18 = .ok (.if_icmp .ge 103, 3) := by decide +kernel
theorem d_Md_joinTile_21 : decode b_Md_joinTile 21 = .ok (.aload_n 0, 1) := by decide +kernel
theorem d_Md_joinTile_22 : decode b_Md_joinTile 22 = .ok (.getfield 13, 3) := by decide +kernel
theorem d_Md_joinTile_25 : decode b_Md_joinTile 25 = .ok (.sipush 1600, 3) := by decide +kernel
theorem d_Md_joinTile_28 : decode b_Md_joinTile 28 = .ok (.iload_n 1, 1) := by decide +kernel
theorem d_Md_joinTile_29 : decode b_Md_joinTile 29 = .ok (.imul, 1) := by decide +kernel
theorem d_Md_joinTile_30 : decode b_Md_joinTile 30 = .ok (.iload_n 3, 1) := by decide +kernel
theorem d_Md_joinTile_31 : decode b_Md_joinTile 31 = .ok (.iadd, 1) := by decide +kernel
theorem d_Md_joinTile_32 : decode b_Md_joinTile 32 = .ok (.aload_n 0, 1) := by decide +kernel
theorem d_Md_joinTile_33 : decode b_Md_joinTile 33 = .ok (.getfield 16, 3) := by decide +kernel
theorem d_Md_joinTile_36 : decode b_Md_joinTile 36 = .ok (.sipush 1600, 3) := by decide +kernel
theorem d_Md_joinTile_39 : decode b_Md_joinTile 39 = .ok (.iload_n 1, 1) := by decide +kernel
theorem d_Md_joinTile_40 : decode b_Md_joinTile 40 = .ok (.imul, 1) := by decide +kernel
theorem d_Md_joinTile_41 : decode b_Md_joinTile 41 = .ok (.iload_n 3, 1) := by decide +kernel
theorem d_Md_joinTile_42 : decode b_Md_joinTile 42 = .ok (.iadd, 1) := by decide +kernel
theorem d_Md_joinTile_43 : decode b_Md_joinTile 43 = .ok (.daload, 1) := by decide +kernel
theorem d_Md_joinTile_44 : decode b_Md_joinTile 44 = .ok (.dastore, 1) := by decide +kernel
theorem d_Md_joinTile_45 : decode b_Md_joinTile 45 = .ok (.aload_n 0, 1) := by decide +kernel
theorem d_Md_joinTile_46 : decode b_Md_joinTile 46 = .ok (.iload_n 1, 1) := by decide +kernel
theorem d_Md_joinTile_47 : decode b_Md_joinTile 47 = .ok (.iload_n 3, 1) := by decide +kernel
theorem d_Md_joinTile_48 : decode b_Md_joinTile 48 = .ok (.aload_n 0, 1) := by decide +kernel
theorem d_Md_joinTile_49 : decode b_Md_joinTile 49 = .ok (.getfield 26, 3) := by decide +kernel
theorem d_Md_joinTile_52 : decode b_Md_joinTile 52 = .ok (.iload_n 1, 1) := by decide +kernel
theorem d_Md_joinTile_53 : decode b_Md_joinTile 53 = .ok (.iaload, 1) := by decide +kernel
theorem d_Md_joinTile_54 : decode b_Md_joinTile 54 = .ok (.irem, 1) := by decide +kernel
theorem d_Md_joinTile_55 : decode b_Md_joinTile 55 = .ok (.iload_n 3, 1) := by decide +kernel
theorem d_Md_joinTile_56 : decode b_Md_joinTile 56 = .ok (.aload_n 0, 1) := by decide +kernel
theorem d_Md_joinTile_57 : decode b_Md_joinTile 57 = .ok (.getfield 26, 3) := by decide +kernel
theorem d_Md_joinTile_60 : decode b_Md_joinTile 60 = .ok (.iload_n 1, 1) := by decide +kernel
theorem d_Md_joinTile_61 : decode b_Md_joinTile 61 = .ok (.iaload, 1) := by decide +kernel
theorem d_Md_joinTile_62 : decode b_Md_joinTile 62 = .ok (.idiv, 1) := by decide +kernel
theorem d_Md_joinTile_63 : decode b_Md_joinTile 63 = .ok (.invokevirtual 125, 3) := by decide +kernel
theorem d_Md_joinTile_66 : decode b_Md_joinTile 66 = .ok (.ifCond .eq 49, 3) := by decide +kernel
theorem d_Md_joinTile_69 : decode b_Md_joinTile 69 = .ok (.aload_n 0, 1) := by decide +kernel
theorem d_Md_joinTile_70 : decode b_Md_joinTile 70 = .ok (.getfield 16, 3) := by decide +kernel
theorem d_Md_joinTile_73 : decode b_Md_joinTile 73 = .ok (.sipush 1600, 3) := by decide +kernel
theorem d_Md_joinTile_76 : decode b_Md_joinTile 76 = .ok (.iload_n 1, 1) := by decide +kernel
theorem d_Md_joinTile_77 : decode b_Md_joinTile 77 = .ok (.imul, 1) := by decide +kernel
theorem d_Md_joinTile_78 : decode b_Md_joinTile 78 = .ok (.iload_n 3, 1) := by decide +kernel
theorem d_Md_joinTile_79 : decode b_Md_joinTile 79 = .ok (.iadd, 1) := by decide +kernel
theorem d_Md_joinTile_80 : decode b_Md_joinTile 80 = .ok (.aload_n 0, 1) := by decide +kernel
theorem d_Md_joinTile_81 : decode b_Md_joinTile 81 = .ok (.getfield 13, 3) := by decide +kernel
theorem d_Md_joinTile_84 : decode b_Md_joinTile 84 = .ok (.sipush 1600, 3) := by decide +kernel
theorem d_Md_joinTile_87 : decode b_Md_joinTile 87 = .ok (.iload_n 1, 1) := by decide +kernel
theorem d_Md_joinTile_88 : decode b_Md_joinTile 88 = .ok (.iconst 1, 1) := by decide +kernel
theorem d_Md_joinTile_89 : decode b_Md_joinTile 89 = .ok (.iadd, 1) := by decide +kernel
theorem d_Md_joinTile_90 : decode b_Md_joinTile 90 = .ok (.imul, 1) := by decide +kernel
theorem d_Md_joinTile_91 : decode b_Md_joinTile 91 = .ok (.aload_n 0, 1) := by decide +kernel
theorem d_Md_joinTile_92 : decode b_Md_joinTile 92 = .ok (.iload_n 1, 1) := by decide +kernel
theorem d_Md_joinTile_93 : decode b_Md_joinTile 93 = .ok (.iload_n 3, 1) := by decide +kernel
theorem d_Md_joinTile_94 : decode b_Md_joinTile 94 = .ok (.aload_n 0, 1) := by decide +kernel
theorem d_Md_joinTile_95 : decode b_Md_joinTile 95 = .ok (.getfield 26, 3) := by decide +kernel
theorem d_Md_joinTile_98 : decode b_Md_joinTile 98 = .ok (.iload_n 1, 1) := by decide +kernel
theorem d_Md_joinTile_99 : decode b_Md_joinTile 99 = .ok (.iaload, 1) := by decide +kernel
theorem d_Md_joinTile_100 : decode b_Md_joinTile 100 = .ok (.irem, 1) := by decide +kernel
theorem d_Md_joinTile_101 : decode b_Md_joinTile 101 = .ok (.iload_n 3, 1) := by decide +kernel
theorem d_Md_joinTile_102 : decode b_Md_joinTile 102 = .ok (.aload_n 0, 1) := by decide +kernel
theorem d_Md_joinTile_103 : decode b_Md_joinTile 103 = .ok (.getfield 26, 3) := by decide +kernel
theorem d_Md_joinTile_106 : decode b_Md_joinTile 106 = .ok (.iload_n 1, 1) := by decide +kernel
theorem d_Md_joinTile_107 : decode b_Md_joinTile 107 = .ok (.iaload, 1) := by decide +kernel
theorem d_Md_joinTile_108 : decode b_Md_joinTile 108 = .ok (.idiv, 1) := by decide +kernel
theorem d_Md_joinTile_109 : decode b_Md_joinTile 109 = .ok (.invokevirtual 129, 3) := by decide +kernel
theorem d_Md_joinTile_112 : decode b_Md_joinTile 112 = .ok (.iadd, 1) := by decide +kernel
theorem d_Md_joinTile_113 : decode b_Md_joinTile 113 = .ok (.daload, 1) := by decide +kernel
theorem d_Md_joinTile_114 : decode b_Md_joinTile 114 = .ok (.dastore, 1) := by decide +kernel
theorem d_Md_joinTile_115 : decode b_Md_joinTile 115 = .ok (.iinc 3 1, 3) := by decide +kernel
theorem d_Md_joinTile_118 : decode b_Md_joinTile 118 = .ok (.goto (-102), 3) := by decide +kernel
theorem d_Md_joinTile_121 : decode b_Md_joinTile 121 = .ok (.aload_n 0, 1) := by decide +kernel
theorem d_Md_joinTile_122 : decode b_Md_joinTile 122 = .ok (.iload_n 1, 1) := by decide +kernel
theorem d_Md_joinTile_123 : decode b_Md_joinTile 123 = .ok (.iconst 1, 1) := by decide +kernel
theorem d_Md_joinTile_124 : decode b_Md_joinTile 124 = .ok (.iconst 1, 1) := by decide +kernel
theorem d_Md_joinTile_125 : decode b_Md_joinTile 125 = .ok (.invokevirtual 121, 3) := by decide +kernel
theorem d_Md_joinTile_128 : decode b_Md_joinTile 128 = .ok (.aload_n 0, 1) := by decide +kernel
theorem d_Md_joinTile_129 : decode b_Md_joinTile 129 = .ok (.iload_n 1, 1) := by decide +kernel
theorem d_Md_joinTile_130 : decode b_Md_joinTile 130 = .ok (.iconst 0, 1) := by decide +kernel
theorem d_Md_joinTile_131 : decode b_Md_joinTile 131 = .ok (.iconst 1, 1) := by decide +kernel
theorem d_Md_joinTile_132 : decode b_Md_joinTile 132 = .ok (.invokevirtual 121, 3) := by decide +kernel
theorem d_Md_joinTile_135 : decode b_Md_joinTile 135 = .ok (.iconst 0, 1) := by decide +kernel
theorem d_Md_joinTile_136 : decode b_Md_joinTile 136 = .ok (.istore_n 3, 1) := by decide +kernel
theorem d_Md_joinTile_137 : decode b_Md_joinTile 137 = .ok (.iload_n 3, 1) := by decide +kernel
theorem d_Md_joinTile_138 : decode b_Md_joinTile 138 = .ok (.iload_n 2, 1) := by decide +kernel
theorem d_Md_joinTile_139 : decode b_Md_joinTile 139 = .ok (.if_icmp .ge 61, 3) := by decide +kernel
theorem d_Md_joinTile_142 : decode b_Md_joinTile 142 = .ok (.aload_n 0, 1) := by decide +kernel
theorem d_Md_joinTile_143 : decode b_Md_joinTile 143 = .ok (.getfield 13, 3) := by decide +kernel
theorem d_Md_joinTile_146 : decode b_Md_joinTile 146 = .ok (.sipush 1600, 3) := by decide +kernel
theorem d_Md_joinTile_149 : decode b_Md_joinTile 149 = .ok (.iload_n 1, 1) := by decide +kernel
theorem d_Md_joinTile_150 : decode b_Md_joinTile 150 = .ok (.imul, 1) := by decide +kernel
theorem d_Md_joinTile_151 : decode b_Md_joinTile 151 = .ok (.iload_n 3, 1) := by decide +kernel
theorem d_Md_joinTile_152 : decode b_Md_joinTile 152 = .ok (.iadd, 1) := by decide +kernel
theorem d_Md_joinTile_153 : decode b_Md_joinTile 153 = .ok (.daload, 1) := by decide +kernel
theorem d_Md_joinTile_154 : decode b_Md_joinTile 154 = .ok (.dstore 4, 2) := by decide +kernel
theorem d_Md_joinTile_156 : decode b_Md_joinTile 156 = .ok (.aload_n 0, 1) := by decide +kernel
theorem d_Md_joinTile_157 : decode b_Md_joinTile 157 = .ok (.getfield 13, 3) := by decide +kernel
theorem d_Md_joinTile_160 : decode b_Md_joinTile 160 = .ok (.sipush 1600, 3) := by decide +kernel
theorem d_Md_joinTile_163 : decode b_Md_joinTile 163 = .ok (.iload_n 1, 1) := by decide +kernel
theorem d_Md_joinTile_164 : decode b_Md_joinTile 164 = .ok (.imul, 1) := by decide +kernel
theorem d_Md_joinTile_165 : decode b_Md_joinTile 165 = .ok (.iload_n 3, 1) := by decide +kernel
theorem d_Md_joinTile_166 : decode b_Md_joinTile 166 = .ok (.iadd, 1) := by decide +kernel
theorem d_Md_joinTile_167 : decode b_Md_joinTile 167 = .ok (.aload_n 0, 1) := by decide +kernel
theorem d_Md_joinTile_168 : decode b_Md_joinTile 168 = .ok (.getfield 16, 3) := by decide +kernel
theorem d_Md_joinTile_171 : decode b_Md_joinTile 171 = .ok (.sipush 1600, 3) := by decide +kernel
theorem d_Md_joinTile_174 : decode b_Md_joinTile 174 = .ok (.iload_n 1, 1) := by decide +kernel
theorem d_Md_joinTile_175 : decode b_Md_joinTile 175 = .ok (.imul, 1) := by decide +kernel
theorem d_Md_joinTile_176 : decode b_Md_joinTile 176 = .ok (.iload_n 3, 1) := by decide +kernel
theorem d_Md_joinTile_177 : decode b_Md_joinTile 177 = .ok (.iadd, 1) := by decide +kernel
theorem d_Md_joinTile_178 : decode b_Md_joinTile 178 = .ok (.daload, 1) := by decide +kernel
theorem d_Md_joinTile_179 : decode b_Md_joinTile 179 = .ok (.dastore, 1) := by decide +kernel
theorem d_Md_joinTile_180 : decode b_Md_joinTile 180 = .ok (.aload_n 0, 1) := by decide +kernel
theorem d_Md_joinTile_181 : decode b_Md_joinTile 181 = .ok (.getfield 16, 3) := by decide +kernel
theorem d_Md_joinTile_184 : decode b_Md_joinTile 184 = .ok (.sipush 1600, 3) := by decide +kernel
theorem d_Md_joinTile_187 : decode b_Md_joinTile 187 = .ok (.iload_n 1, 1) := by decide +kernel
theorem d_Md_joinTile_188 : decode b_Md_joinTile 188 = .ok (.imul, 1) := by decide +kernel
theorem d_Md_joinTile_189 : decode b_Md_joinTile 189 = .ok (.iload_n 3, 1) := by decide +kernel
theorem d_Md_joinTile_190 : decode b_Md_joinTile 190 = .ok (.iadd, 1) := by decide +kernel
theorem d_Md_joinTile_191 : decode b_Md_joinTile 191 = .ok (.dload 4, 2) := by decide +kernel
theorem d_Md_joinTile_193 : decode b_Md_joinTile 193 = .ok (.dastore, 1) := by decide +kernel
theorem d_Md_joinTile_194 : decode b_Md_joinTile 194 = .ok (.iinc 3 1, 3) := by decide +kernel
theorem d_Md_joinTile_197 : decode b_Md_joinTile 197 = .ok (.goto (-60), 3) := by decide +kernel
theorem d_Md_joinTile_200 : decode b_Md_joinTile 200 = .ok (.return_, 1) := by decide +kernel
theorem d_Md_back_0 : decode b_Md_back 0 = .ok (.aload_n 0, 1) := by decide +kernel
theorem d_Md_back_1 : decode b_Md_back 1 = .ok (.aload_n 0, 1) := by decide +kernel
theorem d_Md_back_2 : decode b_Md_back 2 = .ok (.getfield 116, 3) := by decide +kernel
theorem d_Md_back_5 : decode b_Md_back 5 = .ok (.iload_n 1, 1) := by decide +kernel
theorem d_Md_back_6 : decode b_Md_back 6 = .ok (.ifCond .eq 7, 3) := by decide +kernel
theorem d_Md_back_9 : decode b_Md_back 9 = .ok (.iconst 1, 1) := by decide +kernel
theorem d_Md_back_10 : decode b_Md_back 10 = .ok (.goto 4, 3) := by decide +kernel
theorem d_Md_back_13 : decode b_Md_back 13 = .ok (.iconst 2, 1) := by decide +kernel
theorem d_Md_back_14 : decode b_Md_back 14 = .ok (.if_icmp .ne 7, 3) := by decide +kernel
theorem d_Md_back_17 : decode b_Md_back 17 = .ok (.iconst 0, 1) := by decide +kernel
theorem d_Md_back_18 : decode b_Md_back 18 = .ok (.goto 4, 3) := by decide +kernel
theorem d_Md_back_21 : decode b_Md_back 21 = .ok (.iconst 1, 1) := by decide +kernel
theorem d_Md_back_22 : decode b_Md_back 22 = .ok (.putfield 65, 3) := by decide +kernel
theorem d_Md_back_25 : decode b_Md_back 25 = .ok (.aload_n 0, 1) := by decide +kernel
theorem d_Md_back_26 : decode b_Md_back 26 = .ok (.getfield 65, 3) := by decide +kernel
theorem d_Md_back_29 : decode b_Md_back 29 = .ok (.ifCond .le 5, 3) := by decide +kernel
theorem d_Md_back_32 : decode b_Md_back 32 = .ok (.iconst 0, 1) := by decide +kernel
theorem d_Md_back_33 : decode b_Md_back 33 = .ok (.ireturn, 1) := by decide +kernel
theorem d_Md_back_34 : decode b_Md_back 34 = .ok (.aload_n 0, 1) := by decide +kernel
theorem d_Md_back_35 : decode b_Md_back 35 = .ok (.iload_n 1, 1) := by decide +kernel
theorem d_Md_back_36 : decode b_Md_back 36 = .ok (.ifCond .ne 7, 3) := by decide +kernel
theorem d_Md_back_39 : decode b_Md_back 39 = .ok (.iconst 1, 1) := by decide +kernel
theorem d_Md_back_40 : decode b_Md_back 40 = .ok (.goto 4, 3) := by decide +kernel
theorem d_Md_back_43 : decode b_Md_back 43 = .ok (.iconst 0, 1) := by decide +kernel
theorem d_Md_back_44 : decode b_Md_back 44 = .ok (.putfield 97, 3) := by decide +kernel
theorem d_Md_back_47 : decode b_Md_back 47 = .ok (.aload_n 0, 1) := by decide +kernel
theorem d_Md_back_48 : decode b_Md_back 48 = .ok (.getfield 59, 3) := by decide +kernel
theorem d_Md_back_51 : decode b_Md_back 51 = .ok (.iconst 1, 1) := by decide +kernel
theorem d_Md_back_52 : decode b_Md_back 52 = .ok (.isub, 1) := by decide +kernel
theorem d_Md_back_53 : decode b_Md_back 53 = .ok (.istore_n 2, 1) := by decide +kernel
theorem d_Md_back_54 : decode b_Md_back 54 = .ok (.iload_n 2, 1) := by decide +kernel
theorem d_Md_back_55 : decode b_Md_back 55 = .ok (.ifCond .lt 14, 3) := by decide +kernel
theorem d_Md_back_58 : decode b_Md_back 58 = .ok (.aload_n 0, 1) := by decide +kernel
theorem d_Md_back_59 : decode b_Md_back 59 = .ok (.iload_n 2, 1) := by decide +kernel
theorem d_Md_back_60 : decode b_Md_back 60 = .ok (.invokevirtual 132, 3) := by decide +kernel
theorem d_Md_back_63 : decode b_Md_back 63 = .ok (.iinc 2 (-1), 3) := by decide +kernel
theorem d_Md_back_66 : decode b_Md_back 66 = .ok (.goto (-12), 3) := by decide +kernel
theorem d_Md_back_69 : decode b_Md_back 69 = .ok (.iconst 0, 1) := by decide +kernel
theorem d_Md_back_70 : decode b_Md_back 70 = .ok (.istore_n 2, 1) := by decide +kernel
theorem d_Md_back_71 : decode b_Md_back 71 = .ok (.iconst 0, 1) := by decide +kernel
theorem d_Md_back_72 : decode b_Md_back 72 = .ok (.istore_n 3, 1) := by decide +kernel
theorem d_Md_back_73 : decode b_Md_back 73 = .ok (.iload_n 3, 1) := by decide +kernel
theorem d_Md_back_74 : decode b_Md_back 74 = .ok (.aload_n 0, 1) := by decide +kernel
theorem d_Md_back_75 : decode b_Md_back 75 = .ok (.getfield 52, 3) := by decide +kernel
theorem d_Md_back_78 : decode b_Md_back 78 = .ok (.aload_n 0, 1) := by decide +kernel
theorem d_Md_back_79 : decode b_Md_back 79 = .ok (.getfield 56, 3) := by decide +kernel
theorem d_Md_back_82 : decode b_Md_back 82 = .ok (.imul, 1) := by decide +kernel
theorem d_Md_back_83 : decode b_Md_back 83 = .ok (.if_icmp .ge 45, 3) := by decide +kernel
theorem d_Md_back_86 : decode b_Md_back 86 = .ok (.iload_n 2, 1) := by decide +kernel
theorem d_Md_back_87 : decode b_Md_back 87 = .ok (.aload_n 0, 1) := by decide +kernel
theorem d_Md_back_88 : decode b_Md_back 88 = .ok (.getfield 7, 3) := by decide +kernel
theorem d_Md_back_91 : decode b_Md_back 91 = .ok (.iload_n 3, 1) := by decide +kernel
theorem d_Md_back_92 : decode b_Md_back 92 = .ok (.daload, 1) := by decide +kernel
theorem d_Md_back_93 : decode b_Md_back 93 = .ok (.aload_n 0, 1) := by decide +kernel
theorem d_Md_back_94 : decode b_Md_back 94 = .ok (.getfield 13, 3) := by decide +kernel
theorem d_Md_back_97 : decode b_Md_back 97 = .ok (.iload_n 3, 1) := by decide +kernel
theorem d_Md_back_98 : decode b_Md_back 98 = .ok (.daload, 1) := by decide +kernel
theorem d_Md_back_99 : decode b_Md_back 99 = .ok (.dcmp .l, 1) := by decide +kernel
theorem d_Md_back_100 : decode b_Md_back 100 = .ok (.ifCond .eq 7, 3) := by decide +kernel
theorem d_Md_back_103 : decode b_Md_back 103 = .ok (.iconst 1, 1) := by decide +kernel
theorem d_Md_back_104 : decode b_Md_back 104 = .ok (.goto 4, 3) := by decide +kernel
theorem d_Md_back_107 : decode b_Md_back 107 = .ok (.iconst 0, 1) := by decide +kernel
theorem d_Md_back_108 : decode b_Md_back 108 = .ok (.iadd, 1) := by decide +kernel
theorem d_Md_back_109 : decode b_Md_back 109 = .ok (.istore_n 2, 1) := by decide +kernel
theorem d_Md_back_110 : decode b_Md_back 110 = .ok (.aload_n 0, 1) := by decide +kernel
theorem d_Md_back_111 : decode b_Md_back 111 = .ok (.getfield 7, 3) := by decide +kernel
theorem d_Md_back_114 : decode b_Md_back 114 = .ok (.iload_n 3, 1) := by decide +kernel
theorem d_Md_back_115 : decode b_Md_back 115 = .ok (.aload_n 0, 1) := by decide +kernel
theorem d_Md_back_116 : decode b_Md_back 116 = .ok (.getfield 13, 3) := by decide +kernel
theorem d_Md_back_119 : decode b_Md_back 119 = .ok (.iload_n 3, 1) := by decide +kernel
theorem d_Md_back_120 : decode b_Md_back 120 = .ok (.daload, 1) := by decide +kernel
theorem d_Md_back_121 : decode b_Md_back 121 = .ok (.dastore, 1) := by decide +kernel
theorem d_Md_back_122 : decode b_Md_back 122 = .ok (.iinc 3 1, 3) := by decide +kernel
theorem d_Md_back_125 : decode b_Md_back 125 = .ok (.goto (-52), 3) := by decide +kernel
theorem d_Md_back_128 : decode b_Md_back 128 = .ok (.iload_n 2, 1) := by decide +kernel
theorem d_Md_back_129 : decode b_Md_back 129 = .ok (.ireturn, 1) := by decide +kernel
set_option maxRecDepth 100000 in
theorem k_894 : Cond.methodLink "LiftBandsModel" 132 ⟨"LiftBandsModel", "joinTile", "(I)V"⟩ ∈ lw_g := gm 894 rfl rfl
set_option maxRecDepth 100000 in
theorem k_896 : Cond.instanceMethod ⟨"LiftBandsModel", "joinTile", "(I)V"⟩ ∈ lw_g := gm 896 rfl rfl
set_option maxRecDepth 100000 in
theorem k_897 : Cond.code ⟨"LiftBandsModel", "joinTile", "(I)V"⟩ prog_11_method_19_code 6 (Option.none : Option Jvm.ClassFile.FieldType) ∈ lw_g := gm 897 rfl rfl
theorem kp_22 : Cond.selects "LiftBandsModel" ⟨"LiftBandsModel", "joinTile", "(I)V"⟩ ⟨"LiftBandsModel", "joinTile", "(I)V"⟩ ∈ lw_g := gp 22 rfl rfl
theorem mk_Md_joinTile : MOk y_Md_joinTile b_Md_joinTile 6 none 1 := ⟨trivial, k_897, k_9, by decide +kernel, by decide +kernel, by decide +kernel⟩
/-! the model's tiles joined: what is low comes from the tile below -/
def mrg (X Y W : Nat) (B U : Nat → UInt64) : Nat → UInt64 := fun i => if (X + i % W) % 2 = 0 ∧ (Y + i / W) % 2 = 0 then U (plc X Y W (i % W) (i / W)) else B i
def mJt (op : Nat → Nat → (Nat → UInt64) → Nat → UInt64) (X Y Wi Hi : Nat → Nat) (lv : Nat) (B U : Nat → UInt64) : Nat → UInt64 := colsF (op (Y lv) (Hi lv)) (Wi lv) (rowsF (op (X lv) (Wi lv)) (Wi lv) (mrg (X lv) (Y lv) (Wi lv) B U))
theorem mrg_bd {X Y W H K : Nat} {B U : Nat → UInt64} (hB : BD K (W * H) B) (hU : BD K (mo X W 0 * mo Y H 0) U) : BD K (W * H) (mrg X Y W B U) := by
  intro i hi
  unfold mrg
  split
  · next q =>
    have := plc_lt (gx := X) (gy := Y) (Nat.mod_lt i (dm_pos hi)) (Nat.div_lt_of_lt_mul hi)
    rw [q.1, q.2] at this
    exact hU _ this
  · exact hB i hi
theorem mrg_congr {X Y W H : Nat} {B U B' U' : Nat → UInt64} (hB : ∀ i, i < W * H → B i = B' i) (hU : ∀ i, i < mo X W 0 * mo Y H 0 → U i = U' i) : ∀ i, i < W * H → mrg X Y W B U i = mrg X Y W B' U' i := by
  intro i hi
  unfold mrg
  split
  · next q =>
    have := plc_lt (gx := X) (gy := Y) (Nat.mod_lt i (dm_pos hi)) (Nat.div_lt_of_lt_mul hi)
    rw [q.1, q.2] at this
    exact hU _ this
  · exact hB i hi
abbrev OpLoc (op : Nat → Nat → (Nat → UInt64) → Nat → UInt64) : Prop := ∀ s0 n : Nat, LocOp n (op s0 n)
theorem mJt_congr {op : Nat → Nat → (Nat → UInt64) → Nat → UInt64} (ho : OpLoc op) {X Y Wi Hi : Nat → Nat} {lv : Nat} {B U B' U' : Nat → UInt64} (hB : ∀ i, i < Wi lv * Hi lv → B i = B' i) (hU : ∀ i, i < mo (X lv) (Wi lv) 0 * mo (Y lv) (Hi lv) 0 → U i = U' i) : ∀ i, i < Wi lv * Hi lv → mJt op X Y Wi Hi lv B U i = mJt op X Y Wi Hi lv B' U' i :=
  cols_congr (ho _ _) (rows_congr (ho _ _) (mrg_congr hB hU))
theorem mJt_bd {op : Nat → Nat → (Nat → UInt64) → Nat → UInt64} (ho : OpBd op) {X Y Wi Hi : Nat → Nat} {lv K : Nat} {B U : Nat → UInt64} (hK : K ≤ 700) (hK2 : 70 ≤ K) (hB : BD K (Wi lv * Hi lv) B) (hU : BD K (mo (X lv) (Wi lv) 0 * mo (Y lv) (Hi lv) 0) U) : BD (K + 72) (Wi lv * Hi lv) (mJt op X Y Wi Hi lv B U) :=
  cols_bd (fun g hg => ho _ _ _ g (by omega) (by omega) hg) (rows_bd (fun g hg => ho _ _ _ g (by omega) (by omega) hg) (mrg_bd hB hU))
/-- the tile of level L - d, joined from the last one -/
def mUp (op : Nat → Nat → (Nat → UInt64) → Nat → UInt64) (X Y Wi Hi : Nat → Nat) (P : Nat → UInt64) (L : Nat) (t : Nat → UInt64) : Nat → Nat → UInt64
  | 0 => t
  | d + 1 => mJt op X Y Wi Hi (L - (d + 1)) (fun i => P (1600 * (L - (d + 1)) + i)) (mUp op X Y Wi Hi P L t d)
theorem mUp_bd {op : Nat → Nat → (Nat → UInt64) → Nat → UInt64} (ho : OpBd op) {X Y Wi Hi : Nat → Nat} (hG : Geo X Y Wi Hi) {P t : Nat → UInt64} {L K : Nat} (hL : L ≤ 5) (hK : K ≤ 200) (hK2 : 70 ≤ K) (hP : ∀ j, j < L → BD K (Wi j * Hi j) (fun i => P (1600 * j + i))) (ht : BD K (Wi L * Hi L) t) : ∀ d, d ≤ L → BD (K + 72 * d) (Wi (L - d) * Hi (L - d)) (mUp op X Y Wi Hi P L t d)
  | 0, _ => ht
  | d + 1, hd => by
    have h1 := mUp_bd ho hG hL hK hK2 hP ht d (by omega)
    have e : L - d = L - (d + 1) + 1 := by omega
    rw [e, hG.ew _ (by omega), hG.eh _ (by omega)] at h1
    exact mJt_bd (K := K + 72 * d) ho (by omega) (by omega) (fun i hi => (hP _ (by omega) i hi).mono (by omega)) h1
def neN (x y : UInt64) : Nat := if Op.cmpValue (FP.dcmp x y) .l = 0 then 0 else 1
theorem ne_0 {x y : UInt64} (h : Op.cmpValue (FP.dcmp x y) .l = 0) : neN x y = 0 := if_pos h
theorem ne_1 {x y : UInt64} (h : ¬ Op.cmpValue (FP.dcmp x y) .l = 0) : neN x y = 1 := if_neg h
theorem pred_neg {z : Nat} (h : nI z - 1 < 0) (hz : z < 2 ^ 31) : z = 0 := by
  match z, h, hz with
  | 0, _, _ => rfl
  | y + 1, h, hz =>
    rw [nI_pred] at h
    exact absurd h (nI_pos (by omega))
theorem pred_nn {z : Nat} (h : ¬ nI z - 1 < 0) : z ≠ 0 := fun e => h (by rw [e]; decide)
abbrev rm_Md_jtR : Room := { frames := 5, cells := 0, slots := 0, locals := 169 }
set_option maxHeartbeats 4000000 in
set_option maxRecDepth 100000 in
/-- Model.joinTile -/
theorem c_Md_jtR (l : Launch) (D : va_G) (k : Nat → ClassId) (sz : Nat) (m0 ms mt mp mx my mw mh ml mn mk mq mm : Nat) (vcode vw vh vl vso : Int32) (T P f g : Nat → UInt64) (X Y Wi Hi : Nat → Nat) (hG : Geo X Y Wi Hi) (lv : Nat) (hlv : lv < 5) (K : Nat) (hK : K ≤ 560) (hK2 : 70 ≤ K) (hPb : BD K (Wi lv * Hi lv) (fun i => P (1600 * lv + i))) (hU : BD K (Wi (lv + 1) * Hi (lv + 1)) (fun i => T (1600 * (lv + 1) + i))) : Met l y_Md_joinTile (Cond.code y_Md_joinTile b_Md_joinTile 6 none :: lw_g) rm_Md_jtR (Pw D k [(m0, .inr (8, [.int vcode, .int vw, .int vh, .int vl, .ref ms, .int vso, .ref mt, .ref mp, .ref mx, .ref my, .ref mw, .ref mh, .int 1, .ref ml, .ref mn, .ref mk, .ref mq, .ref mm])), (mt, aD k 9600 T), (mp, aD k 8000 P), (mx, aI k 6 (fun j => nI (X j))), (my, aI k 6 (fun j => nI (Y j))), (mw, aI k 6 (fun j => nI (Wi j))), (mh, aI k 6 (fun j => nI (Hi j))), (ml, aD k 40 f), (mn, aD k 40 g)] sz [.ref m0, .int (nI lv)]) (Qw D (va_A [(m0, .inr (8, [.int vcode, .int vw, .int vh, .int vl, .ref ms, .int vso, .ref mt, .ref mp, .ref mx, .ref my, .ref mw, .ref mh, .int 1, .ref ml, .ref mn, .ref mk, .ref mq, .ref mm])), (mt, aD k 9600 T), (mp, aD k 8000 P), (mx, aI k 6 (fun j => nI (X j))), (my, aI k 6 (fun j => nI (Y j))), (mw, aI k 6 (fun j => nI (Wi j))), (mh, aI k 6 (fun j => nI (Hi j))), (ml, aD k 40 f), (mn, aD k 40 g)] sz) (fun v w1 => v = none ∧ ∃ T2 f2 g2 : Nat → UInt64, w1 = [(m0, .inr (8, [.int vcode, .int vw, .int vh, .int vl, .ref ms, .int vso, .ref mt, .ref mp, .ref mx, .ref my, .ref mw, .ref mh, .int 1, .ref ml, .ref mn, .ref mk, .ref mq, .ref mm])), (mt, aD k 9600 T2), (mp, aD k 8000 P), (mx, aI k 6 (fun j => nI (X j))), (my, aI k 6 (fun j => nI (Y j))), (mw, aI k 6 (fun j => nI (Wi j))), (mh, aI k 6 (fun j => nI (Hi j))), (ml, aD k 40 f2), (mn, aD k 40 g2)] ∧ (∀ i, i < Wi lv * Hi lv → T2 (1600 * lv + i) = mJt mjoinR X Y Wi Hi lv (fun i => P (1600 * lv + i)) (fun i => T (1600 * (lv + 1) + i)) i) ∧ (∀ q, (q < 1600 * lv ∨ 1600 * lv + Wi lv * Hi lv ≤ q) → T2 q = T q))) 0 0 (va_A [(m0, .inr (8, [.int vcode, .int vw, .int vh, .int vl, .ref ms, .int vso, .ref mt, .ref mp, .ref mx, .ref my, .ref mw, .ref mh, .int 1, .ref ml, .ref mn, .ref mk, .ref mq, .ref mm])), (mt, aD k 9600 T), (mp, aD k 8000 P), (mx, aI k 6 (fun j => nI (X j))), (my, aI k 6 (fun j => nI (Y j))), (mw, aI k 6 (fun j => nI (Wi j))), (mh, aI k 6 (fun j => nI (Hi j))), (ml, aD k 40 f), (mn, aD k 40 g)] sz) := by
  refine met_of (by decide +kernel) ?_
  intro p e s m below meth c hC hsz hw hin
  subst hsz
  have hC : Cx D k p s m _ meth c "LiftBandsModel" b_Md_joinTile 6 none := hC
  have hx := hC.1
  have hb := hC.2.1
  refine r_ent (Nat.le_of_ble_eq_true rfl) rfl (fun ls hl => ?_)
  have hl : lv_has ls 6 [(0, .ref m0), (1, .int (nI lv))] := hl
  have hw : Wd D (va_A [(m0, .inr (8, [.int vcode, .int vw, .int vh, .int vl, .ref ms, .int vso, .ref mt, .ref mp, .ref mx, .ref my, .ref mw, .ref mh, .int 1, .ref ml, .ref mn, .ref mk, .ref mq, .ref mm])), (mt, aD k 9600 T), (mp, aD k 8000 P), (mx, aI k 6 (fun j => nI (X j))), (my, aI k 6 (fun j => nI (Y j))), (mw, aI k 6 (fun j => nI (Wi j))), (mh, aI k 6 (fun j => nI (Hi j))), (ml, aD k 40 f), (mn, aD k 40 g)] s.heap.size) s.heap [(m0, .inr (8, [.int vcode, .int vw, .int vh, .int vl, .ref ms, .int vso, .ref mt, .ref mp, .ref mx, .ref my, .ref mw, .ref mh, .int 1, .ref ml, .ref mn, .ref mk, .ref mq, .ref mm])), (mt, aD k 9600 T), (mp, aD k 8000 P), (mx, aI k 6 (fun j => nI (X j))), (my, aI k 6 (fun j => nI (Y j))), (mw, aI k 6 (fun j => nI (Wi j))), (mh, aI k 6 (fun j => nI (Hi j))), (ml, aD k 40 f), (mn, aD k 40 g)] s.heap [] := hw
  generalize va_A [(m0, .inr (8, [.int vcode, .int vw, .int vh, .int vl, .ref ms, .int vso, .ref mt, .ref mp, .ref mx, .ref my, .ref mw, .ref mh, .int 1, .ref ml, .ref mn, .ref mk, .ref mq, .ref mm])), (mt, aD k 9600 T), (mp, aD k 8000 P), (mx, aI k 6 (fun j => nI (X j))), (my, aI k 6 (fun j => nI (Y j))), (mw, aI k 6 (fun j => nI (Wi j))), (mh, aI k 6 (fun j => nI (Hi j))), (ml, aD k 40 f), (mn, aD k 40 g)] s.heap.size = A at hw ⊢
  generalize ([.ref m0, .int (nI lv)] : List Value).toArray = args at hC ⊢
  have hal := hG.a (j := lv) (by omega)
  have hex := hG.ex lv (by omega)
  have hey := hG.ey lv (by omega)
  have hew := hG.ew lv (by omega)
  have heh := hG.eh lv (by omega)
  have hXl := hG.x lv (by omega)
  have hYl := hG.y lv (by omega)
  have hWl := hG.w lv (by omega)
  have hHl := hG.h lv (by omega)
  have hob : OpBd mjoinR := fun _ _ _ _ a b c => mjoinR_bd a b c
  rw [hew, heh] at hU
  have hmb : BD K (Wi lv * Hi lv) (mrg (X lv) (Y lv) (Wi lv) (fun i => P (1600 * lv + i)) (fun i => T (1600 * (lv + 1) + i))) := mrg_bd hPb hU
  have hpm : mo (X lv) (Wi lv) 0 * mo (Y lv) (Hi lv) 0 ≤ 40 * 40 := Nat.mul_le_mul (Nat.le_trans mo_le hWl) (Nat.le_trans mo_le hHl)
  refine lv_aload_n hx hb d_Md_joinTile_0 rfl (lv_at hl 0 rfl) ?_
  refine r_get hC hw ck_Md 0 rfl 10 (by decide) k_790 rfl rfl d_Md_joinTile_1 ?_
  refine lv_iload_n hx hb d_Md_joinTile_4 rfl (lv_at hl 1 rfl) ?_
  refine r_iald hC hw 5 rfl lv rfl (by omega) (by decide) d_Md_joinTile_5 ?_
  refine lv_aload_n hx hb d_Md_joinTile_6 rfl (lv_at hl 0 rfl) ?_
  refine r_get hC hw ck_Md 0 rfl 11 (by decide) k_791 rfl rfl d_Md_joinTile_7 ?_
  refine lv_iload_n hx hb d_Md_joinTile_10 rfl (lv_at hl 1 rfl) ?_
  refine r_iald hC hw 6 rfl lv rfl (by omega) (by decide) d_Md_joinTile_11 ?_
  refine lv_imul hx hb d_Md_joinTile_12 ?_
  refine r_topi (y := nI (Wi lv * Hi lv)) (pk_mul _ _) ?_
  refine lv_istore_n (lv' := [(2, .int (nI (Wi lv * Hi lv))), (0, .ref m0), (1, .int (nI lv))]) hx hb d_Md_joinTile_13 rfl hl (by decide) rfl (fun ls hl => ?_)
  refine lv_iconst (v := 0) hx hb d_Md_joinTile_14 (by decide) ?_
  refine lv_istore_n (lv' := [(3, .int 0), (2, .int (nI (Wi lv * Hi lv))), (0, .ref m0), (1, .int (nI lv))]) hx hb d_Md_joinTile_15 rfl hl (by decide) rfl (fun ls hl => ?_)
  have hl : lv_has ls 6 [(3, .int (nI 0)), (2, .int (nI (Wi lv * Hi lv))), (0, .ref m0), (1, .int (nI lv))] := lv_sub hl [0, 1, 2, 3] rfl
  have L16 : ∀ (fu : Nat) (kk : Nat) (T3 : Nat → UInt64) (P3 : Nat → UInt64) (ff : Nat → UInt64) (gg : Nat → UInt64) (H : Heap) (locs : List Loc) (ls : Array Slot), Wi lv * Hi lv - kk < fu → kk ≤ Wi lv * Hi lv → (∀ i, i < kk → T3 (1600 * lv + i) = P (1600 * lv + i)) → (∀ q, (q < 1600 * lv ∨ 1600 * lv + Wi lv * Hi lv ≤ q) → T3 q = T q) → (∀ i, i < kk → P3 (1600 * lv + i) = mrg (X lv) (Y lv) (Wi lv) (fun i => P (1600 * lv + i)) (fun i => T (1600 * (lv + 1) + i)) i) → (∀ q, (q < 1600 * lv ∨ 1600 * lv + kk ≤ q) → P3 q = P q) → Wd D A s.heap [(m0, .inr (8, [.int vcode, .int vw, .int vh, .int vl, .ref ms, .int vso, .ref mt, .ref mp, .ref mx, .ref my, .ref mw, .ref mh, .int 1, .ref ml, .ref mn, .ref mk, .ref mq, .ref mm])), (mt, aD k 9600 T3), (mp, aD k 8000 P3), (mx, aI k 6 (fun j => nI (X j))), (my, aI k 6 (fun j => nI (Y j))), (mw, aI k 6 (fun j => nI (Wi j))), (mh, aI k 6 (fun j => nI (Hi j))), (ml, aD k 40 ff), (mn, aD k 40 gg)] H locs → lv_has ls 6 [(3, .int (nI kk)), (2, .int (nI (Wi lv * Hi lv))), (0, .ref m0), (1, .int (nI lv))] → W p l e rm_Md_jtR s m args below meth c H locs 0 0 (MQ below (Qw D A (fun v w1 => v = none ∧ ∃ T2 f2 g2 : Nat → UInt64, w1 = [(m0, .inr (8, [.int vcode, .int vw, .int vh, .int vl, .ref ms, .int vso, .ref mt, .ref mp, .ref mx, .ref my, .ref mw, .ref mh, .int 1, .ref ml, .ref mn, .ref mk, .ref mq, .ref mm])), (mt, aD k 9600 T2), (mp, aD k 8000 P), (mx, aI k 6 (fun j => nI (X j))), (my, aI k 6 (fun j => nI (Y j))), (mw, aI k 6 (fun j => nI (Wi j))), (mh, aI k 6 (fun j => nI (Hi j))), (ml, aD k 40 f2), (mn, aD k 40 g2)] ∧ (∀ i, i < Wi lv * Hi lv → T2 (1600 * lv + i) = mJt mjoinR X Y Wi Hi lv (fun i => P (1600 * lv + i)) (fun i => T (1600 * (lv + 1) + i)) i) ∧ (∀ q, (q < 1600 * lv ∨ 1600 * lv + Wi lv * Hi lv ≤ q) → T2 q = T q))) args s 0 0 A) (F0 m 16 ls []) := by
    intro fu
    induction fu with
    | zero => intro kk T3 P3 ff gg H locs ls hfu; exact absurd hfu (Nat.not_lt_zero _)
    | succ fu ih_L16 =>
      intro kk T3 P3 ff gg H locs ls hfu_L16 hkb jA jB jE jD hw hl
      refine lv_iload_n hx hb d_Md_joinTile_16 rfl (lv_at hl 0 rfl) ?_
      refine lv_iload_n hx hb d_Md_joinTile_17 rfl (lv_at hl 1 rfl) ?_
      refine lv_icmp_ge (tgt := 121) hx hb d_Md_joinTile_18 (by decide) (fun hc18 => ?_) (fun hc18 => ?_)
      · have hkn : kk = Wi lv * Hi lv := by have := (nI_leI (by omega) (by omega)).mp hc18; omega
        have jA : ∀ i, i < Wi lv * Hi lv → T3 (1600 * lv + i) = P (1600 * lv + i) := by rw [← hkn]; exact jA
        have jE : ∀ i, i < Wi lv * Hi lv → P3 (1600 * lv + i) = mrg (X lv) (Y lv) (Wi lv) (fun i => P (1600 * lv + i)) (fun i => T (1600 * (lv + 1) + i)) i := by rw [← hkn]; exact jE
        have jD : ∀ q, (q < 1600 * lv ∨ 1600 * lv + Wi lv * Hi lv ≤ q) → P3 q = P q := by rw [← hkn]; exact jD
        refine lv_aload_n hx hb d_Md_joinTile_121 rfl (lv_at hl 2 rfl) ?_
        refine lv_iload_n hx hb d_Md_joinTile_122 rfl (lv_at hl 3 rfl) ?_
        refine lv_iconst (v := 1) hx hb d_Md_joinTile_123 (by decide) ?_
        refine lv_iconst (v := 1) hx hb d_Md_joinTile_124 (by decide) ?_
        have hgb : BD (K) (Wi lv * Hi lv) (fun i => P3 (1600 * lv + i)) := fun i hi => by show bd _ (P3 (1600 * lv + i)); rw [jE i hi]; exact hmb i hi
        refine r_w hw [0, 2, 3, 4, 5, 6, 7, 8] rfl rfl (rn_V (b := m0) (As := [.int (nI lv), .int 1, .int 1]) (rest := []) (C := "LiftBandsModel") hC (c_Md_goJRr l D k _ m0 ms mt mp mx my mw mh ml mn mk mq mm vcode vw vh vl vso P3 ff gg X Y Wi Hi hG.x hG.y hG.w hG.h lv (by omega) (K) (by omega) (by omega) hgb) mk_Md_goLines k_849 kp_13 k_847 ⟨rfl, rfl, (Nat.le_of_ble_eq_true rfl), (Nat.le_of_ble_eq_true rfl)⟩ (r_recv hC hw ck_Md 0 rfl) rfl hl.1 rfl (Nat.le_of_ble_eq_true rfl) d_Md_joinTile_125 ⟨(Nat.le_of_ble_eq_true rfl), (Nat.le_of_ble_eq_true rfl)⟩ (Pw.pre hC.2.2.2.2.2.1 hw [0, 2, 3, 4, 5, 6, 7, 8] rfl rfl)) (fun v w1 hp_ H locs hw1 => ?_)
        obtain ⟨rfl, f4, g4, rfl⟩ := hp_
        have hw := hw1 [(m0, .inr (8, [.int vcode, .int vw, .int vh, .int vl, .ref ms, .int vso, .ref mt, .ref mp, .ref mx, .ref my, .ref mw, .ref mh, .int 1, .ref ml, .ref mn, .ref mk, .ref mq, .ref mm])), (mp, aD k 8000 (offG (1600 * lv) (Wi lv * Hi lv) (rowsF (mjoinR (X lv) (Wi lv)) (Wi lv) (fun i => P3 (1600 * lv + i))) P3)), (mx, aI k 6 (fun j => nI (X j))), (my, aI k 6 (fun j => nI (Y j))), (mw, aI k 6 (fun j => nI (Wi j))), (mh, aI k 6 (fun j => nI (Hi j))), (ml, aD k 40 f4), (mn, aD k 40 g4)] [] rfl (by simp only [List.map_cons, List.map_nil])
        have hw : Wd D _ _ [(m0, .inr (8, [.int vcode, .int vw, .int vh, .int vl, .ref ms, .int vso, .ref mt, .ref mp, .ref mx, .ref my, .ref mw, .ref mh, .int 1, .ref ml, .ref mn, .ref mk, .ref mq, .ref mm])), (mt, aD k 9600 T3), (mp, aD k 8000 (offG (1600 * lv) (Wi lv * Hi lv) (rowsF (mjoinR (X lv) (Wi lv)) (Wi lv) (fun i => P3 (1600 * lv + i))) P3)), (mx, aI k 6 (fun j => nI (X j))), (my, aI k 6 (fun j => nI (Y j))), (mw, aI k 6 (fun j => nI (Wi j))), (mh, aI k 6 (fun j => nI (Hi j))), (ml, aD k 40 f4), (mn, aD k 40 g4)] _ _ := hw
        refine W.eq (g2 := F0 m 128 ls []) rfl ?_
        have hQP5 : ∀ i, i < Wi lv * Hi lv → (offG (1600 * lv) (Wi lv * Hi lv) (rowsF (mjoinR (X lv) (Wi lv)) (Wi lv) (fun i => P3 (1600 * lv + i))) P3) (1600 * lv + i) = rowsF (mjoinR (X lv) (Wi lv)) (Wi lv) (mrg (X lv) (Y lv) (Wi lv) (fun i => P (1600 * lv + i)) (fun i => T (1600 * (lv + 1) + i))) i := fun i hi => (offG_at hi).trans (rows_congr mjoinR_loc jE i hi)
        have hRP5 : ∀ q, (q < 1600 * lv ∨ 1600 * lv + Wi lv * Hi lv ≤ q) → (offG (1600 * lv) (Wi lv * Hi lv) (rowsF (mjoinR (X lv) (Wi lv)) (Wi lv) (fun i => P3 (1600 * lv + i))) P3) q = P q := fun q hq => (hq.elim (fun a => offG_out a) (fun a => offG_up a)).trans (jD q hq)
        generalize offG (1600 * lv) (Wi lv * Hi lv) (rowsF (mjoinR (X lv) (Wi lv)) (Wi lv) (fun i => P3 (1600 * lv + i))) P3 = P5 at hw hQP5 hRP5
        have hbr : BD (K + 36) (Wi lv * Hi lv) (rowsF (mjoinR (X lv) (Wi lv)) (Wi lv) (mrg (X lv) (Y lv) (Wi lv) (fun i => P (1600 * lv + i)) (fun i => T (1600 * (lv + 1) + i)))) := rows_bd (fun g hg => hob _ _ _ g (by omega) (by omega) hg) hmb
        refine lv_aload_n hx hb d_Md_joinTile_128 rfl (lv_at hl 2 rfl) ?_
        refine lv_iload_n hx hb d_Md_joinTile_129 rfl (lv_at hl 3 rfl) ?_
        refine lv_iconst (v := 0) hx hb d_Md_joinTile_130 (by decide) ?_
        refine lv_iconst (v := 1) hx hb d_Md_joinTile_131 (by decide) ?_
        have hgb : BD (K + 36) (Wi lv * Hi lv) (fun i => P5 (1600 * lv + i)) := fun i hi => by show bd _ (P5 (1600 * lv + i)); rw [hQP5 i hi]; exact hbr i hi
        refine r_w hw [0, 2, 3, 4, 5, 6, 7, 8] rfl rfl (rn_V (b := m0) (As := [.int (nI lv), .int 0, .int 1]) (rest := []) (C := "LiftBandsModel") hC (c_Md_goJRc l D k _ m0 ms mt mp mx my mw mh ml mn mk mq mm vcode vw vh vl vso P5 f4 g4 X Y Wi Hi hG.x hG.y hG.w hG.h lv (by omega) (K + 36) (by omega) (by omega) hgb) mk_Md_goLines k_849 kp_13 k_847 ⟨rfl, rfl, (Nat.le_of_ble_eq_true rfl), (Nat.le_of_ble_eq_true rfl)⟩ (r_recv hC hw ck_Md 0 rfl) rfl hl.1 rfl (Nat.le_of_ble_eq_true rfl) d_Md_joinTile_132 ⟨(Nat.le_of_ble_eq_true rfl), (Nat.le_of_ble_eq_true rfl)⟩ (Pw.pre hC.2.2.2.2.2.1 hw [0, 2, 3, 4, 5, 6, 7, 8] rfl rfl)) (fun v w1 hp_ H locs hw1 => ?_)
        obtain ⟨rfl, f5, g5, rfl⟩ := hp_
        have hw := hw1 [(m0, .inr (8, [.int vcode, .int vw, .int vh, .int vl, .ref ms, .int vso, .ref mt, .ref mp, .ref mx, .ref my, .ref mw, .ref mh, .int 1, .ref ml, .ref mn, .ref mk, .ref mq, .ref mm])), (mp, aD k 8000 (offG (1600 * lv) (Wi lv * Hi lv) (colsF (mjoinR (Y lv) (Hi lv)) (Wi lv) (fun i => P5 (1600 * lv + i))) P5)), (mx, aI k 6 (fun j => nI (X j))), (my, aI k 6 (fun j => nI (Y j))), (mw, aI k 6 (fun j => nI (Wi j))), (mh, aI k 6 (fun j => nI (Hi j))), (ml, aD k 40 f5), (mn, aD k 40 g5)] [] rfl (by simp only [List.map_cons, List.map_nil])
        have hw : Wd D _ _ [(m0, .inr (8, [.int vcode, .int vw, .int vh, .int vl, .ref ms, .int vso, .ref mt, .ref mp, .ref mx, .ref my, .ref mw, .ref mh, .int 1, .ref ml, .ref mn, .ref mk, .ref mq, .ref mm])), (mt, aD k 9600 T3), (mp, aD k 8000 (offG (1600 * lv) (Wi lv * Hi lv) (colsF (mjoinR (Y lv) (Hi lv)) (Wi lv) (fun i => P5 (1600 * lv + i))) P5)), (mx, aI k 6 (fun j => nI (X j))), (my, aI k 6 (fun j => nI (Y j))), (mw, aI k 6 (fun j => nI (Wi j))), (mh, aI k 6 (fun j => nI (Hi j))), (ml, aD k 40 f5), (mn, aD k 40 g5)] _ _ := hw
        refine W.eq (g2 := F0 m 135 ls []) rfl ?_
        have hQP6 : ∀ i, i < Wi lv * Hi lv → (offG (1600 * lv) (Wi lv * Hi lv) (colsF (mjoinR (Y lv) (Hi lv)) (Wi lv) (fun i => P5 (1600 * lv + i))) P5) (1600 * lv + i) = colsF (mjoinR (Y lv) (Hi lv)) (Wi lv) (rowsF (mjoinR (X lv) (Wi lv)) (Wi lv) (mrg (X lv) (Y lv) (Wi lv) (fun i => P (1600 * lv + i)) (fun i => T (1600 * (lv + 1) + i)))) i := fun i hi => (offG_at hi).trans (cols_congr mjoinR_loc hQP5 i hi)
        have hRP6 : ∀ q, (q < 1600 * lv ∨ 1600 * lv + Wi lv * Hi lv ≤ q) → (offG (1600 * lv) (Wi lv * Hi lv) (colsF (mjoinR (Y lv) (Hi lv)) (Wi lv) (fun i => P5 (1600 * lv + i))) P5) q = P q := fun q hq => (hq.elim (fun a => offG_out a) (fun a => offG_up a)).trans (hRP5 q hq)
        generalize offG (1600 * lv) (Wi lv * Hi lv) (colsF (mjoinR (Y lv) (Hi lv)) (Wi lv) (fun i => P5 (1600 * lv + i))) P5 = P6 at hw hQP6 hRP6
        have hQP6 : ∀ i, i < Wi lv * Hi lv → P6 (1600 * lv + i) = mJt mjoinR X Y Wi Hi lv (fun i => P (1600 * lv + i)) (fun i => T (1600 * (lv + 1) + i)) i := hQP6
        refine lv_iconst (v := 0) hx hb d_Md_joinTile_135 (by decide) ?_
        refine lv_istore_n (lv' := [(3, .int 0), (2, .int (nI (Wi lv * Hi lv))), (0, .ref m0), (1, .int (nI lv))]) hx hb d_Md_joinTile_136 rfl hl (by decide) rfl (fun ls hl => ?_)
        have hl : lv_has ls 6 [(3, .int (nI 0)), (2, .int (nI (Wi lv * Hi lv))), (0, .ref m0), (1, .int (nI lv))] := hl
        have L137 : ∀ (fu : Nat) (kk : Nat) (T5 : Nat → UInt64) (P7 : Nat → UInt64) (H : Heap) (locs : List Loc) (ls : Array Slot), Wi lv * Hi lv - kk < fu → kk ≤ Wi lv * Hi lv → (∀ i, i < kk → T5 (1600 * lv + i) = mJt mjoinR X Y Wi Hi lv (fun i => P (1600 * lv + i)) (fun i => T (1600 * (lv + 1) + i)) i) → (∀ i, kk ≤ i → i < Wi lv * Hi lv → T5 (1600 * lv + i) = P (1600 * lv + i)) → (∀ q, (q < 1600 * lv ∨ 1600 * lv + Wi lv * Hi lv ≤ q) → T5 q = T q) → (∀ i, i < kk → P7 (1600 * lv + i) = P (1600 * lv + i)) → (∀ i, kk ≤ i → i < Wi lv * Hi lv → P7 (1600 * lv + i) = mJt mjoinR X Y Wi Hi lv (fun i => P (1600 * lv + i)) (fun i => T (1600 * (lv + 1) + i)) i) → (∀ q, (q < 1600 * lv ∨ 1600 * lv + Wi lv * Hi lv ≤ q) → P7 q = P q) → Wd D A s.heap [(m0, .inr (8, [.int vcode, .int vw, .int vh, .int vl, .ref ms, .int vso, .ref mt, .ref mp, .ref mx, .ref my, .ref mw, .ref mh, .int 1, .ref ml, .ref mn, .ref mk, .ref mq, .ref mm])), (mt, aD k 9600 T5), (mp, aD k 8000 P7), (mx, aI k 6 (fun j => nI (X j))), (my, aI k 6 (fun j => nI (Y j))), (mw, aI k 6 (fun j => nI (Wi j))), (mh, aI k 6 (fun j => nI (Hi j))), (ml, aD k 40 f5), (mn, aD k 40 g5)] H locs → lv_has ls 6 [(3, .int (nI kk)), (2, .int (nI (Wi lv * Hi lv))), (0, .ref m0), (1, .int (nI lv))] → W p l e rm_Md_jtR s m args below meth c H locs 0 0 (MQ below (Qw D A (fun v w1 => v = none ∧ ∃ T2 f2 g2 : Nat → UInt64, w1 = [(m0, .inr (8, [.int vcode, .int vw, .int vh, .int vl, .ref ms, .int vso, .ref mt, .ref mp, .ref mx, .ref my, .ref mw, .ref mh, .int 1, .ref ml, .ref mn, .ref mk, .ref mq, .ref mm])), (mt, aD k 9600 T2), (mp, aD k 8000 P), (mx, aI k 6 (fun j => nI (X j))), (my, aI k 6 (fun j => nI (Y j))), (mw, aI k 6 (fun j => nI (Wi j))), (mh, aI k 6 (fun j => nI (Hi j))), (ml, aD k 40 f2), (mn, aD k 40 g2)] ∧ (∀ i, i < Wi lv * Hi lv → T2 (1600 * lv + i) = mJt mjoinR X Y Wi Hi lv (fun i => P (1600 * lv + i)) (fun i => T (1600 * (lv + 1) + i)) i) ∧ (∀ q, (q < 1600 * lv ∨ 1600 * lv + Wi lv * Hi lv ≤ q) → T2 q = T q))) args s 0 0 A) (F0 m 137 ls []) := by
          intro fu
          induction fu with
          | zero => intro kk T5 P7 H locs ls hfu; exact absurd hfu (Nat.not_lt_zero _)
          | succ fu ih_L137 =>
            intro kk T5 P7 H locs ls hfu_L137 hkb2 sA sB sC sD sE sF hw hl
            refine lv_iload_n hx hb d_Md_joinTile_137 rfl (lv_at hl 0 rfl) ?_
            refine lv_iload_n hx hb d_Md_joinTile_138 rfl (lv_at hl 1 rfl) ?_
            refine lv_icmp_ge (tgt := 200) hx hb d_Md_joinTile_139 (by decide) (fun hc139 => ?_) (fun hc139 => ?_)
            · have hkn : Wi lv * Hi lv ≤ kk := (nI_leI (by omega) (by omega)).mp hc139
              have e : P7 = P := by
                funext q
                by_cases h1 : (q < 1600 * lv ∨ 1600 * lv + Wi lv * Hi lv ≤ q)
                · exact sF q h1
                · have e2 : q = 1600 * lv + (q - 1600 * lv) := by omega
                  rw [e2]
                  exact sD _ (by omega)
              have hw : Wd D _ _ [(m0, .inr (8, [.int vcode, .int vw, .int vh, .int vl, .ref ms, .int vso, .ref mt, .ref mp, .ref mx, .ref my, .ref mw, .ref mh, .int 1, .ref ml, .ref mn, .ref mk, .ref mq, .ref mm])), (mt, aD k 9600 T5), (mp, aD k 8000 P), (mx, aI k 6 (fun j => nI (X j))), (my, aI k 6 (fun j => nI (Y j))), (mw, aI k 6 (fun j => nI (Wi j))), (mh, aI k 6 (fun j => nI (Hi j))), (ml, aD k 40 f5), (mn, aD k 40 g5)] H locs := hw.cast (by rw [e])
              exact ew_v (w1 := [(m0, .inr (8, [.int vcode, .int vw, .int vh, .int vl, .ref ms, .int vso, .ref mt, .ref mp, .ref mx, .ref my, .ref mw, .ref mh, .int 1, .ref ml, .ref mn, .ref mk, .ref mq, .ref mm])), (mt, aD k 9600 T5), (mp, aD k 8000 P), (mx, aI k 6 (fun j => nI (X j))), (my, aI k 6 (fun j => nI (Y j))), (mw, aI k 6 (fun j => nI (Wi j))), (mh, aI k 6 (fun j => nI (Hi j))), (ml, aD k 40 f5), (mn, aD k 40 g5)]) hC hw [0, 1, 2, 3, 4, 5, 6, 7, 8] rfl rfl ⟨rfl, _, _, _, rfl, fun i hi => sA i (by omega), sC⟩ d_Md_joinTile_200
            · have hkn : kk < Wi lv * Hi lv := le_nI hc139 (by omega) (by omega)
              refine lv_aload_n hx hb d_Md_joinTile_142 rfl (lv_at hl 2 rfl) ?_
              refine r_get hC hw ck_Md 0 rfl 6 (by decide) k_786 rfl rfl d_Md_joinTile_143 ?_
              refine lv_sipush (v := 1600) hx hb d_Md_joinTile_146 (by decide) ?_
              refine lv_iload_n hx hb d_Md_joinTile_149 rfl (lv_at hl 3 rfl) ?_
              refine lv_imul hx hb d_Md_joinTile_150 ?_
              refine r_topi (y := nI (1600 * lv)) (pk_mul 1600 lv) ?_
              refine lv_iload_n hx hb d_Md_joinTile_151 rfl (lv_at hl 0 rfl) ?_
              refine lv_iadd hx hb d_Md_joinTile_152 ?_
              refine r_topi (y := nI (1600 * lv + kk)) (nI_add _ _) ?_
              refine r_dald hC hw 1 rfl (1600 * lv + kk) rfl (by omega) (by omega) d_Md_joinTile_153 ?_
              refine r_topd (y := P (1600 * lv + kk)) (sB kk (by omega) hkn) ?_
              refine lv_dstore (lv' := [(4, .double (P (1600 * lv + kk))), (3, .int (nI kk)), (2, .int (nI (Wi lv * Hi lv))), (0, .ref m0), (1, .int (nI lv))]) hx hb d_Md_joinTile_154 hl (by decide) rfl (fun ls hl => ?_)
              refine lv_aload_n hx hb d_Md_joinTile_156 rfl (lv_at hl 3 rfl) ?_
              refine r_get hC hw ck_Md 0 rfl 6 (by decide) k_786 rfl rfl d_Md_joinTile_157 ?_
              refine lv_sipush (v := 1600) hx hb d_Md_joinTile_160 (by decide) ?_
              refine lv_iload_n hx hb d_Md_joinTile_163 rfl (lv_at hl 4 rfl) ?_
              refine lv_imul hx hb d_Md_joinTile_164 ?_
              refine r_topi (y := nI (1600 * lv)) (pk_mul 1600 lv) ?_
              refine lv_iload_n hx hb d_Md_joinTile_165 rfl (lv_at hl 1 rfl) ?_
              refine lv_iadd hx hb d_Md_joinTile_166 ?_
              refine r_topi (y := nI (1600 * lv + kk)) (nI_add _ _) ?_
              refine lv_aload_n hx hb d_Md_joinTile_167 rfl (lv_at hl 3 rfl) ?_
              refine r_get hC hw ck_Md 0 rfl 7 (by decide) k_787 rfl rfl d_Md_joinTile_168 ?_
              refine lv_sipush (v := 1600) hx hb d_Md_joinTile_171 (by decide) ?_
              refine lv_iload_n hx hb d_Md_joinTile_174 rfl (lv_at hl 4 rfl) ?_
              refine lv_imul hx hb d_Md_joinTile_175 ?_
              refine r_topi (y := nI (1600 * lv)) (pk_mul 1600 lv) ?_
              refine lv_iload_n hx hb d_Md_joinTile_176 rfl (lv_at hl 1 rfl) ?_
              refine lv_iadd hx hb d_Md_joinTile_177 ?_
              refine r_topi (y := nI (1600 * lv + kk)) (nI_add _ _) ?_
              refine r_dald hC hw 2 rfl (1600 * lv + kk) rfl (by omega) (by omega) d_Md_joinTile_178 ?_
              refine r_topd (y := mJt mjoinR X Y Wi Hi lv (fun i => P (1600 * lv + i)) (fun i => T (1600 * (lv + 1) + i)) kk) (sE kk (by omega) hkn) ?_
              refine r_dast hC hw 1 rfl (1600 * lv + kk) rfl (by omega) (by omega) d_Md_joinTile_179 (fun H locs hw => ?_)
              have hw : Wd D _ _ [(m0, .inr (8, [.int vcode, .int vw, .int vh, .int vl, .ref ms, .int vso, .ref mt, .ref mp, .ref mx, .ref my, .ref mw, .ref mh, .int 1, .ref ml, .ref mn, .ref mk, .ref mq, .ref mm])), (mt, aD k 9600 (vf_upd T5 (1600 * lv + kk) (mJt mjoinR X Y Wi Hi lv (fun i => P (1600 * lv + i)) (fun i => T (1600 * (lv + 1) + i)) kk))), (mp, aD k 8000 P7), (mx, aI k 6 (fun j => nI (X j))), (my, aI k 6 (fun j => nI (Y j))), (mw, aI k 6 (fun j => nI (Wi j))), (mh, aI k 6 (fun j => nI (Hi j))), (ml, aD k 40 f5), (mn, aD k 40 g5)] _ _ := hw
              refine lv_aload_n hx hb d_Md_joinTile_180 rfl (lv_at hl 3 rfl) ?_
              refine r_get hC hw ck_Md 0 rfl 7 (by decide) k_787 rfl rfl d_Md_joinTile_181 ?_
              refine lv_sipush (v := 1600) hx hb d_Md_joinTile_184 (by decide) ?_
              refine lv_iload_n hx hb d_Md_joinTile_187 rfl (lv_at hl 4 rfl) ?_
              refine lv_imul hx hb d_Md_joinTile_188 ?_
              refine r_topi (y := nI (1600 * lv)) (pk_mul 1600 lv) ?_
              refine lv_iload_n hx hb d_Md_joinTile_189 rfl (lv_at hl 1 rfl) ?_
              refine lv_iadd hx hb d_Md_joinTile_190 ?_
              refine r_topi (y := nI (1600 * lv + kk)) (nI_add _ _) ?_
              refine lv_dload hx hb d_Md_joinTile_191 (lv_at hl 0 rfl) ?_
              refine r_dast hC hw 2 rfl (1600 * lv + kk) rfl (by omega) (by omega) d_Md_joinTile_193 (fun H locs hw => ?_)
              have hw : Wd D _ _ [(m0, .inr (8, [.int vcode, .int vw, .int vh, .int vl, .ref ms, .int vso, .ref mt, .ref mp, .ref mx, .ref my, .ref mw, .ref mh, .int 1, .ref ml, .ref mn, .ref mk, .ref mq, .ref mm])), (mt, aD k 9600 (vf_upd T5 (1600 * lv + kk) (mJt mjoinR X Y Wi Hi lv (fun i => P (1600 * lv + i)) (fun i => T (1600 * (lv + 1) + i)) kk))), (mp, aD k 8000 (vf_upd P7 (1600 * lv + kk) (P (1600 * lv + kk)))), (mx, aI k 6 (fun j => nI (X j))), (my, aI k 6 (fun j => nI (Y j))), (mw, aI k 6 (fun j => nI (Wi j))), (mh, aI k 6 (fun j => nI (Hi j))), (ml, aD k 40 f5), (mn, aD k 40 g5)] _ _ := hw
              refine lv_iinc (v := nI (kk + 1)) (lv' := [(3, .int (nI (kk + 1))), (4, .double (P (1600 * lv + kk))), (2, .int (nI (Wi lv * Hi lv))), (0, .ref m0), (1, .int (nI lv))]) hx hb d_Md_joinTile_194 hl (k := 1) rfl (nI_add kk 1) (by decide) rfl (fun ls hl => ?_)
              refine lv_goto (tgt := 137) hx hb d_Md_joinTile_197 (by decide) ?_
              exact ih_L137 (kk + 1) (vf_upd T5 (1600 * lv + kk) (mJt mjoinR X Y Wi Hi lv (fun i => P (1600 * lv + i)) (fun i => T (1600 * (lv + 1) + i)) kk)) (vf_upd P7 (1600 * lv + kk) (P (1600 * lv + kk))) _ _ _ (by omega) (by omega) (fun i hi => by by_cases e : i = kk; rw [e, upd_at]; rw [upd_ne (by omega)]; exact sA i (by omega)) (fun i h1 hi => by rw [upd_ne (by omega)]; exact sB i (by omega) hi) (fun q hq => by rw [upd_ne (by omega)]; exact sC q hq) (fun i hi => by by_cases e : i = kk; rw [e, upd_at]; rw [upd_ne (by omega)]; exact sD i (by omega)) (fun i h1 hi => by rw [upd_ne (by omega)]; exact sE i (by omega) hi) (fun q hq => by rw [upd_ne (by omega)]; exact sF q hq) hw (lv_sub hl [0, 2, 3, 4] rfl)
        exact L137 (Wi lv * Hi lv + 1) 0 T3 P6 _ _ _ (by omega) (by omega) (fun i hi => absurd hi (Nat.not_lt_zero _)) (fun i _ hi => jA i hi) jB (fun i hi => absurd hi (Nat.not_lt_zero _)) (fun i _ hi => hQP6 i hi) hRP6 hw (lv_sub hl [0, 1, 2, 3] rfl)
      · have hkn : kk < Wi lv * Hi lv := le_nI hc18 (by omega) (by omega)
        have hgp : 0 < Wi lv := dm_pos hkn
        have hcx : kk % Wi lv < Wi lv := Nat.mod_lt kk hgp
        have hcy : kk / Wi lv < Hi lv := Nat.div_lt_of_lt_mul hkn
        have hne : ¬ nI (Wi lv) = 0 := nI_ne0 hgp (by omega)
        refine lv_aload_n hx hb d_Md_joinTile_21 rfl (lv_at hl 2 rfl) ?_
        refine r_get hC hw ck_Md 0 rfl 6 (by decide) k_786 rfl rfl d_Md_joinTile_22 ?_
        refine lv_sipush (v := 1600) hx hb d_Md_joinTile_25 (by decide) ?_
        refine lv_iload_n hx hb d_Md_joinTile_28 rfl (lv_at hl 3 rfl) ?_
        refine lv_imul hx hb d_Md_joinTile_29 ?_
        refine r_topi (y := nI (1600 * lv)) (pk_mul 1600 lv) ?_
        refine lv_iload_n hx hb d_Md_joinTile_30 rfl (lv_at hl 0 rfl) ?_
        refine lv_iadd hx hb d_Md_joinTile_31 ?_
        refine r_topi (y := nI (1600 * lv + kk)) (nI_add _ _) ?_
        refine lv_aload_n hx hb d_Md_joinTile_32 rfl (lv_at hl 2 rfl) ?_
        refine r_get hC hw ck_Md 0 rfl 7 (by decide) k_787 rfl rfl d_Md_joinTile_33 ?_
        refine lv_sipush (v := 1600) hx hb d_Md_joinTile_36 (by decide) ?_
        refine lv_iload_n hx hb d_Md_joinTile_39 rfl (lv_at hl 3 rfl) ?_
        refine lv_imul hx hb d_Md_joinTile_40 ?_
        refine r_topi (y := nI (1600 * lv)) (pk_mul 1600 lv) ?_
        refine lv_iload_n hx hb d_Md_joinTile_41 rfl (lv_at hl 0 rfl) ?_
        refine lv_iadd hx hb d_Md_joinTile_42 ?_
        refine r_topi (y := nI (1600 * lv + kk)) (nI_add _ _) ?_
        refine r_dald hC hw 2 rfl (1600 * lv + kk) rfl (by omega) (by omega) d_Md_joinTile_43 ?_
        refine r_topd (y := P (1600 * lv + kk)) (jD _ (Or.inr (by omega))) ?_
        refine r_dast hC hw 1 rfl (1600 * lv + kk) rfl (by omega) (by omega) d_Md_joinTile_44 (fun H locs hw => ?_)
        have hw : Wd D _ _ [(m0, .inr (8, [.int vcode, .int vw, .int vh, .int vl, .ref ms, .int vso, .ref mt, .ref mp, .ref mx, .ref my, .ref mw, .ref mh, .int 1, .ref ml, .ref mn, .ref mk, .ref mq, .ref mm])), (mt, aD k 9600 (vf_upd T3 (1600 * lv + kk) (P (1600 * lv + kk)))), (mp, aD k 8000 P3), (mx, aI k 6 (fun j => nI (X j))), (my, aI k 6 (fun j => nI (Y j))), (mw, aI k 6 (fun j => nI (Wi j))), (mh, aI k 6 (fun j => nI (Hi j))), (ml, aD k 40 ff), (mn, aD k 40 gg)] _ _ := hw
        refine lv_aload_n hx hb d_Md_joinTile_45 rfl (lv_at hl 2 rfl) ?_
        refine lv_iload_n hx hb d_Md_joinTile_46 rfl (lv_at hl 3 rfl) ?_
        refine lv_iload_n hx hb d_Md_joinTile_47 rfl (lv_at hl 0 rfl) ?_
        refine lv_aload_n hx hb d_Md_joinTile_48 rfl (lv_at hl 2 rfl) ?_
        refine r_get hC hw ck_Md 0 rfl 10 (by decide) k_790 rfl rfl d_Md_joinTile_49 ?_
        refine lv_iload_n hx hb d_Md_joinTile_52 rfl (lv_at hl 3 rfl) ?_
        refine r_iald hC hw 5 rfl lv rfl (by omega) (by decide) d_Md_joinTile_53 ?_
        refine lv_irem hx hb d_Md_joinTile_54 hne ?_
        refine r_topi (y := nI (kk % Wi lv)) (pk_rem (by omega) hgp (by omega)) ?_
        refine lv_iload_n hx hb d_Md_joinTile_55 rfl (lv_at hl 0 rfl) ?_
        refine lv_aload_n hx hb d_Md_joinTile_56 rfl (lv_at hl 2 rfl) ?_
        refine r_get hC hw ck_Md 0 rfl 10 (by decide) k_790 rfl rfl d_Md_joinTile_57 ?_
        refine lv_iload_n hx hb d_Md_joinTile_60 rfl (lv_at hl 3 rfl) ?_
        refine r_iald hC hw 5 rfl lv rfl (by omega) (by decide) d_Md_joinTile_61 ?_
        refine lv_idiv hx hb d_Md_joinTile_62 hne ?_
        refine r_topi (y := nI (kk / Wi lv)) (pk_div (by omega) hgp (by omega)) ?_
        refine r_s (rn_V (b := m0) (As := [.int (nI lv), .int (nI (kk % Wi lv)), .int (nI (kk / Wi lv))]) (rest := []) (C := "LiftBandsModel") hC (c_Md_isLow l D k _ m0 ms mt mp mx my mw mh ml mn mk mq mm vcode vw vh vl vso 1 X Y lv (kk % Wi lv) (kk / Wi lv) (by omega) (by omega) (by omega) (by omega) (by omega)) mk_Md_isLow k_884 kp_20 k_882 ⟨rfl, rfl, (Nat.le_of_ble_eq_true rfl), (Nat.le_of_ble_eq_true rfl)⟩ (r_recv hC hw ck_Md 0 rfl) rfl hl.1 rfl (Nat.le_of_ble_eq_true rfl) d_Md_joinTile_63 ⟨(Nat.le_of_ble_eq_true rfl), (Nat.le_of_ble_eq_true rfl)⟩ (Pw.pre hC.2.2.2.2.2.1 hw [0, 3, 4] rfl rfl)) (fun v hv => ?_)
        subst hv
        refine W.eq (g2 := F0 m 66 ls [.int (if (X lv + kk % Wi lv) % 2 = 0 ∧ (Y lv + kk / Wi lv) % 2 = 0 then 1 else 0)]) rfl ?_
        refine lv_if_eq (tgt := 115) hx hb d_Md_joinTile_66 (by decide) (fun hc66 => ?_) (fun hc66 => ?_)
        · have hnl : ¬ ((X lv + kk % Wi lv) % 2 = 0 ∧ (Y lv + kk / Wi lv) % 2 = 0) := fun q => absurd hc66 (by rw [if_pos q]; decide)
          refine lv_iinc (v := nI (kk + 1)) (lv' := [(3, .int (nI (kk + 1))), (2, .int (nI (Wi lv * Hi lv))), (0, .ref m0), (1, .int (nI lv))]) hx hb d_Md_joinTile_115 hl (k := 0) rfl (nI_add kk 1) (by decide) rfl (fun ls hl => ?_)
          refine lv_goto (tgt := 16) hx hb d_Md_joinTile_118 (by decide) ?_
          exact ih_L16 (kk + 1) (vf_upd T3 (1600 * lv + kk) (P (1600 * lv + kk))) P3 ff gg _ _ _ (by omega) (by omega) (fun i hi => by by_cases e : i = kk; rw [e, upd_at]; rw [upd_ne (by omega)]; exact jA i (by omega)) (fun q hq => by rw [upd_ne (by omega)]; exact jB q hq) (fun i hi => by by_cases e : i = kk; rw [e, jD _ (Or.inr (by omega))]; unfold mrg; rw [if_neg hnl]; exact jE i (by omega)) (fun q hq => jD q (by omega)) hw (lv_sub hl [0, 1, 2, 3] rfl)
        · have hlw : (X lv + kk % Wi lv) % 2 = 0 ∧ (Y lv + kk / Wi lv) % 2 = 0 := by
            by_cases q : (X lv + kk % Wi lv) % 2 = 0 ∧ (Y lv + kk / Wi lv) % 2 = 0
            · exact q
            · exact absurd (if_neg q) hc66
          have hpl := plc_lt (gx := X lv) (gy := Y lv) hcx hcy
          rw [hlw.1, hlw.2] at hpl
          refine lv_aload_n hx hb d_Md_joinTile_69 rfl (lv_at hl 2 rfl) ?_
          refine r_get hC hw ck_Md 0 rfl 7 (by decide) k_787 rfl rfl d_Md_joinTile_70 ?_
          refine lv_sipush (v := 1600) hx hb d_Md_joinTile_73 (by decide) ?_
          refine lv_iload_n hx hb d_Md_joinTile_76 rfl (lv_at hl 3 rfl) ?_
          refine lv_imul hx hb d_Md_joinTile_77 ?_
          refine r_topi (y := nI (1600 * lv)) (pk_mul 1600 lv) ?_
          refine lv_iload_n hx hb d_Md_joinTile_78 rfl (lv_at hl 0 rfl) ?_
          refine lv_iadd hx hb d_Md_joinTile_79 ?_
          refine r_topi (y := nI (1600 * lv + kk)) (nI_add _ _) ?_
          refine lv_aload_n hx hb d_Md_joinTile_80 rfl (lv_at hl 2 rfl) ?_
          refine r_get hC hw ck_Md 0 rfl 6 (by decide) k_786 rfl rfl d_Md_joinTile_81 ?_
          refine lv_sipush (v := 1600) hx hb d_Md_joinTile_84 (by decide) ?_
          refine lv_iload_n hx hb d_Md_joinTile_87 rfl (lv_at hl 3 rfl) ?_
          refine lv_iconst (v := 1) hx hb d_Md_joinTile_88 (by decide) ?_
          refine lv_iadd hx hb d_Md_joinTile_89 ?_
          refine r_topi (y := nI (lv + 1)) (nI_1 lv) ?_
          refine lv_imul hx hb d_Md_joinTile_90 ?_
          refine r_topi (y := nI (1600 * (lv + 1))) (pk_mul 1600 (lv + 1)) ?_
          refine lv_aload_n hx hb d_Md_joinTile_91 rfl (lv_at hl 2 rfl) ?_
          refine lv_iload_n hx hb d_Md_joinTile_92 rfl (lv_at hl 3 rfl) ?_
          refine lv_iload_n hx hb d_Md_joinTile_93 rfl (lv_at hl 0 rfl) ?_
          refine lv_aload_n hx hb d_Md_joinTile_94 rfl (lv_at hl 2 rfl) ?_
          refine r_get hC hw ck_Md 0 rfl 10 (by decide) k_790 rfl rfl d_Md_joinTile_95 ?_
          refine lv_iload_n hx hb d_Md_joinTile_98 rfl (lv_at hl 3 rfl) ?_
          refine r_iald hC hw 5 rfl lv rfl (by omega) (by decide) d_Md_joinTile_99 ?_
          refine lv_irem hx hb d_Md_joinTile_100 hne ?_
          refine r_topi (y := nI (kk % Wi lv)) (pk_rem (by omega) hgp (by omega)) ?_
          refine lv_iload_n hx hb d_Md_joinTile_101 rfl (lv_at hl 0 rfl) ?_
          refine lv_aload_n hx hb d_Md_joinTile_102 rfl (lv_at hl 2 rfl) ?_
          refine r_get hC hw ck_Md 0 rfl 10 (by decide) k_790 rfl rfl d_Md_joinTile_103 ?_
          refine lv_iload_n hx hb d_Md_joinTile_106 rfl (lv_at hl 3 rfl) ?_
          refine r_iald hC hw 5 rfl lv rfl (by omega) (by decide) d_Md_joinTile_107 ?_
          refine lv_idiv hx hb d_Md_joinTile_108 hne ?_
          refine r_topi (y := nI (kk / Wi lv)) (pk_div (by omega) hgp (by omega)) ?_
          refine r_s (rn_V (b := m0) (As := [.int (nI lv), .int (nI (kk % Wi lv)), .int (nI (kk / Wi lv))]) (rest := [.int (nI (1600 * (lv + 1))), .ref mt, .int (nI (1600 * lv + kk)), .ref mp]) (C := "LiftBandsModel") hC (c_Md_lowPlace l D k _ m0 ms mt mp mx my mw mh ml mn mk mq mm vcode vw vh vl vso 1 X Y Wi lv (kk % Wi lv) (kk / Wi lv) (Hi lv) (by omega) (by omega) (by omega) (by omega) (by omega) hcx hcy hex hey hew hlw.1 hlw.2) mk_Md_lowPlace k_888 kp_21 k_886 ⟨rfl, rfl, (Nat.le_of_ble_eq_true rfl), (Nat.le_of_ble_eq_true rfl)⟩ (r_recv hC hw ck_Md 0 rfl) rfl hl.1 rfl (Nat.le_of_ble_eq_true rfl) d_Md_joinTile_109 ⟨(Nat.le_of_ble_eq_true rfl), (Nat.le_of_ble_eq_true rfl)⟩ (Pw.pre hC.2.2.2.2.2.1 hw [0, 3, 4, 5] rfl rfl)) (fun v hv => ?_)
          subst hv
          refine W.eq (g2 := F0 m 112 ls [.int (nI (plc (X lv) (Y lv) (Wi lv) (kk % Wi lv) (kk / Wi lv))), .int (nI (1600 * (lv + 1))), .ref mt, .int (nI (1600 * lv + kk)), .ref mp]) rfl ?_
          refine lv_iadd hx hb d_Md_joinTile_112 ?_
          refine r_topi (y := nI (1600 * (lv + 1) + plc (X lv) (Y lv) (Wi lv) (kk % Wi lv) (kk / Wi lv))) (nI_add _ _) ?_
          refine r_dald hC hw 1 rfl (1600 * (lv + 1) + plc (X lv) (Y lv) (Wi lv) (kk % Wi lv) (kk / Wi lv)) rfl (by omega) (by omega) d_Md_joinTile_113 ?_
          refine r_topd (y := T (1600 * (lv + 1) + plc (X lv) (Y lv) (Wi lv) (kk % Wi lv) (kk / Wi lv))) ((upd_ne (by omega)).trans (jB _ (Or.inr (by omega)))) ?_
          refine r_dast hC hw 2 rfl (1600 * lv + kk) rfl (by omega) (by omega) d_Md_joinTile_114 (fun H locs hw => ?_)
          have hw : Wd D _ _ [(m0, .inr (8, [.int vcode, .int vw, .int vh, .int vl, .ref ms, .int vso, .ref mt, .ref mp, .ref mx, .ref my, .ref mw, .ref mh, .int 1, .ref ml, .ref mn, .ref mk, .ref mq, .ref mm])), (mt, aD k 9600 (vf_upd T3 (1600 * lv + kk) (P (1600 * lv + kk)))), (mp, aD k 8000 (vf_upd P3 (1600 * lv + kk) (T (1600 * (lv + 1) + plc (X lv) (Y lv) (Wi lv) (kk % Wi lv) (kk / Wi lv))))), (mx, aI k 6 (fun j => nI (X j))), (my, aI k 6 (fun j => nI (Y j))), (mw, aI k 6 (fun j => nI (Wi j))), (mh, aI k 6 (fun j => nI (Hi j))), (ml, aD k 40 ff), (mn, aD k 40 gg)] _ _ := hw
          refine lv_iinc (v := nI (kk + 1)) (lv' := [(3, .int (nI (kk + 1))), (2, .int (nI (Wi lv * Hi lv))), (0, .ref m0), (1, .int (nI lv))]) hx hb d_Md_joinTile_115 hl (k := 0) rfl (nI_add kk 1) (by decide) rfl (fun ls hl => ?_)
          refine lv_goto (tgt := 16) hx hb d_Md_joinTile_118 (by decide) ?_
          exact ih_L16 (kk + 1) (vf_upd T3 (1600 * lv + kk) (P (1600 * lv + kk))) (vf_upd P3 (1600 * lv + kk) (T (1600 * (lv + 1) + plc (X lv) (Y lv) (Wi lv) (kk % Wi lv) (kk / Wi lv)))) ff gg _ _ _ (by omega) (by omega) (fun i hi => by by_cases e : i = kk; rw [e, upd_at]; rw [upd_ne (by omega)]; exact jA i (by omega)) (fun q hq => by rw [upd_ne (by omega)]; exact jB q hq) (fun i hi => by by_cases e : i = kk; rw [e, upd_at]; unfold mrg; rw [if_pos hlw]; rw [upd_ne (by omega)]; exact jE i (by omega)) (fun q hq => by rw [upd_ne (by omega)]; exact jD q (by omega)) hw (lv_sub hl [0, 1, 2, 3] rfl)
  exact L16 (Wi lv * Hi lv + 1) 0 T P f g _ _ _ (by omega) (by omega) (fun i hi => absurd hi (Nat.not_lt_zero _)) (fun q _ => rfl) (fun i hi => absurd hi (Nat.not_lt_zero _)) (fun q _ => rfl) hw (lv_sub hl [0, 1, 2, 3] rfl)
abbrev rm_Md_jtW : Room := { frames := 5, cells := 0, slots := 0, locals := 169 }
set_option maxHeartbeats 4000000 in
set_option maxRecDepth 100000 in
/-- Model.joinTile -/
theorem c_Md_jtW (l : Launch) (D : va_G) (k : Nat → ClassId) (sz : Nat) (m0 ms mt mp mx my mw mh ml mn mk mq mm : Nat) (vcode vw vh vl vso : Int32) (T P f g : Nat → UInt64) (X Y Wi Hi : Nat → Nat) (hG : Geo X Y Wi Hi) (lv : Nat) (hlv : lv < 5) (K : Nat) (hK : K ≤ 560) (hK2 : 70 ≤ K) (hPb : BD K (Wi lv * Hi lv) (fun i => P (1600 * lv + i))) (hU : BD K (Wi (lv + 1) * Hi (lv + 1)) (fun i => T (1600 * (lv + 1) + i))) : Met l y_Md_joinTile (Cond.code y_Md_joinTile b_Md_joinTile 6 none :: lw_g) rm_Md_jtW (Pw D k [(m0, .inr (8, [.int vcode, .int vw, .int vh, .int vl, .ref ms, .int vso, .ref mt, .ref mp, .ref mx, .ref my, .ref mw, .ref mh, .int 0, .ref ml, .ref mn, .ref mk, .ref mq, .ref mm])), (mt, aD k 9600 T), (mp, aD k 8000 P), (mx, aI k 6 (fun j => nI (X j))), (my, aI k 6 (fun j => nI (Y j))), (mw, aI k 6 (fun j => nI (Wi j))), (mh, aI k 6 (fun j => nI (Hi j))), (ml, aD k 40 f), (mn, aD k 40 g)] sz [.ref m0, .int (nI lv)]) (Qw D (va_A [(m0, .inr (8, [.int vcode, .int vw, .int vh, .int vl, .ref ms, .int vso, .ref mt, .ref mp, .ref mx, .ref my, .ref mw, .ref mh, .int 0, .ref ml, .ref mn, .ref mk, .ref mq, .ref mm])), (mt, aD k 9600 T), (mp, aD k 8000 P), (mx, aI k 6 (fun j => nI (X j))), (my, aI k 6 (fun j => nI (Y j))), (mw, aI k 6 (fun j => nI (Wi j))), (mh, aI k 6 (fun j => nI (Hi j))), (ml, aD k 40 f), (mn, aD k 40 g)] sz) (fun v w1 => v = none ∧ ∃ T2 f2 g2 : Nat → UInt64, w1 = [(m0, .inr (8, [.int vcode, .int vw, .int vh, .int vl, .ref ms, .int vso, .ref mt, .ref mp, .ref mx, .ref my, .ref mw, .ref mh, .int 0, .ref ml, .ref mn, .ref mk, .ref mq, .ref mm])), (mt, aD k 9600 T2), (mp, aD k 8000 P), (mx, aI k 6 (fun j => nI (X j))), (my, aI k 6 (fun j => nI (Y j))), (mw, aI k 6 (fun j => nI (Wi j))), (mh, aI k 6 (fun j => nI (Hi j))), (ml, aD k 40 f2), (mn, aD k 40 g2)] ∧ (∀ i, i < Wi lv * Hi lv → T2 (1600 * lv + i) = mJt mjoinW X Y Wi Hi lv (fun i => P (1600 * lv + i)) (fun i => T (1600 * (lv + 1) + i)) i) ∧ (∀ q, (q < 1600 * lv ∨ 1600 * lv + Wi lv * Hi lv ≤ q) → T2 q = T q))) 0 0 (va_A [(m0, .inr (8, [.int vcode, .int vw, .int vh, .int vl, .ref ms, .int vso, .ref mt, .ref mp, .ref mx, .ref my, .ref mw, .ref mh, .int 0, .ref ml, .ref mn, .ref mk, .ref mq, .ref mm])), (mt, aD k 9600 T), (mp, aD k 8000 P), (mx, aI k 6 (fun j => nI (X j))), (my, aI k 6 (fun j => nI (Y j))), (mw, aI k 6 (fun j => nI (Wi j))), (mh, aI k 6 (fun j => nI (Hi j))), (ml, aD k 40 f), (mn, aD k 40 g)] sz) := by
  refine met_of (by decide +kernel) ?_
  intro p e s m below meth c hC hsz hw hin
  subst hsz
  have hC : Cx D k p s m _ meth c "LiftBandsModel" b_Md_joinTile 6 none := hC
  have hx := hC.1
  have hb := hC.2.1
  refine r_ent (Nat.le_of_ble_eq_true rfl) rfl (fun ls hl => ?_)
  have hl : lv_has ls 6 [(0, .ref m0), (1, .int (nI lv))] := hl
  have hw : Wd D (va_A [(m0, .inr (8, [.int vcode, .int vw, .int vh, .int vl, .ref ms, .int vso, .ref mt, .ref mp, .ref mx, .ref my, .ref mw, .ref mh, .int 0, .ref ml, .ref mn, .ref mk, .ref mq, .ref mm])), (mt, aD k 9600 T), (mp, aD k 8000 P), (mx, aI k 6 (fun j => nI (X j))), (my, aI k 6 (fun j => nI (Y j))), (mw, aI k 6 (fun j => nI (Wi j))), (mh, aI k 6 (fun j => nI (Hi j))), (ml, aD k 40 f), (mn, aD k 40 g)] s.heap.size) s.heap [(m0, .inr (8, [.int vcode, .int vw, .int vh, .int vl, .ref ms, .int vso, .ref mt, .ref mp, .ref mx, .ref my, .ref mw, .ref mh, .int 0, .ref ml, .ref mn, .ref mk, .ref mq, .ref mm])), (mt, aD k 9600 T), (mp, aD k 8000 P), (mx, aI k 6 (fun j => nI (X j))), (my, aI k 6 (fun j => nI (Y j))), (mw, aI k 6 (fun j => nI (Wi j))), (mh, aI k 6 (fun j => nI (Hi j))), (ml, aD k 40 f), (mn, aD k 40 g)] s.heap [] := hw
  generalize va_A [(m0, .inr (8, [.int vcode, .int vw, .int vh, .int vl, .ref ms, .int vso, .ref mt, .ref mp, .ref mx, .ref my, .ref mw, .ref mh, .int 0, .ref ml, .ref mn, .ref mk, .ref mq, .ref mm])), (mt, aD k 9600 T), (mp, aD k 8000 P), (mx, aI k 6 (fun j => nI (X j))), (my, aI k 6 (fun j => nI (Y j))), (mw, aI k 6 (fun j => nI (Wi j))), (mh, aI k 6 (fun j => nI (Hi j))), (ml, aD k 40 f), (mn, aD k 40 g)] s.heap.size = A at hw ⊢
  generalize ([.ref m0, .int (nI lv)] : List Value).toArray = args at hC ⊢
  have hal := hG.a (j := lv) (by omega)
  have hex := hG.ex lv (by omega)
  have hey := hG.ey lv (by omega)
  have hew := hG.ew lv (by omega)
  have heh := hG.eh lv (by omega)
  have hXl := hG.x lv (by omega)
  have hYl := hG.y lv (by omega)
  have hWl := hG.w lv (by omega)
  have hHl := hG.h lv (by omega)
  have hob : OpBd mjoinW := fun _ _ _ _ a b c => mjoinW_bd a b c
  rw [hew, heh] at hU
  have hmb : BD K (Wi lv * Hi lv) (mrg (X lv) (Y lv) (Wi lv) (fun i => P (1600 * lv + i)) (fun i => T (1600 * (lv + 1) + i))) := mrg_bd hPb hU
  have hpm : mo (X lv) (Wi lv) 0 * mo (Y lv) (Hi lv) 0 ≤ 40 * 40 := Nat.mul_le_mul (Nat.le_trans mo_le hWl) (Nat.le_trans mo_le hHl)
  refine lv_aload_n hx hb d_Md_joinTile_0 rfl (lv_at hl 0 rfl) ?_
  refine r_get hC hw ck_Md 0 rfl 10 (by decide) k_790 rfl rfl d_Md_joinTile_1 ?_
  refine lv_iload_n hx hb d_Md_joinTile_4 rfl (lv_at hl 1 rfl) ?_
  refine r_iald hC hw 5 rfl lv rfl (by omega) (by decide) d_Md_joinTile_5 ?_
  refine lv_aload_n hx hb d_Md_joinTile_6 rfl (lv_at hl 0 rfl) ?_
  refine r_get hC hw ck_Md 0 rfl 11 (by decide) k_791 rfl rfl d_Md_joinTile_7 ?_
  refine lv_iload_n hx hb d_Md_joinTile_10 rfl (lv_at hl 1 rfl) ?_
  refine r_iald hC hw 6 rfl lv rfl (by omega) (by decide) d_Md_joinTile_11 ?_
  refine lv_imul hx hb d_Md_joinTile_12 ?_
  refine r_topi (y := nI (Wi lv * Hi lv)) (pk_mul _ _) ?_
  refine lv_istore_n (lv' := [(2, .int (nI (Wi lv * Hi lv))), (0, .ref m0), (1, .int (nI lv))]) hx hb d_Md_joinTile_13 rfl hl (by decide) rfl (fun ls hl => ?_)
  refine lv_iconst (v := 0) hx hb d_Md_joinTile_14 (by decide) ?_
  refine lv_istore_n (lv' := [(3, .int 0), (2, .int (nI (Wi lv * Hi lv))), (0, .ref m0), (1, .int (nI lv))]) hx hb d_Md_joinTile_15 rfl hl (by decide) rfl (fun ls hl => ?_)
  have hl : lv_has ls 6 [(3, .int (nI 0)), (2, .int (nI (Wi lv * Hi lv))), (0, .ref m0), (1, .int (nI lv))] := lv_sub hl [0, 1, 2, 3] rfl
  have L16 : ∀ (fu : Nat) (kk : Nat) (T3 : Nat → UInt64) (P3 : Nat → UInt64) (ff : Nat → UInt64) (gg : Nat → UInt64) (H : Heap) (locs : List Loc) (ls : Array Slot), Wi lv * Hi lv - kk < fu → kk ≤ Wi lv * Hi lv → (∀ i, i < kk → T3 (1600 * lv + i) = P (1600 * lv + i)) → (∀ q, (q < 1600 * lv ∨ 1600 * lv + Wi lv * Hi lv ≤ q) → T3 q = T q) → (∀ i, i < kk → P3 (1600 * lv + i) = mrg (X lv) (Y lv) (Wi lv) (fun i => P (1600 * lv + i)) (fun i => T (1600 * (lv + 1) + i)) i) → (∀ q, (q < 1600 * lv ∨ 1600 * lv + kk ≤ q) → P3 q = P q) → Wd D A s.heap [(m0, .inr (8, [.int vcode, .int vw, .int vh, .int vl, .ref ms, .int vso, .ref mt, .ref mp, .ref mx, .ref my, .ref mw, .ref mh, .int 0, .ref ml, .ref mn, .ref mk, .ref mq, .ref mm])), (mt, aD k 9600 T3), (mp, aD k 8000 P3), (mx, aI k 6 (fun j => nI (X j))), (my, aI k 6 (fun j => nI (Y j))), (mw, aI k 6 (fun j => nI (Wi j))), (mh, aI k 6 (fun j => nI (Hi j))), (ml, aD k 40 ff), (mn, aD k 40 gg)] H locs → lv_has ls 6 [(3, .int (nI kk)), (2, .int (nI (Wi lv * Hi lv))), (0, .ref m0), (1, .int (nI lv))] → W p l e rm_Md_jtW s m args below meth c H locs 0 0 (MQ below (Qw D A (fun v w1 => v = none ∧ ∃ T2 f2 g2 : Nat → UInt64, w1 = [(m0, .inr (8, [.int vcode, .int vw, .int vh, .int vl, .ref ms, .int vso, .ref mt, .ref mp, .ref mx, .ref my, .ref mw, .ref mh, .int 0, .ref ml, .ref mn, .ref mk, .ref mq, .ref mm])), (mt, aD k 9600 T2), (mp, aD k 8000 P), (mx, aI k 6 (fun j => nI (X j))), (my, aI k 6 (fun j => nI (Y j))), (mw, aI k 6 (fun j => nI (Wi j))), (mh, aI k 6 (fun j => nI (Hi j))), (ml, aD k 40 f2), (mn, aD k 40 g2)] ∧ (∀ i, i < Wi lv * Hi lv → T2 (1600 * lv + i) = mJt mjoinW X Y Wi Hi lv (fun i => P (1600 * lv + i)) (fun i => T (1600 * (lv + 1) + i)) i) ∧ (∀ q, (q < 1600 * lv ∨ 1600 * lv + Wi lv * Hi lv ≤ q) → T2 q = T q))) args s 0 0 A) (F0 m 16 ls []) := by
    intro fu
    induction fu with
    | zero => intro kk T3 P3 ff gg H locs ls hfu; exact absurd hfu (Nat.not_lt_zero _)
    | succ fu ih_L16 =>
      intro kk T3 P3 ff gg H locs ls hfu_L16 hkb jA jB jE jD hw hl
      refine lv_iload_n hx hb d_Md_joinTile_16 rfl (lv_at hl 0 rfl) ?_
      refine lv_iload_n hx hb d_Md_joinTile_17 rfl (lv_at hl 1 rfl) ?_
      refine lv_icmp_ge (tgt := 121) hx hb d_Md_joinTile_18 (by decide) (fun hc18 => ?_) (fun hc18 => ?_)
      · have hkn : kk = Wi lv * Hi lv := by have := (nI_leI (by omega) (by omega)).mp hc18; omega
        have jA : ∀ i, i < Wi lv * Hi lv → T3 (1600 * lv + i) = P (1600 * lv + i) := by rw [← hkn]; exact jA
        have jE : ∀ i, i < Wi lv * Hi lv → P3 (1600 * lv + i) = mrg (X lv) (Y lv) (Wi lv) (fun i => P (1600 * lv + i)) (fun i => T (1600 * (lv + 1) + i)) i := by rw [← hkn]; exact jE
        have jD : ∀ q, (q < 1600 * lv ∨ 1600 * lv + Wi lv * Hi lv ≤ q) → P3 q = P q := by rw [← hkn]; exact jD
        refine lv_aload_n hx hb d_Md_joinTile_121 rfl (lv_at hl 2 rfl) ?_
        refine lv_iload_n hx hb d_Md_joinTile_122 rfl (lv_at hl 3 rfl) ?_
        refine lv_iconst (v := 1) hx hb d_Md_joinTile_123 (by decide) ?_
        refine lv_iconst (v := 1) hx hb d_Md_joinTile_124 (by decide) ?_
        have hgb : BD (K) (Wi lv * Hi lv) (fun i => P3 (1600 * lv + i)) := fun i hi => by show bd _ (P3 (1600 * lv + i)); rw [jE i hi]; exact hmb i hi
        refine r_w hw [0, 2, 3, 4, 5, 6, 7, 8] rfl rfl (rn_V (b := m0) (As := [.int (nI lv), .int 1, .int 1]) (rest := []) (C := "LiftBandsModel") hC (c_Md_goJWr l D k _ m0 ms mt mp mx my mw mh ml mn mk mq mm vcode vw vh vl vso P3 ff gg X Y Wi Hi hG.x hG.y hG.w hG.h lv (by omega) (K) (by omega) (by omega) hgb) mk_Md_goLines k_849 kp_13 k_847 ⟨rfl, rfl, (Nat.le_of_ble_eq_true rfl), (Nat.le_of_ble_eq_true rfl)⟩ (r_recv hC hw ck_Md 0 rfl) rfl hl.1 rfl (Nat.le_of_ble_eq_true rfl) d_Md_joinTile_125 ⟨(Nat.le_of_ble_eq_true rfl), (Nat.le_of_ble_eq_true rfl)⟩ (Pw.pre hC.2.2.2.2.2.1 hw [0, 2, 3, 4, 5, 6, 7, 8] rfl rfl)) (fun v w1 hp_ H locs hw1 => ?_)
        obtain ⟨rfl, f4, g4, rfl⟩ := hp_
        have hw := hw1 [(m0, .inr (8, [.int vcode, .int vw, .int vh, .int vl, .ref ms, .int vso, .ref mt, .ref mp, .ref mx, .ref my, .ref mw, .ref mh, .int 0, .ref ml, .ref mn, .ref mk, .ref mq, .ref mm])), (mp, aD k 8000 (offG (1600 * lv) (Wi lv * Hi lv) (rowsF (mjoinW (X lv) (Wi lv)) (Wi lv) (fun i => P3 (1600 * lv + i))) P3)), (mx, aI k 6 (fun j => nI (X j))), (my, aI k 6 (fun j => nI (Y j))), (mw, aI k 6 (fun j => nI (Wi j))), (mh, aI k 6 (fun j => nI (Hi j))), (ml, aD k 40 f4), (mn, aD k 40 g4)] [] rfl (by simp only [List.map_cons, List.map_nil])
        have hw : Wd D _ _ [(m0, .inr (8, [.int vcode, .int vw, .int vh, .int vl, .ref ms, .int vso, .ref mt, .ref mp, .ref mx, .ref my, .ref mw, .ref mh, .int 0, .ref ml, .ref mn, .ref mk, .ref mq, .ref mm])), (mt, aD k 9600 T3), (mp, aD k 8000 (offG (1600 * lv) (Wi lv * Hi lv) (rowsF (mjoinW (X lv) (Wi lv)) (Wi lv) (fun i => P3 (1600 * lv + i))) P3)), (mx, aI k 6 (fun j => nI (X j))), (my, aI k 6 (fun j => nI (Y j))), (mw, aI k 6 (fun j => nI (Wi j))), (mh, aI k 6 (fun j => nI (Hi j))), (ml, aD k 40 f4), (mn, aD k 40 g4)] _ _ := hw
        refine W.eq (g2 := F0 m 128 ls []) rfl ?_
        have hQP5 : ∀ i, i < Wi lv * Hi lv → (offG (1600 * lv) (Wi lv * Hi lv) (rowsF (mjoinW (X lv) (Wi lv)) (Wi lv) (fun i => P3 (1600 * lv + i))) P3) (1600 * lv + i) = rowsF (mjoinW (X lv) (Wi lv)) (Wi lv) (mrg (X lv) (Y lv) (Wi lv) (fun i => P (1600 * lv + i)) (fun i => T (1600 * (lv + 1) + i))) i := fun i hi => (offG_at hi).trans (rows_congr mjoinW_loc jE i hi)
        have hRP5 : ∀ q, (q < 1600 * lv ∨ 1600 * lv + Wi lv * Hi lv ≤ q) → (offG (1600 * lv) (Wi lv * Hi lv) (rowsF (mjoinW (X lv) (Wi lv)) (Wi lv) (fun i => P3 (1600 * lv + i))) P3) q = P q := fun q hq => (hq.elim (fun a => offG_out a) (fun a => offG_up a)).trans (jD q hq)
        generalize offG (1600 * lv) (Wi lv * Hi lv) (rowsF (mjoinW (X lv) (Wi lv)) (Wi lv) (fun i => P3 (1600 * lv + i))) P3 = P5 at hw hQP5 hRP5
        have hbr : BD (K + 36) (Wi lv * Hi lv) (rowsF (mjoinW (X lv) (Wi lv)) (Wi lv) (mrg (X lv) (Y lv) (Wi lv) (fun i => P (1600 * lv + i)) (fun i => T (1600 * (lv + 1) + i)))) := rows_bd (fun g hg => hob _ _ _ g (by omega) (by omega) hg) hmb
        refine lv_aload_n hx hb d_Md_joinTile_128 rfl (lv_at hl 2 rfl) ?_
        refine lv_iload_n hx hb d_Md_joinTile_129 rfl (lv_at hl 3 rfl) ?_
        refine lv_iconst (v := 0) hx hb d_Md_joinTile_130 (by decide) ?_
        refine lv_iconst (v := 1) hx hb d_Md_joinTile_131 (by decide) ?_
        have hgb : BD (K + 36) (Wi lv * Hi lv) (fun i => P5 (1600 * lv + i)) := fun i hi => by show bd _ (P5 (1600 * lv + i)); rw [hQP5 i hi]; exact hbr i hi
        refine r_w hw [0, 2, 3, 4, 5, 6, 7, 8] rfl rfl (rn_V (b := m0) (As := [.int (nI lv), .int 0, .int 1]) (rest := []) (C := "LiftBandsModel") hC (c_Md_goJWc l D k _ m0 ms mt mp mx my mw mh ml mn mk mq mm vcode vw vh vl vso P5 f4 g4 X Y Wi Hi hG.x hG.y hG.w hG.h lv (by omega) (K + 36) (by omega) (by omega) hgb) mk_Md_goLines k_849 kp_13 k_847 ⟨rfl, rfl, (Nat.le_of_ble_eq_true rfl), (Nat.le_of_ble_eq_true rfl)⟩ (r_recv hC hw ck_Md 0 rfl) rfl hl.1 rfl (Nat.le_of_ble_eq_true rfl) d_Md_joinTile_132 ⟨(Nat.le_of_ble_eq_true rfl), (Nat.le_of_ble_eq_true rfl)⟩ (Pw.pre hC.2.2.2.2.2.1 hw [0, 2, 3, 4, 5, 6, 7, 8] rfl rfl)) (fun v w1 hp_ H locs hw1 => ?_)
        obtain ⟨rfl, f5, g5, rfl⟩ := hp_
        have hw := hw1 [(m0, .inr (8, [.int vcode, .int vw, .int vh, .int vl, .ref ms, .int vso, .ref mt, .ref mp, .ref mx, .ref my, .ref mw, .ref mh, .int 0, .ref ml, .ref mn, .ref mk, .ref mq, .ref mm])), (mp, aD k 8000 (offG (1600 * lv) (Wi lv * Hi lv) (colsF (mjoinW (Y lv) (Hi lv)) (Wi lv) (fun i => P5 (1600 * lv + i))) P5)), (mx, aI k 6 (fun j => nI (X j))), (my, aI k 6 (fun j => nI (Y j))), (mw, aI k 6 (fun j => nI (Wi j))), (mh, aI k 6 (fun j => nI (Hi j))), (ml, aD k 40 f5), (mn, aD k 40 g5)] [] rfl (by simp only [List.map_cons, List.map_nil])
        have hw : Wd D _ _ [(m0, .inr (8, [.int vcode, .int vw, .int vh, .int vl, .ref ms, .int vso, .ref mt, .ref mp, .ref mx, .ref my, .ref mw, .ref mh, .int 0, .ref ml, .ref mn, .ref mk, .ref mq, .ref mm])), (mt, aD k 9600 T3), (mp, aD k 8000 (offG (1600 * lv) (Wi lv * Hi lv) (colsF (mjoinW (Y lv) (Hi lv)) (Wi lv) (fun i => P5 (1600 * lv + i))) P5)), (mx, aI k 6 (fun j => nI (X j))), (my, aI k 6 (fun j => nI (Y j))), (mw, aI k 6 (fun j => nI (Wi j))), (mh, aI k 6 (fun j => nI (Hi j))), (ml, aD k 40 f5), (mn, aD k 40 g5)] _ _ := hw
        refine W.eq (g2 := F0 m 135 ls []) rfl ?_
        have hQP6 : ∀ i, i < Wi lv * Hi lv → (offG (1600 * lv) (Wi lv * Hi lv) (colsF (mjoinW (Y lv) (Hi lv)) (Wi lv) (fun i => P5 (1600 * lv + i))) P5) (1600 * lv + i) = colsF (mjoinW (Y lv) (Hi lv)) (Wi lv) (rowsF (mjoinW (X lv) (Wi lv)) (Wi lv) (mrg (X lv) (Y lv) (Wi lv) (fun i => P (1600 * lv + i)) (fun i => T (1600 * (lv + 1) + i)))) i := fun i hi => (offG_at hi).trans (cols_congr mjoinW_loc hQP5 i hi)
        have hRP6 : ∀ q, (q < 1600 * lv ∨ 1600 * lv + Wi lv * Hi lv ≤ q) → (offG (1600 * lv) (Wi lv * Hi lv) (colsF (mjoinW (Y lv) (Hi lv)) (Wi lv) (fun i => P5 (1600 * lv + i))) P5) q = P q := fun q hq => (hq.elim (fun a => offG_out a) (fun a => offG_up a)).trans (hRP5 q hq)
        generalize offG (1600 * lv) (Wi lv * Hi lv) (colsF (mjoinW (Y lv) (Hi lv)) (Wi lv) (fun i => P5 (1600 * lv + i))) P5 = P6 at hw hQP6 hRP6
        have hQP6 : ∀ i, i < Wi lv * Hi lv → P6 (1600 * lv + i) = mJt mjoinW X Y Wi Hi lv (fun i => P (1600 * lv + i)) (fun i => T (1600 * (lv + 1) + i)) i := hQP6
        refine lv_iconst (v := 0) hx hb d_Md_joinTile_135 (by decide) ?_
        refine lv_istore_n (lv' := [(3, .int 0), (2, .int (nI (Wi lv * Hi lv))), (0, .ref m0), (1, .int (nI lv))]) hx hb d_Md_joinTile_136 rfl hl (by decide) rfl (fun ls hl => ?_)
        have hl : lv_has ls 6 [(3, .int (nI 0)), (2, .int (nI (Wi lv * Hi lv))), (0, .ref m0), (1, .int (nI lv))] := hl
        have L137 : ∀ (fu : Nat) (kk : Nat) (T5 : Nat → UInt64) (P7 : Nat → UInt64) (H : Heap) (locs : List Loc) (ls : Array Slot), Wi lv * Hi lv - kk < fu → kk ≤ Wi lv * Hi lv → (∀ i, i < kk → T5 (1600 * lv + i) = mJt mjoinW X Y Wi Hi lv (fun i => P (1600 * lv + i)) (fun i => T (1600 * (lv + 1) + i)) i) → (∀ i, kk ≤ i → i < Wi lv * Hi lv → T5 (1600 * lv + i) = P (1600 * lv + i)) → (∀ q, (q < 1600 * lv ∨ 1600 * lv + Wi lv * Hi lv ≤ q) → T5 q = T q) → (∀ i, i < kk → P7 (1600 * lv + i) = P (1600 * lv + i)) → (∀ i, kk ≤ i → i < Wi lv * Hi lv → P7 (1600 * lv + i) = mJt mjoinW X Y Wi Hi lv (fun i => P (1600 * lv + i)) (fun i => T (1600 * (lv + 1) + i)) i) → (∀ q, (q < 1600 * lv ∨ 1600 * lv + Wi lv * Hi lv ≤ q) → P7 q = P q) → Wd D A s.heap [(m0, .inr (8, [.int vcode, .int vw, .int vh, .int vl, .ref ms, .int vso, .ref mt, .ref mp, .ref mx, .ref my, .ref mw, .ref mh, .int 0, .ref ml, .ref mn, .ref mk, .ref mq, .ref mm])), (mt, aD k 9600 T5), (mp, aD k 8000 P7), (mx, aI k 6 (fun j => nI (X j))), (my, aI k 6 (fun j => nI (Y j))), (mw, aI k 6 (fun j => nI (Wi j))), (mh, aI k 6 (fun j => nI (Hi j))), (ml, aD k 40 f5), (mn, aD k 40 g5)] H locs → lv_has ls 6 [(3, .int (nI kk)), (2, .int (nI (Wi lv * Hi lv))), (0, .ref m0), (1, .int (nI lv))] → W p l e rm_Md_jtW s m args below meth c H locs 0 0 (MQ below (Qw D A (fun v w1 => v = none ∧ ∃ T2 f2 g2 : Nat → UInt64, w1 = [(m0, .inr (8, [.int vcode, .int vw, .int vh, .int vl, .ref ms, .int vso, .ref mt, .ref mp, .ref mx, .ref my, .ref mw, .ref mh, .int 0, .ref ml, .ref mn, .ref mk, .ref mq, .ref mm])), (mt, aD k 9600 T2), (mp, aD k 8000 P), (mx, aI k 6 (fun j => nI (X j))), (my, aI k 6 (fun j => nI (Y j))), (mw, aI k 6 (fun j => nI (Wi j))), (mh, aI k 6 (fun j => nI (Hi j))), (ml, aD k 40 f2), (mn, aD k 40 g2)] ∧ (∀ i, i < Wi lv * Hi lv → T2 (1600 * lv + i) = mJt mjoinW X Y Wi Hi lv (fun i => P (1600 * lv + i)) (fun i => T (1600 * (lv + 1) + i)) i) ∧ (∀ q, (q < 1600 * lv ∨ 1600 * lv + Wi lv * Hi lv ≤ q) → T2 q = T q))) args s 0 0 A) (F0 m 137 ls []) := by
          intro fu
          induction fu with
          | zero => intro kk T5 P7 H locs ls hfu; exact absurd hfu (Nat.not_lt_zero _)
          | succ fu ih_L137 =>
            intro kk T5 P7 H locs ls hfu_L137 hkb2 sA sB sC sD sE sF hw hl
            refine lv_iload_n hx hb d_Md_joinTile_137 rfl (lv_at hl 0 rfl) ?_
            refine lv_iload_n hx hb d_Md_joinTile_138 rfl (lv_at hl 1 rfl) ?_
            refine lv_icmp_ge (tgt := 200) hx hb d_Md_joinTile_139 (by decide) (fun hc139 => ?_) (fun hc139 => ?_)
            · have hkn : Wi lv * Hi lv ≤ kk := (nI_leI (by omega) (by omega)).mp hc139
              have e : P7 = P := by
                funext q
                by_cases h1 : (q < 1600 * lv ∨ 1600 * lv + Wi lv * Hi lv ≤ q)
                · exact sF q h1
                · have e2 : q = 1600 * lv + (q - 1600 * lv) := by omega
                  rw [e2]
                  exact sD _ (by omega)
              have hw : Wd D _ _ [(m0, .inr (8, [.int vcode, .int vw, .int vh, .int vl, .ref ms, .int vso, .ref mt, .ref mp, .ref mx, .ref my, .ref mw, .ref mh, .int 0, .ref ml, .ref mn, .ref mk, .ref mq, .ref mm])), (mt, aD k 9600 T5), (mp, aD k 8000 P), (mx, aI k 6 (fun j => nI (X j))), (my, aI k 6 (fun j => nI (Y j))), (mw, aI k 6 (fun j => nI (Wi j))), (mh, aI k 6 (fun j => nI (Hi j))), (ml, aD k 40 f5), (mn, aD k 40 g5)] H locs := hw.cast (by rw [e])
              exact ew_v (w1 := [(m0, .inr (8, [.int vcode, .int vw, .int vh, .int vl, .ref ms, .int vso, .ref mt, .ref mp, .ref mx, .ref my, .ref mw, .ref mh, .int 0, .ref ml, .ref mn, .ref mk, .ref mq, .ref mm])), (mt, aD k 9600 T5), (mp, aD k 8000 P), (mx, aI k 6 (fun j => nI (X j))), (my, aI k 6 (fun j => nI (Y j))), (mw, aI k 6 (fun j => nI (Wi j))), (mh, aI k 6 (fun j => nI (Hi j))), (ml, aD k 40 f5), (mn, aD k 40 g5)]) hC hw [0, 1, 2, 3, 4, 5, 6, 7, 8] rfl rfl ⟨rfl, _, _, _, rfl, fun i hi => sA i (by omega), sC⟩ d_Md_joinTile_200
            · have hkn : kk < Wi lv * Hi lv := le_nI hc139 (by omega) (by omega)
              refine lv_aload_n hx hb d_Md_joinTile_142 rfl (lv_at hl 2 rfl) ?_
              refine r_get hC hw ck_Md 0 rfl 6 (by decide) k_786 rfl rfl d_Md_joinTile_143 ?_
              refine lv_sipush (v := 1600) hx hb d_Md_joinTile_146 (by decide) ?_
              refine lv_iload_n hx hb d_Md_joinTile_149 rfl (lv_at hl 3 rfl) ?_
              refine lv_imul hx hb d_Md_joinTile_150 ?_
              refine r_topi (y := nI (1600 * lv)) (pk_mul 1600 lv) ?_
              refine lv_iload_n hx hb d_Md_joinTile_151 rfl (lv_at hl 0 rfl) ?_
              refine lv_iadd hx hb d_Md_joinTile_152 ?_
              refine r_topi (y := nI (1600 * lv + kk)) (nI_add _ _) ?_
              refine r_dald hC hw 1 rfl (1600 * lv + kk) rfl (by omega) (by omega) d_Md_joinTile_153 ?_
              refine r_topd (y := P (1600 * lv + kk)) (sB kk (by omega) hkn) ?_
              refine lv_dstore (lv' := [(4, .double (P (1600 * lv + kk))), (3, .int (nI kk)), (2, .int (nI (Wi lv * Hi lv))), (0, .ref m0), (1, .int (nI lv))]) hx hb d_Md_joinTile_154 hl (by decide) rfl (fun ls hl => ?_)
              refine lv_aload_n hx hb d_Md_joinTile_156 rfl (lv_at hl 3 rfl) ?_
              refine r_get hC hw ck_Md 0 rfl 6 (by decide) k_786 rfl rfl d_Md_joinTile_157 ?_
              refine lv_sipush (v := 1600) hx hb d_Md_joinTile_160 (by decide) ?_
              refine lv_iload_n hx hb d_Md_joinTile_163 rfl (lv_at hl 4 rfl) ?_
              refine lv_imul hx hb d_Md_joinTile_164 ?_
              refine r_topi (y := nI (1600 * lv)) (pk_mul 1600 lv) ?_
              refine lv_iload_n hx hb d_Md_joinTile_165 rfl (lv_at hl 1 rfl) ?_
              refine lv_iadd hx hb d_Md_joinTile_166 ?_
              refine r_topi (y := nI (1600 * lv + kk)) (nI_add _ _) ?_
              refine lv_aload_n hx hb d_Md_joinTile_167 rfl (lv_at hl 3 rfl) ?_
              refine r_get hC hw ck_Md 0 rfl 7 (by decide) k_787 rfl rfl d_Md_joinTile_168 ?_
              refine lv_sipush (v := 1600) hx hb d_Md_joinTile_171 (by decide) ?_
              refine lv_iload_n hx hb d_Md_joinTile_174 rfl (lv_at hl 4 rfl) ?_
              refine lv_imul hx hb d_Md_joinTile_175 ?_
              refine r_topi (y := nI (1600 * lv)) (pk_mul 1600 lv) ?_
              refine lv_iload_n hx hb d_Md_joinTile_176 rfl (lv_at hl 1 rfl) ?_
              refine lv_iadd hx hb d_Md_joinTile_177 ?_
              refine r_topi (y := nI (1600 * lv + kk)) (nI_add _ _) ?_
              refine r_dald hC hw 2 rfl (1600 * lv + kk) rfl (by omega) (by omega) d_Md_joinTile_178 ?_
              refine r_topd (y := mJt mjoinW X Y Wi Hi lv (fun i => P (1600 * lv + i)) (fun i => T (1600 * (lv + 1) + i)) kk) (sE kk (by omega) hkn) ?_
              refine r_dast hC hw 1 rfl (1600 * lv + kk) rfl (by omega) (by omega) d_Md_joinTile_179 (fun H locs hw => ?_)
              have hw : Wd D _ _ [(m0, .inr (8, [.int vcode, .int vw, .int vh, .int vl, .ref ms, .int vso, .ref mt, .ref mp, .ref mx, .ref my, .ref mw, .ref mh, .int 0, .ref ml, .ref mn, .ref mk, .ref mq, .ref mm])), (mt, aD k 9600 (vf_upd T5 (1600 * lv + kk) (mJt mjoinW X Y Wi Hi lv (fun i => P (1600 * lv + i)) (fun i => T (1600 * (lv + 1) + i)) kk))), (mp, aD k 8000 P7), (mx, aI k 6 (fun j => nI (X j))), (my, aI k 6 (fun j => nI (Y j))), (mw, aI k 6 (fun j => nI (Wi j))), (mh, aI k 6 (fun j => nI (Hi j))), (ml, aD k 40 f5), (mn, aD k 40 g5)] _ _ := hw
              refine lv_aload_n hx hb d_Md_joinTile_180 rfl (lv_at hl 3 rfl) ?_
              refine r_get hC hw ck_Md 0 rfl 7 (by decide) k_787 rfl rfl d_Md_joinTile_181 ?_
              refine lv_sipush (v := 1600) hx hb d_Md_joinTile_184 (by decide) ?_
              refine lv_iload_n hx hb d_Md_joinTile_187 rfl (lv_at hl 4 rfl) ?_
              refine lv_imul hx hb d_Md_joinTile_188 ?_
              refine r_topi (y := nI (1600 * lv)) (pk_mul 1600 lv) ?_
              refine lv_iload_n hx hb d_Md_joinTile_189 rfl (lv_at hl 1 rfl) ?_
              refine lv_iadd hx hb d_Md_joinTile_190 ?_
              refine r_topi (y := nI (1600 * lv + kk)) (nI_add _ _) ?_
              refine lv_dload hx hb d_Md_joinTile_191 (lv_at hl 0 rfl) ?_
              refine r_dast hC hw 2 rfl (1600 * lv + kk) rfl (by omega) (by omega) d_Md_joinTile_193 (fun H locs hw => ?_)
              have hw : Wd D _ _ [(m0, .inr (8, [.int vcode, .int vw, .int vh, .int vl, .ref ms, .int vso, .ref mt, .ref mp, .ref mx, .ref my, .ref mw, .ref mh, .int 0, .ref ml, .ref mn, .ref mk, .ref mq, .ref mm])), (mt, aD k 9600 (vf_upd T5 (1600 * lv + kk) (mJt mjoinW X Y Wi Hi lv (fun i => P (1600 * lv + i)) (fun i => T (1600 * (lv + 1) + i)) kk))), (mp, aD k 8000 (vf_upd P7 (1600 * lv + kk) (P (1600 * lv + kk)))), (mx, aI k 6 (fun j => nI (X j))), (my, aI k 6 (fun j => nI (Y j))), (mw, aI k 6 (fun j => nI (Wi j))), (mh, aI k 6 (fun j => nI (Hi j))), (ml, aD k 40 f5), (mn, aD k 40 g5)] _ _ := hw
              refine lv_iinc (v := nI (kk + 1)) (lv' := [(3, .int (nI (kk + 1))), (4, .double (P (1600 * lv + kk))), (2, .int (nI (Wi lv * Hi lv))), (0, .ref m0), (1, .int (nI lv))]) hx hb d_Md_joinTile_194 hl (k := 1) rfl (nI_add kk 1) (by decide) rfl (fun ls hl => ?_)
              refine lv_goto (tgt := 137) hx hb d_Md_joinTile_197 (by decide) ?_
              exact ih_L137 (kk + 1) (vf_upd T5 (1600 * lv + kk) (mJt mjoinW X Y Wi Hi lv (fun i => P (1600 * lv + i)) (fun i => T (1600 * (lv + 1) + i)) kk)) (vf_upd P7 (1600 * lv + kk) (P (1600 * lv + kk))) _ _ _ (by omega) (by omega) (fun i hi => by by_cases e : i = kk; rw [e, upd_at]; rw [upd_ne (by omega)]; exact sA i (by omega)) (fun i h1 hi => by rw [upd_ne (by omega)]; exact sB i (by omega) hi) (fun q hq => by rw [upd_ne (by omega)]; exact sC q hq) (fun i hi => by by_cases e : i = kk; rw [e, upd_at]; rw [upd_ne (by omega)]; exact sD i (by omega)) (fun i h1 hi => by rw [upd_ne (by omega)]; exact sE i (by omega) hi) (fun q hq => by rw [upd_ne (by omega)]; exact sF q hq) hw (lv_sub hl [0, 2, 3, 4] rfl)
        exact L137 (Wi lv * Hi lv + 1) 0 T3 P6 _ _ _ (by omega) (by omega) (fun i hi => absurd hi (Nat.not_lt_zero _)) (fun i _ hi => jA i hi) jB (fun i hi => absurd hi (Nat.not_lt_zero _)) (fun i _ hi => hQP6 i hi) hRP6 hw (lv_sub hl [0, 1, 2, 3] rfl)
      · have hkn : kk < Wi lv * Hi lv := le_nI hc18 (by omega) (by omega)
        have hgp : 0 < Wi lv := dm_pos hkn
        have hcx : kk % Wi lv < Wi lv := Nat.mod_lt kk hgp
        have hcy : kk / Wi lv < Hi lv := Nat.div_lt_of_lt_mul hkn
        have hne : ¬ nI (Wi lv) = 0 := nI_ne0 hgp (by omega)
        refine lv_aload_n hx hb d_Md_joinTile_21 rfl (lv_at hl 2 rfl) ?_
        refine r_get hC hw ck_Md 0 rfl 6 (by decide) k_786 rfl rfl d_Md_joinTile_22 ?_
        refine lv_sipush (v := 1600) hx hb d_Md_joinTile_25 (by decide) ?_
        refine lv_iload_n hx hb d_Md_joinTile_28 rfl (lv_at hl 3 rfl) ?_
        refine lv_imul hx hb d_Md_joinTile_29 ?_
        refine r_topi (y := nI (1600 * lv)) (pk_mul 1600 lv) ?_
        refine lv_iload_n hx hb d_Md_joinTile_30 rfl (lv_at hl 0 rfl) ?_
        refine lv_iadd hx hb d_Md_joinTile_31 ?_
        refine r_topi (y := nI (1600 * lv + kk)) (nI_add _ _) ?_
        refine lv_aload_n hx hb d_Md_joinTile_32 rfl (lv_at hl 2 rfl) ?_
        refine r_get hC hw ck_Md 0 rfl 7 (by decide) k_787 rfl rfl d_Md_joinTile_33 ?_
        refine lv_sipush (v := 1600) hx hb d_Md_joinTile_36 (by decide) ?_
        refine lv_iload_n hx hb d_Md_joinTile_39 rfl (lv_at hl 3 rfl) ?_
        refine lv_imul hx hb d_Md_joinTile_40 ?_
        refine r_topi (y := nI (1600 * lv)) (pk_mul 1600 lv) ?_
        refine lv_iload_n hx hb d_Md_joinTile_41 rfl (lv_at hl 0 rfl) ?_
        refine lv_iadd hx hb d_Md_joinTile_42 ?_
        refine r_topi (y := nI (1600 * lv + kk)) (nI_add _ _) ?_
        refine r_dald hC hw 2 rfl (1600 * lv + kk) rfl (by omega) (by omega) d_Md_joinTile_43 ?_
        refine r_topd (y := P (1600 * lv + kk)) (jD _ (Or.inr (by omega))) ?_
        refine r_dast hC hw 1 rfl (1600 * lv + kk) rfl (by omega) (by omega) d_Md_joinTile_44 (fun H locs hw => ?_)
        have hw : Wd D _ _ [(m0, .inr (8, [.int vcode, .int vw, .int vh, .int vl, .ref ms, .int vso, .ref mt, .ref mp, .ref mx, .ref my, .ref mw, .ref mh, .int 0, .ref ml, .ref mn, .ref mk, .ref mq, .ref mm])), (mt, aD k 9600 (vf_upd T3 (1600 * lv + kk) (P (1600 * lv + kk)))), (mp, aD k 8000 P3), (mx, aI k 6 (fun j => nI (X j))), (my, aI k 6 (fun j => nI (Y j))), (mw, aI k 6 (fun j => nI (Wi j))), (mh, aI k 6 (fun j => nI (Hi j))), (ml, aD k 40 ff), (mn, aD k 40 gg)] _ _ := hw
        refine lv_aload_n hx hb d_Md_joinTile_45 rfl (lv_at hl 2 rfl) ?_
        refine lv_iload_n hx hb d_Md_joinTile_46 rfl (lv_at hl 3 rfl) ?_
        refine lv_iload_n hx hb d_Md_joinTile_47 rfl (lv_at hl 0 rfl) ?_
        refine lv_aload_n hx hb d_Md_joinTile_48 rfl (lv_at hl 2 rfl) ?_
        refine r_get hC hw ck_Md 0 rfl 10 (by decide) k_790 rfl rfl d_Md_joinTile_49 ?_
        refine lv_iload_n hx hb d_Md_joinTile_52 rfl (lv_at hl 3 rfl) ?_
        refine r_iald hC hw 5 rfl lv rfl (by omega) (by decide) d_Md_joinTile_53 ?_
        refine lv_irem hx hb d_Md_joinTile_54 hne ?_
        refine r_topi (y := nI (kk % Wi lv)) (pk_rem (by omega) hgp (by omega)) ?_
        refine lv_iload_n hx hb d_Md_joinTile_55 rfl (lv_at hl 0 rfl) ?_
        refine lv_aload_n hx hb d_Md_joinTile_56 rfl (lv_at hl 2 rfl) ?_
        refine r_get hC hw ck_Md 0 rfl 10 (by decide) k_790 rfl rfl d_Md_joinTile_57 ?_
        refine lv_iload_n hx hb d_Md_joinTile_60 rfl (lv_at hl 3 rfl) ?_
        refine r_iald hC hw 5 rfl lv rfl (by omega) (by decide) d_Md_joinTile_61 ?_
        refine lv_idiv hx hb d_Md_joinTile_62 hne ?_
        refine r_topi (y := nI (kk / Wi lv)) (pk_div (by omega) hgp (by omega)) ?_
        refine r_s (rn_V (b := m0) (As := [.int (nI lv), .int (nI (kk % Wi lv)), .int (nI (kk / Wi lv))]) (rest := []) (C := "LiftBandsModel") hC (c_Md_isLow l D k _ m0 ms mt mp mx my mw mh ml mn mk mq mm vcode vw vh vl vso 0 X Y lv (kk % Wi lv) (kk / Wi lv) (by omega) (by omega) (by omega) (by omega) (by omega)) mk_Md_isLow k_884 kp_20 k_882 ⟨rfl, rfl, (Nat.le_of_ble_eq_true rfl), (Nat.le_of_ble_eq_true rfl)⟩ (r_recv hC hw ck_Md 0 rfl) rfl hl.1 rfl (Nat.le_of_ble_eq_true rfl) d_Md_joinTile_63 ⟨(Nat.le_of_ble_eq_true rfl), (Nat.le_of_ble_eq_true rfl)⟩ (Pw.pre hC.2.2.2.2.2.1 hw [0, 3, 4] rfl rfl)) (fun v hv => ?_)
        subst hv
        refine W.eq (g2 := F0 m 66 ls [.int (if (X lv + kk % Wi lv) % 2 = 0 ∧ (Y lv + kk / Wi lv) % 2 = 0 then 1 else 0)]) rfl ?_
        refine lv_if_eq (tgt := 115) hx hb d_Md_joinTile_66 (by decide) (fun hc66 => ?_) (fun hc66 => ?_)
        · have hnl : ¬ ((X lv + kk % Wi lv) % 2 = 0 ∧ (Y lv + kk / Wi lv) % 2 = 0) := fun q => absurd hc66 (by rw [if_pos q]; decide)
          refine lv_iinc (v := nI (kk + 1)) (lv' := [(3, .int (nI (kk + 1))), (2, .int (nI (Wi lv * Hi lv))), (0, .ref m0), (1, .int (nI lv))]) hx hb d_Md_joinTile_115 hl (k := 0) rfl (nI_add kk 1) (by decide) rfl (fun ls hl => ?_)
          refine lv_goto (tgt := 16) hx hb d_Md_joinTile_118 (by decide) ?_
          exact ih_L16 (kk + 1) (vf_upd T3 (1600 * lv + kk) (P (1600 * lv + kk))) P3 ff gg _ _ _ (by omega) (by omega) (fun i hi => by by_cases e : i = kk; rw [e, upd_at]; rw [upd_ne (by omega)]; exact jA i (by omega)) (fun q hq => by rw [upd_ne (by omega)]; exact jB q hq) (fun i hi => by by_cases e : i = kk; rw [e, jD _ (Or.inr (by omega))]; unfold mrg; rw [if_neg hnl]; exact jE i (by omega)) (fun q hq => jD q (by omega)) hw (lv_sub hl [0, 1, 2, 3] rfl)
        · have hlw : (X lv + kk % Wi lv) % 2 = 0 ∧ (Y lv + kk / Wi lv) % 2 = 0 := by
            by_cases q : (X lv + kk % Wi lv) % 2 = 0 ∧ (Y lv + kk / Wi lv) % 2 = 0
            · exact q
            · exact absurd (if_neg q) hc66
          have hpl := plc_lt (gx := X lv) (gy := Y lv) hcx hcy
          rw [hlw.1, hlw.2] at hpl
          refine lv_aload_n hx hb d_Md_joinTile_69 rfl (lv_at hl 2 rfl) ?_
          refine r_get hC hw ck_Md 0 rfl 7 (by decide) k_787 rfl rfl d_Md_joinTile_70 ?_
          refine lv_sipush (v := 1600) hx hb d_Md_joinTile_73 (by decide) ?_
          refine lv_iload_n hx hb d_Md_joinTile_76 rfl (lv_at hl 3 rfl) ?_
          refine lv_imul hx hb d_Md_joinTile_77 ?_
          refine r_topi (y := nI (1600 * lv)) (pk_mul 1600 lv) ?_
          refine lv_iload_n hx hb d_Md_joinTile_78 rfl (lv_at hl 0 rfl) ?_
          refine lv_iadd hx hb d_Md_joinTile_79 ?_
          refine r_topi (y := nI (1600 * lv + kk)) (nI_add _ _) ?_
          refine lv_aload_n hx hb d_Md_joinTile_80 rfl (lv_at hl 2 rfl) ?_
          refine r_get hC hw ck_Md 0 rfl 6 (by decide) k_786 rfl rfl d_Md_joinTile_81 ?_
          refine lv_sipush (v := 1600) hx hb d_Md_joinTile_84 (by decide) ?_
          refine lv_iload_n hx hb d_Md_joinTile_87 rfl (lv_at hl 3 rfl) ?_
          refine lv_iconst (v := 1) hx hb d_Md_joinTile_88 (by decide) ?_
          refine lv_iadd hx hb d_Md_joinTile_89 ?_
          refine r_topi (y := nI (lv + 1)) (nI_1 lv) ?_
          refine lv_imul hx hb d_Md_joinTile_90 ?_
          refine r_topi (y := nI (1600 * (lv + 1))) (pk_mul 1600 (lv + 1)) ?_
          refine lv_aload_n hx hb d_Md_joinTile_91 rfl (lv_at hl 2 rfl) ?_
          refine lv_iload_n hx hb d_Md_joinTile_92 rfl (lv_at hl 3 rfl) ?_
          refine lv_iload_n hx hb d_Md_joinTile_93 rfl (lv_at hl 0 rfl) ?_
          refine lv_aload_n hx hb d_Md_joinTile_94 rfl (lv_at hl 2 rfl) ?_
          refine r_get hC hw ck_Md 0 rfl 10 (by decide) k_790 rfl rfl d_Md_joinTile_95 ?_
          refine lv_iload_n hx hb d_Md_joinTile_98 rfl (lv_at hl 3 rfl) ?_
          refine r_iald hC hw 5 rfl lv rfl (by omega) (by decide) d_Md_joinTile_99 ?_
          refine lv_irem hx hb d_Md_joinTile_100 hne ?_
          refine r_topi (y := nI (kk % Wi lv)) (pk_rem (by omega) hgp (by omega)) ?_
          refine lv_iload_n hx hb d_Md_joinTile_101 rfl (lv_at hl 0 rfl) ?_
          refine lv_aload_n hx hb d_Md_joinTile_102 rfl (lv_at hl 2 rfl) ?_
          refine r_get hC hw ck_Md 0 rfl 10 (by decide) k_790 rfl rfl d_Md_joinTile_103 ?_
          refine lv_iload_n hx hb d_Md_joinTile_106 rfl (lv_at hl 3 rfl) ?_
          refine r_iald hC hw 5 rfl lv rfl (by omega) (by decide) d_Md_joinTile_107 ?_
          refine lv_idiv hx hb d_Md_joinTile_108 hne ?_
          refine r_topi (y := nI (kk / Wi lv)) (pk_div (by omega) hgp (by omega)) ?_
          refine r_s (rn_V (b := m0) (As := [.int (nI lv), .int (nI (kk % Wi lv)), .int (nI (kk / Wi lv))]) (rest := [.int (nI (1600 * (lv + 1))), .ref mt, .int (nI (1600 * lv + kk)), .ref mp]) (C := "LiftBandsModel") hC (c_Md_lowPlace l D k _ m0 ms mt mp mx my mw mh ml mn mk mq mm vcode vw vh vl vso 0 X Y Wi lv (kk % Wi lv) (kk / Wi lv) (Hi lv) (by omega) (by omega) (by omega) (by omega) (by omega) hcx hcy hex hey hew hlw.1 hlw.2) mk_Md_lowPlace k_888 kp_21 k_886 ⟨rfl, rfl, (Nat.le_of_ble_eq_true rfl), (Nat.le_of_ble_eq_true rfl)⟩ (r_recv hC hw ck_Md 0 rfl) rfl hl.1 rfl (Nat.le_of_ble_eq_true rfl) d_Md_joinTile_109 ⟨(Nat.le_of_ble_eq_true rfl), (Nat.le_of_ble_eq_true rfl)⟩ (Pw.pre hC.2.2.2.2.2.1 hw [0, 3, 4, 5] rfl rfl)) (fun v hv => ?_)
          subst hv
          refine W.eq (g2 := F0 m 112 ls [.int (nI (plc (X lv) (Y lv) (Wi lv) (kk % Wi lv) (kk / Wi lv))), .int (nI (1600 * (lv + 1))), .ref mt, .int (nI (1600 * lv + kk)), .ref mp]) rfl ?_
          refine lv_iadd hx hb d_Md_joinTile_112 ?_
          refine r_topi (y := nI (1600 * (lv + 1) + plc (X lv) (Y lv) (Wi lv) (kk % Wi lv) (kk / Wi lv))) (nI_add _ _) ?_
          refine r_dald hC hw 1 rfl (1600 * (lv + 1) + plc (X lv) (Y lv) (Wi lv) (kk % Wi lv) (kk / Wi lv)) rfl (by omega) (by omega) d_Md_joinTile_113 ?_
          refine r_topd (y := T (1600 * (lv + 1) + plc (X lv) (Y lv) (Wi lv) (kk % Wi lv) (kk / Wi lv))) ((upd_ne (by omega)).trans (jB _ (Or.inr (by omega)))) ?_
          refine r_dast hC hw 2 rfl (1600 * lv + kk) rfl (by omega) (by omega) d_Md_joinTile_114 (fun H locs hw => ?_)
          have hw : Wd D _ _ [(m0, .inr (8, [.int vcode, .int vw, .int vh, .int vl, .ref ms, .int vso, .ref mt, .ref mp, .ref mx, .ref my, .ref mw, .ref mh, .int 0, .ref ml, .ref mn, .ref mk, .ref mq, .ref mm])), (mt, aD k 9600 (vf_upd T3 (1600 * lv + kk) (P (1600 * lv + kk)))), (mp, aD k 8000 (vf_upd P3 (1600 * lv + kk) (T (1600 * (lv + 1) + plc (X lv) (Y lv) (Wi lv) (kk % Wi lv) (kk / Wi lv))))), (mx, aI k 6 (fun j => nI (X j))), (my, aI k 6 (fun j => nI (Y j))), (mw, aI k 6 (fun j => nI (Wi j))), (mh, aI k 6 (fun j => nI (Hi j))), (ml, aD k 40 ff), (mn, aD k 40 gg)] _ _ := hw
          refine lv_iinc (v := nI (kk + 1)) (lv' := [(3, .int (nI (kk + 1))), (2, .int (nI (Wi lv * Hi lv))), (0, .ref m0), (1, .int (nI lv))]) hx hb d_Md_joinTile_115 hl (k := 0) rfl (nI_add kk 1) (by decide) rfl (fun ls hl => ?_)
          refine lv_goto (tgt := 16) hx hb d_Md_joinTile_118 (by decide) ?_
          exact ih_L16 (kk + 1) (vf_upd T3 (1600 * lv + kk) (P (1600 * lv + kk))) (vf_upd P3 (1600 * lv + kk) (T (1600 * (lv + 1) + plc (X lv) (Y lv) (Wi lv) (kk % Wi lv) (kk / Wi lv)))) ff gg _ _ _ (by omega) (by omega) (fun i hi => by by_cases e : i = kk; rw [e, upd_at]; rw [upd_ne (by omega)]; exact jA i (by omega)) (fun q hq => by rw [upd_ne (by omega)]; exact jB q hq) (fun i hi => by by_cases e : i = kk; rw [e, upd_at]; unfold mrg; rw [if_pos hlw]; rw [upd_ne (by omega)]; exact jE i (by omega)) (fun q hq => by rw [upd_ne (by omega)]; exact jD q (by omega)) hw (lv_sub hl [0, 1, 2, 3] rfl)
  exact L16 (Wi lv * Hi lv + 1) 0 T P f g _ _ _ (by omega) (by omega) (fun i hi => absurd hi (Nat.not_lt_zero _)) (fun q _ => rfl) (fun i hi => absurd hi (Nat.not_lt_zero _)) (fun q _ => rfl) hw (lv_sub hl [0, 1, 2, 3] rfl)
abbrev rm_Md_bckR : Room := { frames := 6, cells := 0, slots := 0, locals := 202 }
set_option maxHeartbeats 4000000 in
set_option maxRecDepth 100000 in
/-- Model.back -/
theorem c_Md_bckR (l : Launch) (D : va_G) (k : Nat → ClassId) (sz : Nat) (m0 ms mt mp mx my mw mh ml mn mk mq mm : Nat) (vcode vre : Int32) (T P S f g : Nat → UInt64) (X Y Wi Hi : Nat → Nat) (hG : Geo X Y Wi Hi) (L : Nat) (hL : L ≤ 5) (K : Nat) (hK : K ≤ 200) (hK2 : 70 ≤ K) (hPb : ∀ j, j < L → BD K (Wi j * Hi j) (fun i => P (1600 * j + i))) (hTb : BD K (Wi L * Hi L) (fun i => T (1600 * L + i))) : Met l y_Md_back (Cond.code y_Md_back b_Md_back 4 (some .int) :: lw_g) rm_Md_bckR (Pw D k [(m0, .inr (8, [.int vcode, .int (nI (Wi 0)), .int (nI (Hi 0)), .int (nI L), .ref ms, .int 2, .ref mt, .ref mp, .ref mx, .ref my, .ref mw, .ref mh, .int vre, .ref ml, .ref mn, .ref mk, .ref mq, .ref mm])), (mt, aD k 9600 T), (mp, aD k 8000 P), (mx, aI k 6 (fun j => nI (X j))), (my, aI k 6 (fun j => nI (Y j))), (mw, aI k 6 (fun j => nI (Wi j))), (mh, aI k 6 (fun j => nI (Hi j))), (ms, aD k 1600 S), (ml, aD k 40 f), (mn, aD k 40 g)] sz [.ref m0, .int 0]) (Qw D (va_A [(m0, .inr (8, [.int vcode, .int (nI (Wi 0)), .int (nI (Hi 0)), .int (nI L), .ref ms, .int 2, .ref mt, .ref mp, .ref mx, .ref my, .ref mw, .ref mh, .int vre, .ref ml, .ref mn, .ref mk, .ref mq, .ref mm])), (mt, aD k 9600 T), (mp, aD k 8000 P), (mx, aI k 6 (fun j => nI (X j))), (my, aI k 6 (fun j => nI (Y j))), (mw, aI k 6 (fun j => nI (Wi j))), (mh, aI k 6 (fun j => nI (Hi j))), (ms, aD k 1600 S), (ml, aD k 40 f), (mn, aD k 40 g)] sz) (fun v w1 => v = some (.int (nI (sumTo (fun j => neN (S j) ((mUp mjoinR X Y Wi Hi P L (fun i => T (1600 * L + i)) L) j)) (Wi 0 * Hi 0)))) ∧ ∃ T2 S2 f2 g2 : Nat → UInt64, w1 = [(m0, .inr (8, [.int 0, .int (nI (Wi 0)), .int (nI (Hi 0)), .int (nI L), .ref ms, .int 2, .ref mt, .ref mp, .ref mx, .ref my, .ref mw, .ref mh, .int 1, .ref ml, .ref mn, .ref mk, .ref mq, .ref mm])), (mt, aD k 9600 T2), (mp, aD k 8000 P), (mx, aI k 6 (fun j => nI (X j))), (my, aI k 6 (fun j => nI (Y j))), (mw, aI k 6 (fun j => nI (Wi j))), (mh, aI k 6 (fun j => nI (Hi j))), (ms, aD k 1600 S2), (ml, aD k 40 f2), (mn, aD k 40 g2)] ∧ (∀ i, i < Wi 0 * Hi 0 → S2 i = (mUp mjoinR X Y Wi Hi P L (fun i => T (1600 * L + i)) L) i) ∧ (∀ i, i < Wi L * Hi L → T2 (1600 * L + i) = T (1600 * L + i)))) 0 0 (va_A [(m0, .inr (8, [.int vcode, .int (nI (Wi 0)), .int (nI (Hi 0)), .int (nI L), .ref ms, .int 2, .ref mt, .ref mp, .ref mx, .ref my, .ref mw, .ref mh, .int vre, .ref ml, .ref mn, .ref mk, .ref mq, .ref mm])), (mt, aD k 9600 T), (mp, aD k 8000 P), (mx, aI k 6 (fun j => nI (X j))), (my, aI k 6 (fun j => nI (Y j))), (mw, aI k 6 (fun j => nI (Wi j))), (mh, aI k 6 (fun j => nI (Hi j))), (ms, aD k 1600 S), (ml, aD k 40 f), (mn, aD k 40 g)] sz) := by
  refine met_of (by decide +kernel) ?_
  intro p e s m below meth c hC hsz hw hin
  subst hsz
  have hC : Cx D k p s m _ meth c "LiftBandsModel" b_Md_back 4 (some .int) := hC
  have hx := hC.1
  have hb := hC.2.1
  refine r_ent (Nat.le_of_ble_eq_true rfl) rfl (fun ls hl => ?_)
  have hl : lv_has ls 4 [(0, .ref m0), (1, .int 0)] := hl
  have hw : Wd D (va_A [(m0, .inr (8, [.int vcode, .int (nI (Wi 0)), .int (nI (Hi 0)), .int (nI L), .ref ms, .int 2, .ref mt, .ref mp, .ref mx, .ref my, .ref mw, .ref mh, .int vre, .ref ml, .ref mn, .ref mk, .ref mq, .ref mm])), (mt, aD k 9600 T), (mp, aD k 8000 P), (mx, aI k 6 (fun j => nI (X j))), (my, aI k 6 (fun j => nI (Y j))), (mw, aI k 6 (fun j => nI (Wi j))), (mh, aI k 6 (fun j => nI (Hi j))), (ms, aD k 1600 S), (ml, aD k 40 f), (mn, aD k 40 g)] s.heap.size) s.heap [(m0, .inr (8, [.int vcode, .int (nI (Wi 0)), .int (nI (Hi 0)), .int (nI L), .ref ms, .int 2, .ref mt, .ref mp, .ref mx, .ref my, .ref mw, .ref mh, .int vre, .ref ml, .ref mn, .ref mk, .ref mq, .ref mm])), (mt, aD k 9600 T), (mp, aD k 8000 P), (mx, aI k 6 (fun j => nI (X j))), (my, aI k 6 (fun j => nI (Y j))), (mw, aI k 6 (fun j => nI (Wi j))), (mh, aI k 6 (fun j => nI (Hi j))), (ms, aD k 1600 S), (ml, aD k 40 f), (mn, aD k 40 g)] s.heap [] := hw
  generalize va_A [(m0, .inr (8, [.int vcode, .int (nI (Wi 0)), .int (nI (Hi 0)), .int (nI L), .ref ms, .int 2, .ref mt, .ref mp, .ref mx, .ref my, .ref mw, .ref mh, .int vre, .ref ml, .ref mn, .ref mk, .ref mq, .ref mm])), (mt, aD k 9600 T), (mp, aD k 8000 P), (mx, aI k 6 (fun j => nI (X j))), (my, aI k 6 (fun j => nI (Y j))), (mw, aI k 6 (fun j => nI (Wi j))), (mh, aI k 6 (fun j => nI (Hi j))), (ms, aD k 1600 S), (ml, aD k 40 f), (mn, aD k 40 g)] s.heap.size = A at hw ⊢
  generalize ([.ref m0, .int 0] : List Value).toArray = args at hC ⊢
  have ha0 := hG.a (j := 0) (by omega)
  have hob : OpBd mjoinR := fun _ _ _ _ a b c => mjoinR_bd a b c
  have hub := mUp_bd hob hG hL hK hK2 hPb hTb
  refine lv_aload_n hx hb d_Md_back_0 rfl (lv_at hl 0 rfl) ?_
  refine lv_aload_n hx hb d_Md_back_1 rfl (lv_at hl 0 rfl) ?_
  refine r_get hC hw ck_Md 0 rfl 5 (by decide) k_785 rfl rfl d_Md_back_2 ?_
  refine lv_iload_n hx hb d_Md_back_5 rfl (lv_at hl 1 rfl) ?_
  refine lv_if_eq (tgt := 13) hx hb d_Md_back_6 (by decide) (fun hc6 => ?_) (fun hc6 => absurd rfl hc6)
  refine lv_iconst (v := 2) hx hb d_Md_back_13 (by decide) ?_
  refine lv_icmp_ne (tgt := 21) hx hb d_Md_back_14 (by decide) (fun hc14 => absurd hc14 (by decide)) (fun hc14 => ?_)
  refine lv_iconst (v := 0) hx hb d_Md_back_17 (by decide) ?_
  refine lv_goto (tgt := 22) hx hb d_Md_back_18 (by decide) ?_
  refine r_put hC hw ck_Md 0 rfl 0 (by decide) k_780 rfl rfl rfl rfl (Nat.le_of_ble_eq_true rfl) d_Md_back_22 (fun H locs hw => ?_)
  have hw : Wd D _ _ [(m0, .inr (8, [.int 0, .int (nI (Wi 0)), .int (nI (Hi 0)), .int (nI L), .ref ms, .int 2, .ref mt, .ref mp, .ref mx, .ref my, .ref mw, .ref mh, .int vre, .ref ml, .ref mn, .ref mk, .ref mq, .ref mm])), (mt, aD k 9600 T), (mp, aD k 8000 P), (mx, aI k 6 (fun j => nI (X j))), (my, aI k 6 (fun j => nI (Y j))), (mw, aI k 6 (fun j => nI (Wi j))), (mh, aI k 6 (fun j => nI (Hi j))), (ms, aD k 1600 S), (ml, aD k 40 f), (mn, aD k 40 g)] _ _ := hw
  refine lv_aload_n hx hb d_Md_back_25 rfl (lv_at hl 0 rfl) ?_
  refine r_get hC hw ck_Md 0 rfl 0 (by decide) k_780 rfl rfl d_Md_back_26 ?_
  refine lv_if_le (tgt := 34) hx hb d_Md_back_29 (by decide) (fun hc29 => ?_) (fun hc29 => absurd (by decide) hc29)
  refine lv_aload_n hx hb d_Md_back_34 rfl (lv_at hl 0 rfl) ?_
  refine lv_iload_n hx hb d_Md_back_35 rfl (lv_at hl 1 rfl) ?_
  refine lv_if_ne (tgt := 43) hx hb d_Md_back_36 (by decide) (fun hc36 => absurd hc36 (by decide)) (fun hc36 => ?_)
  refine lv_iconst (v := 1) hx hb d_Md_back_39 (by decide) ?_
  refine lv_goto (tgt := 44) hx hb d_Md_back_40 (by decide) ?_
  refine r_put hC hw ck_Md 0 rfl 12 (by decide) k_792 rfl rfl rfl rfl (Nat.le_of_ble_eq_true rfl) d_Md_back_44 (fun H locs hw => ?_)
  have hw : Wd D _ _ [(m0, .inr (8, [.int 0, .int (nI (Wi 0)), .int (nI (Hi 0)), .int (nI L), .ref ms, .int 2, .ref mt, .ref mp, .ref mx, .ref my, .ref mw, .ref mh, .int 1, .ref ml, .ref mn, .ref mk, .ref mq, .ref mm])), (mt, aD k 9600 T), (mp, aD k 8000 P), (mx, aI k 6 (fun j => nI (X j))), (my, aI k 6 (fun j => nI (Y j))), (mw, aI k 6 (fun j => nI (Wi j))), (mh, aI k 6 (fun j => nI (Hi j))), (ms, aD k 1600 S), (ml, aD k 40 f), (mn, aD k 40 g)] _ _ := hw
  refine lv_aload_n hx hb d_Md_back_47 rfl (lv_at hl 0 rfl) ?_
  refine r_get hC hw ck_Md 0 rfl 3 (by decide) k_783 rfl rfl d_Md_back_48 ?_
  refine lv_iconst (v := 1) hx hb d_Md_back_51 (by decide) ?_
  refine lv_isub hx hb d_Md_back_52 ?_
  refine lv_istore_n (lv' := [(2, .int ((nI L) - 1)), (0, .ref m0), (1, .int 0)]) hx hb d_Md_back_53 rfl hl (by decide) rfl (fun ls hl => ?_)
  have hl : lv_has ls 4 [(2, .int (nI (L - 0) - 1)), (0, .ref m0), (1, .int 0)] := hl
  have L54 : ∀ (fu : Nat) (d : Nat) (T3 : Nat → UInt64) (ff : Nat → UInt64) (gg : Nat → UInt64) (H : Heap) (locs : List Loc) (ls : Array Slot), L - d < fu → d ≤ L → (∀ i, i < Wi (L - d) * Hi (L - d) → T3 (1600 * (L - d) + i) = mUp mjoinR X Y Wi Hi P L (fun i => T (1600 * L + i)) d i) → (∀ i, i < Wi L * Hi L → T3 (1600 * L + i) = T (1600 * L + i)) → Wd D A s.heap [(m0, .inr (8, [.int 0, .int (nI (Wi 0)), .int (nI (Hi 0)), .int (nI L), .ref ms, .int 2, .ref mt, .ref mp, .ref mx, .ref my, .ref mw, .ref mh, .int 1, .ref ml, .ref mn, .ref mk, .ref mq, .ref mm])), (mt, aD k 9600 T3), (mp, aD k 8000 P), (mx, aI k 6 (fun j => nI (X j))), (my, aI k 6 (fun j => nI (Y j))), (mw, aI k 6 (fun j => nI (Wi j))), (mh, aI k 6 (fun j => nI (Hi j))), (ms, aD k 1600 S), (ml, aD k 40 ff), (mn, aD k 40 gg)] H locs → lv_has ls 4 [(2, .int (nI (L - d) - 1)), (0, .ref m0), (1, .int 0)] → W p l e rm_Md_bckR s m args below meth c H locs 0 0 (MQ below (Qw D A (fun v w1 => v = some (.int (nI (sumTo (fun j => neN (S j) ((mUp mjoinR X Y Wi Hi P L (fun i => T (1600 * L + i)) L) j)) (Wi 0 * Hi 0)))) ∧ ∃ T2 S2 f2 g2 : Nat → UInt64, w1 = [(m0, .inr (8, [.int 0, .int (nI (Wi 0)), .int (nI (Hi 0)), .int (nI L), .ref ms, .int 2, .ref mt, .ref mp, .ref mx, .ref my, .ref mw, .ref mh, .int 1, .ref ml, .ref mn, .ref mk, .ref mq, .ref mm])), (mt, aD k 9600 T2), (mp, aD k 8000 P), (mx, aI k 6 (fun j => nI (X j))), (my, aI k 6 (fun j => nI (Y j))), (mw, aI k 6 (fun j => nI (Wi j))), (mh, aI k 6 (fun j => nI (Hi j))), (ms, aD k 1600 S2), (ml, aD k 40 f2), (mn, aD k 40 g2)] ∧ (∀ i, i < Wi 0 * Hi 0 → S2 i = (mUp mjoinR X Y Wi Hi P L (fun i => T (1600 * L + i)) L) i) ∧ (∀ i, i < Wi L * Hi L → T2 (1600 * L + i) = T (1600 * L + i)))) args s 0 0 A) (F0 m 54 ls []) := by
    intro fu
    induction fu with
    | zero => intro d T3 ff gg H locs ls hfu; exact absurd hfu (Nat.not_lt_zero _)
    | succ fu ih_L54 =>
      intro d T3 ff gg H locs ls hfu_L54 hdb hU hLa hw hl
      refine lv_iload_n hx hb d_Md_back_54 rfl (lv_at hl 0 rfl) ?_
      refine lv_if_lt (tgt := 69) hx hb d_Md_back_55 (by decide) (fun hc55 => ?_) (fun hc55 => ?_)
      · have hd0 : d = L := by have := pred_neg hc55 (by omega); omega
        have hV : ∀ i, i < Wi 0 * Hi 0 → T3 i = (mUp mjoinR X Y Wi Hi P L (fun i => T (1600 * L + i)) L) i := by
          intro i hi
          have h1 := hU i
          rw [hd0, Nat.sub_self, Nat.mul_zero, Nat.zero_add] at h1
          exact h1 hi
        refine lv_iconst (v := 0) hx hb d_Md_back_69 (by decide) ?_
        refine lv_istore_n (lv' := [(2, .int 0), (0, .ref m0), (1, .int 0)]) hx hb d_Md_back_70 rfl hl (by decide) rfl (fun ls hl => ?_)
        refine lv_iconst (v := 0) hx hb d_Md_back_71 (by decide) ?_
        refine lv_istore_n (lv' := [(3, .int 0), (2, .int 0), (0, .ref m0), (1, .int 0)]) hx hb d_Md_back_72 rfl hl (by decide) rfl (fun ls hl => ?_)
        have hl : lv_has ls 4 [(3, .int (nI 0)), (2, .int (nI (sumTo (fun j => neN (S j) ((mUp mjoinR X Y Wi Hi P L (fun i => T (1600 * L + i)) L) j)) 0))), (0, .ref m0), (1, .int 0)] := lv_sub hl [0, 1, 2, 3] rfl
        have hw : Wd D _ _ [(m0, .inr (8, [.int 0, .int (nI (Wi 0)), .int (nI (Hi 0)), .int (nI L), .ref ms, .int 2, .ref mt, .ref mp, .ref mx, .ref my, .ref mw, .ref mh, .int 1, .ref ml, .ref mn, .ref mk, .ref mq, .ref mm])), (mt, aD k 9600 T3), (mp, aD k 8000 P), (mx, aI k 6 (fun j => nI (X j))), (my, aI k 6 (fun j => nI (Y j))), (mw, aI k 6 (fun j => nI (Wi j))), (mh, aI k 6 (fun j => nI (Hi j))), (ms, aD k 1600 (upTo (mUp mjoinR X Y Wi Hi P L (fun i => T (1600 * L + i)) L) S 0)), (ml, aD k 40 ff), (mn, aD k 40 gg)] _ _ := hw.cast (by rw [← upTo_0])
        have L73 : ∀ (fu : Nat) (kk : Nat) (H : Heap) (locs : List Loc) (ls : Array Slot), Wi 0 * Hi 0 - kk < fu → kk ≤ Wi 0 * Hi 0 → Wd D A s.heap [(m0, .inr (8, [.int 0, .int (nI (Wi 0)), .int (nI (Hi 0)), .int (nI L), .ref ms, .int 2, .ref mt, .ref mp, .ref mx, .ref my, .ref mw, .ref mh, .int 1, .ref ml, .ref mn, .ref mk, .ref mq, .ref mm])), (mt, aD k 9600 T3), (mp, aD k 8000 P), (mx, aI k 6 (fun j => nI (X j))), (my, aI k 6 (fun j => nI (Y j))), (mw, aI k 6 (fun j => nI (Wi j))), (mh, aI k 6 (fun j => nI (Hi j))), (ms, aD k 1600 (upTo (mUp mjoinR X Y Wi Hi P L (fun i => T (1600 * L + i)) L) S kk)), (ml, aD k 40 ff), (mn, aD k 40 gg)] H locs → lv_has ls 4 [(3, .int (nI kk)), (2, .int (nI (sumTo (fun j => neN (S j) ((mUp mjoinR X Y Wi Hi P L (fun i => T (1600 * L + i)) L) j)) kk))), (0, .ref m0), (1, .int 0)] → W p l e rm_Md_bckR s m args below meth c H locs 0 0 (MQ below (Qw D A (fun v w1 => v = some (.int (nI (sumTo (fun j => neN (S j) ((mUp mjoinR X Y Wi Hi P L (fun i => T (1600 * L + i)) L) j)) (Wi 0 * Hi 0)))) ∧ ∃ T2 S2 f2 g2 : Nat → UInt64, w1 = [(m0, .inr (8, [.int 0, .int (nI (Wi 0)), .int (nI (Hi 0)), .int (nI L), .ref ms, .int 2, .ref mt, .ref mp, .ref mx, .ref my, .ref mw, .ref mh, .int 1, .ref ml, .ref mn, .ref mk, .ref mq, .ref mm])), (mt, aD k 9600 T2), (mp, aD k 8000 P), (mx, aI k 6 (fun j => nI (X j))), (my, aI k 6 (fun j => nI (Y j))), (mw, aI k 6 (fun j => nI (Wi j))), (mh, aI k 6 (fun j => nI (Hi j))), (ms, aD k 1600 S2), (ml, aD k 40 f2), (mn, aD k 40 g2)] ∧ (∀ i, i < Wi 0 * Hi 0 → S2 i = (mUp mjoinR X Y Wi Hi P L (fun i => T (1600 * L + i)) L) i) ∧ (∀ i, i < Wi L * Hi L → T2 (1600 * L + i) = T (1600 * L + i)))) args s 0 0 A) (F0 m 73 ls []) := by
          intro fu
          induction fu with
          | zero => intro kk H locs ls hfu; exact absurd hfu (Nat.not_lt_zero _)
          | succ fu ih_L73 =>
            intro kk H locs ls hfu_L73 hkb hw hl
            refine lv_iload_n hx hb d_Md_back_73 rfl (lv_at hl 0 rfl) ?_
            refine lv_aload_n hx hb d_Md_back_74 rfl (lv_at hl 2 rfl) ?_
            refine r_get hC hw ck_Md 0 rfl 1 (by decide) k_781 rfl rfl d_Md_back_75 ?_
            refine lv_aload_n hx hb d_Md_back_78 rfl (lv_at hl 2 rfl) ?_
            refine r_get hC hw ck_Md 0 rfl 2 (by decide) k_782 rfl rfl d_Md_back_79 ?_
            refine lv_imul hx hb d_Md_back_82 ?_
            refine r_topi (y := nI (Wi 0 * Hi 0)) (pk_mul _ _) ?_
            refine lv_icmp_ge (tgt := 128) hx hb d_Md_back_83 (by decide) (fun hc83 => ?_) (fun hc83 => ?_)
            · have hkn : kk = Wi 0 * Hi 0 := by have := (nI_leI (by omega) (by omega)).mp hc83; omega
              refine lv_iload_n hx hb d_Md_back_128 rfl (lv_at hl 1 rfl) ?_
              refine r_topi (y := nI (sumTo (fun j => neN (S j) ((mUp mjoinR X Y Wi Hi P L (fun i => T (1600 * L + i)) L) j)) (Wi 0 * Hi 0))) (by rw [hkn]) ?_
              exact ew_i (w1 := [(m0, .inr (8, [.int 0, .int (nI (Wi 0)), .int (nI (Hi 0)), .int (nI L), .ref ms, .int 2, .ref mt, .ref mp, .ref mx, .ref my, .ref mw, .ref mh, .int 1, .ref ml, .ref mn, .ref mk, .ref mq, .ref mm])), (mt, aD k 9600 T3), (mp, aD k 8000 P), (mx, aI k 6 (fun j => nI (X j))), (my, aI k 6 (fun j => nI (Y j))), (mw, aI k 6 (fun j => nI (Wi j))), (mh, aI k 6 (fun j => nI (Hi j))), (ms, aD k 1600 (upTo (mUp mjoinR X Y Wi Hi P L (fun i => T (1600 * L + i)) L) S kk)), (ml, aD k 40 ff), (mn, aD k 40 gg)]) hC hw [0, 1, 2, 3, 4, 5, 6, 7, 8, 9] rfl rfl ⟨rfl, _, _, _, _, rfl, fun i hi => upTo_lt (by omega), hLa⟩ d_Md_back_129
            · have hkn : kk < Wi 0 * Hi 0 := le_nI hc83 (by omega) (by omega)
              refine lv_iload_n hx hb d_Md_back_86 rfl (lv_at hl 1 rfl) ?_
              refine lv_aload_n hx hb d_Md_back_87 rfl (lv_at hl 2 rfl) ?_
              refine r_get hC hw ck_Md 0 rfl 4 (by decide) k_784 rfl rfl d_Md_back_88 ?_
              refine lv_iload_n hx hb d_Md_back_91 rfl (lv_at hl 0 rfl) ?_
              refine r_dald hC hw 7 rfl kk rfl (by omega) (by omega) d_Md_back_92 ?_
              refine r_topd (y := S kk) (upTo_ge (by omega)) ?_
              refine lv_aload_n hx hb d_Md_back_93 rfl (lv_at hl 2 rfl) ?_
              refine r_get hC hw ck_Md 0 rfl 6 (by decide) k_786 rfl rfl d_Md_back_94 ?_
              refine lv_iload_n hx hb d_Md_back_97 rfl (lv_at hl 0 rfl) ?_
              refine r_dald hC hw 1 rfl kk rfl (by omega) (by omega) d_Md_back_98 ?_
              refine r_topd (y := (mUp mjoinR X Y Wi Hi P L (fun i => T (1600 * L + i)) L) kk) (hV kk hkn) ?_
              refine lv_dcmp hx hb d_Md_back_99 ?_
              refine lv_if_eq (tgt := 107) hx hb d_Md_back_100 (by decide) (fun hc100 => ?_) (fun hc100 => ?_)
              · refine lv_iconst (v := 0) hx hb d_Md_back_107 (by decide) ?_
                refine lv_iadd hx hb d_Md_back_108 ?_
                refine r_topi (y := nI (sumTo (fun j => neN (S j) ((mUp mjoinR X Y Wi Hi P L (fun i => T (1600 * L + i)) L) j)) (kk + 1))) (by show _ = nI (sumTo _ kk + neN (S kk) ((mUp mjoinR X Y Wi Hi P L (fun i => T (1600 * L + i)) L) kk)); rw [ne_0 hc100]; exact nI_add _ 0) ?_
                refine lv_istore_n (lv' := [(2, .int (nI (sumTo (fun j => neN (S j) ((mUp mjoinR X Y Wi Hi P L (fun i => T (1600 * L + i)) L) j)) (kk + 1)))), (3, .int (nI kk)), (0, .ref m0), (1, .int 0)]) hx hb d_Md_back_109 rfl hl (by decide) rfl (fun ls hl => ?_)
                refine lv_aload_n hx hb d_Md_back_110 rfl (lv_at hl 2 rfl) ?_
                refine r_get hC hw ck_Md 0 rfl 4 (by decide) k_784 rfl rfl d_Md_back_111 ?_
                refine lv_iload_n hx hb d_Md_back_114 rfl (lv_at hl 1 rfl) ?_
                refine lv_aload_n hx hb d_Md_back_115 rfl (lv_at hl 2 rfl) ?_
                refine r_get hC hw ck_Md 0 rfl 6 (by decide) k_786 rfl rfl d_Md_back_116 ?_
                refine lv_iload_n hx hb d_Md_back_119 rfl (lv_at hl 1 rfl) ?_
                refine r_dald hC hw 1 rfl kk rfl (by omega) (by omega) d_Md_back_120 ?_
                refine r_topd (y := (mUp mjoinR X Y Wi Hi P L (fun i => T (1600 * L + i)) L) kk) (hV kk hkn) ?_
                refine r_dast hC hw 7 rfl kk rfl (by omega) (by omega) d_Md_back_121 (fun H locs hw => ?_)
                have hw : Wd D _ _ [(m0, .inr (8, [.int 0, .int (nI (Wi 0)), .int (nI (Hi 0)), .int (nI L), .ref ms, .int 2, .ref mt, .ref mp, .ref mx, .ref my, .ref mw, .ref mh, .int 1, .ref ml, .ref mn, .ref mk, .ref mq, .ref mm])), (mt, aD k 9600 T3), (mp, aD k 8000 P), (mx, aI k 6 (fun j => nI (X j))), (my, aI k 6 (fun j => nI (Y j))), (mw, aI k 6 (fun j => nI (Wi j))), (mh, aI k 6 (fun j => nI (Hi j))), (ms, aD k 1600 (upTo (mUp mjoinR X Y Wi Hi P L (fun i => T (1600 * L + i)) L) S (kk + 1))), (ml, aD k 40 ff), (mn, aD k 40 gg)] H locs := hw.cast (by rw [← upTo_step (g := (mUp mjoinR X Y Wi Hi P L (fun i => T (1600 * L + i)) L)) (f := S) (kk := kk) rfl]; rfl)
                refine lv_iinc (v := nI (kk + 1)) (lv' := [(3, .int (nI (kk + 1))), (2, .int (nI (sumTo (fun j => neN (S j) ((mUp mjoinR X Y Wi Hi P L (fun i => T (1600 * L + i)) L) j)) (kk + 1)))), (0, .ref m0), (1, .int 0)]) hx hb d_Md_back_122 hl (k := 1) rfl (nI_add kk 1) (by decide) rfl (fun ls hl => ?_)
                refine lv_goto (tgt := 73) hx hb d_Md_back_125 (by decide) ?_
                exact ih_L73 (kk + 1) _ _ _ (by omega) (by omega) hw (lv_sub hl [0, 1, 2, 3] rfl)
              · refine lv_iconst (v := 1) hx hb d_Md_back_103 (by decide) ?_
                refine lv_goto (tgt := 108) hx hb d_Md_back_104 (by decide) ?_
                refine lv_iadd hx hb d_Md_back_108 ?_
                refine r_topi (y := nI (sumTo (fun j => neN (S j) ((mUp mjoinR X Y Wi Hi P L (fun i => T (1600 * L + i)) L) j)) (kk + 1))) (by show _ = nI (sumTo _ kk + neN (S kk) ((mUp mjoinR X Y Wi Hi P L (fun i => T (1600 * L + i)) L) kk)); rw [ne_1 hc100]; exact nI_add _ 1) ?_
                refine lv_istore_n (lv' := [(2, .int (nI (sumTo (fun j => neN (S j) ((mUp mjoinR X Y Wi Hi P L (fun i => T (1600 * L + i)) L) j)) (kk + 1)))), (3, .int (nI kk)), (0, .ref m0), (1, .int 0)]) hx hb d_Md_back_109 rfl hl (by decide) rfl (fun ls hl => ?_)
                refine lv_aload_n hx hb d_Md_back_110 rfl (lv_at hl 2 rfl) ?_
                refine r_get hC hw ck_Md 0 rfl 4 (by decide) k_784 rfl rfl d_Md_back_111 ?_
                refine lv_iload_n hx hb d_Md_back_114 rfl (lv_at hl 1 rfl) ?_
                refine lv_aload_n hx hb d_Md_back_115 rfl (lv_at hl 2 rfl) ?_
                refine r_get hC hw ck_Md 0 rfl 6 (by decide) k_786 rfl rfl d_Md_back_116 ?_
                refine lv_iload_n hx hb d_Md_back_119 rfl (lv_at hl 1 rfl) ?_
                refine r_dald hC hw 1 rfl kk rfl (by omega) (by omega) d_Md_back_120 ?_
                refine r_topd (y := (mUp mjoinR X Y Wi Hi P L (fun i => T (1600 * L + i)) L) kk) (hV kk hkn) ?_
                refine r_dast hC hw 7 rfl kk rfl (by omega) (by omega) d_Md_back_121 (fun H locs hw => ?_)
                have hw : Wd D _ _ [(m0, .inr (8, [.int 0, .int (nI (Wi 0)), .int (nI (Hi 0)), .int (nI L), .ref ms, .int 2, .ref mt, .ref mp, .ref mx, .ref my, .ref mw, .ref mh, .int 1, .ref ml, .ref mn, .ref mk, .ref mq, .ref mm])), (mt, aD k 9600 T3), (mp, aD k 8000 P), (mx, aI k 6 (fun j => nI (X j))), (my, aI k 6 (fun j => nI (Y j))), (mw, aI k 6 (fun j => nI (Wi j))), (mh, aI k 6 (fun j => nI (Hi j))), (ms, aD k 1600 (upTo (mUp mjoinR X Y Wi Hi P L (fun i => T (1600 * L + i)) L) S (kk + 1))), (ml, aD k 40 ff), (mn, aD k 40 gg)] H locs := hw.cast (by rw [← upTo_step (g := (mUp mjoinR X Y Wi Hi P L (fun i => T (1600 * L + i)) L)) (f := S) (kk := kk) rfl]; rfl)
                refine lv_iinc (v := nI (kk + 1)) (lv' := [(3, .int (nI (kk + 1))), (2, .int (nI (sumTo (fun j => neN (S j) ((mUp mjoinR X Y Wi Hi P L (fun i => T (1600 * L + i)) L) j)) (kk + 1)))), (0, .ref m0), (1, .int 0)]) hx hb d_Md_back_122 hl (k := 1) rfl (nI_add kk 1) (by decide) rfl (fun ls hl => ?_)
                refine lv_goto (tgt := 73) hx hb d_Md_back_125 (by decide) ?_
                exact ih_L73 (kk + 1) _ _ _ (by omega) (by omega) hw (lv_sub hl [0, 1, 2, 3] rfl)
        exact L73 (Wi 0 * Hi 0 + 1) 0 _ _ _ (by omega) (by omega) hw (lv_sub hl [0, 1, 2, 3] rfl)
      · have hdL : d < L := by have := pred_nn hc55; omega
        have hz : nI (L - d) - 1 = nI (L - (d + 1)) := by rw [show L - d = (L - (d + 1)) + 1 by omega]; exact nI_pred _
        have hl : lv_has ls 4 [(2, .int (nI (L - (d + 1)))), (0, .ref m0), (1, .int 0)] := by rw [← hz]; exact hl
        have e1 : L - (d + 1) + 1 = L - d := by omega
        have hbd : BD (K + 72 * d) (Wi (L - (d + 1) + 1) * Hi (L - (d + 1) + 1)) (fun i => T3 (1600 * (L - (d + 1) + 1) + i)) := by rw [e1]; exact fun i hi => by show bd _ (T3 (1600 * (L - d) + i)); rw [hU i hi]; exact hub d (by omega) i hi
        refine lv_aload_n hx hb d_Md_back_58 rfl (lv_at hl 1 rfl) ?_
        refine lv_iload_n hx hb d_Md_back_59 rfl (lv_at hl 0 rfl) ?_
        refine r_w hw [0, 1, 2, 3, 4, 5, 6, 8, 9] rfl rfl (rn_V (b := m0) (As := [.int (nI (L - (d + 1)))]) (rest := []) (C := "LiftBandsModel") hC (c_Md_jtR l D k _ m0 ms mt mp mx my mw mh ml mn mk mq mm 0 (nI (Wi 0)) (nI (Hi 0)) (nI L) 2 T3 P ff gg X Y Wi Hi hG (L - (d + 1)) (by omega) (K + 72 * d) (by omega) (by omega) (fun i hi => (hPb _ (by omega) i hi).mono (by omega)) hbd) mk_Md_joinTile k_896 kp_22 k_894 ⟨rfl, rfl, (Nat.le_of_ble_eq_true rfl), (Nat.le_of_ble_eq_true rfl)⟩ (r_recv hC hw ck_Md 0 rfl) rfl hl.1 rfl (Nat.le_of_ble_eq_true rfl) d_Md_back_60 ⟨(Nat.le_of_ble_eq_true rfl), (Nat.le_of_ble_eq_true rfl)⟩ (Pw.pre hC.2.2.2.2.2.1 hw [0, 1, 2, 3, 4, 5, 6, 8, 9] rfl rfl)) (fun v w1 hp_ H locs hw1 => ?_)
        obtain ⟨rfl, T4, f4, g4, rfl, a1, a2⟩ := hp_
        have hw := hw1 [(m0, .inr (8, [.int 0, .int (nI (Wi 0)), .int (nI (Hi 0)), .int (nI L), .ref ms, .int 2, .ref mt, .ref mp, .ref mx, .ref my, .ref mw, .ref mh, .int 1, .ref ml, .ref mn, .ref mk, .ref mq, .ref mm])), (mt, aD k 9600 T4), (mp, aD k 8000 P), (mx, aI k 6 (fun j => nI (X j))), (my, aI k 6 (fun j => nI (Y j))), (mw, aI k 6 (fun j => nI (Wi j))), (mh, aI k 6 (fun j => nI (Hi j))), (ml, aD k 40 f4), (mn, aD k 40 g4)] [] rfl (by simp only [List.map_cons, List.map_nil])
        have hw : Wd D _ _ [(m0, .inr (8, [.int 0, .int (nI (Wi 0)), .int (nI (Hi 0)), .int (nI L), .ref ms, .int 2, .ref mt, .ref mp, .ref mx, .ref my, .ref mw, .ref mh, .int 1, .ref ml, .ref mn, .ref mk, .ref mq, .ref mm])), (mt, aD k 9600 T4), (mp, aD k 8000 P), (mx, aI k 6 (fun j => nI (X j))), (my, aI k 6 (fun j => nI (Y j))), (mw, aI k 6 (fun j => nI (Wi j))), (mh, aI k 6 (fun j => nI (Hi j))), (ms, aD k 1600 S), (ml, aD k 40 f4), (mn, aD k 40 g4)] _ _ := hw
        refine W.eq (g2 := F0 m 63 ls []) rfl ?_
        refine lv_iinc (v := nI (L - (d + 1)) - 1) (lv' := [(2, .int (nI (L - (d + 1)) - 1)), (0, .ref m0), (1, .int 0)]) hx hb d_Md_back_63 hl (k := 0) rfl (by rw [Int32.sub_eq_add_neg]; rfl) (by decide) rfl (fun ls hl => ?_)
        refine lv_goto (tgt := 54) hx hb d_Md_back_66 (by decide) ?_
        exact ih_L54 (d + 1) T4 f4 g4 _ _ _ (by omega) (by omega) (fun i hi => (a1 i hi).trans (mJt_congr (fun _ _ => mjoinR_loc) (fun _ _ => rfl) (fun i hi => by have h1 := hU i; rw [← e1, hG.ew _ (by omega), hG.eh _ (by omega)] at h1; exact h1 hi) i hi)) (fun i hi => (a2 _ (Or.inr (by have := hG.a (j := L - (d + 1)) (by omega); omega))).trans (hLa i hi)) hw (lv_sub hl [0, 1, 2] rfl)
  exact L54 (L + 1) 0 T f g _ _ _ (by omega) (by omega) (fun i _ => rfl) (fun i _ => rfl) hw (lv_sub hl [0, 1, 2] rfl)
abbrev rm_Md_bckW : Room := { frames := 6, cells := 0, slots := 0, locals := 202 }
set_option maxHeartbeats 4000000 in
set_option maxRecDepth 100000 in
/-- Model.back -/
theorem c_Md_bckW (l : Launch) (D : va_G) (k : Nat → ClassId) (sz : Nat) (m0 ms mt mp mx my mw mh ml mn mk mq mm : Nat) (vcode vre : Int32) (T P S f g : Nat → UInt64) (X Y Wi Hi : Nat → Nat) (hG : Geo X Y Wi Hi) (L : Nat) (hL : L ≤ 5) (K : Nat) (hK : K ≤ 200) (hK2 : 70 ≤ K) (hPb : ∀ j, j < L → BD K (Wi j * Hi j) (fun i => P (1600 * j + i))) (hTb : BD K (Wi L * Hi L) (fun i => T (1600 * L + i))) : Met l y_Md_back (Cond.code y_Md_back b_Md_back 4 (some .int) :: lw_g) rm_Md_bckW (Pw D k [(m0, .inr (8, [.int vcode, .int (nI (Wi 0)), .int (nI (Hi 0)), .int (nI L), .ref ms, .int 1, .ref mt, .ref mp, .ref mx, .ref my, .ref mw, .ref mh, .int vre, .ref ml, .ref mn, .ref mk, .ref mq, .ref mm])), (mt, aD k 9600 T), (mp, aD k 8000 P), (mx, aI k 6 (fun j => nI (X j))), (my, aI k 6 (fun j => nI (Y j))), (mw, aI k 6 (fun j => nI (Wi j))), (mh, aI k 6 (fun j => nI (Hi j))), (ms, aD k 1600 S), (ml, aD k 40 f), (mn, aD k 40 g)] sz [.ref m0, .int 1]) (Qw D (va_A [(m0, .inr (8, [.int vcode, .int (nI (Wi 0)), .int (nI (Hi 0)), .int (nI L), .ref ms, .int 1, .ref mt, .ref mp, .ref mx, .ref my, .ref mw, .ref mh, .int vre, .ref ml, .ref mn, .ref mk, .ref mq, .ref mm])), (mt, aD k 9600 T), (mp, aD k 8000 P), (mx, aI k 6 (fun j => nI (X j))), (my, aI k 6 (fun j => nI (Y j))), (mw, aI k 6 (fun j => nI (Wi j))), (mh, aI k 6 (fun j => nI (Hi j))), (ms, aD k 1600 S), (ml, aD k 40 f), (mn, aD k 40 g)] sz) (fun v w1 => v = some (.int (nI (sumTo (fun j => neN (S j) ((mUp mjoinW X Y Wi Hi P L (fun i => T (1600 * L + i)) L) j)) (Wi 0 * Hi 0)))) ∧ ∃ T2 S2 f2 g2 : Nat → UInt64, w1 = [(m0, .inr (8, [.int 0, .int (nI (Wi 0)), .int (nI (Hi 0)), .int (nI L), .ref ms, .int 1, .ref mt, .ref mp, .ref mx, .ref my, .ref mw, .ref mh, .int 0, .ref ml, .ref mn, .ref mk, .ref mq, .ref mm])), (mt, aD k 9600 T2), (mp, aD k 8000 P), (mx, aI k 6 (fun j => nI (X j))), (my, aI k 6 (fun j => nI (Y j))), (mw, aI k 6 (fun j => nI (Wi j))), (mh, aI k 6 (fun j => nI (Hi j))), (ms, aD k 1600 S2), (ml, aD k 40 f2), (mn, aD k 40 g2)] ∧ (∀ i, i < Wi 0 * Hi 0 → S2 i = (mUp mjoinW X Y Wi Hi P L (fun i => T (1600 * L + i)) L) i) ∧ (∀ i, i < Wi L * Hi L → T2 (1600 * L + i) = T (1600 * L + i)))) 0 0 (va_A [(m0, .inr (8, [.int vcode, .int (nI (Wi 0)), .int (nI (Hi 0)), .int (nI L), .ref ms, .int 1, .ref mt, .ref mp, .ref mx, .ref my, .ref mw, .ref mh, .int vre, .ref ml, .ref mn, .ref mk, .ref mq, .ref mm])), (mt, aD k 9600 T), (mp, aD k 8000 P), (mx, aI k 6 (fun j => nI (X j))), (my, aI k 6 (fun j => nI (Y j))), (mw, aI k 6 (fun j => nI (Wi j))), (mh, aI k 6 (fun j => nI (Hi j))), (ms, aD k 1600 S), (ml, aD k 40 f), (mn, aD k 40 g)] sz) := by
  refine met_of (by decide +kernel) ?_
  intro p e s m below meth c hC hsz hw hin
  subst hsz
  have hC : Cx D k p s m _ meth c "LiftBandsModel" b_Md_back 4 (some .int) := hC
  have hx := hC.1
  have hb := hC.2.1
  refine r_ent (Nat.le_of_ble_eq_true rfl) rfl (fun ls hl => ?_)
  have hl : lv_has ls 4 [(0, .ref m0), (1, .int 1)] := hl
  have hw : Wd D (va_A [(m0, .inr (8, [.int vcode, .int (nI (Wi 0)), .int (nI (Hi 0)), .int (nI L), .ref ms, .int 1, .ref mt, .ref mp, .ref mx, .ref my, .ref mw, .ref mh, .int vre, .ref ml, .ref mn, .ref mk, .ref mq, .ref mm])), (mt, aD k 9600 T), (mp, aD k 8000 P), (mx, aI k 6 (fun j => nI (X j))), (my, aI k 6 (fun j => nI (Y j))), (mw, aI k 6 (fun j => nI (Wi j))), (mh, aI k 6 (fun j => nI (Hi j))), (ms, aD k 1600 S), (ml, aD k 40 f), (mn, aD k 40 g)] s.heap.size) s.heap [(m0, .inr (8, [.int vcode, .int (nI (Wi 0)), .int (nI (Hi 0)), .int (nI L), .ref ms, .int 1, .ref mt, .ref mp, .ref mx, .ref my, .ref mw, .ref mh, .int vre, .ref ml, .ref mn, .ref mk, .ref mq, .ref mm])), (mt, aD k 9600 T), (mp, aD k 8000 P), (mx, aI k 6 (fun j => nI (X j))), (my, aI k 6 (fun j => nI (Y j))), (mw, aI k 6 (fun j => nI (Wi j))), (mh, aI k 6 (fun j => nI (Hi j))), (ms, aD k 1600 S), (ml, aD k 40 f), (mn, aD k 40 g)] s.heap [] := hw
  generalize va_A [(m0, .inr (8, [.int vcode, .int (nI (Wi 0)), .int (nI (Hi 0)), .int (nI L), .ref ms, .int 1, .ref mt, .ref mp, .ref mx, .ref my, .ref mw, .ref mh, .int vre, .ref ml, .ref mn, .ref mk, .ref mq, .ref mm])), (mt, aD k 9600 T), (mp, aD k 8000 P), (mx, aI k 6 (fun j => nI (X j))), (my, aI k 6 (fun j => nI (Y j))), (mw, aI k 6 (fun j => nI (Wi j))), (mh, aI k 6 (fun j => nI (Hi j))), (ms, aD k 1600 S), (ml, aD k 40 f), (mn, aD k 40 g)] s.heap.size = A at hw ⊢
  generalize ([.ref m0, .int 1] : List Value).toArray = args at hC ⊢
  have ha0 := hG.a (j := 0) (by omega)
  have hob : OpBd mjoinW := fun _ _ _ _ a b c => mjoinW_bd a b c
  have hub := mUp_bd hob hG hL hK hK2 hPb hTb
  refine lv_aload_n hx hb d_Md_back_0 rfl (lv_at hl 0 rfl) ?_
  refine lv_aload_n hx hb d_Md_back_1 rfl (lv_at hl 0 rfl) ?_
  refine r_get hC hw ck_Md 0 rfl 5 (by decide) k_785 rfl rfl d_Md_back_2 ?_
  refine lv_iload_n hx hb d_Md_back_5 rfl (lv_at hl 1 rfl) ?_
  refine lv_if_eq (tgt := 13) hx hb d_Md_back_6 (by decide) (fun hc6 => absurd hc6 (by decide)) (fun hc6 => ?_)
  refine lv_iconst (v := 1) hx hb d_Md_back_9 (by decide) ?_
  refine lv_goto (tgt := 14) hx hb d_Md_back_10 (by decide) ?_
  refine lv_icmp_ne (tgt := 21) hx hb d_Md_back_14 (by decide) (fun hc14 => absurd hc14 (by decide)) (fun hc14 => ?_)
  refine lv_iconst (v := 0) hx hb d_Md_back_17 (by decide) ?_
  refine lv_goto (tgt := 22) hx hb d_Md_back_18 (by decide) ?_
  refine r_put hC hw ck_Md 0 rfl 0 (by decide) k_780 rfl rfl rfl rfl (Nat.le_of_ble_eq_true rfl) d_Md_back_22 (fun H locs hw => ?_)
  have hw : Wd D _ _ [(m0, .inr (8, [.int 0, .int (nI (Wi 0)), .int (nI (Hi 0)), .int (nI L), .ref ms, .int 1, .ref mt, .ref mp, .ref mx, .ref my, .ref mw, .ref mh, .int vre, .ref ml, .ref mn, .ref mk, .ref mq, .ref mm])), (mt, aD k 9600 T), (mp, aD k 8000 P), (mx, aI k 6 (fun j => nI (X j))), (my, aI k 6 (fun j => nI (Y j))), (mw, aI k 6 (fun j => nI (Wi j))), (mh, aI k 6 (fun j => nI (Hi j))), (ms, aD k 1600 S), (ml, aD k 40 f), (mn, aD k 40 g)] _ _ := hw
  refine lv_aload_n hx hb d_Md_back_25 rfl (lv_at hl 0 rfl) ?_
  refine r_get hC hw ck_Md 0 rfl 0 (by decide) k_780 rfl rfl d_Md_back_26 ?_
  refine lv_if_le (tgt := 34) hx hb d_Md_back_29 (by decide) (fun hc29 => ?_) (fun hc29 => absurd (by decide) hc29)
  refine lv_aload_n hx hb d_Md_back_34 rfl (lv_at hl 0 rfl) ?_
  refine lv_iload_n hx hb d_Md_back_35 rfl (lv_at hl 1 rfl) ?_
  refine lv_if_ne (tgt := 43) hx hb d_Md_back_36 (by decide) (fun hc36 => ?_) (fun hc36 => absurd hc36 (by decide))
  refine lv_iconst (v := 0) hx hb d_Md_back_43 (by decide) ?_
  refine r_put hC hw ck_Md 0 rfl 12 (by decide) k_792 rfl rfl rfl rfl (Nat.le_of_ble_eq_true rfl) d_Md_back_44 (fun H locs hw => ?_)
  have hw : Wd D _ _ [(m0, .inr (8, [.int 0, .int (nI (Wi 0)), .int (nI (Hi 0)), .int (nI L), .ref ms, .int 1, .ref mt, .ref mp, .ref mx, .ref my, .ref mw, .ref mh, .int 0, .ref ml, .ref mn, .ref mk, .ref mq, .ref mm])), (mt, aD k 9600 T), (mp, aD k 8000 P), (mx, aI k 6 (fun j => nI (X j))), (my, aI k 6 (fun j => nI (Y j))), (mw, aI k 6 (fun j => nI (Wi j))), (mh, aI k 6 (fun j => nI (Hi j))), (ms, aD k 1600 S), (ml, aD k 40 f), (mn, aD k 40 g)] _ _ := hw
  refine lv_aload_n hx hb d_Md_back_47 rfl (lv_at hl 0 rfl) ?_
  refine r_get hC hw ck_Md 0 rfl 3 (by decide) k_783 rfl rfl d_Md_back_48 ?_
  refine lv_iconst (v := 1) hx hb d_Md_back_51 (by decide) ?_
  refine lv_isub hx hb d_Md_back_52 ?_
  refine lv_istore_n (lv' := [(2, .int ((nI L) - 1)), (0, .ref m0), (1, .int 1)]) hx hb d_Md_back_53 rfl hl (by decide) rfl (fun ls hl => ?_)
  have hl : lv_has ls 4 [(2, .int (nI (L - 0) - 1)), (0, .ref m0), (1, .int 1)] := hl
  have L54 : ∀ (fu : Nat) (d : Nat) (T3 : Nat → UInt64) (ff : Nat → UInt64) (gg : Nat → UInt64) (H : Heap) (locs : List Loc) (ls : Array Slot), L - d < fu → d ≤ L → (∀ i, i < Wi (L - d) * Hi (L - d) → T3 (1600 * (L - d) + i) = mUp mjoinW X Y Wi Hi P L (fun i => T (1600 * L + i)) d i) → (∀ i, i < Wi L * Hi L → T3 (1600 * L + i) = T (1600 * L + i)) → Wd D A s.heap [(m0, .inr (8, [.int 0, .int (nI (Wi 0)), .int (nI (Hi 0)), .int (nI L), .ref ms, .int 1, .ref mt, .ref mp, .ref mx, .ref my, .ref mw, .ref mh, .int 0, .ref ml, .ref mn, .ref mk, .ref mq, .ref mm])), (mt, aD k 9600 T3), (mp, aD k 8000 P), (mx, aI k 6 (fun j => nI (X j))), (my, aI k 6 (fun j => nI (Y j))), (mw, aI k 6 (fun j => nI (Wi j))), (mh, aI k 6 (fun j => nI (Hi j))), (ms, aD k 1600 S), (ml, aD k 40 ff), (mn, aD k 40 gg)] H locs → lv_has ls 4 [(2, .int (nI (L - d) - 1)), (0, .ref m0), (1, .int 1)] → W p l e rm_Md_bckW s m args below meth c H locs 0 0 (MQ below (Qw D A (fun v w1 => v = some (.int (nI (sumTo (fun j => neN (S j) ((mUp mjoinW X Y Wi Hi P L (fun i => T (1600 * L + i)) L) j)) (Wi 0 * Hi 0)))) ∧ ∃ T2 S2 f2 g2 : Nat → UInt64, w1 = [(m0, .inr (8, [.int 0, .int (nI (Wi 0)), .int (nI (Hi 0)), .int (nI L), .ref ms, .int 1, .ref mt, .ref mp, .ref mx, .ref my, .ref mw, .ref mh, .int 0, .ref ml, .ref mn, .ref mk, .ref mq, .ref mm])), (mt, aD k 9600 T2), (mp, aD k 8000 P), (mx, aI k 6 (fun j => nI (X j))), (my, aI k 6 (fun j => nI (Y j))), (mw, aI k 6 (fun j => nI (Wi j))), (mh, aI k 6 (fun j => nI (Hi j))), (ms, aD k 1600 S2), (ml, aD k 40 f2), (mn, aD k 40 g2)] ∧ (∀ i, i < Wi 0 * Hi 0 → S2 i = (mUp mjoinW X Y Wi Hi P L (fun i => T (1600 * L + i)) L) i) ∧ (∀ i, i < Wi L * Hi L → T2 (1600 * L + i) = T (1600 * L + i)))) args s 0 0 A) (F0 m 54 ls []) := by
    intro fu
    induction fu with
    | zero => intro d T3 ff gg H locs ls hfu; exact absurd hfu (Nat.not_lt_zero _)
    | succ fu ih_L54 =>
      intro d T3 ff gg H locs ls hfu_L54 hdb hU hLa hw hl
      refine lv_iload_n hx hb d_Md_back_54 rfl (lv_at hl 0 rfl) ?_
      refine lv_if_lt (tgt := 69) hx hb d_Md_back_55 (by decide) (fun hc55 => ?_) (fun hc55 => ?_)
      · have hd0 : d = L := by have := pred_neg hc55 (by omega); omega
        have hV : ∀ i, i < Wi 0 * Hi 0 → T3 i = (mUp mjoinW X Y Wi Hi P L (fun i => T (1600 * L + i)) L) i := by
          intro i hi
          have h1 := hU i
          rw [hd0, Nat.sub_self, Nat.mul_zero, Nat.zero_add] at h1
          exact h1 hi
        refine lv_iconst (v := 0) hx hb d_Md_back_69 (by decide) ?_
        refine lv_istore_n (lv' := [(2, .int 0), (0, .ref m0), (1, .int 1)]) hx hb d_Md_back_70 rfl hl (by decide) rfl (fun ls hl => ?_)
        refine lv_iconst (v := 0) hx hb d_Md_back_71 (by decide) ?_
        refine lv_istore_n (lv' := [(3, .int 0), (2, .int 0), (0, .ref m0), (1, .int 1)]) hx hb d_Md_back_72 rfl hl (by decide) rfl (fun ls hl => ?_)
        have hl : lv_has ls 4 [(3, .int (nI 0)), (2, .int (nI (sumTo (fun j => neN (S j) ((mUp mjoinW X Y Wi Hi P L (fun i => T (1600 * L + i)) L) j)) 0))), (0, .ref m0), (1, .int 1)] := lv_sub hl [0, 1, 2, 3] rfl
        have hw : Wd D _ _ [(m0, .inr (8, [.int 0, .int (nI (Wi 0)), .int (nI (Hi 0)), .int (nI L), .ref ms, .int 1, .ref mt, .ref mp, .ref mx, .ref my, .ref mw, .ref mh, .int 0, .ref ml, .ref mn, .ref mk, .ref mq, .ref mm])), (mt, aD k 9600 T3), (mp, aD k 8000 P), (mx, aI k 6 (fun j => nI (X j))), (my, aI k 6 (fun j => nI (Y j))), (mw, aI k 6 (fun j => nI (Wi j))), (mh, aI k 6 (fun j => nI (Hi j))), (ms, aD k 1600 (upTo (mUp mjoinW X Y Wi Hi P L (fun i => T (1600 * L + i)) L) S 0)), (ml, aD k 40 ff), (mn, aD k 40 gg)] _ _ := hw.cast (by rw [← upTo_0])
        have L73 : ∀ (fu : Nat) (kk : Nat) (H : Heap) (locs : List Loc) (ls : Array Slot), Wi 0 * Hi 0 - kk < fu → kk ≤ Wi 0 * Hi 0 → Wd D A s.heap [(m0, .inr (8, [.int 0, .int (nI (Wi 0)), .int (nI (Hi 0)), .int (nI L), .ref ms, .int 1, .ref mt, .ref mp, .ref mx, .ref my, .ref mw, .ref mh, .int 0, .ref ml, .ref mn, .ref mk, .ref mq, .ref mm])), (mt, aD k 9600 T3), (mp, aD k 8000 P), (mx, aI k 6 (fun j => nI (X j))), (my, aI k 6 (fun j => nI (Y j))), (mw, aI k 6 (fun j => nI (Wi j))), (mh, aI k 6 (fun j => nI (Hi j))), (ms, aD k 1600 (upTo (mUp mjoinW X Y Wi Hi P L (fun i => T (1600 * L + i)) L) S kk)), (ml, aD k 40 ff), (mn, aD k 40 gg)] H locs → lv_has ls 4 [(3, .int (nI kk)), (2, .int (nI (sumTo (fun j => neN (S j) ((mUp mjoinW X Y Wi Hi P L (fun i => T (1600 * L + i)) L) j)) kk))), (0, .ref m0), (1, .int 1)] → W p l e rm_Md_bckW s m args below meth c H locs 0 0 (MQ below (Qw D A (fun v w1 => v = some (.int (nI (sumTo (fun j => neN (S j) ((mUp mjoinW X Y Wi Hi P L (fun i => T (1600 * L + i)) L) j)) (Wi 0 * Hi 0)))) ∧ ∃ T2 S2 f2 g2 : Nat → UInt64, w1 = [(m0, .inr (8, [.int 0, .int (nI (Wi 0)), .int (nI (Hi 0)), .int (nI L), .ref ms, .int 1, .ref mt, .ref mp, .ref mx, .ref my, .ref mw, .ref mh, .int 0, .ref ml, .ref mn, .ref mk, .ref mq, .ref mm])), (mt, aD k 9600 T2), (mp, aD k 8000 P), (mx, aI k 6 (fun j => nI (X j))), (my, aI k 6 (fun j => nI (Y j))), (mw, aI k 6 (fun j => nI (Wi j))), (mh, aI k 6 (fun j => nI (Hi j))), (ms, aD k 1600 S2), (ml, aD k 40 f2), (mn, aD k 40 g2)] ∧ (∀ i, i < Wi 0 * Hi 0 → S2 i = (mUp mjoinW X Y Wi Hi P L (fun i => T (1600 * L + i)) L) i) ∧ (∀ i, i < Wi L * Hi L → T2 (1600 * L + i) = T (1600 * L + i)))) args s 0 0 A) (F0 m 73 ls []) := by
          intro fu
          induction fu with
          | zero => intro kk H locs ls hfu; exact absurd hfu (Nat.not_lt_zero _)
          | succ fu ih_L73 =>
            intro kk H locs ls hfu_L73 hkb hw hl
            refine lv_iload_n hx hb d_Md_back_73 rfl (lv_at hl 0 rfl) ?_
            refine lv_aload_n hx hb d_Md_back_74 rfl (lv_at hl 2 rfl) ?_
            refine r_get hC hw ck_Md 0 rfl 1 (by decide) k_781 rfl rfl d_Md_back_75 ?_
            refine lv_aload_n hx hb d_Md_back_78 rfl (lv_at hl 2 rfl) ?_
            refine r_get hC hw ck_Md 0 rfl 2 (by decide) k_782 rfl rfl d_Md_back_79 ?_
            refine lv_imul hx hb d_Md_back_82 ?_
            refine r_topi (y := nI (Wi 0 * Hi 0)) (pk_mul _ _) ?_
            refine lv_icmp_ge (tgt := 128) hx hb d_Md_back_83 (by decide) (fun hc83 => ?_) (fun hc83 => ?_)
            · have hkn : kk = Wi 0 * Hi 0 := by have := (nI_leI (by omega) (by omega)).mp hc83; omega
              refine lv_iload_n hx hb d_Md_back_128 rfl (lv_at hl 1 rfl) ?_
              refine r_topi (y := nI (sumTo (fun j => neN (S j) ((mUp mjoinW X Y Wi Hi P L (fun i => T (1600 * L + i)) L) j)) (Wi 0 * Hi 0))) (by rw [hkn]) ?_
              exact ew_i (w1 := [(m0, .inr (8, [.int 0, .int (nI (Wi 0)), .int (nI (Hi 0)), .int (nI L), .ref ms, .int 1, .ref mt, .ref mp, .ref mx, .ref my, .ref mw, .ref mh, .int 0, .ref ml, .ref mn, .ref mk, .ref mq, .ref mm])), (mt, aD k 9600 T3), (mp, aD k 8000 P), (mx, aI k 6 (fun j => nI (X j))), (my, aI k 6 (fun j => nI (Y j))), (mw, aI k 6 (fun j => nI (Wi j))), (mh, aI k 6 (fun j => nI (Hi j))), (ms, aD k 1600 (upTo (mUp mjoinW X Y Wi Hi P L (fun i => T (1600 * L + i)) L) S kk)), (ml, aD k 40 ff), (mn, aD k 40 gg)]) hC hw [0, 1, 2, 3, 4, 5, 6, 7, 8, 9] rfl rfl ⟨rfl, _, _, _, _, rfl, fun i hi => upTo_lt (by omega), hLa⟩ d_Md_back_129
            · have hkn : kk < Wi 0 * Hi 0 := le_nI hc83 (by omega) (by omega)
              refine lv_iload_n hx hb d_Md_back_86 rfl (lv_at hl 1 rfl) ?_
              refine lv_aload_n hx hb d_Md_back_87 rfl (lv_at hl 2 rfl) ?_
              refine r_get hC hw ck_Md 0 rfl 4 (by decide) k_784 rfl rfl d_Md_back_88 ?_
              refine lv_iload_n hx hb d_Md_back_91 rfl (lv_at hl 0 rfl) ?_
              refine r_dald hC hw 7 rfl kk rfl (by omega) (by omega) d_Md_back_92 ?_
              refine r_topd (y := S kk) (upTo_ge (by omega)) ?_
              refine lv_aload_n hx hb d_Md_back_93 rfl (lv_at hl 2 rfl) ?_
              refine r_get hC hw ck_Md 0 rfl 6 (by decide) k_786 rfl rfl d_Md_back_94 ?_
              refine lv_iload_n hx hb d_Md_back_97 rfl (lv_at hl 0 rfl) ?_
              refine r_dald hC hw 1 rfl kk rfl (by omega) (by omega) d_Md_back_98 ?_
              refine r_topd (y := (mUp mjoinW X Y Wi Hi P L (fun i => T (1600 * L + i)) L) kk) (hV kk hkn) ?_
              refine lv_dcmp hx hb d_Md_back_99 ?_
              refine lv_if_eq (tgt := 107) hx hb d_Md_back_100 (by decide) (fun hc100 => ?_) (fun hc100 => ?_)
              · refine lv_iconst (v := 0) hx hb d_Md_back_107 (by decide) ?_
                refine lv_iadd hx hb d_Md_back_108 ?_
                refine r_topi (y := nI (sumTo (fun j => neN (S j) ((mUp mjoinW X Y Wi Hi P L (fun i => T (1600 * L + i)) L) j)) (kk + 1))) (by show _ = nI (sumTo _ kk + neN (S kk) ((mUp mjoinW X Y Wi Hi P L (fun i => T (1600 * L + i)) L) kk)); rw [ne_0 hc100]; exact nI_add _ 0) ?_
                refine lv_istore_n (lv' := [(2, .int (nI (sumTo (fun j => neN (S j) ((mUp mjoinW X Y Wi Hi P L (fun i => T (1600 * L + i)) L) j)) (kk + 1)))), (3, .int (nI kk)), (0, .ref m0), (1, .int 1)]) hx hb d_Md_back_109 rfl hl (by decide) rfl (fun ls hl => ?_)
                refine lv_aload_n hx hb d_Md_back_110 rfl (lv_at hl 2 rfl) ?_
                refine r_get hC hw ck_Md 0 rfl 4 (by decide) k_784 rfl rfl d_Md_back_111 ?_
                refine lv_iload_n hx hb d_Md_back_114 rfl (lv_at hl 1 rfl) ?_
                refine lv_aload_n hx hb d_Md_back_115 rfl (lv_at hl 2 rfl) ?_
                refine r_get hC hw ck_Md 0 rfl 6 (by decide) k_786 rfl rfl d_Md_back_116 ?_
                refine lv_iload_n hx hb d_Md_back_119 rfl (lv_at hl 1 rfl) ?_
                refine r_dald hC hw 1 rfl kk rfl (by omega) (by omega) d_Md_back_120 ?_
                refine r_topd (y := (mUp mjoinW X Y Wi Hi P L (fun i => T (1600 * L + i)) L) kk) (hV kk hkn) ?_
                refine r_dast hC hw 7 rfl kk rfl (by omega) (by omega) d_Md_back_121 (fun H locs hw => ?_)
                have hw : Wd D _ _ [(m0, .inr (8, [.int 0, .int (nI (Wi 0)), .int (nI (Hi 0)), .int (nI L), .ref ms, .int 1, .ref mt, .ref mp, .ref mx, .ref my, .ref mw, .ref mh, .int 0, .ref ml, .ref mn, .ref mk, .ref mq, .ref mm])), (mt, aD k 9600 T3), (mp, aD k 8000 P), (mx, aI k 6 (fun j => nI (X j))), (my, aI k 6 (fun j => nI (Y j))), (mw, aI k 6 (fun j => nI (Wi j))), (mh, aI k 6 (fun j => nI (Hi j))), (ms, aD k 1600 (upTo (mUp mjoinW X Y Wi Hi P L (fun i => T (1600 * L + i)) L) S (kk + 1))), (ml, aD k 40 ff), (mn, aD k 40 gg)] H locs := hw.cast (by rw [← upTo_step (g := (mUp mjoinW X Y Wi Hi P L (fun i => T (1600 * L + i)) L)) (f := S) (kk := kk) rfl]; rfl)
                refine lv_iinc (v := nI (kk + 1)) (lv' := [(3, .int (nI (kk + 1))), (2, .int (nI (sumTo (fun j => neN (S j) ((mUp mjoinW X Y Wi Hi P L (fun i => T (1600 * L + i)) L) j)) (kk + 1)))), (0, .ref m0), (1, .int 1)]) hx hb d_Md_back_122 hl (k := 1) rfl (nI_add kk 1) (by decide) rfl (fun ls hl => ?_)
                refine lv_goto (tgt := 73) hx hb d_Md_back_125 (by decide) ?_
                exact ih_L73 (kk + 1) _ _ _ (by omega) (by omega) hw (lv_sub hl [0, 1, 2, 3] rfl)
              · refine lv_iconst (v := 1) hx hb d_Md_back_103 (by decide) ?_
                refine lv_goto (tgt := 108) hx hb d_Md_back_104 (by decide) ?_
                refine lv_iadd hx hb d_Md_back_108 ?_
                refine r_topi (y := nI (sumTo (fun j => neN (S j) ((mUp mjoinW X Y Wi Hi P L (fun i => T (1600 * L + i)) L) j)) (kk + 1))) (by show _ = nI (sumTo _ kk + neN (S kk) ((mUp mjoinW X Y Wi Hi P L (fun i => T (1600 * L + i)) L) kk)); rw [ne_1 hc100]; exact nI_add _ 1) ?_
                refine lv_istore_n (lv' := [(2, .int (nI (sumTo (fun j => neN (S j) ((mUp mjoinW X Y Wi Hi P L (fun i => T (1600 * L + i)) L) j)) (kk + 1)))), (3, .int (nI kk)), (0, .ref m0), (1, .int 1)]) hx hb d_Md_back_109 rfl hl (by decide) rfl (fun ls hl => ?_)
                refine lv_aload_n hx hb d_Md_back_110 rfl (lv_at hl 2 rfl) ?_
                refine r_get hC hw ck_Md 0 rfl 4 (by decide) k_784 rfl rfl d_Md_back_111 ?_
                refine lv_iload_n hx hb d_Md_back_114 rfl (lv_at hl 1 rfl) ?_
                refine lv_aload_n hx hb d_Md_back_115 rfl (lv_at hl 2 rfl) ?_
                refine r_get hC hw ck_Md 0 rfl 6 (by decide) k_786 rfl rfl d_Md_back_116 ?_
                refine lv_iload_n hx hb d_Md_back_119 rfl (lv_at hl 1 rfl) ?_
                refine r_dald hC hw 1 rfl kk rfl (by omega) (by omega) d_Md_back_120 ?_
                refine r_topd (y := (mUp mjoinW X Y Wi Hi P L (fun i => T (1600 * L + i)) L) kk) (hV kk hkn) ?_
                refine r_dast hC hw 7 rfl kk rfl (by omega) (by omega) d_Md_back_121 (fun H locs hw => ?_)
                have hw : Wd D _ _ [(m0, .inr (8, [.int 0, .int (nI (Wi 0)), .int (nI (Hi 0)), .int (nI L), .ref ms, .int 1, .ref mt, .ref mp, .ref mx, .ref my, .ref mw, .ref mh, .int 0, .ref ml, .ref mn, .ref mk, .ref mq, .ref mm])), (mt, aD k 9600 T3), (mp, aD k 8000 P), (mx, aI k 6 (fun j => nI (X j))), (my, aI k 6 (fun j => nI (Y j))), (mw, aI k 6 (fun j => nI (Wi j))), (mh, aI k 6 (fun j => nI (Hi j))), (ms, aD k 1600 (upTo (mUp mjoinW X Y Wi Hi P L (fun i => T (1600 * L + i)) L) S (kk + 1))), (ml, aD k 40 ff), (mn, aD k 40 gg)] H locs := hw.cast (by rw [← upTo_step (g := (mUp mjoinW X Y Wi Hi P L (fun i => T (1600 * L + i)) L)) (f := S) (kk := kk) rfl]; rfl)
                refine lv_iinc (v := nI (kk + 1)) (lv' := [(3, .int (nI (kk + 1))), (2, .int (nI (sumTo (fun j => neN (S j) ((mUp mjoinW X Y Wi Hi P L (fun i => T (1600 * L + i)) L) j)) (kk + 1)))), (0, .ref m0), (1, .int 1)]) hx hb d_Md_back_122 hl (k := 1) rfl (nI_add kk 1) (by decide) rfl (fun ls hl => ?_)
                refine lv_goto (tgt := 73) hx hb d_Md_back_125 (by decide) ?_
                exact ih_L73 (kk + 1) _ _ _ (by omega) (by omega) hw (lv_sub hl [0, 1, 2, 3] rfl)
        exact L73 (Wi 0 * Hi 0 + 1) 0 _ _ _ (by omega) (by omega) hw (lv_sub hl [0, 1, 2, 3] rfl)
      · have hdL : d < L := by have := pred_nn hc55; omega
        have hz : nI (L - d) - 1 = nI (L - (d + 1)) := by rw [show L - d = (L - (d + 1)) + 1 by omega]; exact nI_pred _
        have hl : lv_has ls 4 [(2, .int (nI (L - (d + 1)))), (0, .ref m0), (1, .int 1)] := by rw [← hz]; exact hl
        have e1 : L - (d + 1) + 1 = L - d := by omega
        have hbd : BD (K + 72 * d) (Wi (L - (d + 1) + 1) * Hi (L - (d + 1) + 1)) (fun i => T3 (1600 * (L - (d + 1) + 1) + i)) := by rw [e1]; exact fun i hi => by show bd _ (T3 (1600 * (L - d) + i)); rw [hU i hi]; exact hub d (by omega) i hi
        refine lv_aload_n hx hb d_Md_back_58 rfl (lv_at hl 1 rfl) ?_
        refine lv_iload_n hx hb d_Md_back_59 rfl (lv_at hl 0 rfl) ?_
        refine r_w hw [0, 1, 2, 3, 4, 5, 6, 8, 9] rfl rfl (rn_V (b := m0) (As := [.int (nI (L - (d + 1)))]) (rest := []) (C := "LiftBandsModel") hC (c_Md_jtW l D k _ m0 ms mt mp mx my mw mh ml mn mk mq mm 0 (nI (Wi 0)) (nI (Hi 0)) (nI L) 1 T3 P ff gg X Y Wi Hi hG (L - (d + 1)) (by omega) (K + 72 * d) (by omega) (by omega) (fun i hi => (hPb _ (by omega) i hi).mono (by omega)) hbd) mk_Md_joinTile k_896 kp_22 k_894 ⟨rfl, rfl, (Nat.le_of_ble_eq_true rfl), (Nat.le_of_ble_eq_true rfl)⟩ (r_recv hC hw ck_Md 0 rfl) rfl hl.1 rfl (Nat.le_of_ble_eq_true rfl) d_Md_back_60 ⟨(Nat.le_of_ble_eq_true rfl), (Nat.le_of_ble_eq_true rfl)⟩ (Pw.pre hC.2.2.2.2.2.1 hw [0, 1, 2, 3, 4, 5, 6, 8, 9] rfl rfl)) (fun v w1 hp_ H locs hw1 => ?_)
        obtain ⟨rfl, T4, f4, g4, rfl, a1, a2⟩ := hp_
        have hw := hw1 [(m0, .inr (8, [.int 0, .int (nI (Wi 0)), .int (nI (Hi 0)), .int (nI L), .ref ms, .int 1, .ref mt, .ref mp, .ref mx, .ref my, .ref mw, .ref mh, .int 0, .ref ml, .ref mn, .ref mk, .ref mq, .ref mm])), (mt, aD k 9600 T4), (mp, aD k 8000 P), (mx, aI k 6 (fun j => nI (X j))), (my, aI k 6 (fun j => nI (Y j))), (mw, aI k 6 (fun j => nI (Wi j))), (mh, aI k 6 (fun j => nI (Hi j))), (ml, aD k 40 f4), (mn, aD k 40 g4)] [] rfl (by simp only [List.map_cons, List.map_nil])
        have hw : Wd D _ _ [(m0, .inr (8, [.int 0, .int (nI (Wi 0)), .int (nI (Hi 0)), .int (nI L), .ref ms, .int 1, .ref mt, .ref mp, .ref mx, .ref my, .ref mw, .ref mh, .int 0, .ref ml, .ref mn, .ref mk, .ref mq, .ref mm])), (mt, aD k 9600 T4), (mp, aD k 8000 P), (mx, aI k 6 (fun j => nI (X j))), (my, aI k 6 (fun j => nI (Y j))), (mw, aI k 6 (fun j => nI (Wi j))), (mh, aI k 6 (fun j => nI (Hi j))), (ms, aD k 1600 S), (ml, aD k 40 f4), (mn, aD k 40 g4)] _ _ := hw
        refine W.eq (g2 := F0 m 63 ls []) rfl ?_
        refine lv_iinc (v := nI (L - (d + 1)) - 1) (lv' := [(2, .int (nI (L - (d + 1)) - 1)), (0, .ref m0), (1, .int 1)]) hx hb d_Md_back_63 hl (k := 0) rfl (by rw [Int32.sub_eq_add_neg]; rfl) (by decide) rfl (fun ls hl => ?_)
        refine lv_goto (tgt := 54) hx hb d_Md_back_66 (by decide) ?_
        exact ih_L54 (d + 1) T4 f4 g4 _ _ _ (by omega) (by omega) (fun i hi => (a1 i hi).trans (mJt_congr (fun _ _ => mjoinW_loc) (fun _ _ => rfl) (fun i hi => by have h1 := hU i; rw [← e1, hG.ew _ (by omega), hG.eh _ (by omega)] at h1; exact h1 hi) i hi)) (fun i hi => (a2 _ (Or.inr (by have := hG.a (j := L - (d + 1)) (by omega); omega))).trans (hLa i hi)) hw (lv_sub hl [0, 1, 2] rfl)
  exact L54 (L + 1) 0 T f g _ _ _ (by omega) (by omega) (fun i _ => rfl) (fun i _ => rfl) hw (lv_sub hl [0, 1, 2] rfl)
abbrev rm_Md_bckE : Room := { frames := 0, cells := 0, slots := 0, locals := 0 }
set_option maxHeartbeats 4000000 in
set_option maxRecDepth 100000 in
/-- Model.back: no such bands -/
theorem c_Md_bckE (l : Launch) (D : va_G) (k : Nat → ClassId) (sz : Nat) (m0 ms mt mp mx my mw mh ml mn mk mq mm : Nat) (vcode vw vh vl vso vre : Int32) (bv : Int32) (hne : ¬ vso = if bv = 0 then 2 else 1) : Met l y_Md_back (Cond.code y_Md_back b_Md_back 4 (some .int) :: lw_g) rm_Md_bckE (Pw D k [(m0, .inr (8, [.int vcode, .int vw, .int vh, .int vl, .ref ms, .int vso, .ref mt, .ref mp, .ref mx, .ref my, .ref mw, .ref mh, .int vre, .ref ml, .ref mn, .ref mk, .ref mq, .ref mm]))] sz [.ref m0, .int bv]) (Qw D (va_A [(m0, .inr (8, [.int vcode, .int vw, .int vh, .int vl, .ref ms, .int vso, .ref mt, .ref mp, .ref mx, .ref my, .ref mw, .ref mh, .int vre, .ref ml, .ref mn, .ref mk, .ref mq, .ref mm]))] sz) (fun v w1 => v = some (.int 0) ∧ w1 = [(m0, .inr (8, [.int 1, .int vw, .int vh, .int vl, .ref ms, .int vso, .ref mt, .ref mp, .ref mx, .ref my, .ref mw, .ref mh, .int vre, .ref ml, .ref mn, .ref mk, .ref mq, .ref mm]))])) 0 0 (va_A [(m0, .inr (8, [.int vcode, .int vw, .int vh, .int vl, .ref ms, .int vso, .ref mt, .ref mp, .ref mx, .ref my, .ref mw, .ref mh, .int vre, .ref ml, .ref mn, .ref mk, .ref mq, .ref mm]))] sz) := by
  refine met_of (by decide +kernel) ?_
  intro p e s m below meth c hC hsz hw hin
  subst hsz
  have hC : Cx D k p s m _ meth c "LiftBandsModel" b_Md_back 4 (some .int) := hC
  have hx := hC.1
  have hb := hC.2.1
  refine r_ent (Nat.le_of_ble_eq_true rfl) rfl (fun ls hl => ?_)
  have hl : lv_has ls 4 [(0, .ref m0), (1, .int bv)] := hl
  have hw : Wd D (va_A [(m0, .inr (8, [.int vcode, .int vw, .int vh, .int vl, .ref ms, .int vso, .ref mt, .ref mp, .ref mx, .ref my, .ref mw, .ref mh, .int vre, .ref ml, .ref mn, .ref mk, .ref mq, .ref mm]))] s.heap.size) s.heap [(m0, .inr (8, [.int vcode, .int vw, .int vh, .int vl, .ref ms, .int vso, .ref mt, .ref mp, .ref mx, .ref my, .ref mw, .ref mh, .int vre, .ref ml, .ref mn, .ref mk, .ref mq, .ref mm]))] s.heap [] := hw
  generalize va_A [(m0, .inr (8, [.int vcode, .int vw, .int vh, .int vl, .ref ms, .int vso, .ref mt, .ref mp, .ref mx, .ref my, .ref mw, .ref mh, .int vre, .ref ml, .ref mn, .ref mk, .ref mq, .ref mm]))] s.heap.size = A at hw ⊢
  generalize ([.ref m0, .int bv] : List Value).toArray = args at hC ⊢
  refine lv_aload_n hx hb d_Md_back_0 rfl (lv_at hl 0 rfl) ?_
  refine lv_aload_n hx hb d_Md_back_1 rfl (lv_at hl 0 rfl) ?_
  refine r_get hC hw ck_Md 0 rfl 5 (by decide) k_785 rfl rfl d_Md_back_2 ?_
  refine lv_iload_n hx hb d_Md_back_5 rfl (lv_at hl 1 rfl) ?_
  refine lv_if_eq (tgt := 13) hx hb d_Md_back_6 (by decide) (fun hc6 => ?_) (fun hc6 => ?_)
  · refine lv_iconst (v := 2) hx hb d_Md_back_13 (by decide) ?_
    refine lv_icmp_ne (tgt := 21) hx hb d_Md_back_14 (by decide) (fun hc14 => ?_) (fun hc14 => absurd hc14 (by rw [if_pos hc6] at hne; exact hne))
    refine lv_iconst (v := 1) hx hb d_Md_back_21 (by decide) ?_
    refine r_put hC hw ck_Md 0 rfl 0 (by decide) k_780 rfl rfl rfl rfl (Nat.le_of_ble_eq_true rfl) d_Md_back_22 (fun H locs hw => ?_)
    have hw : Wd D _ _ [(m0, .inr (8, [.int 1, .int vw, .int vh, .int vl, .ref ms, .int vso, .ref mt, .ref mp, .ref mx, .ref my, .ref mw, .ref mh, .int vre, .ref ml, .ref mn, .ref mk, .ref mq, .ref mm]))] _ _ := hw
    refine lv_aload_n hx hb d_Md_back_25 rfl (lv_at hl 0 rfl) ?_
    refine r_get hC hw ck_Md 0 rfl 0 (by decide) k_780 rfl rfl d_Md_back_26 ?_
    refine lv_if_le (tgt := 34) hx hb d_Md_back_29 (by decide) (fun hc29 => absurd hc29 (by decide)) (fun hc29 => ?_)
    refine lv_iconst (v := 0) hx hb d_Md_back_32 (by decide) ?_
    exact ew_i (w1 := [(m0, .inr (8, [.int 1, .int vw, .int vh, .int vl, .ref ms, .int vso, .ref mt, .ref mp, .ref mx, .ref my, .ref mw, .ref mh, .int vre, .ref ml, .ref mn, .ref mk, .ref mq, .ref mm]))]) hC hw [0] rfl rfl ⟨rfl, rfl⟩ d_Md_back_33
  · refine lv_iconst (v := 1) hx hb d_Md_back_9 (by decide) ?_
    refine lv_goto (tgt := 14) hx hb d_Md_back_10 (by decide) ?_
    refine lv_icmp_ne (tgt := 21) hx hb d_Md_back_14 (by decide) (fun hc14 => ?_) (fun hc14 => absurd hc14 (by rw [if_neg hc6] at hne; exact hne))
    refine lv_iconst (v := 1) hx hb d_Md_back_21 (by decide) ?_
    refine r_put hC hw ck_Md 0 rfl 0 (by decide) k_780 rfl rfl rfl rfl (Nat.le_of_ble_eq_true rfl) d_Md_back_22 (fun H locs hw => ?_)
    have hw : Wd D _ _ [(m0, .inr (8, [.int 1, .int vw, .int vh, .int vl, .ref ms, .int vso, .ref mt, .ref mp, .ref mx, .ref my, .ref mw, .ref mh, .int vre, .ref ml, .ref mn, .ref mk, .ref mq, .ref mm]))] _ _ := hw
    refine lv_aload_n hx hb d_Md_back_25 rfl (lv_at hl 0 rfl) ?_
    refine r_get hC hw ck_Md 0 rfl 0 (by decide) k_780 rfl rfl d_Md_back_26 ?_
    refine lv_if_le (tgt := 34) hx hb d_Md_back_29 (by decide) (fun hc29 => absurd hc29 (by decide)) (fun hc29 => ?_)
    refine lv_iconst (v := 0) hx hb d_Md_back_32 (by decide) ?_
    exact ew_i (w1 := [(m0, .inr (8, [.int 1, .int vw, .int vh, .int vl, .ref ms, .int vso, .ref mt, .ref mp, .ref mx, .ref my, .ref mw, .ref mh, .int vre, .ref ml, .ref mn, .ref mk, .ref mq, .ref mm]))]) hC hw [0] rfl rfl ⟨rfl, rfl⟩ d_Md_back_33
