-- decoded instructions (printed by main.py)
theorem d_V_remember_83 : decode b_V_remember 83 = .ok (.putfield 167, 3) := by decide +kernel
theorem d_V_remember_86 : decode b_V_remember 86 = .ok (.aload 4, 2) := by decide +kernel
theorem d_V_remember_88 : decode b_V_remember 88 = .ok (.aload_n 1, 1) := by decide +kernel
theorem d_V_remember_89 : decode b_V_remember 89 = .ok (.iload_n 2, 1) := by decide +kernel
theorem d_V_remember_90 : decode b_V_remember 90 = .ok (.invokevirtual 170, 3) := by decide +kernel
theorem d_V_remember_93 : decode b_V_remember 93 = .ok (.aload_n 0, 1) := by decide +kernel
theorem d_V_remember_94 : decode b_V_remember 94 = .ok (.getfield 42, 3) := by decide +kernel
theorem d_V_remember_97 : decode b_V_remember 97 = .ok (.aload 4, 2) := by decide +kernel
theorem d_V_remember_99 : decode b_V_remember 99 = .ok (.invokevirtual 174, 3) := by decide +kernel
theorem d_V_remember_102 : decode b_V_remember 102 = .ok (.return_, 1) := by decide +kernel
theorem d_V_commit_0 : decode b_V_commit 0 = .ok (.aload_n 0, 1) := by decide +kernel
theorem d_V_commit_1 : decode b_V_commit 1 = .ok (.getfield 109, 3) := by decide +kernel
theorem d_V_commit_4 : decode b_V_commit 4 = .ok (.istore_n 1, 1) := by decide +kernel
theorem d_V_commit_5 : decode b_V_commit 5 = .ok (.iload_n 1, 1) := by decide +kernel
theorem d_V_commit_6 : decode b_V_commit 6 = .ok (.ifCond .ne 6, 3) := by decide +kernel
theorem d_V_commit_9 : decode b_V_commit 9 = .ok (.bipush (-2), 2) := by decide +kernel
theorem d_V_commit_11 : decode b_V_commit 11 = .ok (.ireturn, 1) := by decide +kernel
theorem d_V_commit_12 : decode b_V_commit 12 = .ok (.aload_n 0, 1) := by decide +kernel
theorem d_V_commit_13 : decode b_V_commit 13 = .ok (.getfield 16, 3) := by decide +kernel
theorem d_V_commit_16 : decode b_V_commit 16 = .ok (.getfield 79, 3) := by decide +kernel
theorem d_V_commit_19 : decode b_V_commit 19 = .ok (.iload_n 1, 1) := by decide +kernel
theorem d_V_commit_20 : decode b_V_commit 20 = .ok (.iadd, 1) := by decide +kernel
theorem d_V_commit_21 : decode b_V_commit 21 = .ok (.iconst 1, 1) := by decide +kernel
theorem d_V_commit_22 : decode b_V_commit 22 = .ok (.iadd, 1) := by decide +kernel
theorem d_V_commit_23 : decode b_V_commit 23 = .ok (.bipush 16, 2) := by decide +kernel
theorem d_V_commit_25 : decode b_V_commit 25 = .ok (.if_icmp .le 15, 3) := by decide +kernel
theorem d_V_commit_28 : decode b_V_commit 28 = .ok (.aload_n 0, 1) := by decide +kernel
theorem d_V_commit_29 : decode b_V_commit 29 = .ok (.getfield 19, 3) := by decide +kernel
theorem d_V_commit_32 : decode b_V_commit 32 = .ok (.bipush 8, 2) := by decide +kernel
theorem d_V_commit_34 : decode b_V_commit 34 = .ok (.if_icmp .ne 6, 3) := by decide +kernel
theorem d_V_commit_37 : decode b_V_commit 37 = .ok (.bipush (-3), 2) := by decide +kernel
theorem d_V_commit_39 : decode b_V_commit 39 = .ok (.ireturn, 1) := by decide +kernel
theorem d_V_commit_40 : decode b_V_commit 40 = .ok (.aload_n 0, 1) := by decide +kernel
theorem d_V_commit_41 : decode b_V_commit 41 = .ok (.getfield 42, 3) := by decide +kernel
theorem d_V_commit_44 : decode b_V_commit 44 = .ok (.getfield 120, 3) := by decide +kernel
theorem d_V_commit_47 : decode b_V_commit 47 = .ok (.iload_n 1, 1) := by decide +kernel
theorem d_V_commit_48 : decode b_V_commit 48 = .ok (.iadd, 1) := by decide +kernel
theorem d_V_commit_49 : decode b_V_commit 49 = .ok (.bipush 8, 2) := by decide +kernel
theorem d_V_commit_51 : decode b_V_commit 51 = .ok (.if_icmp .le 8, 3) := by decide +kernel
theorem d_V_commit_54 : decode b_V_commit 54 = .ok (.aload_n 0, 1) := by decide +kernel
theorem d_V_commit_55 : decode b_V_commit 55 = .ok (.invokevirtual 123, 3) := by decide +kernel
theorem d_V_commit_58 : decode b_V_commit 58 = .ok (.pop, 1) := by decide +kernel
theorem d_V_commit_59 : decode b_V_commit 59 = .ok (.aload_n 0, 1) := by decide +kernel
theorem d_V_commit_60 : decode b_V_commit 60 = .ok (.iload_n 1, 1) := by decide +kernel
theorem d_V_commit_61 : decode b_V_commit 61 = .ok (.iconst 1, 1) := by decide +kernel
theorem d_V_commit_62 : decode b_V_commit 62 = .ok (.iadd, 1) := by decide +kernel
theorem d_V_commit_63 : decode b_V_commit 63 = .ok (.invokevirtual 127, 3) := by decide +kernel
theorem d_V_commit_66 : decode b_V_commit 66 = .ok (.astore_n 2, 1) := by decide +kernel
theorem d_V_commit_67 : decode b_V_commit 67 = .ok (.aload_n 2, 1) := by decide +kernel
theorem d_V_commit_68 : decode b_V_commit 68 = .ok (.iload_n 1, 1) := by decide +kernel
theorem d_V_commit_69 : decode b_V_commit 69 = .ok (.aload_n 0, 1) := by decide +kernel
theorem d_V_commit_70 : decode b_V_commit 70 = .ok (.getfield 97, 3) := by decide +kernel
theorem d_V_commit_73 : decode b_V_commit 73 = .ok (.iconst 1, 1) := by decide +kernel
theorem d_V_commit_74 : decode b_V_commit 74 = .ok (.iadd, 1) := by decide +kernel
theorem d_V_commit_75 : decode b_V_commit 75 = .ok (.iconst 0, 1) := by decide +kernel
theorem d_V_commit_76 : decode b_V_commit 76 = .ok (.invokevirtual 131, 3) := by decide +kernel
theorem d_V_commit_79 : decode b_V_commit 79 = .ok (.pop, 1) := by decide +kernel
theorem d_V_commit_80 : decode b_V_commit 80 = .ok (.iconst 0, 1) := by decide +kernel
theorem d_V_commit_81 : decode b_V_commit 81 = .ok (.istore_n 3, 1) := by decide +kernel
theorem d_V_commit_82 : decode b_V_commit 82 = .ok (.iload_n 3, 1) := by decide +kernel
theorem d_V_commit_83 : decode b_V_commit 83 = .ok (.iload_n 1, 1) := by decide +kernel
theorem d_V_commit_84 : decode b_V_commit 84 = .ok (.if_icmp .ge 93, 3) := by decide +kernel
theorem d_V_commit_87 : decode b_V_commit 87 = .ok (.aload_n 0, 1) := by decide +kernel
theorem d_V_commit_88 : decode b_V_commit 88 = .ok (.getfield 33, 3) := by decide +kernel
theorem d_V_commit_91 : decode b_V_commit 91 = .ok (.iload_n 3, 1) := by decide +kernel
theorem d_V_commit_92 : decode b_V_commit 92 = .ok (.iaload, 1) := by decide +kernel
theorem d_V_commit_93 : decode b_V_commit 93 = .ok (.ifCond .ge 7, 3) := by decide +kernel
theorem d_V_commit_96 : decode b_V_commit 96 = .ok (.iconst 1, 1) := by decide +kernel
theorem d_V_commit_97 : decode b_V_commit 97 = .ok (.goto 4, 3) := by decide +kernel
theorem d_V_commit_100 : decode b_V_commit 100 = .ok (.iconst 0, 1) := by decide +kernel
theorem d_V_commit_101 : decode b_V_commit 101 = .ok (.istore 4, 2) := by decide +kernel
theorem d_V_commit_103 : decode b_V_commit 103 = .ok (.aload_n 2, 1) := by decide +kernel
theorem d_V_commit_104 : decode b_V_commit 104 = .ok (.aload_n 0, 1) := by decide +kernel
theorem d_V_commit_105 : decode b_V_commit 105 = .ok (.getfield 26, 3) := by decide +kernel
theorem d_V_commit_108 : decode b_V_commit 108 = .ok (.iload_n 3, 1) := by decide +kernel
theorem d_V_commit_109 : decode b_V_commit 109 = .ok (.iaload, 1) := by decide +kernel
theorem d_V_commit_110 : decode b_V_commit 110 = .ok (.iload 4, 2) := by decide +kernel
theorem d_V_commit_112 : decode b_V_commit 112 = .ok (.invokestatic 134, 3) := by decide +kernel
theorem d_V_commit_115 : decode b_V_commit 115 = .ok (.aload_n 0, 1) := by decide +kernel
theorem d_V_commit_116 : decode b_V_commit 116 = .ok (.getfield 30, 3) := by decide +kernel
theorem d_V_commit_119 : decode b_V_commit 119 = .ok (.iload_n 3, 1) := by decide +kernel
theorem d_V_commit_120 : decode b_V_commit 120 = .ok (.iaload, 1) := by decide +kernel
theorem d_V_commit_121 : decode b_V_commit 121 = .ok (.aload_n 0, 1) := by decide +kernel
theorem d_V_commit_122 : decode b_V_commit 122 = .ok (.getfield 33, 3) := by decide +kernel
theorem d_V_commit_125 : decode b_V_commit 125 = .ok (.iload_n 3, 1) := by decide +kernel
theorem d_V_commit_126 : decode b_V_commit 126 = .ok (.iaload, 1) := by decide +kernel
theorem d_V_commit_127 : decode b_V_commit 127 = .ok (.ifCond .le 17, 3) := by decide +kernel
theorem d_V_commit_130 : decode b_V_commit 130 = .ok (.aload_n 0, 1) := by decide +kernel
theorem d_V_commit_131 : decode b_V_commit 131 = .ok (.getfield 138, 3) := by decide +kernel
theorem d_V_commit_134 : decode b_V_commit 134 = .ok (.aload_n 0, 1) := by decide +kernel
theorem d_V_commit_135 : decode b_V_commit 135 = .ok (.getfield 33, 3) := by decide +kernel
theorem d_V_commit_138 : decode b_V_commit 138 = .ok (.iload_n 3, 1) := by decide +kernel
theorem d_V_commit_139 : decode b_V_commit 139 = .ok (.iaload, 1) := by decide +kernel
theorem d_V_commit_140 : decode b_V_commit 140 = .ok (.iadd, 1) := by decide +kernel
theorem d_V_commit_141 : decode b_V_commit 141 = .ok (.goto 4, 3) := by decide +kernel
theorem d_V_commit_144 : decode b_V_commit 144 = .ok (.iconst (-1), 1) := by decide +kernel
theorem d_V_commit_145 : decode b_V_commit 145 = .ok (.invokevirtual 131, 3) := by decide +kernel
theorem d_V_commit_148 : decode b_V_commit 148 = .ok (.istore 5, 2) := by decide +kernel
theorem d_V_commit_150 : decode b_V_commit 150 = .ok (.aload_n 0, 1) := by decide +kernel
theorem d_V_commit_151 : decode b_V_commit 151 = .ok (.dup, 1) := by decide +kernel
theorem d_V_commit_152 : decode b_V_commit 152 = .ok (.getfield 97, 3) := by decide +kernel
theorem d_V_commit_155 : decode b_V_commit 155 = .ok (.iconst 1, 1) := by decide +kernel
theorem d_V_commit_156 : decode b_V_commit 156 = .ok (.iadd, 1) := by decide +kernel
theorem d_V_commit_157 : decode b_V_commit 157 = .ok (.putfield 97, 3) := by decide +kernel
theorem d_V_commit_160 : decode b_V_commit 160 = .ok (.aload_n 0, 1) := by decide +kernel
theorem d_V_commit_161 : decode b_V_commit 161 = .ok (.aload_n 2, 1) := by decide +kernel
theorem d_V_commit_162 : decode b_V_commit 162 = .ok (.iload 5, 2) := by decide +kernel
theorem d_V_commit_164 : decode b_V_commit 164 = .ok (.aload_n 0, 1) := by decide +kernel
theorem d_V_commit_165 : decode b_V_commit 165 = .ok (.getfield 97, 3) := by decide +kernel
theorem d_V_commit_168 : decode b_V_commit 168 = .ok (.invokevirtual 141, 3) := by decide +kernel
theorem d_V_commit_171 : decode b_V_commit 171 = .ok (.iinc 3 1, 3) := by decide +kernel
theorem d_V_commit_174 : decode b_V_commit 174 = .ok (.goto (-92), 3) := by decide +kernel
theorem d_V_commit_177 : decode b_V_commit 177 = .ok (.aload_n 0, 1) := by decide +kernel
theorem d_V_commit_178 : decode b_V_commit 178 = .ok (.iconst 0, 1) := by decide +kernel
theorem d_V_commit_179 : decode b_V_commit 179 = .ok (.putfield 109, 3) := by decide +kernel
theorem d_V_commit_182 : decode b_V_commit 182 = .ok (.aload_n 0, 1) := by decide +kernel
theorem d_V_commit_183 : decode b_V_commit 183 = .ok (.dup, 1) := by decide +kernel
theorem d_V_commit_184 : decode b_V_commit 184 = .ok (.getfield 103, 3) := by decide +kernel
theorem d_V_commit_187 : decode b_V_commit 187 = .ok (.iconst 1, 1) := by decide +kernel
theorem d_V_commit_188 : decode b_V_commit 188 = .ok (.iadd, 1) := by decide +kernel
theorem d_V_commit_189 : decode b_V_commit 189 = .ok (.putfield 103, 3) := by decide +kernel
theorem d_V_commit_192 : decode b_V_commit 192 = .ok (.iload_n 1, 1) := by decide +kernel
theorem d_V_commit_193 : decode b_V_commit 193 = .ok (.ireturn, 1) := by decide +kernel
theorem d_V_merge_0 : decode b_V_merge 0 = .ok (.iload_n 1, 1) := by decide +kernel
theorem d_V_merge_1 : decode b_V_merge 1 = .ok (.ifCond .eq 10, 3) := by decide +kernel
theorem d_V_merge_4 : decode b_V_merge 4 = .ok (.iload_n 1, 1) := by decide +kernel
theorem d_V_merge_5 : decode b_V_merge 5 = .ok (.iconst 1, 1) := by decide +kernel
theorem d_V_merge_6 : decode b_V_merge 6 = .ok (.if_icmp .eq 5, 3) := by decide +kernel
theorem d_V_merge_9 : decode b_V_merge 9 = .ok (.iconst (-1), 1) := by decide +kernel
theorem d_V_merge_10 : decode b_V_merge 10 = .ok (.ireturn, 1) := by decide +kernel
theorem d_V_merge_11 : decode b_V_merge 11 = .ok (.aload_n 0, 1) := by decide +kernel
theorem d_V_merge_12 : decode b_V_merge 12 = .ok (.getfield 48, 3) := by decide +kernel
theorem d_V_merge_15 : decode b_V_merge 15 = .ok (.iload_n 1, 1) := by decide +kernel
theorem d_V_merge_16 : decode b_V_merge 16 = .ok (.aaload, 1) := by decide +kernel
theorem d_V_merge_17 : decode b_V_merge 17 = .ok (.getfield 213, 3) := by decide +kernel
theorem d_V_merge_20 : decode b_V_merge 20 = .ok (.ifCond .ne 8, 3) := by decide +kernel
theorem d_V_merge_23 : decode b_V_merge 23 = .ok (.bipush (-2), 2) := by decide +kernel
theorem d_V_merge_25 : decode b_V_merge 25 = .ok (.goto 8, 3) := by decide +kernel
theorem d_V_merge_28 : decode b_V_merge 28 = .ok (.aload_n 0, 1) := by decide +kernel
theorem d_V_merge_29 : decode b_V_merge 29 = .ok (.iload_n 1, 1) := by decide +kernel
theorem d_V_merge_30 : decode b_V_merge 30 = .ok (.invokevirtual 263, 3) := by decide +kernel
theorem d_V_merge_33 : decode b_V_merge 33 = .ok (.ireturn, 1) := by decide +kernel
theorem d_V_owner_0 : decode b_V_owner 0 = .ok (.aload_n 0, 1) := by decide +kernel
theorem d_V_owner_1 : decode b_V_owner 1 = .ok (.getfield 48, 3) := by decide +kernel
theorem d_V_owner_4 : decode b_V_owner 4 = .ok (.astore_n 3, 1) := by decide +kernel
theorem d_V_owner_5 : decode b_V_owner 5 = .ok (.aload_n 3, 1) := by decide +kernel
theorem d_V_owner_6 : decode b_V_owner 6 = .ok (.arraylength, 1) := by decide +kernel
theorem d_V_owner_7 : decode b_V_owner 7 = .ok (.istore 4, 2) := by decide +kernel
theorem d_V_owner_9 : decode b_V_owner 9 = .ok (.iconst 0, 1) := by decide +kernel
theorem d_V_owner_10 : decode b_V_owner 10 = .ok (.istore 5, 2) := by decide +kernel
theorem d_V_owner_12 : decode b_V_owner 12 = .ok (.iload 5, 2) := by decide +kernel
theorem d_V_owner_14 : decode b_V_owner 14 = .ok (.iload 4, 2) := by decide +kernel
theorem d_V_owner_16 : decode b_V_owner 16 = .ok (.if_icmp .ge 104, 3) := by decide +kernel
theorem d_V_owner_19 : decode b_V_owner 19 = .ok (.aload_n 3, 1) := by decide +kernel
theorem d_V_owner_20 : decode b_V_owner 20 = .ok (.iload 5, 2) := by decide +kernel
theorem d_V_owner_22 : decode b_V_owner 22 = .ok (.aaload, 1) := by decide +kernel
theorem d_V_owner_23 : decode b_V_owner 23 = .ok (.astore 6, 2) := by decide +kernel
theorem d_V_owner_25 : decode b_V_owner 25 = .ok (.iconst 0, 1) := by decide +kernel
theorem d_V_owner_26 : decode b_V_owner 26 = .ok (.istore 7, 2) := by decide +kernel
theorem d_V_owner_28 : decode b_V_owner 28 = .ok (.iload 7, 2) := by decide +kernel
theorem d_V_owner_30 : decode b_V_owner 30 = .ok (.aload 6, 2) := by decide +kernel
theorem d_V_owner_32 : decode b_V_owner 32 = .ok (.getfield 213, 3) := by decide +kernel
theorem d_V_owner_35 : decode b_V_owner 35 = .ok (.if_icmp .ge 79, 3) := by decide +kernel
theorem d_V_owner_38 : decode b_V_owner 38 = .ok (.iconst 0, 1) := by decide +kernel
theorem d_V_owner_39 : decode b_V_owner 39 = .ok (.istore 8, 2) := by decide +kernel
theorem d_V_owner_41 : decode b_V_owner 41 = .ok (.iload 8, 2) := by decide +kernel
theorem d_V_owner_43 : decode b_V_owner 43 = .ok (.aload 6, 2) := by decide +kernel
theorem d_V_owner_45 : decode b_V_owner 45 = .ok (.getfield 214, 3) := by decide +kernel
theorem d_V_owner_48 : decode b_V_owner 48 = .ok (.iload 7, 2) := by decide +kernel
theorem d_V_owner_50 : decode b_V_owner 50 = .ok (.aaload, 1) := by decide +kernel
theorem d_V_owner_51 : decode b_V_owner 51 = .ok (.getfield 209, 3) := by decide +kernel
theorem d_V_owner_54 : decode b_V_owner 54 = .ok (.if_icmp .ge 54, 3) := by decide +kernel
theorem d_V_owner_57 : decode b_V_owner 57 = .ok (.aload 6, 2) := by decide +kernel
theorem d_V_owner_59 : decode b_V_owner 59 = .ok (.getfield 214, 3) := by decide +kernel
theorem d_V_owner_62 : decode b_V_owner 62 = .ok (.iload 7, 2) := by decide +kernel
theorem d_V_owner_64 : decode b_V_owner 64 = .ok (.aaload, 1) := by decide +kernel
theorem d_V_owner_65 : decode b_V_owner 65 = .ok (.getfield 272, 3) := by decide +kernel
theorem d_V_owner_68 : decode b_V_owner 68 = .ok (.iload 8, 2) := by decide +kernel
theorem d_V_owner_70 : decode b_V_owner 70 = .ok (.aaload, 1) := by decide +kernel
theorem d_V_owner_71 : decode b_V_owner 71 = .ok (.astore 9, 2) := by decide +kernel
theorem d_V_owner_73 : decode b_V_owner 73 = .ok (.aload 9, 2) := by decide +kernel
theorem d_V_owner_75 : decode b_V_owner 75 = .ok (.getfield 275, 3) := by decide +kernel
theorem d_V_owner_78 : decode b_V_owner 78 = .ok (.aload_n 1, 1) := by decide +kernel
theorem d_V_owner_79 : decode b_V_owner 79 = .ok (.if_acmp .ne 23, 3) := by decide +kernel
theorem d_V_owner_82 : decode b_V_owner 82 = .ok (.aload 9, 2) := by decide +kernel
theorem d_V_owner_84 : decode b_V_owner 84 = .ok (.getfield 278, 3) := by decide +kernel
theorem d_V_owner_87 : decode b_V_owner 87 = .ok (.iload_n 2, 1) := by decide +kernel
theorem d_V_owner_88 : decode b_V_owner 88 = .ok (.if_icmp .ne 14, 3) := by decide +kernel
theorem d_V_owner_91 : decode b_V_owner 91 = .ok (.aload 9, 2) := by decide +kernel
theorem d_V_owner_93 : decode b_V_owner 93 = .ok (.getfield 159, 3) := by decide +kernel
theorem d_V_owner_96 : decode b_V_owner 96 = .ok (.ifCond .ne 6, 3) := by decide +kernel
theorem d_V_owner_99 : decode b_V_owner 99 = .ok (.aload 9, 2) := by decide +kernel
theorem d_V_owner_101 : decode b_V_owner 101 = .ok (.areturn, 1) := by decide +kernel
theorem d_V_owner_102 : decode b_V_owner 102 = .ok (.iinc 8 1, 3) := by decide +kernel
theorem d_V_owner_105 : decode b_V_owner 105 = .ok (.goto (-64), 3) := by decide +kernel
theorem d_V_owner_108 : decode b_V_owner 108 = .ok (.iinc 7 1, 3) := by decide +kernel
theorem d_V_owner_111 : decode b_V_owner 111 = .ok (.goto (-83), 3) := by decide +kernel
theorem d_V_owner_114 : decode b_V_owner 114 = .ok (.iinc 5 1, 3) := by decide +kernel
theorem d_V_owner_117 : decode b_V_owner 117 = .ok (.goto (-105), 3) := by decide +kernel
theorem d_V_owner_120 : decode b_V_owner 120 = .ok (.aconst_null, 1) := by decide +kernel
theorem d_V_owner_121 : decode b_V_owner 121 = .ok (.areturn, 1) := by decide +kernel
theorem d_V_fits_0 : decode b_V_fits 0 = .ok (.bipush 16, 2) := by decide +kernel
theorem d_V_fits_2 : decode b_V_fits 2 = .ok (.aload_n 0, 1) := by decide +kernel
theorem d_V_fits_3 : decode b_V_fits 3 = .ok (.getfield 16, 3) := by decide +kernel
theorem d_V_fits_6 : decode b_V_fits 6 = .ok (.getfield 79, 3) := by decide +kernel
theorem d_V_fits_9 : decode b_V_fits 9 = .ok (.isub, 1) := by decide +kernel
theorem d_V_fits_10 : decode b_V_fits 10 = .ok (.istore_n 2, 1) := by decide +kernel
theorem d_V_fits_11 : decode b_V_fits 11 = .ok (.aload_n 0, 1) := by decide +kernel
theorem d_V_fits_12 : decode b_V_fits 12 = .ok (.getfield 19, 3) := by decide +kernel
theorem d_V_fits_15 : decode b_V_fits 15 = .ok (.istore_n 3, 1) := by decide +kernel
theorem d_V_fits_16 : decode b_V_fits 16 = .ok (.iload_n 1, 1) := by decide +kernel
theorem d_V_fits_17 : decode b_V_fits 17 = .ok (.istore 4, 2) := by decide +kernel
theorem d_V_fits_19 : decode b_V_fits 19 = .ok (.iload 4, 2) := by decide +kernel
theorem d_V_fits_21 : decode b_V_fits 21 = .ok (.ifCond .le 37, 3) := by decide +kernel
theorem d_V_fits_24 : decode b_V_fits 24 = .ok (.iconst 1, 1) := by decide +kernel
theorem d_V_fits_25 : decode b_V_fits 25 = .ok (.iload 4, 2) := by decide +kernel
theorem d_V_fits_27 : decode b_V_fits 27 = .ok (.bipush 6, 2) := by decide +kernel
theorem d_V_fits_29 : decode b_V_fits 29 = .ok (.invokestatic 281, 3) := by decide +kernel
theorem d_V_fits_32 : decode b_V_fits 32 = .ok (.iadd, 1) := by decide +kernel
theorem d_V_fits_33 : decode b_V_fits 33 = .ok (.istore 5, 2) := by decide +kernel
theorem d_V_fits_35 : decode b_V_fits 35 = .ok (.iload 5, 2) := by decide +kernel
theorem d_V_fits_37 : decode b_V_fits 37 = .ok (.iload_n 2, 1) := by decide +kernel
theorem d_V_fits_38 : decode b_V_fits 38 = .ok (.if_icmp .le 9, 3) := by decide +kernel
theorem d_V_fits_41 : decode b_V_fits 41 = .ok (.iinc 3 1, 3) := by decide +kernel
theorem d_V_fits_44 : decode b_V_fits 44 = .ok (.bipush 16, 2) := by decide +kernel
theorem d_V_fits_46 : decode b_V_fits 46 = .ok (.istore_n 2, 1) := by decide +kernel
theorem d_V_fits_47 : decode b_V_fits 47 = .ok (.iload_n 2, 1) := by decide +kernel
theorem d_V_fits_48 : decode b_V_fits 48 = .ok (.iload 5, 2) := by decide +kernel
theorem d_V_fits_50 : decode b_V_fits 50 = .ok (.isub, 1) := by decide +kernel
theorem d_V_fits_51 : decode b_V_fits 51 = .ok (.istore_n 2, 1) := by decide +kernel
theorem d_V_fits_52 : decode b_V_fits 52 = .ok (.iinc 4 (-6), 3) := by decide +kernel
theorem d_V_fits_55 : decode b_V_fits 55 = .ok (.goto (-36), 3) := by decide +kernel
theorem d_V_fits_58 : decode b_V_fits 58 = .ok (.iload_n 3, 1) := by decide +kernel
theorem d_V_fits_59 : decode b_V_fits 59 = .ok (.bipush 8, 2) := by decide +kernel
theorem d_V_fits_61 : decode b_V_fits 61 = .ok (.if_icmp .gt 7, 3) := by decide +kernel
theorem d_V_fits_64 : decode b_V_fits 64 = .ok (.iconst 1, 1) := by decide +kernel
theorem d_V_fits_65 : decode b_V_fits 65 = .ok (.goto 4, 3) := by decide +kernel
theorem d_V_fits_68 : decode b_V_fits 68 = .ok (.iconst 0, 1) := by decide +kernel
theorem d_V_fits_69 : decode b_V_fits 69 = .ok (.ireturn, 1) := by decide +kernel
theorem d_V_collect_0 : decode b_V_collect 0 = .ok (.aload_n 0, 1) := by decide +kernel
theorem d_V_collect_1 : decode b_V_collect 1 = .ok (.getfield 10, 3) := by decide +kernel
theorem d_V_collect_4 : decode b_V_collect 4 = .ok (.aload_n 0, 1) := by decide +kernel
theorem d_V_collect_5 : decode b_V_collect 5 = .ok (.getfield 16, 3) := by decide +kernel
theorem d_V_collect_8 : decode b_V_collect 8 = .ok (.if_acmp .ne 6, 3) := by decide +kernel
theorem d_V_collect_11 : decode b_V_collect 11 = .ok (.bipush (-2), 2) := by decide +kernel
theorem d_V_collect_13 : decode b_V_collect 13 = .ok (.ireturn, 1) := by decide +kernel
theorem d_V_collect_14 : decode b_V_collect 14 = .ok (.aload_n 0, 1) := by decide +kernel
theorem d_V_collect_15 : decode b_V_collect 15 = .ok (.invokevirtual 123, 3) := by decide +kernel
theorem d_V_collect_18 : decode b_V_collect 18 = .ok (.pop, 1) := by decide +kernel
theorem d_V_collect_19 : decode b_V_collect 19 = .ok (.aload_n 0, 1) := by decide +kernel
theorem d_V_collect_20 : decode b_V_collect 20 = .ok (.getfield 10, 3) := by decide +kernel
theorem d_V_collect_23 : decode b_V_collect 23 = .ok (.getfield 287, 3) := by decide +kernel
theorem d_V_collect_26 : decode b_V_collect 26 = .ok (.istore_n 1, 1) := by decide +kernel
theorem d_V_collect_27 : decode b_V_collect 27 = .ok (.aload_n 0, 1) := by decide +kernel
theorem d_V_collect_28 : decode b_V_collect 28 = .ok (.iload_n 1, 1) := by decide +kernel
theorem d_V_collect_29 : decode b_V_collect 29 = .ok (.invokevirtual 290, 3) := by decide +kernel
theorem d_V_collect_32 : decode b_V_collect 32 = .ok (.ifCond .ne 6, 3) := by decide +kernel
theorem d_V_collect_35 : decode b_V_collect 35 = .ok (.bipush (-3), 2) := by decide +kernel
theorem d_V_collect_37 : decode b_V_collect 37 = .ok (.ireturn, 1) := by decide +kernel
theorem d_V_collect_38 : decode b_V_collect 38 = .ok (.iload_n 1, 1) := by decide +kernel
theorem d_V_collect_39 : decode b_V_collect 39 = .ok (.istore_n 2, 1) := by decide +kernel
theorem d_V_collect_40 : decode b_V_collect 40 = .ok (.iconst 0, 1) := by decide +kernel
theorem d_V_collect_41 : decode b_V_collect 41 = .ok (.istore_n 3, 1) := by decide +kernel
theorem d_V_collect_42 : decode b_V_collect 42 = .ok (.aload_n 0, 1) := by decide +kernel
theorem d_V_collect_43 : decode b_V_collect 43 = .ok (.getfield 16, 3) := by decide +kernel
theorem d_V_collect_46 : decode b_V_collect 46 = .ok (.astore 4, 2) := by decide +kernel
theorem d_V_collect_48 : decode b_V_collect 48 = .ok (.iconst 0, 1) := by decide +kernel
theorem d_V_collect_49 : decode b_V_collect 49 = .ok (.istore 5, 2) := by decide +kernel
theorem d_V_collect_51 : decode b_V_collect 51 = .ok (.iload 5, 2) := by decide +kernel
theorem d_V_collect_53 : decode b_V_collect 53 = .ok (.aload_n 0, 1) := by decide +kernel
theorem d_V_collect_54 : decode b_V_collect 54 = .ok (.getfield 10, 3) := by decide +kernel
theorem d_V_collect_57 : decode b_V_collect 57 = .ok (.getfield 79, 3) := by decide +kernel
theorem d_V_collect_60 : decode b_V_collect 60 = .ok (.if_icmp .ge 99, 3) := by decide +kernel
theorem d_V_collect_63 : decode b_V_collect 63 = .ok (.iload_n 2, 1) := by decide +kernel
theorem d_V_collect_64 : decode b_V_collect 64 = .ok (.ifCond .le 95, 3) := by decide +kernel
theorem d_V_collect_67 : decode b_V_collect 67 = .ok (.aload_n 0, 1) := by decide +kernel
theorem d_V_collect_68 : decode b_V_collect 68 = .ok (.aload_n 0, 1) := by decide +kernel
theorem d_V_collect_69 : decode b_V_collect 69 = .ok (.getfield 10, 3) := by decide +kernel
theorem d_V_collect_72 : decode b_V_collect 72 = .ok (.iload 5, 2) := by decide +kernel
theorem d_V_collect_74 : decode b_V_collect 74 = .ok (.invokevirtual 293, 3) := by decide +kernel
theorem d_V_collect_77 : decode b_V_collect 77 = .ok (.astore 6, 2) := by decide +kernel
theorem d_V_collect_79 : decode b_V_collect 79 = .ok (.aload 6, 2) := by decide +kernel
theorem d_V_collect_81 : decode b_V_collect 81 = .ok (.ifnonnull 6, 3) := by decide +kernel
theorem d_V_collect_84 : decode b_V_collect 84 = .ok (.goto 69, 3) := by decide +kernel
theorem d_V_collect_87 : decode b_V_collect 87 = .ok (.iload_n 3, 1) := by decide +kernel
theorem d_V_collect_88 : decode b_V_collect 88 = .ok (.ifCond .ne 28, 3) := by decide +kernel
theorem d_V_collect_91 : decode b_V_collect 91 = .ok (.iload_n 2, 1) := by decide +kernel
theorem d_V_collect_92 : decode b_V_collect 92 = .ok (.bipush 6, 2) := by decide +kernel
theorem d_V_collect_94 : decode b_V_collect 94 = .ok (.invokestatic 281, 3) := by decide +kernel
theorem d_V_collect_97 : decode b_V_collect 97 = .ok (.istore_n 3, 1) := by decide +kernel
theorem d_V_collect_98 : decode b_V_collect 98 = .ok (.aload_n 0, 1) := by decide +kernel
theorem d_V_collect_99 : decode b_V_collect 99 = .ok (.iconst 1, 1) := by decide +kernel
theorem d_V_collect_100 : decode b_V_collect 100 = .ok (.iload_n 3, 1) := by decide +kernel
theorem d_V_collect_101 : decode b_V_collect 101 = .ok (.iadd, 1) := by decide +kernel
theorem d_V_collect_102 : decode b_V_collect 102 = .ok (.invokevirtual 127, 3) := by decide +kernel
theorem d_V_collect_105 : decode b_V_collect 105 = .ok (.astore 4, 2) := by decide +kernel
theorem d_V_collect_107 : decode b_V_collect 107 = .ok (.aload 4, 2) := by decide +kernel
theorem d_V_collect_109 : decode b_V_collect 109 = .ok (.iload_n 3, 1) := by decide +kernel
theorem d_V_collect_110 : decode b_V_collect 110 = .ok (.iconst 0, 1) := by decide +kernel
theorem d_V_collect_111 : decode b_V_collect 111 = .ok (.iconst 0, 1) := by decide +kernel
theorem d_V_collect_112 : decode b_V_collect 112 = .ok (.invokevirtual 131, 3) := by decide +kernel
theorem d_V_collect_115 : decode b_V_collect 115 = .ok (.pop, 1) := by decide +kernel
theorem d_V_collect_116 : decode b_V_collect 116 = .ok (.aload 6, 2) := by decide +kernel
theorem d_V_collect_118 : decode b_V_collect 118 = .ok (.aload 4, 2) := by decide +kernel
theorem d_V_collect_120 : decode b_V_collect 120 = .ok (.aload 4, 2) := by decide +kernel
theorem d_V_collect_122 : decode b_V_collect 122 = .ok (.aload 6, 2) := by decide +kernel
theorem d_V_collect_124 : decode b_V_collect 124 = .ok (.getfield 156, 3) := by decide +kernel
theorem d_V_collect_127 : decode b_V_collect 127 = .ok (.iconst 0, 1) := by decide +kernel
theorem d_V_collect_128 : decode b_V_collect 128 = .ok (.invokestatic 134, 3) := by decide +kernel
theorem d_V_collect_131 : decode b_V_collect 131 = .ok (.aload 6, 2) := by decide +kernel
theorem d_V_collect_133 : decode b_V_collect 133 = .ok (.invokevirtual 297, 3) := by decide +kernel
theorem d_V_collect_136 : decode b_V_collect 136 = .ok (.aload 6, 2) := by decide +kernel
theorem d_V_collect_138 : decode b_V_collect 138 = .ok (.getfield 167, 3) := by decide +kernel
theorem d_V_collect_141 : decode b_V_collect 141 = .ok (.invokevirtual 131, 3) := by decide +kernel
theorem d_V_collect_144 : decode b_V_collect 144 = .ok (.invokevirtual 170, 3) := by decide +kernel
theorem d_V_collect_147 : decode b_V_collect 147 = .ok (.iinc 3 (-1), 3) := by decide +kernel
theorem d_V_collect_150 : decode b_V_collect 150 = .ok (.iinc 2 (-1), 3) := by decide +kernel
theorem d_V_collect_153 : decode b_V_collect 153 = .ok (.iinc 5 1, 3) := by decide +kernel
theorem d_V_collect_156 : decode b_V_collect 156 = .ok (.goto (-105), 3) := by decide +kernel
theorem d_V_collect_159 : decode b_V_collect 159 = .ok (.aload_n 0, 1) := by decide +kernel
theorem d_V_collect_160 : decode b_V_collect 160 = .ok (.getfield 10, 3) := by decide +kernel
theorem d_V_collect_163 : decode b_V_collect 163 = .ok (.astore 5, 2) := by decide +kernel
theorem d_V_collect_165 : decode b_V_collect 165 = .ok (.aload_n 0, 1) := by decide +kernel
theorem d_V_collect_166 : decode b_V_collect 166 = .ok (.aload 5, 2) := by decide +kernel
theorem d_V_collect_168 : decode b_V_collect 168 = .ok (.getfield 85, 3) := by decide +kernel
theorem d_V_collect_171 : decode b_V_collect 171 = .ok (.putfield 10, 3) := by decide +kernel
theorem d_V_collect_174 : decode b_V_collect 174 = .ok (.aload_n 0, 1) := by decide +kernel
theorem d_V_collect_175 : decode b_V_collect 175 = .ok (.aload 5, 2) := by decide +kernel
theorem d_V_collect_177 : decode b_V_collect 177 = .ok (.invokevirtual 300, 3) := by decide +kernel
theorem d_V_collect_180 : decode b_V_collect 180 = .ok (.aload_n 0, 1) := by decide +kernel
theorem d_V_collect_181 : decode b_V_collect 181 = .ok (.invokevirtual 106, 3) := by decide +kernel
theorem d_V_collect_184 : decode b_V_collect 184 = .ok (.iload_n 1, 1) := by decide +kernel
theorem d_V_collect_185 : decode b_V_collect 185 = .ok (.ireturn, 1) := by decide +kernel
theorem d_V_take_0 : decode b_V_take 0 = .ok (.iconst 0, 1) := by decide +kernel
theorem d_V_take_1 : decode b_V_take 1 = .ok (.istore_n 1, 1) := by decide +kernel
theorem d_V_take_2 : decode b_V_take 2 = .ok (.iload_n 1, 1) := by decide +kernel
theorem d_V_take_3 : decode b_V_take 3 = .ok (.iconst 3, 1) := by decide +kernel
theorem d_V_take_4 : decode b_V_take 4 = .ok (.if_icmp .ge 30, 3) := by decide +kernel
theorem d_V_take_7 : decode b_V_take 7 = .ok (.aload_n 0, 1) := by decide +kernel
theorem d_V_take_8 : decode b_V_take 8 = .ok (.getfield 36, 3) := by decide +kernel
theorem d_V_take_11 : decode b_V_take 11 = .ok (.iload_n 1, 1) := by decide +kernel
theorem d_V_take_12 : decode b_V_take 12 = .ok (.iaload, 1) := by decide +kernel
theorem d_V_take_13 : decode b_V_take 13 = .ok (.ifCond .ge 15, 3) := by decide +kernel
theorem d_V_take_16 : decode b_V_take 16 = .ok (.aload_n 0, 1) := by decide +kernel
theorem d_V_take_17 : decode b_V_take 17 = .ok (.getfield 36, 3) := by decide +kernel
theorem d_V_take_20 : decode b_V_take 20 = .ok (.iload_n 1, 1) := by decide +kernel
theorem d_V_take_21 : decode b_V_take 21 = .ok (.aload_n 0, 1) := by decide +kernel
theorem d_V_take_22 : decode b_V_take 22 = .ok (.getfield 97, 3) := by decide +kernel
theorem d_V_take_25 : decode b_V_take 25 = .ok (.iastore, 1) := by decide +kernel
theorem d_V_take_26 : decode b_V_take 26 = .ok (.iload_n 1, 1) := by decide +kernel
theorem d_V_take_27 : decode b_V_take 27 = .ok (.ireturn, 1) := by decide +kernel
theorem d_V_take_28 : decode b_V_take 28 = .ok (.iinc 1 1, 3) := by decide +kernel
theorem d_V_take_31 : decode b_V_take 31 = .ok (.goto (-29), 3) := by decide +kernel
theorem d_V_take_34 : decode b_V_take 34 = .ok (.bipush (-3), 2) := by decide +kernel
theorem d_V_take_36 : decode b_V_take 36 = .ok (.ireturn, 1) := by decide +kernel
theorem d_V_release_0 : decode b_V_release 0 = .ok (.iload_n 1, 1) := by decide +kernel
theorem d_V_release_1 : decode b_V_release 1 = .ok (.ifCond .lt 17, 3) := by decide +kernel
theorem d_V_release_4 : decode b_V_release 4 = .ok (.iload_n 1, 1) := by decide +kernel
theorem d_V_release_5 : decode b_V_release 5 = .ok (.iconst 3, 1) := by decide +kernel
theorem d_V_release_6 : decode b_V_release 6 = .ok (.if_icmp .ge 12, 3) := by decide +kernel
theorem d_V_release_9 : decode b_V_release 9 = .ok (.aload_n 0, 1) := by decide +kernel
theorem d_V_release_10 : decode b_V_release 10 = .ok (.getfield 36, 3) := by decide +kernel
theorem d_V_release_13 : decode b_V_release 13 = .ok (.iload_n 1, 1) := by decide +kernel
theorem d_V_release_14 : decode b_V_release 14 = .ok (.iaload, 1) := by decide +kernel
theorem d_V_release_15 : decode b_V_release 15 = .ok (.ifCond .ge 5, 3) := by decide +kernel
theorem d_V_release_18 : decode b_V_release 18 = .ok (.iconst 0, 1) := by decide +kernel
theorem d_V_release_19 : decode b_V_release 19 = .ok (.ireturn, 1) := by decide +kernel
theorem d_V_release_20 : decode b_V_release 20 = .ok (.aload_n 0, 1) := by decide +kernel
theorem d_V_release_21 : decode b_V_release 21 = .ok (.getfield 36, 3) := by decide +kernel
theorem d_V_release_24 : decode b_V_release 24 = .ok (.iload_n 1, 1) := by decide +kernel
theorem d_V_release_25 : decode b_V_release 25 = .ok (.iconst (-1), 1) := by decide +kernel
theorem d_V_release_26 : decode b_V_release 26 = .ok (.iastore, 1) := by decide +kernel
theorem d_V_release_27 : decode b_V_release 27 = .ok (.iconst 1, 1) := by decide +kernel
theorem d_V_release_28 : decode b_V_release 28 = .ok (.ireturn, 1) := by decide +kernel
theorem d_V_tick_0 : decode b_V_tick 0 = .ok (.iload_n 1, 1) := by decide +kernel
theorem d_V_tick_1 : decode b_V_tick 1 = .ok (.ifCond .lt 10, 3) := by decide +kernel
theorem d_V_tick_4 : decode b_V_tick 4 = .ok (.iload_n 1, 1) := by decide +kernel
theorem d_V_tick_5 : decode b_V_tick 5 = .ok (.sipush 1000, 3) := by decide +kernel
theorem d_V_tick_8 : decode b_V_tick 8 = .ok (.if_icmp .le 5, 3) := by decide +kernel
theorem d_V_tick_11 : decode b_V_tick 11 = .ok (.iconst (-1), 1) := by decide +kernel
theorem d_V_tick_12 : decode b_V_tick 12 = .ok (.ireturn, 1) := by decide +kernel
theorem d_V_tick_13 : decode b_V_tick 13 = .ok (.aload_n 0, 1) := by decide +kernel
theorem d_V_tick_14 : decode b_V_tick 14 = .ok (.dup, 1) := by decide +kernel
theorem d_V_tick_15 : decode b_V_tick 15 = .ok (.getfield 138, 3) := by decide +kernel
theorem d_V_tick_18 : decode b_V_tick 18 = .ok (.iload_n 1, 1) := by decide +kernel
theorem d_V_tick_19 : decode b_V_tick 19 = .ok (.iadd, 1) := by decide +kernel
theorem d_V_tick_20 : decode b_V_tick 20 = .ok (.putfield 138, 3) := by decide +kernel
theorem d_V_tick_23 : decode b_V_tick 23 = .ok (.aload_n 0, 1) := by decide +kernel
theorem d_V_tick_24 : decode b_V_tick 24 = .ok (.getfield 138, 3) := by decide +kernel
theorem d_V_tick_27 : decode b_V_tick 27 = .ok (.ireturn, 1) := by decide +kernel
theorem d_V_cut_0 : decode b_V_cut 0 = .ok (.aload_n 0, 1) := by decide +kernel
theorem d_V_cut_1 : decode b_V_cut 1 = .ok (.getfield 23, 3) := by decide +kernel
theorem d_V_cut_4 : decode b_V_cut 4 = .ok (.astore_n 2, 1) := by decide +kernel
theorem d_V_cut_5 : decode b_V_cut 5 = .ok (.aload_n 0, 1) := by decide +kernel
theorem d_V_cut_6 : decode b_V_cut 6 = .ok (.getfield 94, 3) := by decide +kernel
theorem d_V_cut_9 : decode b_V_cut 9 = .ok (.istore_n 3, 1) := by decide +kernel
theorem d_V_cut_10 : decode b_V_cut 10 = .ok (.aload_n 0, 1) := by decide +kernel
theorem d_V_cut_11 : decode b_V_cut 11 = .ok (.aload_n 0, 1) := by decide +kernel
theorem d_V_cut_12 : decode b_V_cut 12 = .ok (.getfield 100, 3) := by decide +kernel
theorem d_V_cut_15 : decode b_V_cut 15 = .ok (.putfield 97, 3) := by decide +kernel
theorem d_V_cut_18 : decode b_V_cut 18 = .ok (.iconst 0, 1) := by decide +kernel
theorem d_V_cut_19 : decode b_V_cut 19 = .ok (.istore 4, 2) := by decide +kernel
theorem d_V_cut_21 : decode b_V_cut 21 = .ok (.iload 4, 2) := by decide +kernel
theorem d_V_cut_23 : decode b_V_cut 23 = .ok (.iload_n 1, 1) := by decide +kernel
theorem d_V_cut_24 : decode b_V_cut 24 = .ok (.if_icmp .ge 54, 3) := by decide +kernel
theorem d_V_cut_27 : decode b_V_cut 27 = .ok (.iload_n 3, 1) := by decide +kernel
theorem d_V_cut_28 : decode b_V_cut 28 = .ok (.aload_n 2, 1) := by decide +kernel
theorem d_V_cut_29 : decode b_V_cut 29 = .ok (.getfield 79, 3) := by decide +kernel
theorem d_V_cut_32 : decode b_V_cut 32 = .ok (.if_icmp .ne 10, 3) := by decide +kernel
theorem d_V_cut_35 : decode b_V_cut 35 = .ok (.aload_n 2, 1) := by decide +kernel
theorem d_V_cut_36 : decode b_V_cut 36 = .ok (.getfield 85, 3) := by decide +kernel
theorem d_V_cut_39 : decode b_V_cut 39 = .ok (.astore_n 2, 1) := by decide +kernel
theorem d_V_cut_40 : decode b_V_cut 40 = .ok (.iconst 0, 1) := by decide +kernel
theorem d_V_cut_41 : decode b_V_cut 41 = .ok (.istore_n 3, 1) := by decide +kernel
theorem d_V_cut_42 : decode b_V_cut 42 = .ok (.aload_n 0, 1) := by decide +kernel
theorem d_V_cut_43 : decode b_V_cut 43 = .ok (.aload_n 2, 1) := by decide +kernel
theorem d_V_cut_44 : decode b_V_cut 44 = .ok (.getfield 313, 3) := by decide +kernel
theorem d_V_cut_47 : decode b_V_cut 47 = .ok (.iload_n 3, 1) := by decide +kernel
theorem d_V_cut_48 : decode b_V_cut 48 = .ok (.iaload, 1) := by decide +kernel
theorem d_V_cut_49 : decode b_V_cut 49 = .ok (.aload_n 2, 1) := by decide +kernel
theorem d_V_cut_50 : decode b_V_cut 50 = .ok (.getfield 153, 3) := by decide +kernel
theorem d_V_cut_53 : decode b_V_cut 53 = .ok (.iload_n 3, 1) := by decide +kernel
theorem d_V_cut_54 : decode b_V_cut 54 = .ok (.iaload, 1) := by decide +kernel
theorem d_V_cut_55 : decode b_V_cut 55 = .ok (.iadd, 1) := by decide +kernel
theorem d_V_cut_56 : decode b_V_cut 56 = .ok (.iconst 1, 1) := by decide +kernel
theorem d_V_cut_57 : decode b_V_cut 57 = .ok (.isub, 1) := by decide +kernel
theorem d_V_cut_58 : decode b_V_cut 58 = .ok (.putfield 97, 3) := by decide +kernel
theorem d_V_cut_61 : decode b_V_cut 61 = .ok (.iload_n 3, 1) := by decide +kernel
theorem d_V_cut_62 : decode b_V_cut 62 = .ok (.iconst 1, 1) := by decide +kernel
theorem d_V_cut_63 : decode b_V_cut 63 = .ok (.aload_n 2, 1) := by decide +kernel
theorem d_V_cut_64 : decode b_V_cut 64 = .ok (.getfield 153, 3) := by decide +kernel
theorem d_V_cut_67 : decode b_V_cut 67 = .ok (.iload_n 3, 1) := by decide +kernel
theorem d_V_cut_68 : decode b_V_cut 68 = .ok (.iaload, 1) := by decide +kernel
theorem d_V_cut_69 : decode b_V_cut 69 = .ok (.iadd, 1) := by decide +kernel
theorem d_V_cut_70 : decode b_V_cut 70 = .ok (.iadd, 1) := by decide +kernel
theorem d_V_cut_71 : decode b_V_cut 71 = .ok (.istore_n 3, 1) := by decide +kernel
theorem d_V_cut_72 : decode b_V_cut 72 = .ok (.iinc 4 1, 3) := by decide +kernel
theorem d_V_cut_75 : decode b_V_cut 75 = .ok (.goto (-54), 3) := by decide +kernel
theorem d_V_cut_78 : decode b_V_cut 78 = .ok (.aload_n 2, 1) := by decide +kernel
theorem d_V_cut_79 : decode b_V_cut 79 = .ok (.getfield 85, 3) := by decide +kernel
theorem d_V_cut_82 : decode b_V_cut 82 = .ok (.astore 4, 2) := by decide +kernel
theorem d_V_cut_84 : decode b_V_cut 84 = .ok (.aload_n 2, 1) := by decide +kernel
theorem d_V_cut_85 : decode b_V_cut 85 = .ok (.iload_n 3, 1) := by decide +kernel
theorem d_V_cut_86 : decode b_V_cut 86 = .ok (.putfield 79, 3) := by decide +kernel
theorem d_V_cut_89 : decode b_V_cut 89 = .ok (.aload_n 2, 1) := by decide +kernel
theorem d_V_cut_90 : decode b_V_cut 90 = .ok (.aconst_null, 1) := by decide +kernel
theorem d_V_cut_91 : decode b_V_cut 91 = .ok (.putfield 85, 3) := by decide +kernel
theorem d_V_cut_94 : decode b_V_cut 94 = .ok (.aload_n 0, 1) := by decide +kernel
theorem d_V_cut_95 : decode b_V_cut 95 = .ok (.aload_n 2, 1) := by decide +kernel
theorem d_V_cut_96 : decode b_V_cut 96 = .ok (.putfield 16, 3) := by decide +kernel
theorem d_V_cut_99 : decode b_V_cut 99 = .ok (.aload 4, 2) := by decide +kernel
theorem d_V_cut_101 : decode b_V_cut 101 = .ok (.ifnull 23, 3) := by decide +kernel
theorem d_V_cut_104 : decode b_V_cut 104 = .ok (.aload 4, 2) := by decide +kernel
theorem d_V_cut_106 : decode b_V_cut 106 = .ok (.getfield 85, 3) := by decide +kernel
theorem d_V_cut_109 : decode b_V_cut 109 = .ok (.astore 5, 2) := by decide +kernel
theorem d_V_cut_111 : decode b_V_cut 111 = .ok (.aload_n 0, 1) := by decide +kernel
theorem d_V_cut_112 : decode b_V_cut 112 = .ok (.aload 4, 2) := by decide +kernel
theorem d_V_cut_114 : decode b_V_cut 114 = .ok (.invokevirtual 300, 3) := by decide +kernel
theorem d_V_cut_117 : decode b_V_cut 117 = .ok (.aload 5, 2) := by decide +kernel
theorem d_V_cut_119 : decode b_V_cut 119 = .ok (.astore 4, 2) := by decide +kernel
theorem d_V_cut_121 : decode b_V_cut 121 = .ok (.goto (-22), 3) := by decide +kernel
theorem d_V_cut_124 : decode b_V_cut 124 = .ok (.return_, 1) := by decide +kernel
theorem d_V_replay_0 : decode b_V_replay 0 = .ok (.iconst 0, 1) := by decide +kernel
theorem d_V_replay_1 : decode b_V_replay 1 = .ok (.istore_n 2, 1) := by decide +kernel
theorem d_V_replay_2 : decode b_V_replay 2 = .ok (.iload_n 2, 1) := by decide +kernel
theorem d_V_replay_3 : decode b_V_replay 3 = .ok (.aload_n 1, 1) := by decide +kernel
theorem d_V_replay_4 : decode b_V_replay 4 = .ok (.getfield 79, 3) := by decide +kernel
theorem d_V_replay_7 : decode b_V_replay 7 = .ok (.if_icmp .ge 67, 3) := by decide +kernel
theorem d_V_replay_10 : decode b_V_replay 10 = .ok (.aload_n 1, 1) := by decide +kernel
theorem d_V_replay_11 : decode b_V_replay 11 = .ok (.getfield 153, 3) := by decide +kernel
theorem d_V_replay_14 : decode b_V_replay 14 = .ok (.iload_n 2, 1) := by decide +kernel
theorem d_V_replay_15 : decode b_V_replay 15 = .ok (.iaload, 1) := by decide +kernel
theorem d_V_replay_16 : decode b_V_replay 16 = .ok (.istore_n 3, 1) := by decide +kernel
theorem d_V_replay_17 : decode b_V_replay 17 = .ok (.aload_n 1, 1) := by decide +kernel
theorem d_V_replay_18 : decode b_V_replay 18 = .ok (.getfield 313, 3) := by decide +kernel
theorem d_V_replay_21 : decode b_V_replay 21 = .ok (.iload_n 2, 1) := by decide +kernel
theorem d_V_replay_22 : decode b_V_replay 22 = .ok (.iaload, 1) := by decide +kernel
theorem d_V_replay_23 : decode b_V_replay 23 = .ok (.istore 4, 2) := by decide +kernel
theorem d_V_replay_25 : decode b_V_replay 25 = .ok (.iconst 0, 1) := by decide +kernel
theorem d_V_replay_26 : decode b_V_replay 26 = .ok (.istore 5, 2) := by decide +kernel
theorem d_V_replay_28 : decode b_V_replay 28 = .ok (.iload 5, 2) := by decide +kernel
theorem d_V_replay_30 : decode b_V_replay 30 = .ok (.iload_n 3, 1) := by decide +kernel
theorem d_V_replay_31 : decode b_V_replay 31 = .ok (.if_icmp .ge 34, 3) := by decide +kernel
theorem d_V_replay_34 : decode b_V_replay 34 = .ok (.iload 4, 2) := by decide +kernel
theorem d_V_replay_36 : decode b_V_replay 36 = .ok (.aload_n 0, 1) := by decide +kernel
theorem d_V_replay_37 : decode b_V_replay 37 = .ok (.getfield 269, 3) := by decide +kernel
theorem d_V_replay_40 : decode b_V_replay 40 = .ok (.if_icmp .le 25, 3) := by decide +kernel
theorem d_V_replay_43 : decode b_V_replay 43 = .ok (.aload_n 0, 1) := by decide +kernel
theorem d_V_replay_44 : decode b_V_replay 44 = .ok (.aload_n 1, 1) := by decide +kernel
theorem d_V_replay_45 : decode b_V_replay 45 = .ok (.iload_n 2, 1) := by decide +kernel
theorem d_V_replay_46 : decode b_V_replay 46 = .ok (.iconst 1, 1) := by decide +kernel
theorem d_V_replay_47 : decode b_V_replay 47 = .ok (.iadd, 1) := by decide +kernel
theorem d_V_replay_48 : decode b_V_replay 48 = .ok (.iload 5, 2) := by decide +kernel
theorem d_V_replay_50 : decode b_V_replay 50 = .ok (.iadd, 1) := by decide +kernel
theorem d_V_replay_51 : decode b_V_replay 51 = .ok (.iload 4, 2) := by decide +kernel
theorem d_V_replay_53 : decode b_V_replay 53 = .ok (.iload 5, 2) := by decide +kernel
theorem d_V_replay_55 : decode b_V_replay 55 = .ok (.iadd, 1) := by decide +kernel
theorem d_V_replay_56 : decode b_V_replay 56 = .ok (.invokevirtual 141, 3) := by decide +kernel
theorem d_V_replay_59 : decode b_V_replay 59 = .ok (.iinc 5 1, 3) := by decide +kernel
theorem d_V_replay_62 : decode b_V_replay 62 = .ok (.goto (-34), 3) := by decide +kernel
theorem d_V_replay_65 : decode b_V_replay 65 = .ok (.iload_n 2, 1) := by decide +kernel
theorem d_V_replay_66 : decode b_V_replay 66 = .ok (.iconst 1, 1) := by decide +kernel
theorem d_V_replay_67 : decode b_V_replay 67 = .ok (.iload_n 3, 1) := by decide +kernel
theorem d_V_replay_68 : decode b_V_replay 68 = .ok (.iadd, 1) := by decide +kernel
theorem d_V_replay_69 : decode b_V_replay 69 = .ok (.iadd, 1) := by decide +kernel
theorem d_V_replay_70 : decode b_V_replay 70 = .ok (.istore_n 2, 1) := by decide +kernel
theorem d_V_replay_71 : decode b_V_replay 71 = .ok (.goto (-69), 3) := by decide +kernel
theorem d_V_replay_74 : decode b_V_replay 74 = .ok (.return_, 1) := by decide +kernel
theorem d_V_crash_0 : decode b_V_crash 0 = .ok (.iconst 0, 1) := by decide +kernel
theorem d_V_crash_1 : decode b_V_crash 1 = .ok (.iload_n 1, 1) := by decide +kernel
theorem d_V_crash_2 : decode b_V_crash 2 = .ok (.aload_n 0, 1) := by decide +kernel
theorem d_V_crash_3 : decode b_V_crash 3 = .ok (.getfield 103, 3) := by decide +kernel
theorem d_V_crash_6 : decode b_V_crash 6 = .ok (.invokestatic 281, 3) := by decide +kernel
theorem d_V_crash_9 : decode b_V_crash 9 = .ok (.invokestatic 304, 3) := by decide +kernel
theorem d_V_crash_12 : decode b_V_crash 12 = .ok (.istore_n 2, 1) := by decide +kernel
theorem d_V_crash_13 : decode b_V_crash 13 = .ok (.aload_n 0, 1) := by decide +kernel
theorem d_V_crash_14 : decode b_V_crash 14 = .ok (.getfield 103, 3) := by decide +kernel
theorem d_V_crash_17 : decode b_V_crash 17 = .ok (.iload_n 2, 1) := by decide +kernel
theorem d_V_crash_18 : decode b_V_crash 18 = .ok (.isub, 1) := by decide +kernel
theorem d_V_crash_19 : decode b_V_crash 19 = .ok (.istore_n 3, 1) := by decide +kernel
theorem d_V_crash_20 : decode b_V_crash 20 = .ok (.iconst 0, 1) := by decide +kernel
theorem d_V_crash_21 : decode b_V_crash 21 = .ok (.istore 4, 2) := by decide +kernel
theorem d_V_crash_23 : decode b_V_crash 23 = .ok (.iload 4, 2) := by decide +kernel
theorem d_V_crash_25 : decode b_V_crash 25 = .ok (.iconst 3, 1) := by decide +kernel
theorem d_V_crash_26 : decode b_V_crash 26 = .ok (.if_icmp .ge 17, 3) := by decide +kernel
theorem d_V_crash_29 : decode b_V_crash 29 = .ok (.aload_n 0, 1) := by decide +kernel
theorem d_V_crash_30 : decode b_V_crash 30 = .ok (.getfield 36, 3) := by decide +kernel
theorem d_V_crash_33 : decode b_V_crash 33 = .ok (.iload 4, 2) := by decide +kernel
theorem d_V_crash_35 : decode b_V_crash 35 = .ok (.iconst (-1), 1) := by decide +kernel
theorem d_V_crash_36 : decode b_V_crash 36 = .ok (.iastore, 1) := by decide +kernel
theorem d_V_crash_37 : decode b_V_crash 37 = .ok (.iinc 4 1, 3) := by decide +kernel
theorem d_V_crash_40 : decode b_V_crash 40 = .ok (.goto (-17), 3) := by decide +kernel
theorem d_V_crash_43 : decode b_V_crash 43 = .ok (.aload_n 0, 1) := by decide +kernel
theorem d_V_crash_44 : decode b_V_crash 44 = .ok (.iconst 0, 1) := by decide +kernel
theorem d_V_crash_45 : decode b_V_crash 45 = .ok (.putfield 109, 3) := by decide +kernel
theorem d_V_crash_48 : decode b_V_crash 48 = .ok (.aload_n 0, 1) := by decide +kernel
theorem d_V_crash_49 : decode b_V_crash 49 = .ok (.iload_n 2, 1) := by decide +kernel
theorem d_V_crash_50 : decode b_V_crash 50 = .ok (.invokevirtual 307, 3) := by decide +kernel
theorem d_V_crash_53 : decode b_V_crash 53 = .ok (.aload_n 0, 1) := by decide +kernel
theorem d_V_crash_54 : decode b_V_crash 54 = .ok (.getfield 42, 3) := by decide +kernel
theorem d_V_crash_57 : decode b_V_crash 57 = .ok (.iconst 0, 1) := by decide +kernel
theorem d_V_crash_58 : decode b_V_crash 58 = .ok (.invokevirtual 266, 3) := by decide +kernel
theorem d_V_crash_61 : decode b_V_crash 61 = .ok (.aload_n 0, 1) := by decide +kernel
theorem d_V_crash_62 : decode b_V_crash 62 = .ok (.aload_n 0, 1) := by decide +kernel
theorem d_V_crash_63 : decode b_V_crash 63 = .ok (.getfield 42, 3) := by decide +kernel
theorem d_V_crash_66 : decode b_V_crash 66 = .ok (.invokevirtual 242, 3) := by decide +kernel
theorem d_V_crash_69 : decode b_V_crash 69 = .ok (.aload_n 0, 1) := by decide +kernel
theorem d_V_crash_70 : decode b_V_crash 70 = .ok (.getfield 42, 3) := by decide +kernel
theorem d_V_crash_73 : decode b_V_crash 73 = .ok (.invokevirtual 267, 3) := by decide +kernel
theorem d_V_crash_76 : decode b_V_crash 76 = .ok (.iconst 0, 1) := by decide +kernel
theorem d_V_crash_77 : decode b_V_crash 77 = .ok (.istore 4, 2) := by decide +kernel
theorem d_V_crash_79 : decode b_V_crash 79 = .ok (.iload 4, 2) := by decide +kernel
theorem d_V_crash_81 : decode b_V_crash 81 = .ok (.aload_n 0, 1) := by decide +kernel
theorem d_V_crash_82 : decode b_V_crash 82 = .ok (.getfield 181, 3) := by decide +kernel
theorem d_V_crash_85 : decode b_V_crash 85 = .ok (.if_icmp .ge 20, 3) := by decide +kernel
theorem d_V_crash_88 : decode b_V_crash 88 = .ok (.aload_n 0, 1) := by decide +kernel
theorem d_V_crash_89 : decode b_V_crash 89 = .ok (.aload_n 0, 1) := by decide +kernel
theorem d_V_crash_90 : decode b_V_crash 90 = .ok (.getfield 67, 3) := by decide +kernel
theorem d_V_crash_93 : decode b_V_crash 93 = .ok (.iload 4, 2) := by decide +kernel
theorem d_V_crash_95 : decode b_V_crash 95 = .ok (.aaload, 1) := by decide +kernel
theorem d_V_crash_96 : decode b_V_crash 96 = .ok (.invokevirtual 218, 3) := by decide +kernel
theorem d_V_crash_99 : decode b_V_crash 99 = .ok (.iinc 4 1, 3) := by decide +kernel
theorem d_V_crash_102 : decode b_V_crash 102 = .ok (.goto (-23), 3) := by decide +kernel
theorem d_V_crash_105 : decode b_V_crash 105 = .ok (.aload_n 0, 1) := by decide +kernel
theorem d_V_crash_106 : decode b_V_crash 106 = .ok (.getfield 10, 3) := by decide +kernel
theorem d_V_crash_109 : decode b_V_crash 109 = .ok (.astore 4, 2) := by decide +kernel
theorem d_V_crash_111 : decode b_V_crash 111 = .ok (.aload 4, 2) := by decide +kernel
theorem d_V_crash_113 : decode b_V_crash 113 = .ok (.ifnull 19, 3) := by decide +kernel
theorem d_V_crash_116 : decode b_V_crash 116 = .ok (.aload_n 0, 1) := by decide +kernel
theorem d_V_crash_117 : decode b_V_crash 117 = .ok (.aload 4, 2) := by decide +kernel
theorem d_V_crash_119 : decode b_V_crash 119 = .ok (.invokevirtual 310, 3) := by decide +kernel
theorem d_V_crash_122 : decode b_V_crash 122 = .ok (.aload 4, 2) := by decide +kernel
theorem d_V_crash_124 : decode b_V_crash 124 = .ok (.getfield 85, 3) := by decide +kernel
theorem d_V_crash_127 : decode b_V_crash 127 = .ok (.astore 4, 2) := by decide +kernel
theorem d_V_crash_129 : decode b_V_crash 129 = .ok (.goto (-18), 3) := by decide +kernel
theorem d_V_crash_132 : decode b_V_crash 132 = .ok (.aload_n 0, 1) := by decide +kernel
theorem d_V_crash_133 : decode b_V_crash 133 = .ok (.invokevirtual 106, 3) := by decide +kernel
theorem d_V_crash_136 : decode b_V_crash 136 = .ok (.iload_n 3, 1) := by decide +kernel
theorem d_V_crash_137 : decode b_V_crash 137 = .ok (.ireturn, 1) := by decide +kernel
theorem d_V_isSnapshot_0 : decode b_V_isSnapshot 0 = .ok (.iload_n 1, 1) := by decide +kernel
theorem d_V_isSnapshot_1 : decode b_V_isSnapshot 1 = .ok (.iconst (-1), 1) := by decide +kernel
theorem d_V_isSnapshot_2 : decode b_V_isSnapshot 2 = .ok (.if_icmp .eq 21, 3) := by decide +kernel
theorem d_V_isSnapshot_5 : decode b_V_isSnapshot 5 = .ok (.iload_n 1, 1) := by decide +kernel
theorem d_V_isSnapshot_6 : decode b_V_isSnapshot 6 = .ok (.ifCond .lt 21, 3) := by decide +kernel
theorem d_V_isSnapshot_9 : decode b_V_isSnapshot 9 = .ok (.iload_n 1, 1) := by decide +kernel
theorem d_V_isSnapshot_10 : decode b_V_isSnapshot 10 = .ok (.iconst 3, 1) := by decide +kernel
theorem d_V_isSnapshot_11 : decode b_V_isSnapshot 11 = .ok (.if_icmp .ge 16, 3) := by decide +kernel
theorem d_V_isSnapshot_14 : decode b_V_isSnapshot 14 = .ok (.aload_n 0, 1) := by decide +kernel
theorem d_V_isSnapshot_15 : decode b_V_isSnapshot 15 = .ok (.getfield 36, 3) := by decide +kernel
theorem d_V_isSnapshot_18 : decode b_V_isSnapshot 18 = .ok (.iload_n 1, 1) := by decide +kernel
theorem d_V_isSnapshot_19 : decode b_V_isSnapshot 19 = .ok (.iaload, 1) := by decide +kernel
theorem d_V_isSnapshot_20 : decode b_V_isSnapshot 20 = .ok (.ifCond .lt 7, 3) := by decide +kernel
theorem d_V_isSnapshot_23 : decode b_V_isSnapshot 23 = .ok (.iconst 1, 1) := by decide +kernel
theorem d_V_isSnapshot_24 : decode b_V_isSnapshot 24 = .ok (.goto 4, 3) := by decide +kernel
theorem d_V_isSnapshot_27 : decode b_V_isSnapshot 27 = .ok (.iconst 0, 1) := by decide +kernel
theorem d_V_isSnapshot_28 : decode b_V_isSnapshot 28 = .ok (.ireturn, 1) := by decide +kernel
theorem d_V_sees_0 : decode b_V_sees 0 = .ok (.iload_n 1, 1) := by decide +kernel
theorem d_V_sees_1 : decode b_V_sees 1 = .ok (.ifCond .ge 9, 3) := by decide +kernel
theorem d_V_sees_4 : decode b_V_sees 4 = .ok (.ldc_w 317, 3) := by decide +kernel
theorem d_V_sees_7 : decode b_V_sees 7 = .ok (.goto 9, 3) := by decide +kernel
theorem d_V_sees_10 : decode b_V_sees 10 = .ok (.aload_n 0, 1) := by decide +kernel
theorem d_V_sees_11 : decode b_V_sees 11 = .ok (.getfield 36, 3) := by decide +kernel
theorem d_V_sees_14 : decode b_V_sees 14 = .ok (.iload_n 1, 1) := by decide +kernel
theorem d_V_sees_15 : decode b_V_sees 15 = .ok (.iaload, 1) := by decide +kernel
theorem d_V_sees_16 : decode b_V_sees 16 = .ok (.ireturn, 1) := by decide +kernel
theorem d_V_search_0 : decode b_V_search 0 = .ok (.aload_n 0, 1) := by decide +kernel
theorem d_V_search_1 : decode b_V_search 1 = .ok (.iload_n 1, 1) := by decide +kernel
theorem d_V_search_2 : decode b_V_search 2 = .ok (.invokevirtual 318, 3) := by decide +kernel
theorem d_V_search_5 : decode b_V_search 5 = .ok (.istore_n 3, 1) := by decide +kernel
theorem d_V_search_6 : decode b_V_search 6 = .ok (.aload_n 0, 1) := by decide +kernel
theorem d_V_search_7 : decode b_V_search 7 = .ok (.iconst 0, 1) := by decide +kernel
theorem d_V_search_8 : decode b_V_search 8 = .ok (.putfield 321, 3) := by decide +kernel
theorem d_V_search_11 : decode b_V_search 11 = .ok (.aload_n 0, 1) := by decide +kernel
theorem d_V_search_12 : decode b_V_search 12 = .ok (.getfield 42, 3) := by decide +kernel
theorem d_V_search_15 : decode b_V_search 15 = .ok (.iload_n 2, 1) := by decide +kernel
theorem d_V_search_16 : decode b_V_search 16 = .ok (.iload_n 3, 1) := by decide +kernel
theorem d_V_search_17 : decode b_V_search 17 = .ok (.invokevirtual 324, 3) := by decide +kernel
theorem d_V_search_20 : decode b_V_search 20 = .ok (.astore 4, 2) := by decide +kernel
theorem d_V_search_22 : decode b_V_search 22 = .ok (.iconst 0, 1) := by decide +kernel
theorem d_V_search_23 : decode b_V_search 23 = .ok (.istore 5, 2) := by decide +kernel
theorem d_V_search_25 : decode b_V_search 25 = .ok (.iload 5, 2) := by decide +kernel
theorem d_V_search_27 : decode b_V_search 27 = .ok (.iconst 3, 1) := by decide +kernel
theorem d_V_search_28 : decode b_V_search 28 = .ok (.if_icmp .ge 89, 3) := by decide +kernel
theorem d_V_search_31 : decode b_V_search 31 = .ok (.aload 4, 2) := by decide +kernel
theorem d_V_search_33 : decode b_V_search 33 = .ok (.ifnonnull 84, 3) := by decide +kernel
theorem d_V_search_36 : decode b_V_search 36 = .ok (.iconst 0, 1) := by decide +kernel
theorem d_V_search_37 : decode b_V_search 37 = .ok (.istore 6, 2) := by decide +kernel
theorem d_V_search_39 : decode b_V_search 39 = .ok (.iload 6, 2) := by decide +kernel
theorem d_V_search_41 : decode b_V_search 41 = .ok (.aload_n 0, 1) := by decide +kernel
theorem d_V_search_42 : decode b_V_search 42 = .ok (.getfield 48, 3) := by decide +kernel
theorem d_V_search_45 : decode b_V_search 45 = .ok (.iload 5, 2) := by decide +kernel
theorem d_V_search_47 : decode b_V_search 47 = .ok (.aaload, 1) := by decide +kernel
theorem d_V_search_48 : decode b_V_search 48 = .ok (.getfield 213, 3) := by decide +kernel
theorem d_V_search_51 : decode b_V_search 51 = .ok (.if_icmp .ge 60, 3) := by decide +kernel
theorem d_V_search_54 : decode b_V_search 54 = .ok (.aload 4, 2) := by decide +kernel
theorem d_V_search_56 : decode b_V_search 56 = .ok (.ifnonnull 55, 3) := by decide +kernel
theorem d_V_search_59 : decode b_V_search 59 = .ok (.aload_n 0, 1) := by decide +kernel
theorem d_V_search_60 : decode b_V_search 60 = .ok (.getfield 48, 3) := by decide +kernel
theorem d_V_search_63 : decode b_V_search 63 = .ok (.iload 5, 2) := by decide +kernel
theorem d_V_search_65 : decode b_V_search 65 = .ok (.aaload, 1) := by decide +kernel
theorem d_V_search_66 : decode b_V_search 66 = .ok (.getfield 214, 3) := by decide +kernel
theorem d_V_search_69 : decode b_V_search 69 = .ok (.iload 6, 2) := by decide +kernel
theorem d_V_search_71 : decode b_V_search 71 = .ok (.aaload, 1) := by decide +kernel
theorem d_V_search_72 : decode b_V_search 72 = .ok (.astore 7, 2) := by decide +kernel
theorem d_V_search_74 : decode b_V_search 74 = .ok (.aload 7, 2) := by decide +kernel
theorem d_V_search_76 : decode b_V_search 76 = .ok (.iload_n 2, 1) := by decide +kernel
theorem d_V_search_77 : decode b_V_search 77 = .ok (.invokevirtual 328, 3) := by decide +kernel
theorem d_V_search_80 : decode b_V_search 80 = .ok (.ifCond .ne 6, 3) := by decide +kernel
theorem d_V_search_83 : decode b_V_search 83 = .ok (.goto 22, 3) := by decide +kernel
theorem d_V_search_86 : decode b_V_search 86 = .ok (.aload_n 0, 1) := by decide +kernel
theorem d_V_search_87 : decode b_V_search 87 = .ok (.dup, 1) := by decide +kernel
theorem d_V_search_88 : decode b_V_search 88 = .ok (.getfield 321, 3) := by decide +kernel
theorem d_V_search_91 : decode b_V_search 91 = .ok (.iconst 1, 1) := by decide +kernel
theorem d_V_search_92 : decode b_V_search 92 = .ok (.iadd, 1) := by decide +kernel
theorem d_V_search_93 : decode b_V_search 93 = .ok (.putfield 321, 3) := by decide +kernel
theorem d_V_search_96 : decode b_V_search 96 = .ok (.aload 7, 2) := by decide +kernel
theorem d_V_search_98 : decode b_V_search 98 = .ok (.iload_n 2, 1) := by decide +kernel
theorem d_V_search_99 : decode b_V_search 99 = .ok (.iload_n 3, 1) := by decide +kernel
theorem d_V_search_100 : decode b_V_search 100 = .ok (.invokevirtual 331, 3) := by decide +kernel
theorem d_V_search_103 : decode b_V_search 103 = .ok (.astore 4, 2) := by decide +kernel
theorem d_V_search_105 : decode b_V_search 105 = .ok (.iinc 6 1, 3) := by decide +kernel
theorem d_V_search_108 : decode b_V_search 108 = .ok (.goto (-69), 3) := by decide +kernel
theorem d_V_search_111 : decode b_V_search 111 = .ok (.iinc 5 1, 3) := by decide +kernel
theorem d_V_search_114 : decode b_V_search 114 = .ok (.goto (-89), 3) := by decide +kernel
theorem d_V_search_117 : decode b_V_search 117 = .ok (.aload 4, 2) := by decide +kernel
theorem d_V_search_119 : decode b_V_search 119 = .ok (.ifnull 19, 3) := by decide +kernel
theorem d_V_search_122 : decode b_V_search 122 = .ok (.aload 4, 2) := by decide +kernel
theorem d_V_search_124 : decode b_V_search 124 = .ok (.aload_n 0, 1) := by decide +kernel
theorem d_V_search_125 : decode b_V_search 125 = .ok (.getfield 138, 3) := by decide +kernel
theorem d_V_search_128 : decode b_V_search 128 = .ok (.invokevirtual 197, 3) := by decide +kernel
theorem d_V_search_131 : decode b_V_search 131 = .ok (.ifCond .eq 7, 3) := by decide +kernel
theorem d_V_search_134 : decode b_V_search 134 = .ok (.aconst_null, 1) := by decide +kernel
theorem d_V_search_135 : decode b_V_search 135 = .ok (.goto 5, 3) := by decide +kernel
theorem d_V_search_138 : decode b_V_search 138 = .ok (.aload 4, 2) := by decide +kernel
theorem d_V_search_140 : decode b_V_search 140 = .ok (.areturn, 1) := by decide +kernel
theorem d_V_has_0 : decode b_V_has 0 = .ok (.aload_n 0, 1) := by decide +kernel
theorem d_V_has_1 : decode b_V_has 1 = .ok (.iload_n 1, 1) := by decide +kernel
theorem d_V_has_2 : decode b_V_has 2 = .ok (.invokevirtual 332, 3) := by decide +kernel
theorem d_V_has_5 : decode b_V_has 5 = .ok (.ifCond .eq 23, 3) := by decide +kernel
theorem d_V_has_8 : decode b_V_has 8 = .ok (.iload_n 2, 1) := by decide +kernel
theorem d_V_has_9 : decode b_V_has 9 = .ok (.invokestatic 112, 3) := by decide +kernel
theorem d_V_has_12 : decode b_V_has 12 = .ok (.ifCond .eq 16, 3) := by decide +kernel
theorem d_V_has_15 : decode b_V_has 15 = .ok (.aload_n 0, 1) := by decide +kernel
theorem d_V_has_16 : decode b_V_has 16 = .ok (.iload_n 1, 1) := by decide +kernel
theorem d_V_has_17 : decode b_V_has 17 = .ok (.iload_n 2, 1) := by decide +kernel
theorem d_V_has_18 : decode b_V_has 18 = .ok (.invokevirtual 335, 3) := by decide +kernel
theorem d_V_has_21 : decode b_V_has 21 = .ok (.ifnull 7, 3) := by decide +kernel
theorem d_V_has_24 : decode b_V_has 24 = .ok (.iconst 1, 1) := by decide +kernel
theorem d_V_has_25 : decode b_V_has 25 = .ok (.goto 4, 3) := by decide +kernel
theorem d_V_has_28 : decode b_V_has 28 = .ok (.iconst 0, 1) := by decide +kernel
theorem d_V_has_29 : decode b_V_has 29 = .ok (.ireturn, 1) := by decide +kernel
theorem d_V_get_0 : decode b_V_get 0 = .ok (.aload_n 0, 1) := by decide +kernel
theorem d_V_get_1 : decode b_V_get 1 = .ok (.iload_n 1, 1) := by decide +kernel
theorem d_V_get_2 : decode b_V_get 2 = .ok (.invokevirtual 332, 3) := by decide +kernel
theorem d_V_get_5 : decode b_V_get 5 = .ok (.ifCond .eq 10, 3) := by decide +kernel
theorem d_V_get_8 : decode b_V_get 8 = .ok (.iload_n 2, 1) := by decide +kernel
theorem d_V_get_9 : decode b_V_get 9 = .ok (.invokestatic 112, 3) := by decide +kernel
theorem d_V_get_12 : decode b_V_get 12 = .ok (.ifCond .ne 5, 3) := by decide +kernel
theorem d_V_get_15 : decode b_V_get 15 = .ok (.iconst 0, 1) := by decide +kernel
theorem d_V_get_16 : decode b_V_get 16 = .ok (.ireturn, 1) := by decide +kernel
theorem d_V_get_17 : decode b_V_get 17 = .ok (.aload_n 0, 1) := by decide +kernel
theorem d_V_get_18 : decode b_V_get 18 = .ok (.iload_n 1, 1) := by decide +kernel
theorem d_V_get_19 : decode b_V_get 19 = .ok (.iload_n 2, 1) := by decide +kernel
theorem d_V_get_20 : decode b_V_get 20 = .ok (.invokevirtual 335, 3) := by decide +kernel
theorem d_V_get_23 : decode b_V_get 23 = .ok (.astore_n 3, 1) := by decide +kernel
theorem d_V_get_24 : decode b_V_get 24 = .ok (.aload_n 3, 1) := by decide +kernel
theorem d_V_get_25 : decode b_V_get 25 = .ok (.ifnonnull 7, 3) := by decide +kernel
theorem d_V_get_28 : decode b_V_get 28 = .ok (.iconst 0, 1) := by decide +kernel
theorem d_V_get_29 : decode b_V_get 29 = .ok (.goto 7, 3) := by decide +kernel
theorem d_V_get_32 : decode b_V_get 32 = .ok (.aload_n 3, 1) := by decide +kernel
theorem d_V_get_33 : decode b_V_get 33 = .ok (.invokevirtual 297, 3) := by decide +kernel
theorem d_V_get_36 : decode b_V_get 36 = .ok (.ireturn, 1) := by decide +kernel
theorem d_V_scan_0 : decode b_V_scan 0 = .ok (.aload_n 0, 1) := by decide +kernel
theorem d_V_scan_1 : decode b_V_scan 1 = .ok (.iload_n 1, 1) := by decide +kernel
theorem d_V_scan_2 : decode b_V_scan 2 = .ok (.invokevirtual 332, 3) := by decide +kernel
theorem d_V_scan_5 : decode b_V_scan 5 = .ok (.ifCond .eq 7, 3) := by decide +kernel
theorem d_V_scan_8 : decode b_V_scan 8 = .ok (.iload_n 3, 1) := by decide +kernel
theorem d_V_scan_9 : decode b_V_scan 9 = .ok (.ifCond .ge 5, 3) := by decide +kernel
theorem d_V_scan_12 : decode b_V_scan 12 = .ok (.iconst (-1), 1) := by decide +kernel
theorem d_V_scan_13 : decode b_V_scan 13 = .ok (.ireturn, 1) := by decide +kernel
theorem d_V_scan_14 : decode b_V_scan 14 = .ok (.aload_n 0, 1) := by decide +kernel
theorem d_V_scan_15 : decode b_V_scan 15 = .ok (.iload_n 1, 1) := by decide +kernel
theorem d_V_scan_16 : decode b_V_scan 16 = .ok (.invokevirtual 318, 3) := by decide +kernel
theorem d_V_scan_19 : decode b_V_scan 19 = .ok (.istore 4, 2) := by decide +kernel
theorem d_V_scan_21 : decode b_V_scan 21 = .ok (.aload_n 0, 1) := by decide +kernel
theorem d_V_scan_22 : decode b_V_scan 22 = .ok (.getfield 61, 3) := by decide +kernel
theorem d_V_scan_25 : decode b_V_scan 25 = .ok (.iconst 0, 1) := by decide +kernel
theorem d_V_scan_26 : decode b_V_scan 26 = .ok (.putfield 237, 3) := by decide +kernel
theorem d_V_scan_29 : decode b_V_scan 29 = .ok (.aload_n 0, 1) := by decide +kernel
theorem d_V_scan_30 : decode b_V_scan 30 = .ok (.getfield 42, 3) := by decide +kernel
theorem d_V_scan_33 : decode b_V_scan 33 = .ok (.iload_n 2, 1) := by decide +kernel
theorem d_V_scan_34 : decode b_V_scan 34 = .ok (.invokevirtual 266, 3) := by decide +kernel
theorem d_V_scan_37 : decode b_V_scan 37 = .ok (.aload_n 0, 1) := by decide +kernel
theorem d_V_scan_38 : decode b_V_scan 38 = .ok (.getfield 61, 3) := by decide +kernel
theorem d_V_scan_41 : decode b_V_scan 41 = .ok (.aload_n 0, 1) := by decide +kernel
theorem d_V_scan_42 : decode b_V_scan 42 = .ok (.getfield 42, 3) := by decide +kernel
theorem d_V_scan_45 : decode b_V_scan 45 = .ok (.invokevirtual 231, 3) := by decide +kernel
theorem d_V_scan_48 : decode b_V_scan 48 = .ok (.iconst 0, 1) := by decide +kernel
theorem d_V_scan_49 : decode b_V_scan 49 = .ok (.istore 5, 2) := by decide +kernel
theorem d_V_scan_51 : decode b_V_scan 51 = .ok (.iload 5, 2) := by decide +kernel
theorem d_V_scan_53 : decode b_V_scan 53 = .ok (.iconst 3, 1) := by decide +kernel
theorem d_V_scan_54 : decode b_V_scan 54 = .ok (.if_icmp .ge 16, 3) := by decide +kernel
theorem d_V_scan_57 : decode b_V_scan 57 = .ok (.aload_n 0, 1) := by decide +kernel
theorem d_V_scan_58 : decode b_V_scan 58 = .ok (.iload 5, 2) := by decide +kernel
theorem d_V_scan_60 : decode b_V_scan 60 = .ok (.iload_n 2, 1) := by decide +kernel
theorem d_V_scan_61 : decode b_V_scan 61 = .ok (.invokevirtual 238, 3) := by decide +kernel
theorem d_V_scan_64 : decode b_V_scan 64 = .ok (.iinc 5 1, 3) := by decide +kernel
theorem d_V_scan_67 : decode b_V_scan 67 = .ok (.goto (-16), 3) := by decide +kernel
theorem d_V_scan_70 : decode b_V_scan 70 = .ok (.iload_n 3, 1) := by decide +kernel
theorem d_V_scan_71 : decode b_V_scan 71 = .ok (.istore 5, 2) := by decide +kernel
theorem d_V_scan_73 : decode b_V_scan 73 = .ok (.iconst (-1), 1) := by decide +kernel
theorem d_V_scan_74 : decode b_V_scan 74 = .ok (.istore 6, 2) := by decide +kernel
theorem d_V_scan_76 : decode b_V_scan 76 = .ok (.aload_n 0, 1) := by decide +kernel
theorem d_V_scan_77 : decode b_V_scan 77 = .ok (.getfield 61, 3) := by decide +kernel
theorem d_V_scan_80 : decode b_V_scan 80 = .ok (.invokevirtual 338, 3) := by decide +kernel
theorem d_V_scan_83 : decode b_V_scan 83 = .ok (.astore 7, 2) := by decide +kernel
theorem d_V_scan_85 : decode b_V_scan 85 = .ok (.aload 7, 2) := by decide +kernel
theorem d_V_scan_87 : decode b_V_scan 87 = .ok (.ifnull 94, 3) := by decide +kernel
theorem d_V_scan_90 : decode b_V_scan 90 = .ok (.aload 7, 2) := by decide +kernel
theorem d_V_scan_92 : decode b_V_scan 92 = .ok (.getfield 156, 3) := by decide +kernel
theorem d_V_scan_95 : decode b_V_scan 95 = .ok (.iload 6, 2) := by decide +kernel
theorem d_V_scan_97 : decode b_V_scan 97 = .ok (.if_icmp .eq 65, 3) := by decide +kernel
theorem d_V_scan_100 : decode b_V_scan 100 = .ok (.aload 7, 2) := by decide +kernel
theorem d_V_scan_102 : decode b_V_scan 102 = .ok (.getfield 163, 3) := by decide +kernel
theorem d_V_scan_105 : decode b_V_scan 105 = .ok (.iload 4, 2) := by decide +kernel
theorem d_V_scan_107 : decode b_V_scan 107 = .ok (.if_icmp .gt 55, 3) := by decide +kernel
theorem d_V_scan_110 : decode b_V_scan 110 = .ok (.aload 7, 2) := by decide +kernel
theorem d_V_scan_112 : decode b_V_scan 112 = .ok (.getfield 156, 3) := by decide +kernel
theorem d_V_scan_115 : decode b_V_scan 115 = .ok (.istore 6, 2) := by decide +kernel
theorem d_V_scan_117 : decode b_V_scan 117 = .ok (.aload 7, 2) := by decide +kernel
theorem d_V_scan_119 : decode b_V_scan 119 = .ok (.aload_n 0, 1) := by decide +kernel
theorem d_V_scan_120 : decode b_V_scan 120 = .ok (.getfield 138, 3) := by decide +kernel
theorem d_V_scan_123 : decode b_V_scan 123 = .ok (.invokevirtual 197, 3) := by decide +kernel
theorem d_V_scan_126 : decode b_V_scan 126 = .ok (.ifCond .ne 14, 3) := by decide +kernel
theorem d_V_scan_129 : decode b_V_scan 129 = .ok (.iload 5, 2) := by decide +kernel
theorem d_V_scan_131 : decode b_V_scan 131 = .ok (.ifCond .ne 9, 3) := by decide +kernel
theorem d_V_scan_134 : decode b_V_scan 134 = .ok (.aload 7, 2) := by decide +kernel
theorem d_V_scan_136 : decode b_V_scan 136 = .ok (.getfield 156, 3) := by decide +kernel
theorem d_V_scan_139 : decode b_V_scan 139 = .ok (.ireturn, 1) := by decide +kernel
theorem d_V_scan_140 : decode b_V_scan 140 = .ok (.iload 5, 2) := by decide +kernel
theorem d_V_scan_142 : decode b_V_scan 142 = .ok (.aload 7, 2) := by decide +kernel
theorem d_V_scan_144 : decode b_V_scan 144 = .ok (.aload_n 0, 1) := by decide +kernel
theorem d_V_scan_145 : decode b_V_scan 145 = .ok (.getfield 138, 3) := by decide +kernel
theorem d_V_scan_148 : decode b_V_scan 148 = .ok (.invokevirtual 197, 3) := by decide +kernel
theorem d_V_scan_151 : decode b_V_scan 151 = .ok (.ifCond .eq 7, 3) := by decide +kernel
theorem d_V_scan_154 : decode b_V_scan 154 = .ok (.iconst 0, 1) := by decide +kernel
theorem d_V_scan_155 : decode b_V_scan 155 = .ok (.goto 4, 3) := by decide +kernel
theorem d_V_scan_158 : decode b_V_scan 158 = .ok (.iconst 1, 1) := by decide +kernel
theorem d_V_scan_159 : decode b_V_scan 159 = .ok (.isub, 1) := by decide +kernel
theorem d_V_scan_160 : decode b_V_scan 160 = .ok (.istore 5, 2) := by decide +kernel
theorem d_V_scan_162 : decode b_V_scan 162 = .ok (.aload_n 0, 1) := by decide +kernel
theorem d_V_scan_163 : decode b_V_scan 163 = .ok (.getfield 61, 3) := by decide +kernel
theorem d_V_scan_166 : decode b_V_scan 166 = .ok (.invokevirtual 339, 3) := by decide +kernel
theorem d_V_scan_169 : decode b_V_scan 169 = .ok (.aload_n 0, 1) := by decide +kernel
theorem d_V_scan_170 : decode b_V_scan 170 = .ok (.getfield 61, 3) := by decide +kernel
theorem d_V_scan_173 : decode b_V_scan 173 = .ok (.invokevirtual 338, 3) := by decide +kernel
theorem d_V_scan_176 : decode b_V_scan 176 = .ok (.astore 7, 2) := by decide +kernel
theorem d_V_scan_178 : decode b_V_scan 178 = .ok (.goto (-93), 3) := by decide +kernel
theorem d_V_scan_181 : decode b_V_scan 181 = .ok (.bipush (-2), 2) := by decide +kernel
theorem d_V_scan_183 : decode b_V_scan 183 = .ok (.ireturn, 1) := by decide +kernel
theorem d_V_probes_0 : decode b_V_probes 0 = .ok (.aload_n 0, 1) := by decide +kernel
theorem d_V_probes_1 : decode b_V_probes 1 = .ok (.getfield 321, 3) := by decide +kernel
theorem d_V_probes_4 : decode b_V_probes 4 = .ok (.ireturn, 1) := by decide +kernel
theorem d_V_table_0 : decode b_V_table 0 = .ok (.iload_n 1, 1) := by decide +kernel
theorem d_V_table_1 : decode b_V_table 1 = .ok (.ifCond .lt 8, 3) := by decide +kernel
theorem d_V_table_4 : decode b_V_table 4 = .ok (.iload_n 1, 1) := by decide +kernel
theorem d_V_table_5 : decode b_V_table 5 = .ok (.iconst 3, 1) := by decide +kernel
theorem d_V_table_6 : decode b_V_table 6 = .ok (.if_icmp .lt 6, 3) := by decide +kernel
theorem d_V_table_9 : decode b_V_table 9 = .ok (.bipush (-2), 2) := by decide +kernel
theorem d_V_table_11 : decode b_V_table 11 = .ok (.ireturn, 1) := by decide +kernel
theorem d_V_table_12 : decode b_V_table 12 = .ok (.aload_n 0, 1) := by decide +kernel
theorem d_V_table_13 : decode b_V_table 13 = .ok (.getfield 48, 3) := by decide +kernel
theorem d_V_table_16 : decode b_V_table 16 = .ok (.iload_n 1, 1) := by decide +kernel
theorem d_V_table_17 : decode b_V_table 17 = .ok (.aaload, 1) := by decide +kernel
theorem d_V_table_18 : decode b_V_table 18 = .ok (.astore 4, 2) := by decide +kernel
theorem d_V_table_20 : decode b_V_table 20 = .ok (.iload_n 2, 1) := by decide +kernel
theorem d_V_table_21 : decode b_V_table 21 = .ok (.iconst (-1), 1) := by decide +kernel
theorem d_V_table_22 : decode b_V_table 22 = .ok (.if_icmp .ne 9, 3) := by decide +kernel
theorem d_V_table_25 : decode b_V_table 25 = .ok (.aload 4, 2) := by decide +kernel
theorem d_V_table_27 : decode b_V_table 27 = .ok (.getfield 213, 3) := by decide +kernel
theorem d_V_table_30 : decode b_V_table 30 = .ok (.ireturn, 1) := by decide +kernel
theorem d_V_table_31 : decode b_V_table 31 = .ok (.iload_n 2, 1) := by decide +kernel
theorem d_V_table_32 : decode b_V_table 32 = .ok (.ifCond .lt 12, 3) := by decide +kernel
theorem d_V_table_35 : decode b_V_table 35 = .ok (.iload_n 2, 1) := by decide +kernel
theorem d_V_table_36 : decode b_V_table 36 = .ok (.aload 4, 2) := by decide +kernel
theorem d_V_table_38 : decode b_V_table 38 = .ok (.getfield 213, 3) := by decide +kernel
theorem d_V_table_41 : decode b_V_table 41 = .ok (.if_icmp .lt 6, 3) := by decide +kernel
theorem d_V_table_44 : decode b_V_table 44 = .ok (.bipush (-2), 2) := by decide +kernel
theorem d_V_table_46 : decode b_V_table 46 = .ok (.ireturn, 1) := by decide +kernel
theorem d_V_table_47 : decode b_V_table 47 = .ok (.aload 4, 2) := by decide +kernel
theorem d_V_table_49 : decode b_V_table 49 = .ok (.getfield 214, 3) := by decide +kernel
theorem d_V_table_52 : decode b_V_table 52 = .ok (.iload_n 2, 1) := by decide +kernel
theorem d_V_table_53 : decode b_V_table 53 = .ok (.aaload, 1) := by decide +kernel
theorem d_V_table_54 : decode b_V_table 54 = .ok (.astore 5, 2) := by decide +kernel
theorem d_V_table_56 : decode b_V_table 56 = .ok (.iload_n 3, 1) := by decide +kernel
theorem d_V_table_57 : decode b_V_table 57 = .ok (.tableswitch 118 0 4 #[35, 41, 47, 58, 75], 35) := by decide +kernel
theorem d_V_table_92 : decode b_V_table 92 = .ok (.aload 5, 2) := by decide +kernel
theorem d_V_table_94 : decode b_V_table 94 = .ok (.getfield 209, 3) := by decide +kernel
theorem d_V_table_97 : decode b_V_table 97 = .ok (.ireturn, 1) := by decide +kernel
theorem d_V_table_98 : decode b_V_table 98 = .ok (.aload 5, 2) := by decide +kernel
theorem d_V_table_100 : decode b_V_table 100 = .ok (.getfield 210, 3) := by decide +kernel
theorem d_V_table_103 : decode b_V_table 103 = .ok (.ireturn, 1) := by decide +kernel
theorem d_V_table_104 : decode b_V_table 104 = .ok (.aload 5, 2) := by decide +kernel
theorem d_V_table_106 : decode b_V_table 106 = .ok (.getfield 272, 3) := by decide +kernel
theorem d_V_table_109 : decode b_V_table 109 = .ok (.iconst 0, 1) := by decide +kernel
theorem d_V_table_110 : decode b_V_table 110 = .ok (.aaload, 1) := by decide +kernel
theorem d_V_table_111 : decode b_V_table 111 = .ok (.getfield 156, 3) := by decide +kernel
theorem d_V_table_114 : decode b_V_table 114 = .ok (.ireturn, 1) := by decide +kernel
theorem d_V_table_115 : decode b_V_table 115 = .ok (.aload 5, 2) := by decide +kernel
theorem d_V_table_117 : decode b_V_table 117 = .ok (.getfield 272, 3) := by decide +kernel
theorem d_V_table_120 : decode b_V_table 120 = .ok (.aload 5, 2) := by decide +kernel
theorem d_V_table_122 : decode b_V_table 122 = .ok (.getfield 209, 3) := by decide +kernel
theorem d_V_table_125 : decode b_V_table 125 = .ok (.iconst 1, 1) := by decide +kernel
theorem d_V_table_126 : decode b_V_table 126 = .ok (.isub, 1) := by decide +kernel
theorem d_V_table_127 : decode b_V_table 127 = .ok (.aaload, 1) := by decide +kernel
theorem d_V_table_128 : decode b_V_table 128 = .ok (.getfield 156, 3) := by decide +kernel
theorem d_V_table_131 : decode b_V_table 131 = .ok (.ireturn, 1) := by decide +kernel
theorem d_V_table_132 : decode b_V_table 132 = .ok (.iconst 0, 1) := by decide +kernel
theorem d_V_table_133 : decode b_V_table 133 = .ok (.istore 6, 2) := by decide +kernel
theorem d_V_table_135 : decode b_V_table 135 = .ok (.iconst 0, 1) := by decide +kernel
theorem d_V_table_136 : decode b_V_table 136 = .ok (.istore 7, 2) := by decide +kernel
theorem d_V_table_138 : decode b_V_table 138 = .ok (.iload 7, 2) := by decide +kernel
theorem d_V_table_140 : decode b_V_table 140 = .ok (.aload 5, 2) := by decide +kernel
theorem d_V_table_142 : decode b_V_table 142 = .ok (.getfield 209, 3) := by decide +kernel
theorem d_V_table_145 : decode b_V_table 145 = .ok (.if_icmp .ge 27, 3) := by decide +kernel
theorem d_V_table_148 : decode b_V_table 148 = .ok (.iload 6, 2) := by decide +kernel
theorem d_V_table_150 : decode b_V_table 150 = .ok (.aload 5, 2) := by decide +kernel
theorem d_V_table_152 : decode b_V_table 152 = .ok (.getfield 272, 3) := by decide +kernel
theorem d_V_table_155 : decode b_V_table 155 = .ok (.iload 7, 2) := by decide +kernel
theorem d_V_table_157 : decode b_V_table 157 = .ok (.aaload, 1) := by decide +kernel
theorem d_V_table_158 : decode b_V_table 158 = .ok (.getfield 163, 3) := by decide +kernel
theorem d_V_table_161 : decode b_V_table 161 = .ok (.invokestatic 304, 3) := by decide +kernel
theorem d_V_table_164 : decode b_V_table 164 = .ok (.istore 6, 2) := by decide +kernel
theorem d_V_table_166 : decode b_V_table 166 = .ok (.iinc 7 1, 3) := by decide +kernel
theorem d_V_table_169 : decode b_V_table 169 = .ok (.goto (-31), 3) := by decide +kernel
theorem d_V_table_172 : decode b_V_table 172 = .ok (.iload 6, 2) := by decide +kernel
theorem d_V_table_174 : decode b_V_table 174 = .ok (.ireturn, 1) := by decide +kernel
theorem d_V_table_175 : decode b_V_table 175 = .ok (.bipush (-2), 2) := by decide +kernel
theorem d_V_table_177 : decode b_V_table 177 = .ok (.ireturn, 1) := by decide +kernel
theorem d_V_segment_0 : decode b_V_segment 0 = .ok (.iload_n 1, 1) := by decide +kernel
theorem d_V_segment_1 : decode b_V_segment 1 = .ok (.iconst (-1), 1) := by decide +kernel
theorem d_V_segment_2 : decode b_V_segment 2 = .ok (.if_icmp .ne 8, 3) := by decide +kernel
theorem d_V_segment_5 : decode b_V_segment 5 = .ok (.aload_n 0, 1) := by decide +kernel
theorem d_V_segment_6 : decode b_V_segment 6 = .ok (.getfield 19, 3) := by decide +kernel
theorem d_V_segment_9 : decode b_V_segment 9 = .ok (.ireturn, 1) := by decide +kernel
theorem d_V_segment_10 : decode b_V_segment 10 = .ok (.iload_n 1, 1) := by decide +kernel
theorem d_V_segment_11 : decode b_V_segment 11 = .ok (.ifCond .ge 7, 3) := by decide +kernel
theorem d_V_segment_14 : decode b_V_segment 14 = .ok (.aconst_null, 1) := by decide +kernel
theorem d_V_segment_15 : decode b_V_segment 15 = .ok (.goto 7, 3) := by decide +kernel
theorem d_V_segment_18 : decode b_V_segment 18 = .ok (.aload_n 0, 1) := by decide +kernel
theorem d_V_segment_19 : decode b_V_segment 19 = .ok (.getfield 10, 3) := by decide +kernel
theorem d_V_segment_22 : decode b_V_segment 22 = .ok (.astore_n 3, 1) := by decide +kernel
theorem d_V_segment_23 : decode b_V_segment 23 = .ok (.iconst 0, 1) := by decide +kernel
theorem d_V_segment_24 : decode b_V_segment 24 = .ok (.istore 4, 2) := by decide +kernel
theorem d_V_segment_26 : decode b_V_segment 26 = .ok (.iload 4, 2) := by decide +kernel
theorem d_V_segment_28 : decode b_V_segment 28 = .ok (.iload_n 1, 1) := by decide +kernel
theorem d_V_segment_29 : decode b_V_segment 29 = .ok (.if_icmp .ge 18, 3) := by decide +kernel
theorem d_V_segment_32 : decode b_V_segment 32 = .ok (.aload_n 3, 1) := by decide +kernel
theorem d_V_segment_33 : decode b_V_segment 33 = .ok (.ifnull 14, 3) := by decide +kernel
theorem d_V_segment_36 : decode b_V_segment 36 = .ok (.aload_n 3, 1) := by decide +kernel
theorem d_V_segment_37 : decode b_V_segment 37 = .ok (.getfield 85, 3) := by decide +kernel
theorem d_V_segment_40 : decode b_V_segment 40 = .ok (.astore_n 3, 1) := by decide +kernel
theorem d_V_segment_41 : decode b_V_segment 41 = .ok (.iinc 4 1, 3) := by decide +kernel
theorem d_V_segment_44 : decode b_V_segment 44 = .ok (.goto (-18), 3) := by decide +kernel
theorem d_V_segment_47 : decode b_V_segment 47 = .ok (.aload_n 3, 1) := by decide +kernel
theorem d_V_segment_48 : decode b_V_segment 48 = .ok (.ifnonnull 6, 3) := by decide +kernel
theorem d_V_segment_51 : decode b_V_segment 51 = .ok (.bipush (-2), 2) := by decide +kernel
theorem d_V_segment_53 : decode b_V_segment 53 = .ok (.ireturn, 1) := by decide +kernel
theorem d_V_segment_54 : decode b_V_segment 54 = .ok (.iload_n 2, 1) := by decide +kernel
theorem d_V_segment_55 : decode b_V_segment 55 = .ok (.ifCond .ne 10, 3) := by decide +kernel
theorem d_V_segment_58 : decode b_V_segment 58 = .ok (.aload_n 3, 1) := by decide +kernel
theorem d_V_segment_59 : decode b_V_segment 59 = .ok (.getfield 88, 3) := by decide +kernel
theorem d_V_segment_62 : decode b_V_segment 62 = .ok (.goto 29, 3) := by decide +kernel
theorem d_V_segment_65 : decode b_V_segment 65 = .ok (.iload_n 2, 1) := by decide +kernel
theorem d_V_segment_66 : decode b_V_segment 66 = .ok (.iconst 1, 1) := by decide +kernel
theorem d_V_segment_67 : decode b_V_segment 67 = .ok (.if_icmp .ne 10, 3) := by decide +kernel
theorem d_V_segment_70 : decode b_V_segment 70 = .ok (.aload_n 3, 1) := by decide +kernel
theorem d_V_segment_71 : decode b_V_segment 71 = .ok (.getfield 79, 3) := by decide +kernel
theorem d_V_segment_74 : decode b_V_segment 74 = .ok (.goto 17, 3) := by decide +kernel
theorem d_V_segment_77 : decode b_V_segment 77 = .ok (.iload_n 2, 1) := by decide +kernel
theorem d_V_segment_78 : decode b_V_segment 78 = .ok (.iconst 2, 1) := by decide +kernel
theorem d_V_segment_79 : decode b_V_segment 79 = .ok (.if_icmp .ne 10, 3) := by decide +kernel
theorem d_V_segment_82 : decode b_V_segment 82 = .ok (.aload_n 3, 1) := by decide +kernel
theorem d_V_segment_83 : decode b_V_segment 83 = .ok (.getfield 287, 3) := by decide +kernel
theorem d_V_segment_86 : decode b_V_segment 86 = .ok (.goto 5, 3) := by decide +kernel
theorem d_V_segment_89 : decode b_V_segment 89 = .ok (.bipush (-2), 2) := by decide +kernel
theorem d_V_segment_91 : decode b_V_segment 91 = .ok (.ireturn, 1) := by decide +kernel
theorem d_V_look_0 : decode b_V_look 0 = .ok (.iload_n 1, 1) := by decide +kernel
theorem d_V_look_1 : decode b_V_look 1 = .ok (.tableswitch 106 0 4 #[35, 43, 48, 53, 58], 35) := by decide +kernel
theorem d_V_look_36 : decode b_V_look 36 = .ok (.aload_n 0, 1) := by decide +kernel
theorem d_V_look_37 : decode b_V_look 37 = .ok (.getfield 42, 3) := by decide +kernel
theorem d_V_look_40 : decode b_V_look 40 = .ok (.getfield 120, 3) := by decide +kernel
theorem d_V_look_43 : decode b_V_look 43 = .ok (.ireturn, 1) := by decide +kernel
theorem d_V_look_44 : decode b_V_look 44 = .ok (.aload_n 0, 1) := by decide +kernel
theorem d_V_look_45 : decode b_V_look 45 = .ok (.getfield 97, 3) := by decide +kernel
theorem d_V_look_48 : decode b_V_look 48 = .ok (.ireturn, 1) := by decide +kernel
theorem d_V_look_49 : decode b_V_look 49 = .ok (.aload_n 0, 1) := by decide +kernel
theorem d_V_look_50 : decode b_V_look 50 = .ok (.getfield 103, 3) := by decide +kernel
theorem d_V_look_53 : decode b_V_look 53 = .ok (.ireturn, 1) := by decide +kernel
theorem d_V_look_54 : decode b_V_look 54 = .ok (.aload_n 0, 1) := by decide +kernel
theorem d_V_look_55 : decode b_V_look 55 = .ok (.getfield 109, 3) := by decide +kernel
theorem d_V_look_58 : decode b_V_look 58 = .ok (.ireturn, 1) := by decide +kernel
theorem d_V_look_59 : decode b_V_look 59 = .ok (.iconst 0, 1) := by decide +kernel
theorem d_V_look_60 : decode b_V_look 60 = .ok (.istore_n 2, 1) := by decide +kernel
theorem d_V_look_61 : decode b_V_look 61 = .ok (.aload_n 0, 1) := by decide +kernel
theorem d_V_look_62 : decode b_V_look 62 = .ok (.getfield 36, 3) := by decide +kernel
theorem d_V_look_65 : decode b_V_look 65 = .ok (.astore_n 3, 1) := by decide +kernel
theorem d_V_look_66 : decode b_V_look 66 = .ok (.aload_n 3, 1) := by decide +kernel
theorem d_V_look_67 : decode b_V_look 67 = .ok (.arraylength, 1) := by decide +kernel
theorem d_V_look_68 : decode b_V_look 68 = .ok (.istore 4, 2) := by decide +kernel
theorem d_V_look_70 : decode b_V_look 70 = .ok (.iconst 0, 1) := by decide +kernel
theorem d_V_look_71 : decode b_V_look 71 = .ok (.istore 5, 2) := by decide +kernel
theorem d_V_look_73 : decode b_V_look 73 = .ok (.iload 5, 2) := by decide +kernel
theorem d_V_look_75 : decode b_V_look 75 = .ok (.iload 4, 2) := by decide +kernel
theorem d_V_look_77 : decode b_V_look 77 = .ok (.if_icmp .ge 28, 3) := by decide +kernel
theorem d_V_look_80 : decode b_V_look 80 = .ok (.aload_n 3, 1) := by decide +kernel
theorem d_V_look_81 : decode b_V_look 81 = .ok (.iload 5, 2) := by decide +kernel
theorem d_V_look_83 : decode b_V_look 83 = .ok (.iaload, 1) := by decide +kernel
theorem d_V_look_84 : decode b_V_look 84 = .ok (.istore 6, 2) := by decide +kernel
theorem d_V_look_86 : decode b_V_look 86 = .ok (.iload_n 2, 1) := by decide +kernel
theorem d_V_look_87 : decode b_V_look 87 = .ok (.iload 6, 2) := by decide +kernel
theorem d_V_look_89 : decode b_V_look 89 = .ok (.ifCond .ge 7, 3) := by decide +kernel
theorem d_V_look_92 : decode b_V_look 92 = .ok (.iconst 0, 1) := by decide +kernel
theorem d_V_look_93 : decode b_V_look 93 = .ok (.goto 4, 3) := by decide +kernel
theorem d_V_look_96 : decode b_V_look 96 = .ok (.iconst 1, 1) := by decide +kernel
theorem d_V_look_97 : decode b_V_look 97 = .ok (.iadd, 1) := by decide +kernel
theorem d_V_look_98 : decode b_V_look 98 = .ok (.istore_n 2, 1) := by decide +kernel
theorem d_V_look_99 : decode b_V_look 99 = .ok (.iinc 5 1, 3) := by decide +kernel
theorem d_V_look_102 : decode b_V_look 102 = .ok (.goto (-29), 3) := by decide +kernel
theorem d_V_look_105 : decode b_V_look 105 = .ok (.iload_n 2, 1) := by decide +kernel
theorem d_V_look_106 : decode b_V_look 106 = .ok (.ireturn, 1) := by decide +kernel
theorem d_V_look_107 : decode b_V_look 107 = .ok (.bipush (-2), 2) := by decide +kernel
theorem d_V_look_109 : decode b_V_look 109 = .ok (.ireturn, 1) := by decide +kernel
theorem d_Md_init_0 : decode b_Md_init 0 = .ok (.aload_n 0, 1) := by decide +kernel
theorem d_Md_init_1 : decode b_Md_init 1 = .ok (.invokespecial 1, 3) := by decide +kernel
theorem d_Md_init_4 : decode b_Md_init 4 = .ok (.aload_n 0, 1) := by decide +kernel
theorem d_Md_init_5 : decode b_Md_init 5 = .ok (.sipush 520, 3) := by decide +kernel
theorem d_Md_init_8 : decode b_Md_init 8 = .ok (.newarray .int, 2) := by decide +kernel
theorem d_Md_init_10 : decode b_Md_init 10 = .ok (.putfield 7, 3) := by decide +kernel
theorem d_Md_init_13 : decode b_Md_init 13 = .ok (.aload_n 0, 1) := by decide +kernel
theorem d_Md_init_14 : decode b_Md_init 14 = .ok (.sipush 520, 3) := by decide +kernel
theorem d_Md_init_17 : decode b_Md_init 17 = .ok (.newarray .int, 2) := by decide +kernel
theorem d_Md_init_19 : decode b_Md_init 19 = .ok (.putfield 13, 3) := by decide +kernel
theorem d_Md_init_22 : decode b_Md_init 22 = .ok (.aload_n 0, 1) := by decide +kernel
theorem d_Md_init_23 : decode b_Md_init 23 = .ok (.sipush 520, 3) := by decide +kernel
theorem d_Md_init_26 : decode b_Md_init 26 = .ok (.newarray .int, 2) := by decide +kernel
theorem d_Md_init_28 : decode b_Md_init 28 = .ok (.putfield 16, 3) := by decide +kernel
theorem d_Md_init_31 : decode b_Md_init 31 = .ok (.aload_n 0, 1) := by decide +kernel
theorem d_Md_init_32 : decode b_Md_init 32 = .ok (.sipush 520, 3) := by decide +kernel
theorem d_Md_init_35 : decode b_Md_init 35 = .ok (.newarray .boolean, 2) := by decide +kernel
theorem d_Md_init_37 : decode b_Md_init 37 = .ok (.putfield 19, 3) := by decide +kernel
theorem d_Md_init_40 : decode b_Md_init 40 = .ok (.aload_n 0, 1) := by decide +kernel
theorem d_Md_init_41 : decode b_Md_init 41 = .ok (.sipush 520, 3) := by decide +kernel
theorem d_Md_init_44 : decode b_Md_init 44 = .ok (.newarray .int, 2) := by decide +kernel
theorem d_Md_init_46 : decode b_Md_init 46 = .ok (.putfield 23, 3) := by decide +kernel
theorem d_Md_init_49 : decode b_Md_init 49 = .ok (.aload_n 0, 1) := by decide +kernel
theorem d_Md_init_50 : decode b_Md_init 50 = .ok (.sipush 520, 3) := by decide +kernel
theorem d_Md_init_53 : decode b_Md_init 53 = .ok (.newarray .int, 2) := by decide +kernel
theorem d_Md_init_55 : decode b_Md_init 55 = .ok (.putfield 26, 3) := by decide +kernel
theorem d_Md_init_58 : decode b_Md_init 58 = .ok (.aload_n 0, 1) := by decide +kernel
theorem d_Md_init_59 : decode b_Md_init 59 = .ok (.sipush 520, 3) := by decide +kernel
theorem d_Md_init_62 : decode b_Md_init 62 = .ok (.newarray .int, 2) := by decide +kernel
theorem d_Md_init_64 : decode b_Md_init 64 = .ok (.putfield 29, 3) := by decide +kernel
theorem d_Md_init_67 : decode b_Md_init 67 = .ok (.aload_n 0, 1) := by decide +kernel
theorem d_Md_init_68 : decode b_Md_init 68 = .ok (.sipush 520, 3) := by decide +kernel
theorem d_Md_init_71 : decode b_Md_init 71 = .ok (.newarray .int, 2) := by decide +kernel
theorem d_Md_init_73 : decode b_Md_init 73 = .ok (.putfield 32, 3) := by decide +kernel
theorem d_Md_init_76 : decode b_Md_init 76 = .ok (.aload_n 0, 1) := by decide +kernel
theorem d_Md_init_77 : decode b_Md_init 77 = .ok (.sipush 520, 3) := by decide +kernel
theorem d_Md_init_80 : decode b_Md_init 80 = .ok (.newarray .int, 2) := by decide +kernel
theorem d_Md_init_82 : decode b_Md_init 82 = .ok (.putfield 35, 3) := by decide +kernel
theorem d_Md_init_85 : decode b_Md_init 85 = .ok (.aload_n 0, 1) := by decide +kernel
theorem d_Md_init_86 : decode b_Md_init 86 = .ok (.sipush 520, 3) := by decide +kernel
theorem d_Md_init_89 : decode b_Md_init 89 = .ok (.newarray .boolean, 2) := by decide +kernel
theorem d_Md_init_91 : decode b_Md_init 91 = .ok (.putfield 38, 3) := by decide +kernel
theorem d_Md_init_94 : decode b_Md_init 94 = .ok (.aload_n 0, 1) := by decide +kernel
theorem d_Md_init_95 : decode b_Md_init 95 = .ok (.sipush 520, 3) := by decide +kernel
theorem d_Md_init_98 : decode b_Md_init 98 = .ok (.newarray .boolean, 2) := by decide +kernel
theorem d_Md_init_100 : decode b_Md_init 100 = .ok (.putfield 41, 3) := by decide +kernel
theorem d_Md_init_103 : decode b_Md_init 103 = .ok (.aload_n 0, 1) := by decide +kernel
theorem d_Md_init_104 : decode b_Md_init 104 = .ok (.bipush 6, 2) := by decide +kernel
theorem d_Md_init_106 : decode b_Md_init 106 = .ok (.newarray .int, 2) := by decide +kernel
theorem d_Md_init_108 : decode b_Md_init 108 = .ok (.putfield 44, 3) := by decide +kernel
theorem d_Md_init_111 : decode b_Md_init 111 = .ok (.aload_n 0, 1) := by decide +kernel
theorem d_Md_init_112 : decode b_Md_init 112 = .ok (.bipush 6, 2) := by decide +kernel
theorem d_Md_init_114 : decode b_Md_init 114 = .ok (.newarray .int, 2) := by decide +kernel
theorem d_Md_init_116 : decode b_Md_init 116 = .ok (.putfield 47, 3) := by decide +kernel
theorem d_Md_init_119 : decode b_Md_init 119 = .ok (.aload_n 0, 1) := by decide +kernel
theorem d_Md_init_120 : decode b_Md_init 120 = .ok (.bipush 6, 2) := by decide +kernel
theorem d_Md_init_122 : decode b_Md_init 122 = .ok (.newarray .int, 2) := by decide +kernel
theorem d_Md_init_124 : decode b_Md_init 124 = .ok (.putfield 50, 3) := by decide +kernel
theorem d_Md_init_127 : decode b_Md_init 127 = .ok (.aload_n 0, 1) := by decide +kernel
theorem d_Md_init_128 : decode b_Md_init 128 = .ok (.iconst 3, 1) := by decide +kernel
theorem d_Md_init_129 : decode b_Md_init 129 = .ok (.newarray .boolean, 2) := by decide +kernel
theorem d_Md_init_131 : decode b_Md_init 131 = .ok (.putfield 53, 3) := by decide +kernel
theorem d_Md_init_134 : decode b_Md_init 134 = .ok (.aload_n 0, 1) := by decide +kernel
theorem d_Md_init_135 : decode b_Md_init 135 = .ok (.iconst 3, 1) := by decide +kernel
theorem d_Md_init_136 : decode b_Md_init 136 = .ok (.newarray .int, 2) := by decide +kernel
theorem d_Md_init_138 : decode b_Md_init 138 = .ok (.putfield 56, 3) := by decide +kernel
theorem d_Md_init_141 : decode b_Md_init 141 = .ok (.aload_n 0, 1) := by decide +kernel
theorem d_Md_init_142 : decode b_Md_init 142 = .ok (.bipush 8, 2) := by decide +kernel
theorem d_Md_init_144 : decode b_Md_init 144 = .ok (.newarray .int, 2) := by decide +kernel
theorem d_Md_init_146 : decode b_Md_init 146 = .ok (.putfield 59, 3) := by decide +kernel
theorem d_Md_init_149 : decode b_Md_init 149 = .ok (.aload_n 0, 1) := by decide +kernel
theorem d_Md_init_150 : decode b_Md_init 150 = .ok (.bipush 16, 2) := by decide +kernel
theorem d_Md_init_152 : decode b_Md_init 152 = .ok (.newarray .int, 2) := by decide +kernel
theorem d_Md_init_154 : decode b_Md_init 154 = .ok (.putfield 62, 3) := by decide +kernel
theorem d_Md_init_157 : decode b_Md_init 157 = .ok (.aload_n 0, 1) := by decide +kernel
theorem d_Md_init_158 : decode b_Md_init 158 = .ok (.bipush 16, 2) := by decide +kernel
theorem d_Md_init_160 : decode b_Md_init 160 = .ok (.newarray .int, 2) := by decide +kernel
theorem d_Md_init_162 : decode b_Md_init 162 = .ok (.putfield 65, 3) := by decide +kernel
theorem d_Md_init_165 : decode b_Md_init 165 = .ok (.aload_n 0, 1) := by decide +kernel
theorem d_Md_init_166 : decode b_Md_init 166 = .ok (.bipush 16, 2) := by decide +kernel
theorem d_Md_init_168 : decode b_Md_init 168 = .ok (.newarray .boolean, 2) := by decide +kernel
theorem d_Md_init_170 : decode b_Md_init 170 = .ok (.putfield 68, 3) := by decide +kernel
theorem d_Md_init_173 : decode b_Md_init 173 = .ok (.return_, 1) := by decide +kernel
theorem d_Md_gone_0 : decode b_Md_gone 0 = .ok (.aload_n 0, 1) := by decide +kernel
theorem d_Md_gone_1 : decode b_Md_gone 1 = .ok (.getfield 19, 3) := by decide +kernel
theorem d_Md_gone_4 : decode b_Md_gone 4 = .ok (.iload_n 1, 1) := by decide +kernel
theorem d_Md_gone_5 : decode b_Md_gone 5 = .ok (.baload, 1) := by decide +kernel
theorem d_Md_gone_6 : decode b_Md_gone 6 = .ok (.ifCond .ne 25, 3) := by decide +kernel
theorem d_Md_gone_9 : decode b_Md_gone 9 = .ok (.aload_n 0, 1) := by decide +kernel
theorem d_Md_gone_10 : decode b_Md_gone 10 = .ok (.getfield 23, 3) := by decide +kernel
theorem d_Md_gone_13 : decode b_Md_gone 13 = .ok (.iload_n 1, 1) := by decide +kernel
theorem d_Md_gone_14 : decode b_Md_gone 14 = .ok (.iaload, 1) := by decide +kernel
theorem d_Md_gone_15 : decode b_Md_gone 15 = .ok (.ifCond .le 20, 3) := by decide +kernel
theorem d_Md_gone_18 : decode b_Md_gone 18 = .ok (.aload_n 0, 1) := by decide +kernel
theorem d_Md_gone_19 : decode b_Md_gone 19 = .ok (.getfield 71, 3) := by decide +kernel
theorem d_Md_gone_22 : decode b_Md_gone 22 = .ok (.aload_n 0, 1) := by decide +kernel
theorem d_Md_gone_23 : decode b_Md_gone 23 = .ok (.getfield 23, 3) := by decide +kernel
theorem d_Md_gone_26 : decode b_Md_gone 26 = .ok (.iload_n 1, 1) := by decide +kernel
theorem d_Md_gone_27 : decode b_Md_gone 27 = .ok (.iaload, 1) := by decide +kernel
theorem d_Md_gone_28 : decode b_Md_gone 28 = .ok (.if_icmp .lt 7, 3) := by decide +kernel
theorem d_Md_gone_31 : decode b_Md_gone 31 = .ok (.iconst 1, 1) := by decide +kernel
theorem d_Md_gone_32 : decode b_Md_gone 32 = .ok (.goto 4, 3) := by decide +kernel
theorem d_Md_gone_35 : decode b_Md_gone 35 = .ok (.iconst 0, 1) := by decide +kernel
theorem d_Md_gone_36 : decode b_Md_gone 36 = .ok (.ireturn, 1) := by decide +kernel
theorem d_Md_size_0 : decode b_Md_size 0 = .ok (.iconst 0, 1) := by decide +kernel
theorem d_Md_size_1 : decode b_Md_size 1 = .ok (.istore_n 2, 1) := by decide +kernel
theorem d_Md_size_2 : decode b_Md_size 2 = .ok (.iconst 0, 1) := by decide +kernel
theorem d_Md_size_3 : decode b_Md_size 3 = .ok (.istore_n 3, 1) := by decide +kernel
theorem d_Md_size_4 : decode b_Md_size 4 = .ok (.iload_n 3, 1) := by decide +kernel
theorem d_Md_size_5 : decode b_Md_size 5 = .ok (.aload_n 0, 1) := by decide +kernel
theorem d_Md_size_6 : decode b_Md_size 6 = .ok (.getfield 75, 3) := by decide +kernel
theorem d_Md_size_9 : decode b_Md_size 9 = .ok (.if_icmp .ge 22, 3) := by decide +kernel
theorem d_Md_size_12 : decode b_Md_size 12 = .ok (.aload_n 0, 1) := by decide +kernel
theorem d_Md_size_13 : decode b_Md_size 13 = .ok (.getfield 26, 3) := by decide +kernel
theorem d_Md_size_16 : decode b_Md_size 16 = .ok (.iload_n 3, 1) := by decide +kernel
theorem d_Md_size_17 : decode b_Md_size 17 = .ok (.iaload, 1) := by decide +kernel
theorem d_Md_size_18 : decode b_Md_size 18 = .ok (.iload_n 1, 1) := by decide +kernel
theorem d_Md_size_19 : decode b_Md_size 19 = .ok (.if_icmp .ne 6, 3) := by decide +kernel
theorem d_Md_size_22 : decode b_Md_size 22 = .ok (.iinc 2 1, 3) := by decide +kernel
theorem d_Md_size_25 : decode b_Md_size 25 = .ok (.iinc 3 1, 3) := by decide +kernel
theorem d_Md_size_28 : decode b_Md_size 28 = .ok (.goto (-24), 3) := by decide +kernel
theorem d_Md_size_31 : decode b_Md_size 31 = .ok (.iload_n 2, 1) := by decide +kernel
theorem d_Md_size_32 : decode b_Md_size 32 = .ok (.ireturn, 1) := by decide +kernel
theorem d_Md_before_0 : decode b_Md_before 0 = .ok (.aload_n 0, 1) := by decide +kernel
theorem d_Md_before_1 : decode b_Md_before 1 = .ok (.getfield 7, 3) := by decide +kernel
theorem d_Md_before_4 : decode b_Md_before 4 = .ok (.iload_n 1, 1) := by decide +kernel
theorem d_Md_before_5 : decode b_Md_before 5 = .ok (.iaload, 1) := by decide +kernel
theorem d_Md_before_6 : decode b_Md_before 6 = .ok (.aload_n 0, 1) := by decide +kernel
theorem d_Md_before_7 : decode b_Md_before 7 = .ok (.getfield 7, 3) := by decide +kernel
theorem d_Md_before_10 : decode b_Md_before 10 = .ok (.iload_n 2, 1) := by decide +kernel
theorem d_Md_before_11 : decode b_Md_before 11 = .ok (.iaload, 1) := by decide +kernel
theorem d_Md_before_12 : decode b_Md_before 12 = .ok (.if_icmp .lt 33, 3) := by decide +kernel
theorem d_Md_before_15 : decode b_Md_before 15 = .ok (.aload_n 0, 1) := by decide +kernel
theorem d_Md_before_16 : decode b_Md_before 16 = .ok (.getfield 7, 3) := by decide +kernel
theorem d_Md_before_19 : decode b_Md_before 19 = .ok (.iload_n 1, 1) := by decide +kernel
theorem d_Md_before_20 : decode b_Md_before 20 = .ok (.iaload, 1) := by decide +kernel
theorem d_Md_before_21 : decode b_Md_before 21 = .ok (.aload_n 0, 1) := by decide +kernel
theorem d_Md_before_22 : decode b_Md_before 22 = .ok (.getfield 7, 3) := by decide +kernel
theorem d_Md_before_25 : decode b_Md_before 25 = .ok (.iload_n 2, 1) := by decide +kernel
theorem d_Md_before_26 : decode b_Md_before 26 = .ok (.iaload, 1) := by decide +kernel
theorem d_Md_before_27 : decode b_Md_before 27 = .ok (.if_icmp .ne 22, 3) := by decide +kernel
theorem d_Md_before_30 : decode b_Md_before 30 = .ok (.aload_n 0, 1) := by decide +kernel
theorem d_Md_before_31 : decode b_Md_before 31 = .ok (.getfield 13, 3) := by decide +kernel
theorem d_Md_before_34 : decode b_Md_before 34 = .ok (.iload_n 1, 1) := by decide +kernel
theorem d_Md_before_35 : decode b_Md_before 35 = .ok (.iaload, 1) := by decide +kernel
theorem d_Md_before_36 : decode b_Md_before 36 = .ok (.aload_n 0, 1) := by decide +kernel
theorem d_Md_before_37 : decode b_Md_before 37 = .ok (.getfield 13, 3) := by decide +kernel
theorem d_Md_before_40 : decode b_Md_before 40 = .ok (.iload_n 2, 1) := by decide +kernel
theorem d_Md_before_41 : decode b_Md_before 41 = .ok (.iaload, 1) := by decide +kernel
theorem d_Md_before_42 : decode b_Md_before 42 = .ok (.if_icmp .le 7, 3) := by decide +kernel
theorem d_Md_before_45 : decode b_Md_before 45 = .ok (.iconst 1, 1) := by decide +kernel
theorem d_Md_before_46 : decode b_Md_before 46 = .ok (.goto 4, 3) := by decide +kernel
theorem d_Md_before_49 : decode b_Md_before 49 = .ok (.iconst 0, 1) := by decide +kernel
theorem d_Md_before_50 : decode b_Md_before 50 = .ok (.ireturn, 1) := by decide +kernel
theorem d_Md_arrange_0 : decode b_Md_arrange 0 = .ok (.iconst 0, 1) := by decide +kernel
theorem d_Md_arrange_1 : decode b_Md_arrange 1 = .ok (.istore_n 1, 1) := by decide +kernel
theorem d_Md_arrange_2 : decode b_Md_arrange 2 = .ok (.iload_n 1, 1) := by decide +kernel
theorem d_Md_arrange_3 : decode b_Md_arrange 3 = .ok (.aload_n 0, 1) := by decide +kernel
theorem d_Md_arrange_4 : decode b_Md_arrange 4 = .ok (.getfield 75, 3) := by decide +kernel
theorem d_Md_arrange_7 : decode b_Md_arrange 7 = .ok (.if_icmp .ge 84, 3) := by decide +kernel
theorem d_Md_arrange_10 : decode b_Md_arrange 10 = .ok (.aload_n 0, 1) := by decide +kernel
theorem d_Md_arrange_11 : decode b_Md_arrange 11 = .ok (.getfield 26, 3) := by decide +kernel
theorem d_Md_arrange_14 : decode b_Md_arrange 14 = .ok (.iload_n 1, 1) := by decide +kernel
theorem d_Md_arrange_15 : decode b_Md_arrange 15 = .ok (.iaload, 1) := by decide +kernel
theorem d_Md_arrange_16 : decode b_Md_arrange 16 = .ok (.iconst 1, 1) := by decide +kernel
theorem d_Md_arrange_17 : decode b_Md_arrange 17 = .ok (.if_icmp .eq 16, 3) := by decide +kernel
theorem d_Md_arrange_20 : decode b_Md_arrange 20 = .ok (.aload_n 0, 1) := by decide +kernel
theorem d_Md_arrange_21 : decode b_Md_arrange 21 = .ok (.getfield 26, 3) := by decide +kernel
theorem d_Md_arrange_24 : decode b_Md_arrange 24 = .ok (.iload_n 1, 1) := by decide +kernel
theorem d_Md_arrange_25 : decode b_Md_arrange 25 = .ok (.iaload, 1) := by decide +kernel
theorem d_Md_arrange_26 : decode b_Md_arrange 26 = .ok (.iconst 2, 1) := by decide +kernel
theorem d_Md_arrange_27 : decode b_Md_arrange 27 = .ok (.if_icmp .eq 6, 3) := by decide +kernel
theorem d_Md_arrange_30 : decode b_Md_arrange 30 = .ok (.goto 55, 3) := by decide +kernel
theorem d_Md_arrange_33 : decode b_Md_arrange 33 = .ok (.iconst 0, 1) := by decide +kernel
theorem d_Md_arrange_34 : decode b_Md_arrange 34 = .ok (.istore_n 2, 1) := by decide +kernel
theorem d_Md_arrange_35 : decode b_Md_arrange 35 = .ok (.iconst 0, 1) := by decide +kernel
theorem d_Md_arrange_36 : decode b_Md_arrange 36 = .ok (.istore_n 3, 1) := by decide +kernel
theorem d_Md_arrange_37 : decode b_Md_arrange 37 = .ok (.iload_n 3, 1) := by decide +kernel
theorem d_Md_arrange_38 : decode b_Md_arrange 38 = .ok (.aload_n 0, 1) := by decide +kernel
theorem d_Md_arrange_39 : decode b_Md_arrange 39 = .ok (.getfield 75, 3) := by decide +kernel
theorem d_Md_arrange_42 : decode b_Md_arrange 42 = .ok (.if_icmp .ge 36, 3) := by decide +kernel
theorem d_Md_arrange_45 : decode b_Md_arrange 45 = .ok (.aload_n 0, 1) := by decide +kernel
theorem d_Md_arrange_46 : decode b_Md_arrange 46 = .ok (.getfield 26, 3) := by decide +kernel
theorem d_Md_arrange_49 : decode b_Md_arrange 49 = .ok (.iload_n 3, 1) := by decide +kernel
theorem d_Md_arrange_50 : decode b_Md_arrange 50 = .ok (.iaload, 1) := by decide +kernel
theorem d_Md_arrange_51 : decode b_Md_arrange 51 = .ok (.aload_n 0, 1) := by decide +kernel
theorem d_Md_arrange_52 : decode b_Md_arrange 52 = .ok (.getfield 26, 3) := by decide +kernel
theorem d_Md_arrange_55 : decode b_Md_arrange 55 = .ok (.iload_n 1, 1) := by decide +kernel
theorem d_Md_arrange_56 : decode b_Md_arrange 56 = .ok (.iaload, 1) := by decide +kernel
theorem d_Md_arrange_57 : decode b_Md_arrange 57 = .ok (.if_icmp .ne 15, 3) := by decide +kernel
theorem d_Md_arrange_60 : decode b_Md_arrange 60 = .ok (.aload_n 0, 1) := by decide +kernel
theorem d_Md_arrange_61 : decode b_Md_arrange 61 = .ok (.iload_n 3, 1) := by decide +kernel
theorem d_Md_arrange_62 : decode b_Md_arrange 62 = .ok (.iload_n 1, 1) := by decide +kernel
theorem d_Md_arrange_63 : decode b_Md_arrange 63 = .ok (.invokevirtual 78, 3) := by decide +kernel
theorem d_Md_arrange_66 : decode b_Md_arrange 66 = .ok (.ifCond .eq 6, 3) := by decide +kernel
theorem d_Md_arrange_69 : decode b_Md_arrange 69 = .ok (.iinc 2 1, 3) := by decide +kernel
theorem d_Md_arrange_72 : decode b_Md_arrange 72 = .ok (.iinc 3 1, 3) := by decide +kernel
theorem d_Md_arrange_75 : decode b_Md_arrange 75 = .ok (.goto (-38), 3) := by decide +kernel
theorem d_Md_arrange_78 : decode b_Md_arrange 78 = .ok (.aload_n 0, 1) := by decide +kernel
theorem d_Md_arrange_79 : decode b_Md_arrange 79 = .ok (.getfield 29, 3) := by decide +kernel
theorem d_Md_arrange_82 : decode b_Md_arrange 82 = .ok (.iload_n 1, 1) := by decide +kernel
theorem d_Md_arrange_83 : decode b_Md_arrange 83 = .ok (.iload_n 2, 1) := by decide +kernel
theorem d_Md_arrange_84 : decode b_Md_arrange 84 = .ok (.iastore, 1) := by decide +kernel
theorem d_Md_arrange_85 : decode b_Md_arrange 85 = .ok (.iinc 1 1, 3) := by decide +kernel
theorem d_Md_arrange_88 : decode b_Md_arrange 88 = .ok (.goto (-86), 3) := by decide +kernel
theorem d_Md_arrange_91 : decode b_Md_arrange 91 = .ok (.return_, 1) := by decide +kernel
theorem d_Md_above_0 : decode b_Md_above 0 = .ok (.iconst (-1), 1) := by decide +kernel
theorem d_Md_above_1 : decode b_Md_above 1 = .ok (.istore_n 2, 1) := by decide +kernel
theorem d_Md_above_2 : decode b_Md_above 2 = .ok (.iconst 0, 1) := by decide +kernel
theorem d_Md_above_3 : decode b_Md_above 3 = .ok (.istore_n 3, 1) := by decide +kernel
theorem d_Md_above_4 : decode b_Md_above 4 = .ok (.iload_n 3, 1) := by decide +kernel
theorem d_Md_above_5 : decode b_Md_above 5 = .ok (.aload_n 0, 1) := by decide +kernel
theorem d_Md_above_6 : decode b_Md_above 6 = .ok (.getfield 75, 3) := by decide +kernel
theorem d_Md_above_9 : decode b_Md_above 9 = .ok (.if_icmp .ge 81, 3) := by decide +kernel
theorem d_Md_above_12 : decode b_Md_above 12 = .ok (.aload_n 0, 1) := by decide +kernel
theorem d_Md_above_13 : decode b_Md_above 13 = .ok (.getfield 38, 3) := by decide +kernel
theorem d_Md_above_16 : decode b_Md_above 16 = .ok (.iload_n 3, 1) := by decide +kernel
theorem d_Md_above_17 : decode b_Md_above 17 = .ok (.baload, 1) := by decide +kernel
theorem d_Md_above_18 : decode b_Md_above 18 = .ok (.ifCond .eq 37, 3) := by decide +kernel
theorem d_Md_above_21 : decode b_Md_above 21 = .ok (.aload_n 0, 1) := by decide +kernel
theorem d_Md_above_22 : decode b_Md_above 22 = .ok (.getfield 7, 3) := by decide +kernel
theorem d_Md_above_25 : decode b_Md_above 25 = .ok (.iload_n 3, 1) := by decide +kernel
theorem d_Md_above_26 : decode b_Md_above 26 = .ok (.iaload, 1) := by decide +kernel
theorem d_Md_above_27 : decode b_Md_above 27 = .ok (.aload_n 0, 1) := by decide +kernel
theorem d_Md_above_28 : decode b_Md_above 28 = .ok (.getfield 7, 3) := by decide +kernel
theorem d_Md_above_31 : decode b_Md_above 31 = .ok (.iload_n 1, 1) := by decide +kernel
theorem d_Md_above_32 : decode b_Md_above 32 = .ok (.iaload, 1) := by decide +kernel
theorem d_Md_above_33 : decode b_Md_above 33 = .ok (.if_icmp .ne 22, 3) := by decide +kernel
theorem d_Md_above_36 : decode b_Md_above 36 = .ok (.aload_n 0, 1) := by decide +kernel
theorem d_Md_above_37 : decode b_Md_above 37 = .ok (.getfield 13, 3) := by decide +kernel
theorem d_Md_above_40 : decode b_Md_above 40 = .ok (.iload_n 3, 1) := by decide +kernel
theorem d_Md_above_41 : decode b_Md_above 41 = .ok (.iaload, 1) := by decide +kernel
theorem d_Md_above_42 : decode b_Md_above 42 = .ok (.aload_n 0, 1) := by decide +kernel
theorem d_Md_above_43 : decode b_Md_above 43 = .ok (.getfield 13, 3) := by decide +kernel
theorem d_Md_above_46 : decode b_Md_above 46 = .ok (.iload_n 1, 1) := by decide +kernel
theorem d_Md_above_47 : decode b_Md_above 47 = .ok (.iaload, 1) := by decide +kernel
theorem d_Md_above_48 : decode b_Md_above 48 = .ok (.if_icmp .le 7, 3) := by decide +kernel
theorem d_Md_above_51 : decode b_Md_above 51 = .ok (.iconst 1, 1) := by decide +kernel
theorem d_Md_above_52 : decode b_Md_above 52 = .ok (.goto 4, 3) := by decide +kernel
theorem d_Md_above_55 : decode b_Md_above 55 = .ok (.iconst 0, 1) := by decide +kernel
theorem d_Md_above_56 : decode b_Md_above 56 = .ok (.istore 4, 2) := by decide +kernel
theorem d_Md_above_58 : decode b_Md_above 58 = .ok (.iload 4, 2) := by decide +kernel
theorem d_Md_above_60 : decode b_Md_above 60 = .ok (.ifCond .eq 24, 3) := by decide +kernel
theorem d_Md_above_63 : decode b_Md_above 63 = .ok (.iload_n 2, 1) := by decide +kernel
theorem d_Md_above_64 : decode b_Md_above 64 = .ok (.ifCond .lt 18, 3) := by decide +kernel
theorem d_Md_above_67 : decode b_Md_above 67 = .ok (.aload_n 0, 1) := by decide +kernel
theorem d_Md_above_68 : decode b_Md_above 68 = .ok (.getfield 13, 3) := by decide +kernel
theorem d_Md_above_71 : decode b_Md_above 71 = .ok (.iload_n 3, 1) := by decide +kernel
theorem d_Md_above_72 : decode b_Md_above 72 = .ok (.iaload, 1) := by decide +kernel
theorem d_Md_above_73 : decode b_Md_above 73 = .ok (.aload_n 0, 1) := by decide +kernel
theorem d_Md_above_74 : decode b_Md_above 74 = .ok (.getfield 13, 3) := by decide +kernel
theorem d_Md_above_77 : decode b_Md_above 77 = .ok (.iload_n 2, 1) := by decide +kernel
theorem d_Md_above_78 : decode b_Md_above 78 = .ok (.iaload, 1) := by decide +kernel
theorem d_Md_above_79 : decode b_Md_above 79 = .ok (.if_icmp .ge 5, 3) := by decide +kernel
theorem d_Md_above_82 : decode b_Md_above 82 = .ok (.iload_n 3, 1) := by decide +kernel
theorem d_Md_above_83 : decode b_Md_above 83 = .ok (.istore_n 2, 1) := by decide +kernel
theorem d_Md_above_84 : decode b_Md_above 84 = .ok (.iinc 3 1, 3) := by decide +kernel
theorem d_Md_above_87 : decode b_Md_above 87 = .ok (.goto (-83), 3) := by decide +kernel
theorem d_Md_above_90 : decode b_Md_above 90 = .ok (.iload_n 2, 1) := by decide +kernel
theorem d_Md_above_91 : decode b_Md_above 91 = .ok (.ireturn, 1) := by decide +kernel
theorem d_Md_parted_0 : decode b_Md_parted 0 = .ok (.iconst 0, 1) := by decide +kernel
theorem d_Md_parted_1 : decode b_Md_parted 1 = .ok (.istore_n 3, 1) := by decide +kernel
theorem d_Md_parted_2 : decode b_Md_parted 2 = .ok (.iconst 0, 1) := by decide +kernel
theorem d_Md_parted_3 : decode b_Md_parted 3 = .ok (.istore 4, 2) := by decide +kernel
theorem d_Md_parted_5 : decode b_Md_parted 5 = .ok (.iload 4, 2) := by decide +kernel
theorem d_Md_parted_7 : decode b_Md_parted 7 = .ok (.iconst 3, 1) := by decide +kernel
theorem d_Md_parted_8 : decode b_Md_parted 8 = .ok (.if_icmp .ge 61, 3) := by decide +kernel
theorem d_Md_parted_11 : decode b_Md_parted 11 = .ok (.iload_n 3, 1) := by decide +kernel
theorem d_Md_parted_12 : decode b_Md_parted 12 = .ok (.ifCond .ne 45, 3) := by decide +kernel
theorem d_Md_parted_15 : decode b_Md_parted 15 = .ok (.aload_n 0, 1) := by decide +kernel
theorem d_Md_parted_16 : decode b_Md_parted 16 = .ok (.getfield 53, 3) := by decide +kernel
theorem d_Md_parted_19 : decode b_Md_parted 19 = .ok (.iload 4, 2) := by decide +kernel
theorem d_Md_parted_21 : decode b_Md_parted 21 = .ok (.baload, 1) := by decide +kernel
theorem d_Md_parted_22 : decode b_Md_parted 22 = .ok (.ifCond .eq 39, 3) := by decide +kernel
theorem d_Md_parted_25 : decode b_Md_parted 25 = .ok (.aload_n 0, 1) := by decide +kernel
theorem d_Md_parted_26 : decode b_Md_parted 26 = .ok (.getfield 13, 3) := by decide +kernel
theorem d_Md_parted_29 : decode b_Md_parted 29 = .ok (.iload_n 1, 1) := by decide +kernel
theorem d_Md_parted_30 : decode b_Md_parted 30 = .ok (.iaload, 1) := by decide +kernel
theorem d_Md_parted_31 : decode b_Md_parted 31 = .ok (.aload_n 0, 1) := by decide +kernel
theorem d_Md_parted_32 : decode b_Md_parted 32 = .ok (.getfield 56, 3) := by decide +kernel
theorem d_Md_parted_35 : decode b_Md_parted 35 = .ok (.iload 4, 2) := by decide +kernel
theorem d_Md_parted_37 : decode b_Md_parted 37 = .ok (.iaload, 1) := by decide +kernel
theorem d_Md_parted_38 : decode b_Md_parted 38 = .ok (.if_icmp .gt 23, 3) := by decide +kernel
theorem d_Md_parted_41 : decode b_Md_parted 41 = .ok (.aload_n 0, 1) := by decide +kernel
theorem d_Md_parted_42 : decode b_Md_parted 42 = .ok (.getfield 56, 3) := by decide +kernel
theorem d_Md_parted_45 : decode b_Md_parted 45 = .ok (.iload 4, 2) := by decide +kernel
theorem d_Md_parted_47 : decode b_Md_parted 47 = .ok (.iaload, 1) := by decide +kernel
theorem d_Md_parted_48 : decode b_Md_parted 48 = .ok (.aload_n 0, 1) := by decide +kernel
theorem d_Md_parted_49 : decode b_Md_parted 49 = .ok (.getfield 13, 3) := by decide +kernel
theorem d_Md_parted_52 : decode b_Md_parted 52 = .ok (.iload_n 2, 1) := by decide +kernel
theorem d_Md_parted_53 : decode b_Md_parted 53 = .ok (.iaload, 1) := by decide +kernel
theorem d_Md_parted_54 : decode b_Md_parted 54 = .ok (.if_icmp .ge 7, 3) := by decide +kernel
theorem d_Md_parted_57 : decode b_Md_parted 57 = .ok (.iconst 1, 1) := by decide +kernel
theorem d_Md_parted_58 : decode b_Md_parted 58 = .ok (.goto 4, 3) := by decide +kernel
theorem d_Md_parted_61 : decode b_Md_parted 61 = .ok (.iconst 0, 1) := by decide +kernel
theorem d_Md_parted_62 : decode b_Md_parted 62 = .ok (.istore_n 3, 1) := by decide +kernel
theorem d_Md_parted_63 : decode b_Md_parted 63 = .ok (.iinc 4 1, 3) := by decide +kernel
theorem d_Md_parted_66 : decode b_Md_parted 66 = .ok (.goto (-61), 3) := by decide +kernel
theorem d_Md_parted_69 : decode b_Md_parted 69 = .ok (.iload_n 3, 1) := by decide +kernel
theorem d_Md_parted_70 : decode b_Md_parted 70 = .ok (.ireturn, 1) := by decide +kernel
theorem d_Md_isLowest_0 : decode b_Md_isLowest 0 = .ok (.iconst 1, 1) := by decide +kernel
theorem d_Md_isLowest_1 : decode b_Md_isLowest 1 = .ok (.istore_n 2, 1) := by decide +kernel
theorem d_Md_isLowest_2 : decode b_Md_isLowest 2 = .ok (.iconst 0, 1) := by decide +kernel
theorem d_Md_isLowest_3 : decode b_Md_isLowest 3 = .ok (.istore_n 3, 1) := by decide +kernel
theorem d_Md_isLowest_4 : decode b_Md_isLowest 4 = .ok (.iload_n 3, 1) := by decide +kernel
theorem d_Md_isLowest_5 : decode b_Md_isLowest 5 = .ok (.aload_n 0, 1) := by decide +kernel
theorem d_Md_isLowest_6 : decode b_Md_isLowest 6 = .ok (.getfield 75, 3) := by decide +kernel
theorem d_Md_isLowest_9 : decode b_Md_isLowest 9 = .ok (.if_icmp .ge 59, 3) := by decide +kernel
theorem d_Md_isLowest_12 : decode b_Md_isLowest 12 = .ok (.aload_n 0, 1) := by decide +kernel
theorem d_Md_isLowest_13 : decode b_Md_isLowest 13 = .ok (.getfield 38, 3) := by decide +kernel
theorem d_Md_isLowest_16 : decode b_Md_isLowest 16 = .ok (.iload_n 3, 1) := by decide +kernel
theorem d_Md_isLowest_17 : decode b_Md_isLowest 17 = .ok (.baload, 1) := by decide +kernel
theorem d_Md_isLowest_18 : decode b_Md_isLowest 18 = .ok (.ifCond .eq 44, 3) := by decide +kernel
theorem d_Md_isLowest_21 : decode b_Md_isLowest 21 = .ok (.aload_n 0, 1) := by decide +kernel
theorem d_Md_isLowest_22 : decode b_Md_isLowest 22 = .ok (.getfield 41, 3) := by decide +kernel
theorem d_Md_isLowest_25 : decode b_Md_isLowest 25 = .ok (.iload_n 3, 1) := by decide +kernel
theorem d_Md_isLowest_26 : decode b_Md_isLowest 26 = .ok (.baload, 1) := by decide +kernel
theorem d_Md_isLowest_27 : decode b_Md_isLowest 27 = .ok (.ifCond .ne 35, 3) := by decide +kernel
theorem d_Md_isLowest_30 : decode b_Md_isLowest 30 = .ok (.aload_n 0, 1) := by decide +kernel
theorem d_Md_isLowest_31 : decode b_Md_isLowest 31 = .ok (.getfield 7, 3) := by decide +kernel
theorem d_Md_isLowest_34 : decode b_Md_isLowest 34 = .ok (.iload_n 3, 1) := by decide +kernel
theorem d_Md_isLowest_35 : decode b_Md_isLowest 35 = .ok (.iaload, 1) := by decide +kernel
theorem d_Md_isLowest_36 : decode b_Md_isLowest 36 = .ok (.aload_n 0, 1) := by decide +kernel
theorem d_Md_isLowest_37 : decode b_Md_isLowest 37 = .ok (.getfield 7, 3) := by decide +kernel
theorem d_Md_isLowest_40 : decode b_Md_isLowest 40 = .ok (.iload_n 1, 1) := by decide +kernel
theorem d_Md_isLowest_41 : decode b_Md_isLowest 41 = .ok (.iaload, 1) := by decide +kernel
theorem d_Md_isLowest_42 : decode b_Md_isLowest 42 = .ok (.if_icmp .ne 20, 3) := by decide +kernel
theorem d_Md_isLowest_45 : decode b_Md_isLowest 45 = .ok (.aload_n 0, 1) := by decide +kernel
theorem d_Md_isLowest_46 : decode b_Md_isLowest 46 = .ok (.getfield 13, 3) := by decide +kernel
theorem d_Md_isLowest_49 : decode b_Md_isLowest 49 = .ok (.iload_n 3, 1) := by decide +kernel
theorem d_Md_isLowest_50 : decode b_Md_isLowest 50 = .ok (.iaload, 1) := by decide +kernel
theorem d_Md_isLowest_51 : decode b_Md_isLowest 51 = .ok (.aload_n 0, 1) := by decide +kernel
theorem d_Md_isLowest_52 : decode b_Md_isLowest 52 = .ok (.getfield 13, 3) := by decide +kernel
theorem d_Md_isLowest_55 : decode b_Md_isLowest 55 = .ok (.iload_n 1, 1) := by decide +kernel
theorem d_Md_isLowest_56 : decode b_Md_isLowest 56 = .ok (.iaload, 1) := by decide +kernel
theorem d_Md_isLowest_57 : decode b_Md_isLowest 57 = .ok (.if_icmp .ge 5, 3) := by decide +kernel
theorem d_Md_isLowest_60 : decode b_Md_isLowest 60 = .ok (.iconst 0, 1) := by decide +kernel
theorem d_Md_isLowest_61 : decode b_Md_isLowest 61 = .ok (.istore_n 2, 1) := by decide +kernel
theorem d_Md_isLowest_62 : decode b_Md_isLowest 62 = .ok (.iinc 3 1, 3) := by decide +kernel
theorem d_Md_isLowest_65 : decode b_Md_isLowest 65 = .ok (.goto (-61), 3) := by decide +kernel
theorem d_Md_isLowest_68 : decode b_Md_isLowest 68 = .ok (.iload_n 2, 1) := by decide +kernel
theorem d_Md_isLowest_69 : decode b_Md_isLowest 69 = .ok (.ireturn, 1) := by decide +kernel
theorem d_Md_sift_0 : decode b_Md_sift 0 = .ok (.iconst 0, 1) := by decide +kernel
theorem d_Md_sift_1 : decode b_Md_sift 1 = .ok (.istore_n 2, 1) := by decide +kernel
theorem d_Md_sift_2 : decode b_Md_sift 2 = .ok (.iload_n 2, 1) := by decide +kernel
theorem d_Md_sift_3 : decode b_Md_sift 3 = .ok (.aload_n 0, 1) := by decide +kernel
theorem d_Md_sift_4 : decode b_Md_sift 4 = .ok (.getfield 75, 3) := by decide +kernel
theorem d_Md_sift_7 : decode b_Md_sift 7 = .ok (.if_icmp .ge 58, 3) := by decide +kernel
theorem d_Md_sift_10 : decode b_Md_sift 10 = .ok (.aload_n 0, 1) := by decide +kernel
theorem d_Md_sift_11 : decode b_Md_sift 11 = .ok (.getfield 41, 3) := by decide +kernel
theorem d_Md_sift_14 : decode b_Md_sift 14 = .ok (.iload_n 2, 1) := by decide +kernel
theorem d_Md_sift_15 : decode b_Md_sift 15 = .ok (.iconst 0, 1) := by decide +kernel
theorem d_Md_sift_16 : decode b_Md_sift 16 = .ok (.bastore, 1) := by decide +kernel
theorem d_Md_sift_17 : decode b_Md_sift 17 = .ok (.aload_n 0, 1) := by decide +kernel
theorem d_Md_sift_18 : decode b_Md_sift 18 = .ok (.getfield 38, 3) := by decide +kernel
theorem d_Md_sift_21 : decode b_Md_sift 21 = .ok (.iload_n 2, 1) := by decide +kernel
theorem d_Md_sift_22 : decode b_Md_sift 22 = .ok (.baload, 1) := by decide +kernel
theorem d_Md_sift_23 : decode b_Md_sift 23 = .ok (.ifCond .ne 6, 3) := by decide +kernel
theorem d_Md_sift_26 : decode b_Md_sift 26 = .ok (.goto 33, 3) := by decide +kernel
theorem d_Md_sift_29 : decode b_Md_sift 29 = .ok (.aload_n 0, 1) := by decide +kernel
theorem d_Md_sift_30 : decode b_Md_sift 30 = .ok (.iload_n 2, 1) := by decide +kernel
theorem d_Md_sift_31 : decode b_Md_sift 31 = .ok (.invokevirtual 82, 3) := by decide +kernel
theorem d_Md_sift_34 : decode b_Md_sift 34 = .ok (.istore_n 3, 1) := by decide +kernel
theorem d_Md_sift_35 : decode b_Md_sift 35 = .ok (.aload_n 0, 1) := by decide +kernel
theorem d_Md_sift_36 : decode b_Md_sift 36 = .ok (.getfield 41, 3) := by decide +kernel
theorem d_Md_sift_39 : decode b_Md_sift 39 = .ok (.iload_n 2, 1) := by decide +kernel
theorem d_Md_sift_40 : decode b_Md_sift 40 = .ok (.iload_n 3, 1) := by decide +kernel
theorem d_Md_sift_41 : decode b_Md_sift 41 = .ok (.ifCond .lt 16, 3) := by decide +kernel
theorem d_Md_sift_44 : decode b_Md_sift 44 = .ok (.aload_n 0, 1) := by decide +kernel
theorem d_Md_sift_45 : decode b_Md_sift 45 = .ok (.iload_n 2, 1) := by decide +kernel
theorem d_Md_sift_46 : decode b_Md_sift 46 = .ok (.iload_n 3, 1) := by decide +kernel
theorem d_Md_sift_47 : decode b_Md_sift 47 = .ok (.invokevirtual 86, 3) := by decide +kernel
theorem d_Md_sift_50 : decode b_Md_sift 50 = .ok (.ifCond .ne 7, 3) := by decide +kernel
theorem d_Md_sift_53 : decode b_Md_sift 53 = .ok (.iconst 1, 1) := by decide +kernel
theorem d_Md_sift_54 : decode b_Md_sift 54 = .ok (.goto 4, 3) := by decide +kernel
theorem d_Md_sift_57 : decode b_Md_sift 57 = .ok (.iconst 0, 1) := by decide +kernel
theorem d_Md_sift_58 : decode b_Md_sift 58 = .ok (.bastore, 1) := by decide +kernel
theorem d_Md_sift_59 : decode b_Md_sift 59 = .ok (.iinc 2 1, 3) := by decide +kernel
theorem d_Md_sift_62 : decode b_Md_sift 62 = .ok (.goto (-60), 3) := by decide +kernel
theorem d_Md_sift_65 : decode b_Md_sift 65 = .ok (.iconst 1, 1) := by decide +kernel
theorem d_Md_sift_66 : decode b_Md_sift 66 = .ok (.istore_n 2, 1) := by decide +kernel
theorem d_Md_sift_67 : decode b_Md_sift 67 = .ok (.iload_n 2, 1) := by decide +kernel
theorem d_Md_sift_68 : decode b_Md_sift 68 = .ok (.aload_n 0, 1) := by decide +kernel
theorem d_Md_sift_69 : decode b_Md_sift 69 = .ok (.getfield 89, 3) := by decide +kernel
theorem d_Md_sift_72 : decode b_Md_sift 72 = .ok (.if_icmp .gt 81, 3) := by decide +kernel
theorem d_Md_sift_75 : decode b_Md_sift 75 = .ok (.iload_n 1, 1) := by decide +kernel
theorem d_Md_sift_76 : decode b_Md_sift 76 = .ok (.iconst 2, 1) := by decide +kernel
theorem d_Md_sift_77 : decode b_Md_sift 77 = .ok (.if_icmp .ne 76, 3) := by decide +kernel
theorem d_Md_sift_80 : decode b_Md_sift 80 = .ok (.iconst 0, 1) := by decide +kernel
theorem d_Md_sift_81 : decode b_Md_sift 81 = .ok (.istore_n 3, 1) := by decide +kernel
theorem d_Md_sift_82 : decode b_Md_sift 82 = .ok (.iload_n 3, 1) := by decide +kernel
theorem d_Md_sift_83 : decode b_Md_sift 83 = .ok (.aload_n 0, 1) := by decide +kernel
theorem d_Md_sift_84 : decode b_Md_sift 84 = .ok (.getfield 75, 3) := by decide +kernel
theorem d_Md_sift_87 : decode b_Md_sift 87 = .ok (.if_icmp .ge 60, 3) := by decide +kernel
theorem d_Md_sift_90 : decode b_Md_sift 90 = .ok (.aload_n 0, 1) := by decide +kernel
theorem d_Md_sift_91 : decode b_Md_sift 91 = .ok (.getfield 38, 3) := by decide +kernel
theorem d_Md_sift_94 : decode b_Md_sift 94 = .ok (.iload_n 3, 1) := by decide +kernel
theorem d_Md_sift_95 : decode b_Md_sift 95 = .ok (.baload, 1) := by decide +kernel
theorem d_Md_sift_96 : decode b_Md_sift 96 = .ok (.ifCond .eq 45, 3) := by decide +kernel
theorem d_Md_sift_99 : decode b_Md_sift 99 = .ok (.aload_n 0, 1) := by decide +kernel
theorem d_Md_sift_100 : decode b_Md_sift 100 = .ok (.getfield 13, 3) := by decide +kernel
theorem d_Md_sift_103 : decode b_Md_sift 103 = .ok (.iload_n 3, 1) := by decide +kernel
theorem d_Md_sift_104 : decode b_Md_sift 104 = .ok (.iaload, 1) := by decide +kernel
theorem d_Md_sift_105 : decode b_Md_sift 105 = .ok (.iload_n 2, 1) := by decide +kernel
theorem d_Md_sift_106 : decode b_Md_sift 106 = .ok (.if_icmp .ne 35, 3) := by decide +kernel
theorem d_Md_sift_109 : decode b_Md_sift 109 = .ok (.aload_n 0, 1) := by decide +kernel
theorem d_Md_sift_110 : decode b_Md_sift 110 = .ok (.getfield 41, 3) := by decide +kernel
theorem d_Md_sift_113 : decode b_Md_sift 113 = .ok (.iload_n 3, 1) := by decide +kernel
theorem d_Md_sift_114 : decode b_Md_sift 114 = .ok (.baload, 1) := by decide +kernel
theorem d_Md_sift_115 : decode b_Md_sift 115 = .ok (.ifCond .ne 26, 3) := by decide +kernel
theorem d_Md_sift_118 : decode b_Md_sift 118 = .ok (.aload_n 0, 1) := by decide +kernel
theorem d_Md_sift_119 : decode b_Md_sift 119 = .ok (.iload_n 3, 1) := by decide +kernel
theorem d_Md_sift_120 : decode b_Md_sift 120 = .ok (.invokevirtual 92, 3) := by decide +kernel
theorem d_Md_sift_123 : decode b_Md_sift 123 = .ok (.ifCond .eq 18, 3) := by decide +kernel
theorem d_Md_sift_126 : decode b_Md_sift 126 = .ok (.aload_n 0, 1) := by decide +kernel
theorem d_Md_sift_127 : decode b_Md_sift 127 = .ok (.iload_n 3, 1) := by decide +kernel
theorem d_Md_sift_128 : decode b_Md_sift 128 = .ok (.invokevirtual 96, 3) := by decide +kernel
theorem d_Md_sift_131 : decode b_Md_sift 131 = .ok (.ifCond .eq 10, 3) := by decide +kernel
theorem d_Md_sift_134 : decode b_Md_sift 134 = .ok (.aload_n 0, 1) := by decide +kernel
theorem d_Md_sift_135 : decode b_Md_sift 135 = .ok (.getfield 41, 3) := by decide +kernel
theorem d_Md_sift_138 : decode b_Md_sift 138 = .ok (.iload_n 3, 1) := by decide +kernel
theorem d_Md_sift_139 : decode b_Md_sift 139 = .ok (.iconst 1, 1) := by decide +kernel
theorem d_Md_sift_140 : decode b_Md_sift 140 = .ok (.bastore, 1) := by decide +kernel
theorem d_Md_sift_141 : decode b_Md_sift 141 = .ok (.iinc 3 1, 3) := by decide +kernel
theorem d_Md_sift_144 : decode b_Md_sift 144 = .ok (.goto (-62), 3) := by decide +kernel
theorem d_Md_sift_147 : decode b_Md_sift 147 = .ok (.iinc 2 1, 3) := by decide +kernel
theorem d_Md_sift_150 : decode b_Md_sift 150 = .ok (.goto (-83), 3) := by decide +kernel
theorem d_Md_sift_153 : decode b_Md_sift 153 = .ok (.iconst 0, 1) := by decide +kernel
theorem d_Md_sift_154 : decode b_Md_sift 154 = .ok (.istore_n 2, 1) := by decide +kernel
theorem d_Md_sift_155 : decode b_Md_sift 155 = .ok (.iconst 0, 1) := by decide +kernel
theorem d_Md_sift_156 : decode b_Md_sift 156 = .ok (.istore_n 3, 1) := by decide +kernel
theorem d_Md_sift_157 : decode b_Md_sift 157 = .ok (.iload_n 3, 1) := by decide +kernel
theorem d_Md_sift_158 : decode b_Md_sift 158 = .ok (.aload_n 0, 1) := by decide +kernel
theorem d_Md_sift_159 : decode b_Md_sift 159 = .ok (.getfield 75, 3) := by decide +kernel
theorem d_Md_sift_162 : decode b_Md_sift 162 = .ok (.if_icmp .ge 59, 3) := by decide +kernel
theorem d_Md_sift_165 : decode b_Md_sift 165 = .ok (.aload_n 0, 1) := by decide +kernel
theorem d_Md_sift_166 : decode b_Md_sift 166 = .ok (.getfield 38, 3) := by decide +kernel
theorem d_Md_sift_169 : decode b_Md_sift 169 = .ok (.iload_n 3, 1) := by decide +kernel
theorem d_Md_sift_170 : decode b_Md_sift 170 = .ok (.baload, 1) := by decide +kernel
theorem d_Md_sift_171 : decode b_Md_sift 171 = .ok (.ifCond .ne 6, 3) := by decide +kernel
theorem d_Md_sift_174 : decode b_Md_sift 174 = .ok (.goto 41, 3) := by decide +kernel
theorem d_Md_sift_177 : decode b_Md_sift 177 = .ok (.aload_n 0, 1) := by decide +kernel
theorem d_Md_sift_178 : decode b_Md_sift 178 = .ok (.getfield 26, 3) := by decide +kernel
theorem d_Md_sift_181 : decode b_Md_sift 181 = .ok (.iload_n 3, 1) := by decide +kernel
theorem d_Md_sift_182 : decode b_Md_sift 182 = .ok (.aload_n 0, 1) := by decide +kernel
theorem d_Md_sift_183 : decode b_Md_sift 183 = .ok (.getfield 41, 3) := by decide +kernel
theorem d_Md_sift_186 : decode b_Md_sift 186 = .ok (.iload_n 3, 1) := by decide +kernel
theorem d_Md_sift_187 : decode b_Md_sift 187 = .ok (.baload, 1) := by decide +kernel
theorem d_Md_sift_188 : decode b_Md_sift 188 = .ok (.ifCond .eq 8, 3) := by decide +kernel
theorem d_Md_sift_191 : decode b_Md_sift 191 = .ok (.bipush 9, 2) := by decide +kernel
theorem d_Md_sift_193 : decode b_Md_sift 193 = .ok (.goto 4, 3) := by decide +kernel
theorem d_Md_sift_196 : decode b_Md_sift 196 = .ok (.iload_n 1, 1) := by decide +kernel
theorem d_Md_sift_197 : decode b_Md_sift 197 = .ok (.iastore, 1) := by decide +kernel
theorem d_Md_sift_198 : decode b_Md_sift 198 = .ok (.aload_n 0, 1) := by decide +kernel
theorem d_Md_sift_199 : decode b_Md_sift 199 = .ok (.getfield 41, 3) := by decide +kernel
theorem d_Md_sift_202 : decode b_Md_sift 202 = .ok (.iload_n 3, 1) := by decide +kernel
theorem d_Md_sift_203 : decode b_Md_sift 203 = .ok (.baload, 1) := by decide +kernel
theorem d_Md_sift_204 : decode b_Md_sift 204 = .ok (.ifCond .eq 9, 3) := by decide +kernel
theorem d_Md_sift_207 : decode b_Md_sift 207 = .ok (.iload_n 2, 1) := by decide +kernel
theorem d_Md_sift_208 : decode b_Md_sift 208 = .ok (.iconst 1, 1) := by decide +kernel
theorem d_Md_sift_209 : decode b_Md_sift 209 = .ok (.iadd, 1) := by decide +kernel
theorem d_Md_sift_210 : decode b_Md_sift 210 = .ok (.goto 4, 3) := by decide +kernel
theorem d_Md_sift_213 : decode b_Md_sift 213 = .ok (.iload_n 2, 1) := by decide +kernel
theorem d_Md_sift_214 : decode b_Md_sift 214 = .ok (.istore_n 2, 1) := by decide +kernel
theorem d_Md_sift_215 : decode b_Md_sift 215 = .ok (.iinc 3 1, 3) := by decide +kernel
theorem d_Md_sift_218 : decode b_Md_sift 218 = .ok (.goto (-61), 3) := by decide +kernel
theorem d_Md_sift_221 : decode b_Md_sift 221 = .ok (.iload_n 2, 1) := by decide +kernel
theorem d_Md_sift_222 : decode b_Md_sift 222 = .ok (.ireturn, 1) := by decide +kernel
theorem d_Md_choose_0 : decode b_Md_choose 0 = .ok (.iconst 0, 1) := by decide +kernel
theorem d_Md_choose_1 : decode b_Md_choose 1 = .ok (.istore_n 3, 1) := by decide +kernel
theorem d_Md_choose_2 : decode b_Md_choose 2 = .ok (.iload_n 3, 1) := by decide +kernel
theorem d_Md_choose_3 : decode b_Md_choose 3 = .ok (.aload_n 0, 1) := by decide +kernel
theorem d_Md_choose_4 : decode b_Md_choose 4 = .ok (.getfield 75, 3) := by decide +kernel
theorem d_Md_choose_7 : decode b_Md_choose 7 = .ok (.if_icmp .ge 40, 3) := by decide +kernel
theorem d_Md_choose_10 : decode b_Md_choose 10 = .ok (.aload_n 0, 1) := by decide +kernel
theorem d_Md_choose_11 : decode b_Md_choose 11 = .ok (.getfield 38, 3) := by decide +kernel
theorem d_Md_choose_14 : decode b_Md_choose 14 = .ok (.iload_n 3, 1) := by decide +kernel
theorem d_Md_choose_15 : decode b_Md_choose 15 = .ok (.aload_n 0, 1) := by decide +kernel
theorem d_Md_choose_16 : decode b_Md_choose 16 = .ok (.getfield 26, 3) := by decide +kernel
theorem d_Md_choose_19 : decode b_Md_choose 19 = .ok (.iload_n 3, 1) := by decide +kernel
theorem d_Md_choose_20 : decode b_Md_choose 20 = .ok (.iaload, 1) := by decide +kernel
theorem d_Md_choose_21 : decode b_Md_choose 21 = .ok (.iload_n 1, 1) := by decide +kernel
theorem d_Md_choose_22 : decode b_Md_choose 22 = .ok (.if_icmp .eq 13, 3) := by decide +kernel
theorem d_Md_choose_25 : decode b_Md_choose 25 = .ok (.aload_n 0, 1) := by decide +kernel
theorem d_Md_choose_26 : decode b_Md_choose 26 = .ok (.getfield 26, 3) := by decide +kernel
theorem d_Md_choose_29 : decode b_Md_choose 29 = .ok (.iload_n 3, 1) := by decide +kernel
theorem d_Md_choose_30 : decode b_Md_choose 30 = .ok (.iaload, 1) := by decide +kernel
theorem d_Md_choose_31 : decode b_Md_choose 31 = .ok (.iload_n 2, 1) := by decide +kernel
theorem d_Md_choose_32 : decode b_Md_choose 32 = .ok (.if_icmp .ne 7, 3) := by decide +kernel
theorem d_Md_choose_35 : decode b_Md_choose 35 = .ok (.iconst 1, 1) := by decide +kernel
theorem d_Md_choose_36 : decode b_Md_choose 36 = .ok (.goto 4, 3) := by decide +kernel
theorem d_Md_choose_39 : decode b_Md_choose 39 = .ok (.iconst 0, 1) := by decide +kernel
theorem d_Md_choose_40 : decode b_Md_choose 40 = .ok (.bastore, 1) := by decide +kernel
theorem d_Md_choose_41 : decode b_Md_choose 41 = .ok (.iinc 3 1, 3) := by decide +kernel
theorem d_Md_choose_44 : decode b_Md_choose 44 = .ok (.goto (-42), 3) := by decide +kernel
theorem d_Md_choose_47 : decode b_Md_choose 47 = .ok (.return_, 1) := by decide +kernel
theorem d_Md_mergeNext_0 : decode b_Md_mergeNext 0 = .ok (.aload_n 0, 1) := by decide +kernel
theorem d_Md_mergeNext_1 : decode b_Md_mergeNext 1 = .ok (.iconst 1, 1) := by decide +kernel
theorem d_Md_mergeNext_2 : decode b_Md_mergeNext 2 = .ok (.iconst 2, 1) := by decide +kernel
theorem d_Md_mergeNext_3 : decode b_Md_mergeNext 3 = .ok (.invokevirtual 99, 3) := by decide +kernel
theorem d_Md_mergeNext_6 : decode b_Md_mergeNext 6 = .ok (.aload_n 0, 1) := by decide +kernel
theorem d_Md_mergeNext_7 : decode b_Md_mergeNext 7 = .ok (.iconst 2, 1) := by decide +kernel
theorem d_Md_mergeNext_8 : decode b_Md_mergeNext 8 = .ok (.invokevirtual 103, 3) := by decide +kernel
theorem d_Md_mergeNext_11 : decode b_Md_mergeNext 11 = .ok (.ireturn, 1) := by decide +kernel
theorem d_Md_mergeOf_0 : decode b_Md_mergeOf 0 = .ok (.aload_n 0, 1) := by decide +kernel
theorem d_Md_mergeOf_1 : decode b_Md_mergeOf 1 = .ok (.iload_n 1, 1) := by decide +kernel
theorem d_Md_mergeOf_2 : decode b_Md_mergeOf 2 = .ok (.iload_n 1, 1) := by decide +kernel
theorem d_Md_mergeOf_3 : decode b_Md_mergeOf 3 = .ok (.iconst 1, 1) := by decide +kernel
theorem d_Md_mergeOf_4 : decode b_Md_mergeOf 4 = .ok (.iadd, 1) := by decide +kernel
theorem d_Md_mergeOf_5 : decode b_Md_mergeOf 5 = .ok (.invokevirtual 99, 3) := by decide +kernel
theorem d_Md_mergeOf_8 : decode b_Md_mergeOf 8 = .ok (.aload_n 0, 1) := by decide +kernel
theorem d_Md_mergeOf_9 : decode b_Md_mergeOf 9 = .ok (.iload_n 1, 1) := by decide +kernel
theorem d_Md_mergeOf_10 : decode b_Md_mergeOf 10 = .ok (.iconst 1, 1) := by decide +kernel
theorem d_Md_mergeOf_11 : decode b_Md_mergeOf 11 = .ok (.iadd, 1) := by decide +kernel
theorem d_Md_mergeOf_12 : decode b_Md_mergeOf 12 = .ok (.invokevirtual 103, 3) := by decide +kernel
theorem d_Md_mergeOf_15 : decode b_Md_mergeOf 15 = .ok (.istore_n 2, 1) := by decide +kernel
theorem d_Md_mergeOf_16 : decode b_Md_mergeOf 16 = .ok (.iload_n 1, 1) := by decide +kernel
theorem d_Md_mergeOf_17 : decode b_Md_mergeOf 17 = .ok (.ifCond .ne 8, 3) := by decide +kernel
theorem d_Md_mergeOf_20 : decode b_Md_mergeOf 20 = .ok (.aload_n 0, 1) := by decide +kernel
theorem d_Md_mergeOf_21 : decode b_Md_mergeOf 21 = .ok (.iconst 0, 1) := by decide +kernel
theorem d_Md_mergeOf_22 : decode b_Md_mergeOf 22 = .ok (.putfield 106, 3) := by decide +kernel
theorem d_Md_mergeOf_25 : decode b_Md_mergeOf 25 = .ok (.iload_n 1, 1) := by decide +kernel
theorem d_Md_mergeOf_26 : decode b_Md_mergeOf 26 = .ok (.ifCond .ne 20, 3) := by decide +kernel
theorem d_Md_mergeOf_29 : decode b_Md_mergeOf 29 = .ok (.aload_n 0, 1) := by decide +kernel
theorem d_Md_mergeOf_30 : decode b_Md_mergeOf 30 = .ok (.iconst 1, 1) := by decide +kernel
theorem d_Md_mergeOf_31 : decode b_Md_mergeOf 31 = .ok (.invokevirtual 109, 3) := by decide +kernel
theorem d_Md_mergeOf_34 : decode b_Md_mergeOf 34 = .ok (.bipush 12, 2) := by decide +kernel
