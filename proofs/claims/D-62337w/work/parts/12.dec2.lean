-- decoded instructions (printed by main.py)
theorem d_Md_mergeOf_36 : decode b_Md_mergeOf 36 = .ok (.if_icmp .le 10, 3) := by decide +kernel
theorem d_Md_mergeOf_39 : decode b_Md_mergeOf 39 = .ok (.iload_n 2, 1) := by decide +kernel
theorem d_Md_mergeOf_40 : decode b_Md_mergeOf 40 = .ok (.aload_n 0, 1) := by decide +kernel
theorem d_Md_mergeOf_41 : decode b_Md_mergeOf 41 = .ok (.invokevirtual 112, 3) := by decide +kernel
theorem d_Md_mergeOf_44 : decode b_Md_mergeOf 44 = .ok (.iadd, 1) := by decide +kernel
theorem d_Md_mergeOf_45 : decode b_Md_mergeOf 45 = .ok (.istore_n 2, 1) := by decide +kernel
theorem d_Md_mergeOf_46 : decode b_Md_mergeOf 46 = .ok (.aload_n 0, 1) := by decide +kernel
theorem d_Md_mergeOf_47 : decode b_Md_mergeOf 47 = .ok (.invokevirtual 116, 3) := by decide +kernel
theorem d_Md_mergeOf_50 : decode b_Md_mergeOf 50 = .ok (.iload_n 2, 1) := by decide +kernel
theorem d_Md_mergeOf_51 : decode b_Md_mergeOf 51 = .ok (.ireturn, 1) := by decide +kernel
theorem d_Md_flushAll_0 : decode b_Md_flushAll 0 = .ok (.aload_n 0, 1) := by decide +kernel
theorem d_Md_flushAll_1 : decode b_Md_flushAll 1 = .ok (.iconst (-1), 1) := by decide +kernel
theorem d_Md_flushAll_2 : decode b_Md_flushAll 2 = .ok (.invokevirtual 109, 3) := by decide +kernel
theorem d_Md_flushAll_5 : decode b_Md_flushAll 5 = .ok (.ifCond .ne 4, 3) := by decide +kernel
theorem d_Md_flushAll_8 : decode b_Md_flushAll 8 = .ok (.return_, 1) := by decide +kernel
theorem d_Md_flushAll_9 : decode b_Md_flushAll 9 = .ok (.aload_n 0, 1) := by decide +kernel
theorem d_Md_flushAll_10 : decode b_Md_flushAll 10 = .ok (.getfield 106, 3) := by decide +kernel
theorem d_Md_flushAll_13 : decode b_Md_flushAll 13 = .ok (.iconst 4, 1) := by decide +kernel
theorem d_Md_flushAll_14 : decode b_Md_flushAll 14 = .ok (.if_icmp .ne 9, 3) := by decide +kernel
theorem d_Md_flushAll_17 : decode b_Md_flushAll 17 = .ok (.aload_n 0, 1) := by decide +kernel
theorem d_Md_flushAll_18 : decode b_Md_flushAll 18 = .ok (.iconst 0, 1) := by decide +kernel
theorem d_Md_flushAll_19 : decode b_Md_flushAll 19 = .ok (.invokevirtual 119, 3) := by decide +kernel
theorem d_Md_flushAll_22 : decode b_Md_flushAll 22 = .ok (.pop, 1) := by decide +kernel
theorem d_Md_flushAll_23 : decode b_Md_flushAll 23 = .ok (.aload_n 0, 1) := by decide +kernel
theorem d_Md_flushAll_24 : decode b_Md_flushAll 24 = .ok (.iconst (-1), 1) := by decide +kernel
theorem d_Md_flushAll_25 : decode b_Md_flushAll 25 = .ok (.iconst (-1), 1) := by decide +kernel
theorem d_Md_flushAll_26 : decode b_Md_flushAll 26 = .ok (.invokevirtual 99, 3) := by decide +kernel
theorem d_Md_flushAll_29 : decode b_Md_flushAll 29 = .ok (.aload_n 0, 1) := by decide +kernel
theorem d_Md_flushAll_30 : decode b_Md_flushAll 30 = .ok (.iconst 0, 1) := by decide +kernel
theorem d_Md_flushAll_31 : decode b_Md_flushAll 31 = .ok (.invokevirtual 103, 3) := by decide +kernel
theorem d_Md_flushAll_34 : decode b_Md_flushAll 34 = .ok (.pop, 1) := by decide +kernel
theorem d_Md_flushAll_35 : decode b_Md_flushAll 35 = .ok (.aload_n 0, 1) := by decide +kernel
theorem d_Md_flushAll_36 : decode b_Md_flushAll 36 = .ok (.dup, 1) := by decide +kernel
theorem d_Md_flushAll_37 : decode b_Md_flushAll 37 = .ok (.getfield 122, 3) := by decide +kernel
theorem d_Md_flushAll_40 : decode b_Md_flushAll 40 = .ok (.iconst 1, 1) := by decide +kernel
theorem d_Md_flushAll_41 : decode b_Md_flushAll 41 = .ok (.iadd, 1) := by decide +kernel
theorem d_Md_flushAll_42 : decode b_Md_flushAll 42 = .ok (.putfield 122, 3) := by decide +kernel
theorem d_Md_flushAll_45 : decode b_Md_flushAll 45 = .ok (.aload_n 0, 1) := by decide +kernel
theorem d_Md_flushAll_46 : decode b_Md_flushAll 46 = .ok (.dup, 1) := by decide +kernel
theorem d_Md_flushAll_47 : decode b_Md_flushAll 47 = .ok (.getfield 106, 3) := by decide +kernel
theorem d_Md_flushAll_50 : decode b_Md_flushAll 50 = .ok (.iconst 1, 1) := by decide +kernel
theorem d_Md_flushAll_51 : decode b_Md_flushAll 51 = .ok (.iadd, 1) := by decide +kernel
theorem d_Md_flushAll_52 : decode b_Md_flushAll 52 = .ok (.putfield 106, 3) := by decide +kernel
theorem d_Md_flushAll_55 : decode b_Md_flushAll 55 = .ok (.iconst 0, 1) := by decide +kernel
theorem d_Md_flushAll_56 : decode b_Md_flushAll 56 = .ok (.istore_n 1, 1) := by decide +kernel
theorem d_Md_flushAll_57 : decode b_Md_flushAll 57 = .ok (.iload_n 1, 1) := by decide +kernel
theorem d_Md_flushAll_58 : decode b_Md_flushAll 58 = .ok (.aload_n 0, 1) := by decide +kernel
theorem d_Md_flushAll_59 : decode b_Md_flushAll 59 = .ok (.getfield 75, 3) := by decide +kernel
theorem d_Md_flushAll_62 : decode b_Md_flushAll 62 = .ok (.if_icmp .ge 37, 3) := by decide +kernel
theorem d_Md_flushAll_65 : decode b_Md_flushAll 65 = .ok (.aload_n 0, 1) := by decide +kernel
theorem d_Md_flushAll_66 : decode b_Md_flushAll 66 = .ok (.getfield 38, 3) := by decide +kernel
theorem d_Md_flushAll_69 : decode b_Md_flushAll 69 = .ok (.iload_n 1, 1) := by decide +kernel
theorem d_Md_flushAll_70 : decode b_Md_flushAll 70 = .ok (.baload, 1) := by decide +kernel
theorem d_Md_flushAll_71 : decode b_Md_flushAll 71 = .ok (.ifCond .eq 22, 3) := by decide +kernel
theorem d_Md_flushAll_74 : decode b_Md_flushAll 74 = .ok (.aload_n 0, 1) := by decide +kernel
theorem d_Md_flushAll_75 : decode b_Md_flushAll 75 = .ok (.getfield 26, 3) := by decide +kernel
theorem d_Md_flushAll_78 : decode b_Md_flushAll 78 = .ok (.iload_n 1, 1) := by decide +kernel
theorem d_Md_flushAll_79 : decode b_Md_flushAll 79 = .ok (.iaload, 1) := by decide +kernel
theorem d_Md_flushAll_80 : decode b_Md_flushAll 80 = .ok (.ifCond .ne 13, 3) := by decide +kernel
theorem d_Md_flushAll_83 : decode b_Md_flushAll 83 = .ok (.aload_n 0, 1) := by decide +kernel
theorem d_Md_flushAll_84 : decode b_Md_flushAll 84 = .ok (.getfield 29, 3) := by decide +kernel
theorem d_Md_flushAll_87 : decode b_Md_flushAll 87 = .ok (.iload_n 1, 1) := by decide +kernel
theorem d_Md_flushAll_88 : decode b_Md_flushAll 88 = .ok (.aload_n 0, 1) := by decide +kernel
theorem d_Md_flushAll_89 : decode b_Md_flushAll 89 = .ok (.getfield 122, 3) := by decide +kernel
theorem d_Md_flushAll_92 : decode b_Md_flushAll 92 = .ok (.iastore, 1) := by decide +kernel
theorem d_Md_flushAll_93 : decode b_Md_flushAll 93 = .ok (.iinc 1 1, 3) := by decide +kernel
theorem d_Md_flushAll_96 : decode b_Md_flushAll 96 = .ok (.goto (-39), 3) := by decide +kernel
theorem d_Md_flushAll_99 : decode b_Md_flushAll 99 = .ok (.aload_n 0, 1) := by decide +kernel
theorem d_Md_flushAll_100 : decode b_Md_flushAll 100 = .ok (.iconst 0, 1) := by decide +kernel
theorem d_Md_flushAll_101 : decode b_Md_flushAll 101 = .ok (.putfield 125, 3) := by decide +kernel
theorem d_Md_flushAll_104 : decode b_Md_flushAll 104 = .ok (.return_, 1) := by decide +kernel
theorem d_Md_needsHead_0 : decode b_Md_needsHead 0 = .ok (.aload_n 0, 1) := by decide +kernel
theorem d_Md_needsHead_1 : decode b_Md_needsHead 1 = .ok (.getfield 59, 3) := by decide +kernel
theorem d_Md_needsHead_4 : decode b_Md_needsHead 4 = .ok (.aload_n 0, 1) := by decide +kernel
theorem d_Md_needsHead_5 : decode b_Md_needsHead 5 = .ok (.getfield 128, 3) := by decide +kernel
theorem d_Md_needsHead_8 : decode b_Md_needsHead 8 = .ok (.bipush 8, 2) := by decide +kernel
theorem d_Md_needsHead_10 : decode b_Md_needsHead 10 = .ok (.irem, 1) := by decide +kernel
theorem d_Md_needsHead_11 : decode b_Md_needsHead 11 = .ok (.iaload, 1) := by decide +kernel
theorem d_Md_needsHead_12 : decode b_Md_needsHead 12 = .ok (.iconst 1, 1) := by decide +kernel
theorem d_Md_needsHead_13 : decode b_Md_needsHead 13 = .ok (.iadd, 1) := by decide +kernel
theorem d_Md_needsHead_14 : decode b_Md_needsHead 14 = .ok (.iload_n 1, 1) := by decide +kernel
theorem d_Md_needsHead_15 : decode b_Md_needsHead 15 = .ok (.iadd, 1) := by decide +kernel
theorem d_Md_needsHead_16 : decode b_Md_needsHead 16 = .ok (.bipush 16, 2) := by decide +kernel
theorem d_Md_needsHead_18 : decode b_Md_needsHead 18 = .ok (.if_icmp .le 7, 3) := by decide +kernel
theorem d_Md_needsHead_21 : decode b_Md_needsHead 21 = .ok (.iconst 1, 1) := by decide +kernel
theorem d_Md_needsHead_22 : decode b_Md_needsHead 22 = .ok (.goto 4, 3) := by decide +kernel
theorem d_Md_needsHead_25 : decode b_Md_needsHead 25 = .ok (.iconst 0, 1) := by decide +kernel
theorem d_Md_needsHead_26 : decode b_Md_needsHead 26 = .ok (.ireturn, 1) := by decide +kernel
theorem d_Md_record_0 : decode b_Md_record 0 = .ok (.aload_n 0, 1) := by decide +kernel
theorem d_Md_record_1 : decode b_Md_record 1 = .ok (.iload_n 1, 1) := by decide +kernel
theorem d_Md_record_2 : decode b_Md_record 2 = .ok (.invokevirtual 131, 3) := by decide +kernel
theorem d_Md_record_5 : decode b_Md_record 5 = .ok (.ifCond .eq 26, 3) := by decide +kernel
theorem d_Md_record_8 : decode b_Md_record 8 = .ok (.aload_n 0, 1) := by decide +kernel
theorem d_Md_record_9 : decode b_Md_record 9 = .ok (.dup, 1) := by decide +kernel
theorem d_Md_record_10 : decode b_Md_record 10 = .ok (.getfield 128, 3) := by decide +kernel
theorem d_Md_record_13 : decode b_Md_record 13 = .ok (.iconst 1, 1) := by decide +kernel
theorem d_Md_record_14 : decode b_Md_record 14 = .ok (.iadd, 1) := by decide +kernel
theorem d_Md_record_15 : decode b_Md_record 15 = .ok (.putfield 128, 3) := by decide +kernel
theorem d_Md_record_18 : decode b_Md_record 18 = .ok (.aload_n 0, 1) := by decide +kernel
theorem d_Md_record_19 : decode b_Md_record 19 = .ok (.getfield 59, 3) := by decide +kernel
theorem d_Md_record_22 : decode b_Md_record 22 = .ok (.aload_n 0, 1) := by decide +kernel
theorem d_Md_record_23 : decode b_Md_record 23 = .ok (.getfield 128, 3) := by decide +kernel
theorem d_Md_record_26 : decode b_Md_record 26 = .ok (.bipush 8, 2) := by decide +kernel
theorem d_Md_record_28 : decode b_Md_record 28 = .ok (.irem, 1) := by decide +kernel
theorem d_Md_record_29 : decode b_Md_record 29 = .ok (.iconst 0, 1) := by decide +kernel
theorem d_Md_record_30 : decode b_Md_record 30 = .ok (.iastore, 1) := by decide +kernel
theorem d_Md_record_31 : decode b_Md_record 31 = .ok (.aload_n 0, 1) := by decide +kernel
theorem d_Md_record_32 : decode b_Md_record 32 = .ok (.getfield 59, 3) := by decide +kernel
theorem d_Md_record_35 : decode b_Md_record 35 = .ok (.aload_n 0, 1) := by decide +kernel
theorem d_Md_record_36 : decode b_Md_record 36 = .ok (.getfield 128, 3) := by decide +kernel
theorem d_Md_record_39 : decode b_Md_record 39 = .ok (.bipush 8, 2) := by decide +kernel
theorem d_Md_record_41 : decode b_Md_record 41 = .ok (.irem, 1) := by decide +kernel
theorem d_Md_record_42 : decode b_Md_record 42 = .ok (.iaload, 1) := by decide +kernel
theorem d_Md_record_43 : decode b_Md_record 43 = .ok (.iconst 1, 1) := by decide +kernel
theorem d_Md_record_44 : decode b_Md_record 44 = .ok (.iadd, 1) := by decide +kernel
theorem d_Md_record_45 : decode b_Md_record 45 = .ok (.istore_n 2, 1) := by decide +kernel
theorem d_Md_record_46 : decode b_Md_record 46 = .ok (.aload_n 0, 1) := by decide +kernel
theorem d_Md_record_47 : decode b_Md_record 47 = .ok (.getfield 59, 3) := by decide +kernel
theorem d_Md_record_50 : decode b_Md_record 50 = .ok (.aload_n 0, 1) := by decide +kernel
theorem d_Md_record_51 : decode b_Md_record 51 = .ok (.getfield 128, 3) := by decide +kernel
theorem d_Md_record_54 : decode b_Md_record 54 = .ok (.bipush 8, 2) := by decide +kernel
theorem d_Md_record_56 : decode b_Md_record 56 = .ok (.irem, 1) := by decide +kernel
theorem d_Md_record_57 : decode b_Md_record 57 = .ok (.iload_n 2, 1) := by decide +kernel
theorem d_Md_record_58 : decode b_Md_record 58 = .ok (.iload_n 1, 1) := by decide +kernel
theorem d_Md_record_59 : decode b_Md_record 59 = .ok (.iadd, 1) := by decide +kernel
theorem d_Md_record_60 : decode b_Md_record 60 = .ok (.iastore, 1) := by decide +kernel
theorem d_Md_record_61 : decode b_Md_record 61 = .ok (.iload_n 2, 1) := by decide +kernel
theorem d_Md_record_62 : decode b_Md_record 62 = .ok (.ireturn, 1) := by decide +kernel
theorem d_Md_isKey_0 : decode b_Md_isKey 0 = .ok (.iload_n 0, 1) := by decide +kernel
theorem d_Md_isKey_1 : decode b_Md_isKey 1 = .ok (.ifCond .lt 13, 3) := by decide +kernel
theorem d_Md_isKey_4 : decode b_Md_isKey 4 = .ok (.iload_n 0, 1) := by decide +kernel
theorem d_Md_isKey_5 : decode b_Md_isKey 5 = .ok (.bipush 32, 2) := by decide +kernel
theorem d_Md_isKey_7 : decode b_Md_isKey 7 = .ok (.if_icmp .ge 7, 3) := by decide +kernel
theorem d_Md_isKey_10 : decode b_Md_isKey 10 = .ok (.iconst 1, 1) := by decide +kernel
theorem d_Md_isKey_11 : decode b_Md_isKey 11 = .ok (.goto 4, 3) := by decide +kernel
theorem d_Md_isKey_14 : decode b_Md_isKey 14 = .ok (.iconst 0, 1) := by decide +kernel
theorem d_Md_isKey_15 : decode b_Md_isKey 15 = .ok (.ireturn, 1) := by decide +kernel
theorem d_Md_add_0 : decode b_Md_add 0 = .ok (.aload_n 0, 1) := by decide +kernel
theorem d_Md_add_1 : decode b_Md_add 1 = .ok (.getfield 134, 3) := by decide +kernel
theorem d_Md_add_4 : decode b_Md_add 4 = .ok (.bipush 6, 2) := by decide +kernel
theorem d_Md_add_6 : decode b_Md_add 6 = .ok (.if_icmp .ne 6, 3) := by decide +kernel
theorem d_Md_add_9 : decode b_Md_add 9 = .ok (.bipush (-3), 2) := by decide +kernel
theorem d_Md_add_11 : decode b_Md_add 11 = .ok (.ireturn, 1) := by decide +kernel
theorem d_Md_add_12 : decode b_Md_add 12 = .ok (.aload_n 0, 1) := by decide +kernel
theorem d_Md_add_13 : decode b_Md_add 13 = .ok (.getfield 44, 3) := by decide +kernel
theorem d_Md_add_16 : decode b_Md_add 16 = .ok (.aload_n 0, 1) := by decide +kernel
theorem d_Md_add_17 : decode b_Md_add 17 = .ok (.getfield 134, 3) := by decide +kernel
theorem d_Md_add_20 : decode b_Md_add 20 = .ok (.iload_n 1, 1) := by decide +kernel
theorem d_Md_add_21 : decode b_Md_add 21 = .ok (.iastore, 1) := by decide +kernel
theorem d_Md_add_22 : decode b_Md_add 22 = .ok (.aload_n 0, 1) := by decide +kernel
theorem d_Md_add_23 : decode b_Md_add 23 = .ok (.getfield 47, 3) := by decide +kernel
theorem d_Md_add_26 : decode b_Md_add 26 = .ok (.aload_n 0, 1) := by decide +kernel
theorem d_Md_add_27 : decode b_Md_add 27 = .ok (.getfield 134, 3) := by decide +kernel
theorem d_Md_add_30 : decode b_Md_add 30 = .ok (.iload_n 2, 1) := by decide +kernel
theorem d_Md_add_31 : decode b_Md_add 31 = .ok (.iastore, 1) := by decide +kernel
theorem d_Md_add_32 : decode b_Md_add 32 = .ok (.aload_n 0, 1) := by decide +kernel
theorem d_Md_add_33 : decode b_Md_add 33 = .ok (.getfield 50, 3) := by decide +kernel
theorem d_Md_add_36 : decode b_Md_add 36 = .ok (.aload_n 0, 1) := by decide +kernel
theorem d_Md_add_37 : decode b_Md_add 37 = .ok (.getfield 134, 3) := by decide +kernel
theorem d_Md_add_40 : decode b_Md_add 40 = .ok (.iload_n 3, 1) := by decide +kernel
theorem d_Md_add_41 : decode b_Md_add 41 = .ok (.iastore, 1) := by decide +kernel
theorem d_Md_add_42 : decode b_Md_add 42 = .ok (.aload_n 0, 1) := by decide +kernel
theorem d_Md_add_43 : decode b_Md_add 43 = .ok (.dup, 1) := by decide +kernel
theorem d_Md_add_44 : decode b_Md_add 44 = .ok (.getfield 134, 3) := by decide +kernel
theorem d_Md_add_47 : decode b_Md_add 47 = .ok (.iconst 1, 1) := by decide +kernel
theorem d_Md_add_48 : decode b_Md_add 48 = .ok (.iadd, 1) := by decide +kernel
theorem d_Md_add_49 : decode b_Md_add 49 = .ok (.putfield 134, 3) := by decide +kernel
theorem d_Md_add_52 : decode b_Md_add 52 = .ok (.aload_n 0, 1) := by decide +kernel
theorem d_Md_add_53 : decode b_Md_add 53 = .ok (.getfield 134, 3) := by decide +kernel
theorem d_Md_add_56 : decode b_Md_add 56 = .ok (.ireturn, 1) := by decide +kernel
theorem d_Md_put_0 : decode b_Md_put 0 = .ok (.iload_n 1, 1) := by decide +kernel
theorem d_Md_put_1 : decode b_Md_put 1 = .ok (.invokestatic 137, 3) := by decide +kernel
theorem d_Md_put_4 : decode b_Md_put 4 = .ok (.ifCond .eq 14, 3) := by decide +kernel
theorem d_Md_put_7 : decode b_Md_put 7 = .ok (.iload_n 3, 1) := by decide +kernel
theorem d_Md_put_8 : decode b_Md_put 8 = .ok (.ifCond .lt 10, 3) := by decide +kernel
theorem d_Md_put_11 : decode b_Md_put 11 = .ok (.iload_n 3, 1) := by decide +kernel
theorem d_Md_put_12 : decode b_Md_put 12 = .ok (.sipush 1000, 3) := by decide +kernel
theorem d_Md_put_15 : decode b_Md_put 15 = .ok (.if_icmp .le 7, 3) := by decide +kernel
theorem d_Md_put_18 : decode b_Md_put 18 = .ok (.iconst (-1), 1) := by decide +kernel
theorem d_Md_put_19 : decode b_Md_put 19 = .ok (.goto 10, 3) := by decide +kernel
theorem d_Md_put_22 : decode b_Md_put 22 = .ok (.aload_n 0, 1) := by decide +kernel
theorem d_Md_put_23 : decode b_Md_put 23 = .ok (.iload_n 1, 1) := by decide +kernel
theorem d_Md_put_24 : decode b_Md_put 24 = .ok (.iload_n 2, 1) := by decide +kernel
theorem d_Md_put_25 : decode b_Md_put 25 = .ok (.iload_n 3, 1) := by decide +kernel
theorem d_Md_put_26 : decode b_Md_put 26 = .ok (.invokevirtual 140, 3) := by decide +kernel
theorem d_Md_put_29 : decode b_Md_put 29 = .ok (.ireturn, 1) := by decide +kernel
theorem d_Md_delete_0 : decode b_Md_delete 0 = .ok (.iload_n 1, 1) := by decide +kernel
theorem d_Md_delete_1 : decode b_Md_delete 1 = .ok (.invokestatic 137, 3) := by decide +kernel
theorem d_Md_delete_4 : decode b_Md_delete 4 = .ok (.ifCond .eq 13, 3) := by decide +kernel
theorem d_Md_delete_7 : decode b_Md_delete 7 = .ok (.aload_n 0, 1) := by decide +kernel
theorem d_Md_delete_8 : decode b_Md_delete 8 = .ok (.iload_n 1, 1) := by decide +kernel
theorem d_Md_delete_9 : decode b_Md_delete 9 = .ok (.iconst 0, 1) := by decide +kernel
theorem d_Md_delete_10 : decode b_Md_delete 10 = .ok (.iconst (-1), 1) := by decide +kernel
theorem d_Md_delete_11 : decode b_Md_delete 11 = .ok (.invokevirtual 140, 3) := by decide +kernel
theorem d_Md_delete_14 : decode b_Md_delete 14 = .ok (.goto 4, 3) := by decide +kernel
theorem d_Md_delete_17 : decode b_Md_delete 17 = .ok (.iconst (-1), 1) := by decide +kernel
theorem d_Md_delete_18 : decode b_Md_delete 18 = .ok (.ireturn, 1) := by decide +kernel
theorem d_Md_commit_0 : decode b_Md_commit 0 = .ok (.aload_n 0, 1) := by decide +kernel
theorem d_Md_commit_1 : decode b_Md_commit 1 = .ok (.getfield 134, 3) := by decide +kernel
theorem d_Md_commit_4 : decode b_Md_commit 4 = .ok (.ifCond .ne 6, 3) := by decide +kernel
theorem d_Md_commit_7 : decode b_Md_commit 7 = .ok (.bipush (-2), 2) := by decide +kernel
theorem d_Md_commit_9 : decode b_Md_commit 9 = .ok (.ireturn, 1) := by decide +kernel
theorem d_Md_commit_10 : decode b_Md_commit 10 = .ok (.aload_n 0, 1) := by decide +kernel
theorem d_Md_commit_11 : decode b_Md_commit 11 = .ok (.aload_n 0, 1) := by decide +kernel
theorem d_Md_commit_12 : decode b_Md_commit 12 = .ok (.getfield 134, 3) := by decide +kernel
theorem d_Md_commit_15 : decode b_Md_commit 15 = .ok (.invokevirtual 131, 3) := by decide +kernel
theorem d_Md_commit_18 : decode b_Md_commit 18 = .ok (.ifCond .eq 22, 3) := by decide +kernel
theorem d_Md_commit_21 : decode b_Md_commit 21 = .ok (.aload_n 0, 1) := by decide +kernel
theorem d_Md_commit_22 : decode b_Md_commit 22 = .ok (.getfield 128, 3) := by decide +kernel
theorem d_Md_commit_25 : decode b_Md_commit 25 = .ok (.aload_n 0, 1) := by decide +kernel
theorem d_Md_commit_26 : decode b_Md_commit 26 = .ok (.getfield 144, 3) := by decide +kernel
theorem d_Md_commit_29 : decode b_Md_commit 29 = .ok (.isub, 1) := by decide +kernel
theorem d_Md_commit_30 : decode b_Md_commit 30 = .ok (.iconst 1, 1) := by decide +kernel
theorem d_Md_commit_31 : decode b_Md_commit 31 = .ok (.iadd, 1) := by decide +kernel
theorem d_Md_commit_32 : decode b_Md_commit 32 = .ok (.bipush 8, 2) := by decide +kernel
theorem d_Md_commit_34 : decode b_Md_commit 34 = .ok (.if_icmp .lt 6, 3) := by decide +kernel
theorem d_Md_commit_37 : decode b_Md_commit 37 = .ok (.bipush (-3), 2) := by decide +kernel
theorem d_Md_commit_39 : decode b_Md_commit 39 = .ok (.ireturn, 1) := by decide +kernel
theorem d_Md_commit_40 : decode b_Md_commit 40 = .ok (.aload_n 0, 1) := by decide +kernel
theorem d_Md_commit_41 : decode b_Md_commit 41 = .ok (.iconst (-1), 1) := by decide +kernel
theorem d_Md_commit_42 : decode b_Md_commit 42 = .ok (.invokevirtual 109, 3) := by decide +kernel
theorem d_Md_commit_45 : decode b_Md_commit 45 = .ok (.aload_n 0, 1) := by decide +kernel
theorem d_Md_commit_46 : decode b_Md_commit 46 = .ok (.getfield 134, 3) := by decide +kernel
theorem d_Md_commit_49 : decode b_Md_commit 49 = .ok (.iadd, 1) := by decide +kernel
theorem d_Md_commit_50 : decode b_Md_commit 50 = .ok (.bipush 8, 2) := by decide +kernel
theorem d_Md_commit_52 : decode b_Md_commit 52 = .ok (.if_icmp .le 7, 3) := by decide +kernel
theorem d_Md_commit_55 : decode b_Md_commit 55 = .ok (.aload_n 0, 1) := by decide +kernel
theorem d_Md_commit_56 : decode b_Md_commit 56 = .ok (.invokevirtual 147, 3) := by decide +kernel
theorem d_Md_commit_59 : decode b_Md_commit 59 = .ok (.aload_n 0, 1) := by decide +kernel
theorem d_Md_commit_60 : decode b_Md_commit 60 = .ok (.getfield 68, 3) := by decide +kernel
theorem d_Md_commit_63 : decode b_Md_commit 63 = .ok (.aload_n 0, 1) := by decide +kernel
theorem d_Md_commit_64 : decode b_Md_commit 64 = .ok (.getfield 125, 3) := by decide +kernel
theorem d_Md_commit_67 : decode b_Md_commit 67 = .ok (.aload_n 0, 1) := by decide +kernel
theorem d_Md_commit_68 : decode b_Md_commit 68 = .ok (.aload_n 0, 1) := by decide +kernel
theorem d_Md_commit_69 : decode b_Md_commit 69 = .ok (.getfield 134, 3) := by decide +kernel
theorem d_Md_commit_72 : decode b_Md_commit 72 = .ok (.invokevirtual 131, 3) := by decide +kernel
theorem d_Md_commit_75 : decode b_Md_commit 75 = .ok (.bastore, 1) := by decide +kernel
theorem d_Md_commit_76 : decode b_Md_commit 76 = .ok (.aload_n 0, 1) := by decide +kernel
theorem d_Md_commit_77 : decode b_Md_commit 77 = .ok (.getfield 62, 3) := by decide +kernel
theorem d_Md_commit_80 : decode b_Md_commit 80 = .ok (.aload_n 0, 1) := by decide +kernel
theorem d_Md_commit_81 : decode b_Md_commit 81 = .ok (.getfield 125, 3) := by decide +kernel
theorem d_Md_commit_84 : decode b_Md_commit 84 = .ok (.aload_n 0, 1) := by decide +kernel
theorem d_Md_commit_85 : decode b_Md_commit 85 = .ok (.getfield 89, 3) := by decide +kernel
theorem d_Md_commit_88 : decode b_Md_commit 88 = .ok (.iconst 1, 1) := by decide +kernel
theorem d_Md_commit_89 : decode b_Md_commit 89 = .ok (.iadd, 1) := by decide +kernel
theorem d_Md_commit_90 : decode b_Md_commit 90 = .ok (.iastore, 1) := by decide +kernel
theorem d_Md_commit_91 : decode b_Md_commit 91 = .ok (.aload_n 0, 1) := by decide +kernel
theorem d_Md_commit_92 : decode b_Md_commit 92 = .ok (.getfield 65, 3) := by decide +kernel
theorem d_Md_commit_95 : decode b_Md_commit 95 = .ok (.aload_n 0, 1) := by decide +kernel
theorem d_Md_commit_96 : decode b_Md_commit 96 = .ok (.getfield 125, 3) := by decide +kernel
theorem d_Md_commit_99 : decode b_Md_commit 99 = .ok (.iconst 1, 1) := by decide +kernel
theorem d_Md_commit_100 : decode b_Md_commit 100 = .ok (.aload_n 0, 1) := by decide +kernel
theorem d_Md_commit_101 : decode b_Md_commit 101 = .ok (.getfield 134, 3) := by decide +kernel
theorem d_Md_commit_104 : decode b_Md_commit 104 = .ok (.iadd, 1) := by decide +kernel
theorem d_Md_commit_105 : decode b_Md_commit 105 = .ok (.iastore, 1) := by decide +kernel
theorem d_Md_commit_106 : decode b_Md_commit 106 = .ok (.aload_n 0, 1) := by decide +kernel
theorem d_Md_commit_107 : decode b_Md_commit 107 = .ok (.dup, 1) := by decide +kernel
theorem d_Md_commit_108 : decode b_Md_commit 108 = .ok (.getfield 125, 3) := by decide +kernel
theorem d_Md_commit_111 : decode b_Md_commit 111 = .ok (.iconst 1, 1) := by decide +kernel
theorem d_Md_commit_112 : decode b_Md_commit 112 = .ok (.iadd, 1) := by decide +kernel
theorem d_Md_commit_113 : decode b_Md_commit 113 = .ok (.putfield 125, 3) := by decide +kernel
theorem d_Md_commit_116 : decode b_Md_commit 116 = .ok (.aload_n 0, 1) := by decide +kernel
theorem d_Md_commit_117 : decode b_Md_commit 117 = .ok (.aload_n 0, 1) := by decide +kernel
theorem d_Md_commit_118 : decode b_Md_commit 118 = .ok (.getfield 134, 3) := by decide +kernel
theorem d_Md_commit_121 : decode b_Md_commit 121 = .ok (.invokevirtual 150, 3) := by decide +kernel
theorem d_Md_commit_124 : decode b_Md_commit 124 = .ok (.istore_n 1, 1) := by decide +kernel
theorem d_Md_commit_125 : decode b_Md_commit 125 = .ok (.iconst 0, 1) := by decide +kernel
theorem d_Md_commit_126 : decode b_Md_commit 126 = .ok (.istore_n 2, 1) := by decide +kernel
theorem d_Md_commit_127 : decode b_Md_commit 127 = .ok (.iload_n 2, 1) := by decide +kernel
theorem d_Md_commit_128 : decode b_Md_commit 128 = .ok (.aload_n 0, 1) := by decide +kernel
theorem d_Md_commit_129 : decode b_Md_commit 129 = .ok (.getfield 134, 3) := by decide +kernel
theorem d_Md_commit_132 : decode b_Md_commit 132 = .ok (.if_icmp .ge 144, 3) := by decide +kernel
theorem d_Md_commit_135 : decode b_Md_commit 135 = .ok (.aload_n 0, 1) := by decide +kernel
theorem d_Md_commit_136 : decode b_Md_commit 136 = .ok (.dup, 1) := by decide +kernel
theorem d_Md_commit_137 : decode b_Md_commit 137 = .ok (.getfield 89, 3) := by decide +kernel
theorem d_Md_commit_140 : decode b_Md_commit 140 = .ok (.iconst 1, 1) := by decide +kernel
theorem d_Md_commit_141 : decode b_Md_commit 141 = .ok (.iadd, 1) := by decide +kernel
theorem d_Md_commit_142 : decode b_Md_commit 142 = .ok (.putfield 89, 3) := by decide +kernel
theorem d_Md_commit_145 : decode b_Md_commit 145 = .ok (.aload_n 0, 1) := by decide +kernel
theorem d_Md_commit_146 : decode b_Md_commit 146 = .ok (.getfield 75, 3) := by decide +kernel
theorem d_Md_commit_149 : decode b_Md_commit 149 = .ok (.istore_n 3, 1) := by decide +kernel
theorem d_Md_commit_150 : decode b_Md_commit 150 = .ok (.aload_n 0, 1) := by decide +kernel
theorem d_Md_commit_151 : decode b_Md_commit 151 = .ok (.dup, 1) := by decide +kernel
theorem d_Md_commit_152 : decode b_Md_commit 152 = .ok (.getfield 75, 3) := by decide +kernel
theorem d_Md_commit_155 : decode b_Md_commit 155 = .ok (.iconst 1, 1) := by decide +kernel
theorem d_Md_commit_156 : decode b_Md_commit 156 = .ok (.iadd, 1) := by decide +kernel
theorem d_Md_commit_157 : decode b_Md_commit 157 = .ok (.putfield 75, 3) := by decide +kernel
theorem d_Md_commit_160 : decode b_Md_commit 160 = .ok (.aload_n 0, 1) := by decide +kernel
theorem d_Md_commit_161 : decode b_Md_commit 161 = .ok (.getfield 7, 3) := by decide +kernel
theorem d_Md_commit_164 : decode b_Md_commit 164 = .ok (.iload_n 3, 1) := by decide +kernel
theorem d_Md_commit_165 : decode b_Md_commit 165 = .ok (.aload_n 0, 1) := by decide +kernel
theorem d_Md_commit_166 : decode b_Md_commit 166 = .ok (.getfield 44, 3) := by decide +kernel
theorem d_Md_commit_169 : decode b_Md_commit 169 = .ok (.iload_n 2, 1) := by decide +kernel
theorem d_Md_commit_170 : decode b_Md_commit 170 = .ok (.iaload, 1) := by decide +kernel
theorem d_Md_commit_171 : decode b_Md_commit 171 = .ok (.iastore, 1) := by decide +kernel
theorem d_Md_commit_172 : decode b_Md_commit 172 = .ok (.aload_n 0, 1) := by decide +kernel
theorem d_Md_commit_173 : decode b_Md_commit 173 = .ok (.getfield 13, 3) := by decide +kernel
theorem d_Md_commit_176 : decode b_Md_commit 176 = .ok (.iload_n 3, 1) := by decide +kernel
theorem d_Md_commit_177 : decode b_Md_commit 177 = .ok (.aload_n 0, 1) := by decide +kernel
theorem d_Md_commit_178 : decode b_Md_commit 178 = .ok (.getfield 89, 3) := by decide +kernel
theorem d_Md_commit_181 : decode b_Md_commit 181 = .ok (.iastore, 1) := by decide +kernel
theorem d_Md_commit_182 : decode b_Md_commit 182 = .ok (.aload_n 0, 1) := by decide +kernel
theorem d_Md_commit_183 : decode b_Md_commit 183 = .ok (.getfield 19, 3) := by decide +kernel
theorem d_Md_commit_186 : decode b_Md_commit 186 = .ok (.iload_n 3, 1) := by decide +kernel
theorem d_Md_commit_187 : decode b_Md_commit 187 = .ok (.aload_n 0, 1) := by decide +kernel
theorem d_Md_commit_188 : decode b_Md_commit 188 = .ok (.getfield 50, 3) := by decide +kernel
theorem d_Md_commit_191 : decode b_Md_commit 191 = .ok (.iload_n 2, 1) := by decide +kernel
theorem d_Md_commit_192 : decode b_Md_commit 192 = .ok (.iaload, 1) := by decide +kernel
theorem d_Md_commit_193 : decode b_Md_commit 193 = .ok (.ifCond .ge 7, 3) := by decide +kernel
theorem d_Md_commit_196 : decode b_Md_commit 196 = .ok (.iconst 1, 1) := by decide +kernel
theorem d_Md_commit_197 : decode b_Md_commit 197 = .ok (.goto 4, 3) := by decide +kernel
theorem d_Md_commit_200 : decode b_Md_commit 200 = .ok (.iconst 0, 1) := by decide +kernel
theorem d_Md_commit_201 : decode b_Md_commit 201 = .ok (.bastore, 1) := by decide +kernel
theorem d_Md_commit_202 : decode b_Md_commit 202 = .ok (.aload_n 0, 1) := by decide +kernel
theorem d_Md_commit_203 : decode b_Md_commit 203 = .ok (.getfield 16, 3) := by decide +kernel
theorem d_Md_commit_206 : decode b_Md_commit 206 = .ok (.iload_n 3, 1) := by decide +kernel
theorem d_Md_commit_207 : decode b_Md_commit 207 = .ok (.aload_n 0, 1) := by decide +kernel
theorem d_Md_commit_208 : decode b_Md_commit 208 = .ok (.getfield 47, 3) := by decide +kernel
theorem d_Md_commit_211 : decode b_Md_commit 211 = .ok (.iload_n 2, 1) := by decide +kernel
theorem d_Md_commit_212 : decode b_Md_commit 212 = .ok (.iaload, 1) := by decide +kernel
theorem d_Md_commit_213 : decode b_Md_commit 213 = .ok (.iastore, 1) := by decide +kernel
theorem d_Md_commit_214 : decode b_Md_commit 214 = .ok (.aload_n 0, 1) := by decide +kernel
theorem d_Md_commit_215 : decode b_Md_commit 215 = .ok (.getfield 23, 3) := by decide +kernel
theorem d_Md_commit_218 : decode b_Md_commit 218 = .ok (.iload_n 3, 1) := by decide +kernel
theorem d_Md_commit_219 : decode b_Md_commit 219 = .ok (.aload_n 0, 1) := by decide +kernel
theorem d_Md_commit_220 : decode b_Md_commit 220 = .ok (.getfield 50, 3) := by decide +kernel
theorem d_Md_commit_223 : decode b_Md_commit 223 = .ok (.iload_n 2, 1) := by decide +kernel
theorem d_Md_commit_224 : decode b_Md_commit 224 = .ok (.iaload, 1) := by decide +kernel
theorem d_Md_commit_225 : decode b_Md_commit 225 = .ok (.ifCond .le 17, 3) := by decide +kernel
theorem d_Md_commit_228 : decode b_Md_commit 228 = .ok (.aload_n 0, 1) := by decide +kernel
theorem d_Md_commit_229 : decode b_Md_commit 229 = .ok (.getfield 71, 3) := by decide +kernel
theorem d_Md_commit_232 : decode b_Md_commit 232 = .ok (.aload_n 0, 1) := by decide +kernel
theorem d_Md_commit_233 : decode b_Md_commit 233 = .ok (.getfield 50, 3) := by decide +kernel
theorem d_Md_commit_236 : decode b_Md_commit 236 = .ok (.iload_n 2, 1) := by decide +kernel
theorem d_Md_commit_237 : decode b_Md_commit 237 = .ok (.iaload, 1) := by decide +kernel
theorem d_Md_commit_238 : decode b_Md_commit 238 = .ok (.iadd, 1) := by decide +kernel
theorem d_Md_commit_239 : decode b_Md_commit 239 = .ok (.goto 4, 3) := by decide +kernel
theorem d_Md_commit_242 : decode b_Md_commit 242 = .ok (.iconst 0, 1) := by decide +kernel
theorem d_Md_commit_243 : decode b_Md_commit 243 = .ok (.iastore, 1) := by decide +kernel
theorem d_Md_commit_244 : decode b_Md_commit 244 = .ok (.aload_n 0, 1) := by decide +kernel
theorem d_Md_commit_245 : decode b_Md_commit 245 = .ok (.getfield 26, 3) := by decide +kernel
theorem d_Md_commit_248 : decode b_Md_commit 248 = .ok (.iload_n 3, 1) := by decide +kernel
theorem d_Md_commit_249 : decode b_Md_commit 249 = .ok (.iconst (-1), 1) := by decide +kernel
theorem d_Md_commit_250 : decode b_Md_commit 250 = .ok (.iastore, 1) := by decide +kernel
theorem d_Md_commit_251 : decode b_Md_commit 251 = .ok (.aload_n 0, 1) := by decide +kernel
theorem d_Md_commit_252 : decode b_Md_commit 252 = .ok (.getfield 32, 3) := by decide +kernel
theorem d_Md_commit_255 : decode b_Md_commit 255 = .ok (.iload_n 3, 1) := by decide +kernel
theorem d_Md_commit_256 : decode b_Md_commit 256 = .ok (.aload_n 0, 1) := by decide +kernel
theorem d_Md_commit_257 : decode b_Md_commit 257 = .ok (.getfield 128, 3) := by decide +kernel
theorem d_Md_commit_260 : decode b_Md_commit 260 = .ok (.iastore, 1) := by decide +kernel
theorem d_Md_commit_261 : decode b_Md_commit 261 = .ok (.aload_n 0, 1) := by decide +kernel
theorem d_Md_commit_262 : decode b_Md_commit 262 = .ok (.getfield 35, 3) := by decide +kernel
theorem d_Md_commit_265 : decode b_Md_commit 265 = .ok (.iload_n 3, 1) := by decide +kernel
theorem d_Md_commit_266 : decode b_Md_commit 266 = .ok (.iload_n 1, 1) := by decide +kernel
theorem d_Md_commit_267 : decode b_Md_commit 267 = .ok (.iload_n 2, 1) := by decide +kernel
theorem d_Md_commit_268 : decode b_Md_commit 268 = .ok (.iadd, 1) := by decide +kernel
theorem d_Md_commit_269 : decode b_Md_commit 269 = .ok (.iastore, 1) := by decide +kernel
theorem d_Md_commit_270 : decode b_Md_commit 270 = .ok (.iinc 2 1, 3) := by decide +kernel
theorem d_Md_commit_273 : decode b_Md_commit 273 = .ok (.goto (-146), 3) := by decide +kernel
theorem d_Md_commit_276 : decode b_Md_commit 276 = .ok (.aload_n 0, 1) := by decide +kernel
theorem d_Md_commit_277 : decode b_Md_commit 277 = .ok (.getfield 134, 3) := by decide +kernel
theorem d_Md_commit_280 : decode b_Md_commit 280 = .ok (.istore_n 2, 1) := by decide +kernel
theorem d_Md_commit_281 : decode b_Md_commit 281 = .ok (.aload_n 0, 1) := by decide +kernel
theorem d_Md_commit_282 : decode b_Md_commit 282 = .ok (.iconst 0, 1) := by decide +kernel
theorem d_Md_commit_283 : decode b_Md_commit 283 = .ok (.putfield 134, 3) := by decide +kernel
theorem d_Md_commit_286 : decode b_Md_commit 286 = .ok (.iload_n 2, 1) := by decide +kernel
theorem d_Md_commit_287 : decode b_Md_commit 287 = .ok (.ireturn, 1) := by decide +kernel
theorem d_Md_sync_0 : decode b_Md_sync 0 = .ok (.aload_n 0, 1) := by decide +kernel
theorem d_Md_sync_1 : decode b_Md_sync 1 = .ok (.getfield 125, 3) := by decide +kernel
theorem d_Md_sync_4 : decode b_Md_sync 4 = .ok (.istore_n 1, 1) := by decide +kernel
theorem d_Md_sync_5 : decode b_Md_sync 5 = .ok (.aload_n 0, 1) := by decide +kernel
theorem d_Md_sync_6 : decode b_Md_sync 6 = .ok (.iconst 0, 1) := by decide +kernel
theorem d_Md_sync_7 : decode b_Md_sync 7 = .ok (.putfield 125, 3) := by decide +kernel
theorem d_Md_sync_10 : decode b_Md_sync 10 = .ok (.iload_n 1, 1) := by decide +kernel
theorem d_Md_sync_11 : decode b_Md_sync 11 = .ok (.ireturn, 1) := by decide +kernel
theorem d_Md_flush_0 : decode b_Md_flush 0 = .ok (.aload_n 0, 1) := by decide +kernel
theorem d_Md_flush_1 : decode b_Md_flush 1 = .ok (.iconst (-1), 1) := by decide +kernel
theorem d_Md_flush_2 : decode b_Md_flush 2 = .ok (.invokevirtual 109, 3) := by decide +kernel
theorem d_Md_flush_5 : decode b_Md_flush 5 = .ok (.istore_n 1, 1) := by decide +kernel
theorem d_Md_flush_6 : decode b_Md_flush 6 = .ok (.aload_n 0, 1) := by decide +kernel
theorem d_Md_flush_7 : decode b_Md_flush 7 = .ok (.invokevirtual 147, 3) := by decide +kernel
theorem d_Md_flush_10 : decode b_Md_flush 10 = .ok (.iload_n 1, 1) := by decide +kernel
theorem d_Md_flush_11 : decode b_Md_flush 11 = .ok (.ireturn, 1) := by decide +kernel
theorem d_Md_merge_0 : decode b_Md_merge 0 = .ok (.iload_n 1, 1) := by decide +kernel
theorem d_Md_merge_1 : decode b_Md_merge 1 = .ok (.ifCond .lt 8, 3) := by decide +kernel
theorem d_Md_merge_4 : decode b_Md_merge 4 = .ok (.iload_n 1, 1) := by decide +kernel
theorem d_Md_merge_5 : decode b_Md_merge 5 = .ok (.iconst 1, 1) := by decide +kernel
theorem d_Md_merge_6 : decode b_Md_merge 6 = .ok (.if_icmp .le 5, 3) := by decide +kernel
theorem d_Md_merge_9 : decode b_Md_merge 9 = .ok (.iconst (-1), 1) := by decide +kernel
theorem d_Md_merge_10 : decode b_Md_merge 10 = .ok (.ireturn, 1) := by decide +kernel
theorem d_Md_merge_11 : decode b_Md_merge 11 = .ok (.aload_n 0, 1) := by decide +kernel
theorem d_Md_merge_12 : decode b_Md_merge 12 = .ok (.iload_n 1, 1) := by decide +kernel
theorem d_Md_merge_13 : decode b_Md_merge 13 = .ok (.invokevirtual 109, 3) := by decide +kernel
theorem d_Md_merge_16 : decode b_Md_merge 16 = .ok (.ifCond .ne 8, 3) := by decide +kernel
theorem d_Md_merge_19 : decode b_Md_merge 19 = .ok (.bipush (-2), 2) := by decide +kernel
theorem d_Md_merge_21 : decode b_Md_merge 21 = .ok (.goto 8, 3) := by decide +kernel
theorem d_Md_merge_24 : decode b_Md_merge 24 = .ok (.aload_n 0, 1) := by decide +kernel
theorem d_Md_merge_25 : decode b_Md_merge 25 = .ok (.iload_n 1, 1) := by decide +kernel
theorem d_Md_merge_26 : decode b_Md_merge 26 = .ok (.invokevirtual 119, 3) := by decide +kernel
theorem d_Md_merge_29 : decode b_Md_merge 29 = .ok (.ireturn, 1) := by decide +kernel
theorem d_Md_isLive_0 : decode b_Md_isLive 0 = .ok (.aload_n 0, 1) := by decide +kernel
theorem d_Md_isLive_1 : decode b_Md_isLive 1 = .ok (.getfield 26, 3) := by decide +kernel
theorem d_Md_isLive_4 : decode b_Md_isLive 4 = .ok (.iload_n 1, 1) := by decide +kernel
theorem d_Md_isLive_5 : decode b_Md_isLive 5 = .ok (.iaload, 1) := by decide +kernel
theorem d_Md_isLive_6 : decode b_Md_isLive 6 = .ok (.bipush 9, 2) := by decide +kernel
theorem d_Md_isLive_8 : decode b_Md_isLive 8 = .ok (.if_icmp .eq 26, 3) := by decide +kernel
theorem d_Md_isLive_11 : decode b_Md_isLive 11 = .ok (.aload_n 0, 1) := by decide +kernel
theorem d_Md_isLive_12 : decode b_Md_isLive 12 = .ok (.getfield 19, 3) := by decide +kernel
theorem d_Md_isLive_15 : decode b_Md_isLive 15 = .ok (.iload_n 1, 1) := by decide +kernel
theorem d_Md_isLive_16 : decode b_Md_isLive 16 = .ok (.baload, 1) := by decide +kernel
theorem d_Md_isLive_17 : decode b_Md_isLive 17 = .ok (.ifCond .ne 17, 3) := by decide +kernel
theorem d_Md_isLive_20 : decode b_Md_isLive 20 = .ok (.aload_n 0, 1) := by decide +kernel
theorem d_Md_isLive_21 : decode b_Md_isLive 21 = .ok (.getfield 32, 3) := by decide +kernel
theorem d_Md_isLive_24 : decode b_Md_isLive 24 = .ok (.iload_n 1, 1) := by decide +kernel
theorem d_Md_isLive_25 : decode b_Md_isLive 25 = .ok (.iaload, 1) := by decide +kernel
theorem d_Md_isLive_26 : decode b_Md_isLive 26 = .ok (.iload_n 2, 1) := by decide +kernel
theorem d_Md_isLive_27 : decode b_Md_isLive 27 = .ok (.if_icmp .ne 7, 3) := by decide +kernel
theorem d_Md_isLive_30 : decode b_Md_isLive 30 = .ok (.iconst 1, 1) := by decide +kernel
theorem d_Md_isLive_31 : decode b_Md_isLive 31 = .ok (.goto 4, 3) := by decide +kernel
theorem d_Md_isLive_34 : decode b_Md_isLive 34 = .ok (.iconst 0, 1) := by decide +kernel
theorem d_Md_isLive_35 : decode b_Md_isLive 35 = .ok (.ireturn, 1) := by decide +kernel
theorem d_Md_liveIn_0 : decode b_Md_liveIn 0 = .ok (.iconst 0, 1) := by decide +kernel
theorem d_Md_liveIn_1 : decode b_Md_liveIn 1 = .ok (.istore_n 2, 1) := by decide +kernel
theorem d_Md_liveIn_2 : decode b_Md_liveIn 2 = .ok (.iconst 0, 1) := by decide +kernel
theorem d_Md_liveIn_3 : decode b_Md_liveIn 3 = .ok (.istore_n 3, 1) := by decide +kernel
theorem d_Md_liveIn_4 : decode b_Md_liveIn 4 = .ok (.iload_n 3, 1) := by decide +kernel
theorem d_Md_liveIn_5 : decode b_Md_liveIn 5 = .ok (.aload_n 0, 1) := by decide +kernel
theorem d_Md_liveIn_6 : decode b_Md_liveIn 6 = .ok (.getfield 75, 3) := by decide +kernel
theorem d_Md_liveIn_9 : decode b_Md_liveIn 9 = .ok (.if_icmp .ge 21, 3) := by decide +kernel
theorem d_Md_liveIn_12 : decode b_Md_liveIn 12 = .ok (.aload_n 0, 1) := by decide +kernel
theorem d_Md_liveIn_13 : decode b_Md_liveIn 13 = .ok (.iload_n 3, 1) := by decide +kernel
theorem d_Md_liveIn_14 : decode b_Md_liveIn 14 = .ok (.iload_n 1, 1) := by decide +kernel
theorem d_Md_liveIn_15 : decode b_Md_liveIn 15 = .ok (.invokevirtual 153, 3) := by decide +kernel
theorem d_Md_liveIn_18 : decode b_Md_liveIn 18 = .ok (.ifCond .eq 6, 3) := by decide +kernel
theorem d_Md_liveIn_21 : decode b_Md_liveIn 21 = .ok (.iinc 2 1, 3) := by decide +kernel
theorem d_Md_liveIn_24 : decode b_Md_liveIn 24 = .ok (.iinc 3 1, 3) := by decide +kernel
theorem d_Md_liveIn_27 : decode b_Md_liveIn 27 = .ok (.goto (-23), 3) := by decide +kernel
theorem d_Md_liveIn_30 : decode b_Md_liveIn 30 = .ok (.iload_n 2, 1) := by decide +kernel
theorem d_Md_liveIn_31 : decode b_Md_liveIn 31 = .ok (.ireturn, 1) := by decide +kernel
theorem d_Md_nextLive_0 : decode b_Md_nextLive 0 = .ok (.iconst (-1), 1) := by decide +kernel
theorem d_Md_nextLive_1 : decode b_Md_nextLive 1 = .ok (.istore_n 1, 1) := by decide +kernel
theorem d_Md_nextLive_2 : decode b_Md_nextLive 2 = .ok (.iconst 0, 1) := by decide +kernel
theorem d_Md_nextLive_3 : decode b_Md_nextLive 3 = .ok (.istore_n 2, 1) := by decide +kernel
theorem d_Md_nextLive_4 : decode b_Md_nextLive 4 = .ok (.iload_n 2, 1) := by decide +kernel
theorem d_Md_nextLive_5 : decode b_Md_nextLive 5 = .ok (.aload_n 0, 1) := by decide +kernel
theorem d_Md_nextLive_6 : decode b_Md_nextLive 6 = .ok (.getfield 75, 3) := by decide +kernel
theorem d_Md_nextLive_9 : decode b_Md_nextLive 9 = .ok (.if_icmp .ge 42, 3) := by decide +kernel
theorem d_Md_nextLive_12 : decode b_Md_nextLive 12 = .ok (.aload_n 0, 1) := by decide +kernel
theorem d_Md_nextLive_13 : decode b_Md_nextLive 13 = .ok (.iload_n 2, 1) := by decide +kernel
theorem d_Md_nextLive_14 : decode b_Md_nextLive 14 = .ok (.aload_n 0, 1) := by decide +kernel
theorem d_Md_nextLive_15 : decode b_Md_nextLive 15 = .ok (.getfield 144, 3) := by decide +kernel
theorem d_Md_nextLive_18 : decode b_Md_nextLive 18 = .ok (.invokevirtual 153, 3) := by decide +kernel
theorem d_Md_nextLive_21 : decode b_Md_nextLive 21 = .ok (.ifCond .eq 24, 3) := by decide +kernel
theorem d_Md_nextLive_24 : decode b_Md_nextLive 24 = .ok (.iload_n 1, 1) := by decide +kernel
theorem d_Md_nextLive_25 : decode b_Md_nextLive 25 = .ok (.ifCond .lt 18, 3) := by decide +kernel
theorem d_Md_nextLive_28 : decode b_Md_nextLive 28 = .ok (.aload_n 0, 1) := by decide +kernel
theorem d_Md_nextLive_29 : decode b_Md_nextLive 29 = .ok (.getfield 35, 3) := by decide +kernel
theorem d_Md_nextLive_32 : decode b_Md_nextLive 32 = .ok (.iload_n 2, 1) := by decide +kernel
theorem d_Md_nextLive_33 : decode b_Md_nextLive 33 = .ok (.iaload, 1) := by decide +kernel
theorem d_Md_nextLive_34 : decode b_Md_nextLive 34 = .ok (.aload_n 0, 1) := by decide +kernel
theorem d_Md_nextLive_35 : decode b_Md_nextLive 35 = .ok (.getfield 35, 3) := by decide +kernel
theorem d_Md_nextLive_38 : decode b_Md_nextLive 38 = .ok (.iload_n 1, 1) := by decide +kernel
theorem d_Md_nextLive_39 : decode b_Md_nextLive 39 = .ok (.iaload, 1) := by decide +kernel
theorem d_Md_nextLive_40 : decode b_Md_nextLive 40 = .ok (.if_icmp .ge 5, 3) := by decide +kernel
theorem d_Md_nextLive_43 : decode b_Md_nextLive 43 = .ok (.iload_n 2, 1) := by decide +kernel
theorem d_Md_nextLive_44 : decode b_Md_nextLive 44 = .ok (.istore_n 1, 1) := by decide +kernel
theorem d_Md_nextLive_45 : decode b_Md_nextLive 45 = .ok (.iinc 2 1, 3) := by decide +kernel
theorem d_Md_nextLive_48 : decode b_Md_nextLive 48 = .ok (.goto (-44), 3) := by decide +kernel
theorem d_Md_nextLive_51 : decode b_Md_nextLive 51 = .ok (.iload_n 1, 1) := by decide +kernel
theorem d_Md_nextLive_52 : decode b_Md_nextLive 52 = .ok (.ireturn, 1) := by decide +kernel
theorem d_Md_headsFor_0 : decode b_Md_headsFor 0 = .ok (.iconst 0, 1) := by decide +kernel
theorem d_Md_headsFor_1 : decode b_Md_headsFor 1 = .ok (.istore_n 2, 1) := by decide +kernel
theorem d_Md_headsFor_2 : decode b_Md_headsFor 2 = .ok (.aload_n 0, 1) := by decide +kernel
theorem d_Md_headsFor_3 : decode b_Md_headsFor 3 = .ok (.getfield 59, 3) := by decide +kernel
theorem d_Md_headsFor_6 : decode b_Md_headsFor 6 = .ok (.aload_n 0, 1) := by decide +kernel
theorem d_Md_headsFor_7 : decode b_Md_headsFor 7 = .ok (.getfield 128, 3) := by decide +kernel
theorem d_Md_headsFor_10 : decode b_Md_headsFor 10 = .ok (.bipush 8, 2) := by decide +kernel
theorem d_Md_headsFor_12 : decode b_Md_headsFor 12 = .ok (.irem, 1) := by decide +kernel
theorem d_Md_headsFor_13 : decode b_Md_headsFor 13 = .ok (.iaload, 1) := by decide +kernel
theorem d_Md_headsFor_14 : decode b_Md_headsFor 14 = .ok (.istore_n 3, 1) := by decide +kernel
theorem d_Md_headsFor_15 : decode b_Md_headsFor 15 = .ok (.iload_n 1, 1) := by decide +kernel
theorem d_Md_headsFor_16 : decode b_Md_headsFor 16 = .ok (.istore 4, 2) := by decide +kernel
theorem d_Md_headsFor_18 : decode b_Md_headsFor 18 = .ok (.iload 4, 2) := by decide +kernel
theorem d_Md_headsFor_20 : decode b_Md_headsFor 20 = .ok (.ifCond .le 50, 3) := by decide +kernel
theorem d_Md_headsFor_23 : decode b_Md_headsFor 23 = .ok (.iconst 1, 1) := by decide +kernel
theorem d_Md_headsFor_24 : decode b_Md_headsFor 24 = .ok (.iload 4, 2) := by decide +kernel
theorem d_Md_headsFor_26 : decode b_Md_headsFor 26 = .ok (.bipush 6, 2) := by decide +kernel
theorem d_Md_headsFor_28 : decode b_Md_headsFor 28 = .ok (.if_icmp .ge 8, 3) := by decide +kernel
theorem d_Md_headsFor_31 : decode b_Md_headsFor 31 = .ok (.iload 4, 2) := by decide +kernel
theorem d_Md_headsFor_33 : decode b_Md_headsFor 33 = .ok (.goto 5, 3) := by decide +kernel
theorem d_Md_headsFor_36 : decode b_Md_headsFor 36 = .ok (.bipush 6, 2) := by decide +kernel
theorem d_Md_headsFor_38 : decode b_Md_headsFor 38 = .ok (.iadd, 1) := by decide +kernel
theorem d_Md_headsFor_39 : decode b_Md_headsFor 39 = .ok (.istore 5, 2) := by decide +kernel
theorem d_Md_headsFor_41 : decode b_Md_headsFor 41 = .ok (.iload_n 3, 1) := by decide +kernel
theorem d_Md_headsFor_42 : decode b_Md_headsFor 42 = .ok (.iload 5, 2) := by decide +kernel
theorem d_Md_headsFor_44 : decode b_Md_headsFor 44 = .ok (.iadd, 1) := by decide +kernel
theorem d_Md_headsFor_45 : decode b_Md_headsFor 45 = .ok (.bipush 16, 2) := by decide +kernel
theorem d_Md_headsFor_47 : decode b_Md_headsFor 47 = .ok (.if_icmp .le 8, 3) := by decide +kernel
theorem d_Md_headsFor_50 : decode b_Md_headsFor 50 = .ok (.iinc 2 1, 3) := by decide +kernel
theorem d_Md_headsFor_53 : decode b_Md_headsFor 53 = .ok (.iconst 0, 1) := by decide +kernel
theorem d_Md_headsFor_54 : decode b_Md_headsFor 54 = .ok (.istore_n 3, 1) := by decide +kernel
theorem d_Md_headsFor_55 : decode b_Md_headsFor 55 = .ok (.iload_n 3, 1) := by decide +kernel
theorem d_Md_headsFor_56 : decode b_Md_headsFor 56 = .ok (.iload 5, 2) := by decide +kernel
theorem d_Md_headsFor_58 : decode b_Md_headsFor 58 = .ok (.iadd, 1) := by decide +kernel
theorem d_Md_headsFor_59 : decode b_Md_headsFor 59 = .ok (.istore_n 3, 1) := by decide +kernel
theorem d_Md_headsFor_60 : decode b_Md_headsFor 60 = .ok (.iload 4, 2) := by decide +kernel
theorem d_Md_headsFor_62 : decode b_Md_headsFor 62 = .ok (.bipush 6, 2) := by decide +kernel
theorem d_Md_headsFor_64 : decode b_Md_headsFor 64 = .ok (.isub, 1) := by decide +kernel
theorem d_Md_headsFor_65 : decode b_Md_headsFor 65 = .ok (.istore 4, 2) := by decide +kernel
theorem d_Md_headsFor_67 : decode b_Md_headsFor 67 = .ok (.goto (-49), 3) := by decide +kernel
theorem d_Md_headsFor_70 : decode b_Md_headsFor 70 = .ok (.iload_n 2, 1) := by decide +kernel
theorem d_Md_headsFor_71 : decode b_Md_headsFor 71 = .ok (.ireturn, 1) := by decide +kernel
theorem d_Md_collect_0 : decode b_Md_collect 0 = .ok (.aload_n 0, 1) := by decide +kernel
theorem d_Md_collect_1 : decode b_Md_collect 1 = .ok (.getfield 144, 3) := by decide +kernel
theorem d_Md_collect_4 : decode b_Md_collect 4 = .ok (.aload_n 0, 1) := by decide +kernel
theorem d_Md_collect_5 : decode b_Md_collect 5 = .ok (.getfield 128, 3) := by decide +kernel
theorem d_Md_collect_8 : decode b_Md_collect 8 = .ok (.if_icmp .ne 6, 3) := by decide +kernel
theorem d_Md_collect_11 : decode b_Md_collect 11 = .ok (.bipush (-2), 2) := by decide +kernel
theorem d_Md_collect_13 : decode b_Md_collect 13 = .ok (.ireturn, 1) := by decide +kernel
theorem d_Md_collect_14 : decode b_Md_collect 14 = .ok (.aload_n 0, 1) := by decide +kernel
theorem d_Md_collect_15 : decode b_Md_collect 15 = .ok (.invokevirtual 147, 3) := by decide +kernel
theorem d_Md_collect_18 : decode b_Md_collect 18 = .ok (.aload_n 0, 1) := by decide +kernel
theorem d_Md_collect_19 : decode b_Md_collect 19 = .ok (.aload_n 0, 1) := by decide +kernel
theorem d_Md_collect_20 : decode b_Md_collect 20 = .ok (.getfield 144, 3) := by decide +kernel
theorem d_Md_collect_23 : decode b_Md_collect 23 = .ok (.invokevirtual 156, 3) := by decide +kernel
theorem d_Md_collect_26 : decode b_Md_collect 26 = .ok (.istore_n 1, 1) := by decide +kernel
theorem d_Md_collect_27 : decode b_Md_collect 27 = .ok (.aload_n 0, 1) := by decide +kernel
theorem d_Md_collect_28 : decode b_Md_collect 28 = .ok (.getfield 128, 3) := by decide +kernel
theorem d_Md_collect_31 : decode b_Md_collect 31 = .ok (.aload_n 0, 1) := by decide +kernel
theorem d_Md_collect_32 : decode b_Md_collect 32 = .ok (.getfield 144, 3) := by decide +kernel
theorem d_Md_collect_35 : decode b_Md_collect 35 = .ok (.isub, 1) := by decide +kernel
theorem d_Md_collect_36 : decode b_Md_collect 36 = .ok (.iconst 1, 1) := by decide +kernel
theorem d_Md_collect_37 : decode b_Md_collect 37 = .ok (.iadd, 1) := by decide +kernel
theorem d_Md_collect_38 : decode b_Md_collect 38 = .ok (.aload_n 0, 1) := by decide +kernel
theorem d_Md_collect_39 : decode b_Md_collect 39 = .ok (.iload_n 1, 1) := by decide +kernel
theorem d_Md_collect_40 : decode b_Md_collect 40 = .ok (.invokevirtual 159, 3) := by decide +kernel
theorem d_Md_collect_43 : decode b_Md_collect 43 = .ok (.iadd, 1) := by decide +kernel
theorem d_Md_collect_44 : decode b_Md_collect 44 = .ok (.bipush 8, 2) := by decide +kernel
theorem d_Md_collect_46 : decode b_Md_collect 46 = .ok (.if_icmp .le 6, 3) := by decide +kernel
theorem d_Md_collect_49 : decode b_Md_collect 49 = .ok (.bipush (-3), 2) := by decide +kernel
theorem d_Md_collect_51 : decode b_Md_collect 51 = .ok (.ireturn, 1) := by decide +kernel
theorem d_Md_collect_52 : decode b_Md_collect 52 = .ok (.iload_n 1, 1) := by decide +kernel
theorem d_Md_collect_53 : decode b_Md_collect 53 = .ok (.istore_n 2, 1) := by decide +kernel
theorem d_Md_collect_54 : decode b_Md_collect 54 = .ok (.iload_n 2, 1) := by decide +kernel
theorem d_Md_collect_55 : decode b_Md_collect 55 = .ok (.ifCond .le 75, 3) := by decide +kernel
theorem d_Md_collect_58 : decode b_Md_collect 58 = .ok (.iload_n 2, 1) := by decide +kernel
theorem d_Md_collect_59 : decode b_Md_collect 59 = .ok (.bipush 6, 2) := by decide +kernel
theorem d_Md_collect_61 : decode b_Md_collect 61 = .ok (.if_icmp .ge 7, 3) := by decide +kernel
theorem d_Md_collect_64 : decode b_Md_collect 64 = .ok (.iload_n 2, 1) := by decide +kernel
theorem d_Md_collect_65 : decode b_Md_collect 65 = .ok (.goto 5, 3) := by decide +kernel
theorem d_Md_collect_68 : decode b_Md_collect 68 = .ok (.bipush 6, 2) := by decide +kernel
theorem d_Md_collect_70 : decode b_Md_collect 70 = .ok (.istore_n 3, 1) := by decide +kernel
theorem d_Md_collect_71 : decode b_Md_collect 71 = .ok (.aload_n 0, 1) := by decide +kernel
theorem d_Md_collect_72 : decode b_Md_collect 72 = .ok (.iload_n 3, 1) := by decide +kernel
theorem d_Md_collect_73 : decode b_Md_collect 73 = .ok (.invokevirtual 150, 3) := by decide +kernel
theorem d_Md_collect_76 : decode b_Md_collect 76 = .ok (.istore 4, 2) := by decide +kernel
theorem d_Md_collect_78 : decode b_Md_collect 78 = .ok (.iconst 0, 1) := by decide +kernel
theorem d_Md_collect_79 : decode b_Md_collect 79 = .ok (.istore 5, 2) := by decide +kernel
theorem d_Md_collect_81 : decode b_Md_collect 81 = .ok (.iload 5, 2) := by decide +kernel
theorem d_Md_collect_83 : decode b_Md_collect 83 = .ok (.iload_n 3, 1) := by decide +kernel
theorem d_Md_collect_84 : decode b_Md_collect 84 = .ok (.if_icmp .ge 38, 3) := by decide +kernel
theorem d_Md_collect_87 : decode b_Md_collect 87 = .ok (.aload_n 0, 1) := by decide +kernel
theorem d_Md_collect_88 : decode b_Md_collect 88 = .ok (.invokevirtual 162, 3) := by decide +kernel
theorem d_Md_collect_91 : decode b_Md_collect 91 = .ok (.istore 6, 2) := by decide +kernel
theorem d_Md_collect_93 : decode b_Md_collect 93 = .ok (.aload_n 0, 1) := by decide +kernel
theorem d_Md_collect_94 : decode b_Md_collect 94 = .ok (.getfield 32, 3) := by decide +kernel
theorem d_Md_collect_97 : decode b_Md_collect 97 = .ok (.iload 6, 2) := by decide +kernel
theorem d_Md_collect_99 : decode b_Md_collect 99 = .ok (.aload_n 0, 1) := by decide +kernel
theorem d_Md_collect_100 : decode b_Md_collect 100 = .ok (.getfield 128, 3) := by decide +kernel
theorem d_Md_collect_103 : decode b_Md_collect 103 = .ok (.iastore, 1) := by decide +kernel
theorem d_Md_collect_104 : decode b_Md_collect 104 = .ok (.aload_n 0, 1) := by decide +kernel
theorem d_Md_collect_105 : decode b_Md_collect 105 = .ok (.getfield 35, 3) := by decide +kernel
theorem d_Md_collect_108 : decode b_Md_collect 108 = .ok (.iload 6, 2) := by decide +kernel
theorem d_Md_collect_110 : decode b_Md_collect 110 = .ok (.iload 4, 2) := by decide +kernel
theorem d_Md_collect_112 : decode b_Md_collect 112 = .ok (.iload 5, 2) := by decide +kernel
theorem d_Md_collect_114 : decode b_Md_collect 114 = .ok (.iadd, 1) := by decide +kernel
theorem d_Md_collect_115 : decode b_Md_collect 115 = .ok (.iastore, 1) := by decide +kernel
theorem d_Md_collect_116 : decode b_Md_collect 116 = .ok (.iinc 5 1, 3) := by decide +kernel
theorem d_Md_collect_119 : decode b_Md_collect 119 = .ok (.goto (-38), 3) := by decide +kernel
theorem d_Md_collect_122 : decode b_Md_collect 122 = .ok (.iload_n 2, 1) := by decide +kernel
theorem d_Md_collect_123 : decode b_Md_collect 123 = .ok (.bipush 6, 2) := by decide +kernel
theorem d_Md_collect_125 : decode b_Md_collect 125 = .ok (.isub, 1) := by decide +kernel
theorem d_Md_collect_126 : decode b_Md_collect 126 = .ok (.istore_n 2, 1) := by decide +kernel
theorem d_Md_collect_127 : decode b_Md_collect 127 = .ok (.goto (-73), 3) := by decide +kernel
theorem d_Md_collect_130 : decode b_Md_collect 130 = .ok (.aload_n 0, 1) := by decide +kernel
theorem d_Md_collect_131 : decode b_Md_collect 131 = .ok (.iconst 0, 1) := by decide +kernel
theorem d_Md_collect_132 : decode b_Md_collect 132 = .ok (.putfield 125, 3) := by decide +kernel
theorem d_Md_collect_135 : decode b_Md_collect 135 = .ok (.aload_n 0, 1) := by decide +kernel
theorem d_Md_collect_136 : decode b_Md_collect 136 = .ok (.dup, 1) := by decide +kernel
theorem d_Md_collect_137 : decode b_Md_collect 137 = .ok (.getfield 144, 3) := by decide +kernel
theorem d_Md_collect_140 : decode b_Md_collect 140 = .ok (.iconst 1, 1) := by decide +kernel
theorem d_Md_collect_141 : decode b_Md_collect 141 = .ok (.iadd, 1) := by decide +kernel
theorem d_Md_collect_142 : decode b_Md_collect 142 = .ok (.putfield 144, 3) := by decide +kernel
theorem d_Md_collect_145 : decode b_Md_collect 145 = .ok (.iload_n 1, 1) := by decide +kernel
theorem d_Md_collect_146 : decode b_Md_collect 146 = .ok (.ireturn, 1) := by decide +kernel
theorem d_Md_take_0 : decode b_Md_take 0 = .ok (.iconst 0, 1) := by decide +kernel
theorem d_Md_take_1 : decode b_Md_take 1 = .ok (.istore_n 1, 1) := by decide +kernel
theorem d_Md_take_2 : decode b_Md_take 2 = .ok (.iload_n 1, 1) := by decide +kernel
theorem d_Md_take_3 : decode b_Md_take 3 = .ok (.iconst 3, 1) := by decide +kernel
theorem d_Md_take_4 : decode b_Md_take 4 = .ok (.if_icmp .ge 37, 3) := by decide +kernel
theorem d_Md_take_7 : decode b_Md_take 7 = .ok (.aload_n 0, 1) := by decide +kernel
theorem d_Md_take_8 : decode b_Md_take 8 = .ok (.getfield 53, 3) := by decide +kernel
theorem d_Md_take_11 : decode b_Md_take 11 = .ok (.iload_n 1, 1) := by decide +kernel
theorem d_Md_take_12 : decode b_Md_take 12 = .ok (.baload, 1) := by decide +kernel
theorem d_Md_take_13 : decode b_Md_take 13 = .ok (.ifCond .ne 22, 3) := by decide +kernel
theorem d_Md_take_16 : decode b_Md_take 16 = .ok (.aload_n 0, 1) := by decide +kernel
theorem d_Md_take_17 : decode b_Md_take 17 = .ok (.getfield 53, 3) := by decide +kernel
theorem d_Md_take_20 : decode b_Md_take 20 = .ok (.iload_n 1, 1) := by decide +kernel
theorem d_Md_take_21 : decode b_Md_take 21 = .ok (.iconst 1, 1) := by decide +kernel
theorem d_Md_take_22 : decode b_Md_take 22 = .ok (.bastore, 1) := by decide +kernel
theorem d_Md_take_23 : decode b_Md_take 23 = .ok (.aload_n 0, 1) := by decide +kernel
theorem d_Md_take_24 : decode b_Md_take 24 = .ok (.getfield 56, 3) := by decide +kernel
theorem d_Md_take_27 : decode b_Md_take 27 = .ok (.iload_n 1, 1) := by decide +kernel
theorem d_Md_take_28 : decode b_Md_take 28 = .ok (.aload_n 0, 1) := by decide +kernel
theorem d_Md_take_29 : decode b_Md_take 29 = .ok (.getfield 89, 3) := by decide +kernel
theorem d_Md_take_32 : decode b_Md_take 32 = .ok (.iastore, 1) := by decide +kernel
theorem d_Md_take_33 : decode b_Md_take 33 = .ok (.iload_n 1, 1) := by decide +kernel
theorem d_Md_take_34 : decode b_Md_take 34 = .ok (.ireturn, 1) := by decide +kernel
theorem d_Md_take_35 : decode b_Md_take 35 = .ok (.iinc 1 1, 3) := by decide +kernel
theorem d_Md_take_38 : decode b_Md_take 38 = .ok (.goto (-36), 3) := by decide +kernel
theorem d_Md_take_41 : decode b_Md_take 41 = .ok (.bipush (-3), 2) := by decide +kernel
theorem d_Md_take_43 : decode b_Md_take 43 = .ok (.ireturn, 1) := by decide +kernel
theorem d_Md_release_0 : decode b_Md_release 0 = .ok (.iload_n 1, 1) := by decide +kernel
theorem d_Md_release_1 : decode b_Md_release 1 = .ok (.ifCond .lt 8, 3) := by decide +kernel
theorem d_Md_release_4 : decode b_Md_release 4 = .ok (.iload_n 1, 1) := by decide +kernel
theorem d_Md_release_5 : decode b_Md_release 5 = .ok (.iconst 2, 1) := by decide +kernel
theorem d_Md_release_6 : decode b_Md_release 6 = .ok (.if_icmp .le 5, 3) := by decide +kernel
theorem d_Md_release_9 : decode b_Md_release 9 = .ok (.iconst 0, 1) := by decide +kernel
theorem d_Md_release_10 : decode b_Md_release 10 = .ok (.ireturn, 1) := by decide +kernel
theorem d_Md_release_11 : decode b_Md_release 11 = .ok (.aload_n 0, 1) := by decide +kernel
theorem d_Md_release_12 : decode b_Md_release 12 = .ok (.getfield 53, 3) := by decide +kernel
theorem d_Md_release_15 : decode b_Md_release 15 = .ok (.iload_n 1, 1) := by decide +kernel
theorem d_Md_release_16 : decode b_Md_release 16 = .ok (.baload, 1) := by decide +kernel
theorem d_Md_release_17 : decode b_Md_release 17 = .ok (.istore_n 2, 1) := by decide +kernel
theorem d_Md_release_18 : decode b_Md_release 18 = .ok (.aload_n 0, 1) := by decide +kernel
theorem d_Md_release_19 : decode b_Md_release 19 = .ok (.getfield 53, 3) := by decide +kernel
theorem d_Md_release_22 : decode b_Md_release 22 = .ok (.iload_n 1, 1) := by decide +kernel
theorem d_Md_release_23 : decode b_Md_release 23 = .ok (.iconst 0, 1) := by decide +kernel
theorem d_Md_release_24 : decode b_Md_release 24 = .ok (.bastore, 1) := by decide +kernel
theorem d_Md_release_25 : decode b_Md_release 25 = .ok (.iload_n 2, 1) := by decide +kernel
theorem d_Md_release_26 : decode b_Md_release 26 = .ok (.ireturn, 1) := by decide +kernel
theorem d_Md_tick_0 : decode b_Md_tick 0 = .ok (.iload_n 1, 1) := by decide +kernel
theorem d_Md_tick_1 : decode b_Md_tick 1 = .ok (.ifCond .lt 10, 3) := by decide +kernel
theorem d_Md_tick_4 : decode b_Md_tick 4 = .ok (.iload_n 1, 1) := by decide +kernel
theorem d_Md_tick_5 : decode b_Md_tick 5 = .ok (.sipush 1000, 3) := by decide +kernel
theorem d_Md_tick_8 : decode b_Md_tick 8 = .ok (.if_icmp .le 5, 3) := by decide +kernel
theorem d_Md_tick_11 : decode b_Md_tick 11 = .ok (.iconst (-1), 1) := by decide +kernel
theorem d_Md_tick_12 : decode b_Md_tick 12 = .ok (.ireturn, 1) := by decide +kernel
theorem d_Md_tick_13 : decode b_Md_tick 13 = .ok (.aload_n 0, 1) := by decide +kernel
theorem d_Md_tick_14 : decode b_Md_tick 14 = .ok (.aload_n 0, 1) := by decide +kernel
theorem d_Md_tick_15 : decode b_Md_tick 15 = .ok (.getfield 71, 3) := by decide +kernel
theorem d_Md_tick_18 : decode b_Md_tick 18 = .ok (.iload_n 1, 1) := by decide +kernel
theorem d_Md_tick_19 : decode b_Md_tick 19 = .ok (.iadd, 1) := by decide +kernel
theorem d_Md_tick_20 : decode b_Md_tick 20 = .ok (.putfield 71, 3) := by decide +kernel
theorem d_Md_tick_23 : decode b_Md_tick 23 = .ok (.aload_n 0, 1) := by decide +kernel
theorem d_Md_tick_24 : decode b_Md_tick 24 = .ok (.getfield 71, 3) := by decide +kernel
theorem d_Md_tick_27 : decode b_Md_tick 27 = .ok (.ireturn, 1) := by decide +kernel
theorem d_Md_crash_0 : decode b_Md_crash 0 = .ok (.iload_n 1, 1) := by decide +kernel
theorem d_Md_crash_1 : decode b_Md_crash 1 = .ok (.ifCond .ge 7, 3) := by decide +kernel
theorem d_Md_crash_4 : decode b_Md_crash 4 = .ok (.iconst 0, 1) := by decide +kernel
theorem d_Md_crash_5 : decode b_Md_crash 5 = .ok (.goto 19, 3) := by decide +kernel
theorem d_Md_crash_8 : decode b_Md_crash 8 = .ok (.iload_n 1, 1) := by decide +kernel
theorem d_Md_crash_9 : decode b_Md_crash 9 = .ok (.aload_n 0, 1) := by decide +kernel
theorem d_Md_crash_10 : decode b_Md_crash 10 = .ok (.getfield 125, 3) := by decide +kernel
theorem d_Md_crash_13 : decode b_Md_crash 13 = .ok (.if_icmp .le 10, 3) := by decide +kernel
theorem d_Md_crash_16 : decode b_Md_crash 16 = .ok (.aload_n 0, 1) := by decide +kernel
theorem d_Md_crash_17 : decode b_Md_crash 17 = .ok (.getfield 125, 3) := by decide +kernel
theorem d_Md_crash_20 : decode b_Md_crash 20 = .ok (.goto 4, 3) := by decide +kernel
theorem d_Md_crash_23 : decode b_Md_crash 23 = .ok (.iload_n 1, 1) := by decide +kernel
theorem d_Md_crash_24 : decode b_Md_crash 24 = .ok (.istore_n 2, 1) := by decide +kernel
theorem d_Md_crash_25 : decode b_Md_crash 25 = .ok (.aload_n 0, 1) := by decide +kernel
theorem d_Md_crash_26 : decode b_Md_crash 26 = .ok (.getfield 125, 3) := by decide +kernel
theorem d_Md_crash_29 : decode b_Md_crash 29 = .ok (.iload_n 2, 1) := by decide +kernel
theorem d_Md_crash_30 : decode b_Md_crash 30 = .ok (.isub, 1) := by decide +kernel
theorem d_Md_crash_31 : decode b_Md_crash 31 = .ok (.istore_n 3, 1) := by decide +kernel
theorem d_Md_crash_32 : decode b_Md_crash 32 = .ok (.aload_n 0, 1) := by decide +kernel
theorem d_Md_crash_33 : decode b_Md_crash 33 = .ok (.getfield 125, 3) := by decide +kernel
theorem d_Md_crash_36 : decode b_Md_crash 36 = .ok (.iconst 1, 1) := by decide +kernel
theorem d_Md_crash_37 : decode b_Md_crash 37 = .ok (.isub, 1) := by decide +kernel
theorem d_Md_crash_38 : decode b_Md_crash 38 = .ok (.istore 4, 2) := by decide +kernel
theorem d_Md_crash_40 : decode b_Md_crash 40 = .ok (.iload 4, 2) := by decide +kernel
theorem d_Md_crash_42 : decode b_Md_crash 42 = .ok (.iload_n 2, 1) := by decide +kernel
theorem d_Md_crash_43 : decode b_Md_crash 43 = .ok (.if_icmp .lt 77, 3) := by decide +kernel
theorem d_Md_crash_46 : decode b_Md_crash 46 = .ok (.aload_n 0, 1) := by decide +kernel
theorem d_Md_crash_47 : decode b_Md_crash 47 = .ok (.getfield 68, 3) := by decide +kernel
theorem d_Md_crash_50 : decode b_Md_crash 50 = .ok (.iload 4, 2) := by decide +kernel
theorem d_Md_crash_52 : decode b_Md_crash 52 = .ok (.baload, 1) := by decide +kernel
theorem d_Md_crash_53 : decode b_Md_crash 53 = .ok (.ifCond .eq 16, 3) := by decide +kernel
theorem d_Md_crash_56 : decode b_Md_crash 56 = .ok (.aload_n 0, 1) := by decide +kernel
theorem d_Md_crash_57 : decode b_Md_crash 57 = .ok (.dup, 1) := by decide +kernel
theorem d_Md_crash_58 : decode b_Md_crash 58 = .ok (.getfield 128, 3) := by decide +kernel
theorem d_Md_crash_61 : decode b_Md_crash 61 = .ok (.iconst 1, 1) := by decide +kernel
theorem d_Md_crash_62 : decode b_Md_crash 62 = .ok (.isub, 1) := by decide +kernel
theorem d_Md_crash_63 : decode b_Md_crash 63 = .ok (.putfield 128, 3) := by decide +kernel
theorem d_Md_crash_66 : decode b_Md_crash 66 = .ok (.goto 35, 3) := by decide +kernel
theorem d_Md_crash_69 : decode b_Md_crash 69 = .ok (.aload_n 0, 1) := by decide +kernel
theorem d_Md_crash_70 : decode b_Md_crash 70 = .ok (.getfield 59, 3) := by decide +kernel
theorem d_Md_crash_73 : decode b_Md_crash 73 = .ok (.aload_n 0, 1) := by decide +kernel
theorem d_Md_crash_74 : decode b_Md_crash 74 = .ok (.getfield 128, 3) := by decide +kernel
theorem d_Md_crash_77 : decode b_Md_crash 77 = .ok (.bipush 8, 2) := by decide +kernel
theorem d_Md_crash_79 : decode b_Md_crash 79 = .ok (.irem, 1) := by decide +kernel
theorem d_Md_crash_80 : decode b_Md_crash 80 = .ok (.aload_n 0, 1) := by decide +kernel
theorem d_Md_crash_81 : decode b_Md_crash 81 = .ok (.getfield 59, 3) := by decide +kernel
theorem d_Md_crash_84 : decode b_Md_crash 84 = .ok (.aload_n 0, 1) := by decide +kernel
theorem d_Md_crash_85 : decode b_Md_crash 85 = .ok (.getfield 128, 3) := by decide +kernel
theorem d_Md_crash_88 : decode b_Md_crash 88 = .ok (.bipush 8, 2) := by decide +kernel
theorem d_Md_crash_90 : decode b_Md_crash 90 = .ok (.irem, 1) := by decide +kernel
theorem d_Md_crash_91 : decode b_Md_crash 91 = .ok (.iaload, 1) := by decide +kernel
theorem d_Md_crash_92 : decode b_Md_crash 92 = .ok (.aload_n 0, 1) := by decide +kernel
theorem d_Md_crash_93 : decode b_Md_crash 93 = .ok (.getfield 65, 3) := by decide +kernel
theorem d_Md_crash_96 : decode b_Md_crash 96 = .ok (.iload 4, 2) := by decide +kernel
theorem d_Md_crash_98 : decode b_Md_crash 98 = .ok (.iaload, 1) := by decide +kernel
theorem d_Md_crash_99 : decode b_Md_crash 99 = .ok (.isub, 1) := by decide +kernel
theorem d_Md_crash_100 : decode b_Md_crash 100 = .ok (.iastore, 1) := by decide +kernel
theorem d_Md_crash_101 : decode b_Md_crash 101 = .ok (.aload_n 0, 1) := by decide +kernel
theorem d_Md_crash_102 : decode b_Md_crash 102 = .ok (.aload_n 0, 1) := by decide +kernel
theorem d_Md_crash_103 : decode b_Md_crash 103 = .ok (.getfield 62, 3) := by decide +kernel
theorem d_Md_crash_106 : decode b_Md_crash 106 = .ok (.iload 4, 2) := by decide +kernel
theorem d_Md_crash_108 : decode b_Md_crash 108 = .ok (.iaload, 1) := by decide +kernel
theorem d_Md_crash_109 : decode b_Md_crash 109 = .ok (.iconst 1, 1) := by decide +kernel
theorem d_Md_crash_110 : decode b_Md_crash 110 = .ok (.isub, 1) := by decide +kernel
theorem d_Md_crash_111 : decode b_Md_crash 111 = .ok (.putfield 89, 3) := by decide +kernel
theorem d_Md_crash_114 : decode b_Md_crash 114 = .ok (.iinc 4 (-1), 3) := by decide +kernel
theorem d_Md_crash_117 : decode b_Md_crash 117 = .ok (.goto (-77), 3) := by decide +kernel
theorem d_Md_crash_120 : decode b_Md_crash 120 = .ok (.iconst 0, 1) := by decide +kernel
theorem d_Md_crash_121 : decode b_Md_crash 121 = .ok (.istore 4, 2) := by decide +kernel
theorem d_Md_crash_123 : decode b_Md_crash 123 = .ok (.iload 4, 2) := by decide +kernel
theorem d_Md_crash_125 : decode b_Md_crash 125 = .ok (.aload_n 0, 1) := by decide +kernel
theorem d_Md_crash_126 : decode b_Md_crash 126 = .ok (.getfield 75, 3) := by decide +kernel
theorem d_Md_crash_129 : decode b_Md_crash 129 = .ok (.if_icmp .ge 43, 3) := by decide +kernel
theorem d_Md_crash_132 : decode b_Md_crash 132 = .ok (.aload_n 0, 1) := by decide +kernel
theorem d_Md_crash_133 : decode b_Md_crash 133 = .ok (.getfield 26, 3) := by decide +kernel
theorem d_Md_crash_136 : decode b_Md_crash 136 = .ok (.iload 4, 2) := by decide +kernel
theorem d_Md_crash_138 : decode b_Md_crash 138 = .ok (.iaload, 1) := by decide +kernel
theorem d_Md_crash_139 : decode b_Md_crash 139 = .ok (.iconst (-1), 1) := by decide +kernel
theorem d_Md_crash_140 : decode b_Md_crash 140 = .ok (.if_icmp .ne 26, 3) := by decide +kernel
theorem d_Md_crash_143 : decode b_Md_crash 143 = .ok (.aload_n 0, 1) := by decide +kernel
theorem d_Md_crash_144 : decode b_Md_crash 144 = .ok (.getfield 13, 3) := by decide +kernel
theorem d_Md_crash_147 : decode b_Md_crash 147 = .ok (.iload 4, 2) := by decide +kernel
theorem d_Md_crash_149 : decode b_Md_crash 149 = .ok (.iaload, 1) := by decide +kernel
theorem d_Md_crash_150 : decode b_Md_crash 150 = .ok (.aload_n 0, 1) := by decide +kernel
theorem d_Md_crash_151 : decode b_Md_crash 151 = .ok (.getfield 89, 3) := by decide +kernel
theorem d_Md_crash_154 : decode b_Md_crash 154 = .ok (.if_icmp .le 12, 3) := by decide +kernel
theorem d_Md_crash_157 : decode b_Md_crash 157 = .ok (.aload_n 0, 1) := by decide +kernel
theorem d_Md_crash_158 : decode b_Md_crash 158 = .ok (.getfield 26, 3) := by decide +kernel
theorem d_Md_crash_161 : decode b_Md_crash 161 = .ok (.iload 4, 2) := by decide +kernel
theorem d_Md_crash_163 : decode b_Md_crash 163 = .ok (.bipush 9, 2) := by decide +kernel
theorem d_Md_crash_165 : decode b_Md_crash 165 = .ok (.iastore, 1) := by decide +kernel
theorem d_Md_crash_166 : decode b_Md_crash 166 = .ok (.iinc 4 1, 3) := by decide +kernel
theorem d_Md_crash_169 : decode b_Md_crash 169 = .ok (.goto (-46), 3) := by decide +kernel
theorem d_Md_crash_172 : decode b_Md_crash 172 = .ok (.aload_n 0, 1) := by decide +kernel
theorem d_Md_crash_173 : decode b_Md_crash 173 = .ok (.iconst 0, 1) := by decide +kernel
theorem d_Md_crash_174 : decode b_Md_crash 174 = .ok (.putfield 125, 3) := by decide +kernel
theorem d_Md_crash_177 : decode b_Md_crash 177 = .ok (.aload_n 0, 1) := by decide +kernel
theorem d_Md_crash_178 : decode b_Md_crash 178 = .ok (.iconst 0, 1) := by decide +kernel
theorem d_Md_crash_179 : decode b_Md_crash 179 = .ok (.putfield 134, 3) := by decide +kernel
theorem d_Md_crash_182 : decode b_Md_crash 182 = .ok (.iconst 0, 1) := by decide +kernel
theorem d_Md_crash_183 : decode b_Md_crash 183 = .ok (.istore 4, 2) := by decide +kernel
theorem d_Md_crash_185 : decode b_Md_crash 185 = .ok (.iload 4, 2) := by decide +kernel
theorem d_Md_crash_187 : decode b_Md_crash 187 = .ok (.iconst 3, 1) := by decide +kernel
theorem d_Md_crash_188 : decode b_Md_crash 188 = .ok (.if_icmp .ge 17, 3) := by decide +kernel
theorem d_Md_crash_191 : decode b_Md_crash 191 = .ok (.aload_n 0, 1) := by decide +kernel
theorem d_Md_crash_192 : decode b_Md_crash 192 = .ok (.getfield 53, 3) := by decide +kernel
theorem d_Md_crash_195 : decode b_Md_crash 195 = .ok (.iload 4, 2) := by decide +kernel
theorem d_Md_crash_197 : decode b_Md_crash 197 = .ok (.iconst 0, 1) := by decide +kernel
theorem d_Md_crash_198 : decode b_Md_crash 198 = .ok (.bastore, 1) := by decide +kernel
theorem d_Md_crash_199 : decode b_Md_crash 199 = .ok (.iinc 4 1, 3) := by decide +kernel
theorem d_Md_crash_202 : decode b_Md_crash 202 = .ok (.goto (-17), 3) := by decide +kernel
theorem d_Md_crash_205 : decode b_Md_crash 205 = .ok (.iload_n 3, 1) := by decide +kernel
theorem d_Md_crash_206 : decode b_Md_crash 206 = .ok (.ireturn, 1) := by decide +kernel
theorem d_Md_isView_0 : decode b_Md_isView 0 = .ok (.iload_n 1, 1) := by decide +kernel
theorem d_Md_isView_1 : decode b_Md_isView 1 = .ok (.iconst (-1), 1) := by decide +kernel
theorem d_Md_isView_2 : decode b_Md_isView 2 = .ok (.if_icmp .eq 21, 3) := by decide +kernel
theorem d_Md_isView_5 : decode b_Md_isView 5 = .ok (.iload_n 1, 1) := by decide +kernel
theorem d_Md_isView_6 : decode b_Md_isView 6 = .ok (.ifCond .lt 21, 3) := by decide +kernel
theorem d_Md_isView_9 : decode b_Md_isView 9 = .ok (.iload_n 1, 1) := by decide +kernel
theorem d_Md_isView_10 : decode b_Md_isView 10 = .ok (.iconst 3, 1) := by decide +kernel
theorem d_Md_isView_11 : decode b_Md_isView 11 = .ok (.if_icmp .ge 16, 3) := by decide +kernel
theorem d_Md_isView_14 : decode b_Md_isView 14 = .ok (.aload_n 0, 1) := by decide +kernel
theorem d_Md_isView_15 : decode b_Md_isView 15 = .ok (.getfield 53, 3) := by decide +kernel
theorem d_Md_isView_18 : decode b_Md_isView 18 = .ok (.iload_n 1, 1) := by decide +kernel
theorem d_Md_isView_19 : decode b_Md_isView 19 = .ok (.baload, 1) := by decide +kernel
theorem d_Md_isView_20 : decode b_Md_isView 20 = .ok (.ifCond .eq 7, 3) := by decide +kernel
theorem d_Md_isView_23 : decode b_Md_isView 23 = .ok (.iconst 1, 1) := by decide +kernel
theorem d_Md_isView_24 : decode b_Md_isView 24 = .ok (.goto 4, 3) := by decide +kernel
theorem d_Md_isView_27 : decode b_Md_isView 27 = .ok (.iconst 0, 1) := by decide +kernel
theorem d_Md_isView_28 : decode b_Md_isView 28 = .ok (.ireturn, 1) := by decide +kernel
theorem d_Md_isSeen_0 : decode b_Md_isSeen 0 = .ok (.iload_n 2, 1) := by decide +kernel
theorem d_Md_isSeen_1 : decode b_Md_isSeen 1 = .ok (.ifCond .lt 18, 3) := by decide +kernel
theorem d_Md_isSeen_4 : decode b_Md_isSeen 4 = .ok (.aload_n 0, 1) := by decide +kernel
theorem d_Md_isSeen_5 : decode b_Md_isSeen 5 = .ok (.getfield 13, 3) := by decide +kernel
theorem d_Md_isSeen_8 : decode b_Md_isSeen 8 = .ok (.iload_n 1, 1) := by decide +kernel
theorem d_Md_isSeen_9 : decode b_Md_isSeen 9 = .ok (.iaload, 1) := by decide +kernel
theorem d_Md_isSeen_10 : decode b_Md_isSeen 10 = .ok (.aload_n 0, 1) := by decide +kernel
theorem d_Md_isSeen_11 : decode b_Md_isSeen 11 = .ok (.getfield 56, 3) := by decide +kernel
theorem d_Md_isSeen_14 : decode b_Md_isSeen 14 = .ok (.iload_n 2, 1) := by decide +kernel
theorem d_Md_isSeen_15 : decode b_Md_isSeen 15 = .ok (.iaload, 1) := by decide +kernel
theorem d_Md_isSeen_16 : decode b_Md_isSeen 16 = .ok (.if_icmp .gt 7, 3) := by decide +kernel
theorem d_Md_isSeen_19 : decode b_Md_isSeen 19 = .ok (.iconst 1, 1) := by decide +kernel
theorem d_Md_isSeen_20 : decode b_Md_isSeen 20 = .ok (.goto 4, 3) := by decide +kernel
theorem d_Md_isSeen_23 : decode b_Md_isSeen 23 = .ok (.iconst 0, 1) := by decide +kernel
theorem d_Md_isSeen_24 : decode b_Md_isSeen 24 = .ok (.ireturn, 1) := by decide +kernel
theorem d_Md_tableOf_0 : decode b_Md_tableOf 0 = .ok (.aload_n 0, 1) := by decide +kernel
theorem d_Md_tableOf_1 : decode b_Md_tableOf 1 = .ok (.getfield 26, 3) := by decide +kernel
theorem d_Md_tableOf_4 : decode b_Md_tableOf 4 = .ok (.iload_n 1, 1) := by decide +kernel
theorem d_Md_tableOf_5 : decode b_Md_tableOf 5 = .ok (.iaload, 1) := by decide +kernel
theorem d_Md_tableOf_6 : decode b_Md_tableOf 6 = .ok (.ifCond .ne 17, 3) := by decide +kernel
theorem d_Md_tableOf_9 : decode b_Md_tableOf 9 = .ok (.aload_n 0, 1) := by decide +kernel
theorem d_Md_tableOf_10 : decode b_Md_tableOf 10 = .ok (.getfield 122, 3) := by decide +kernel
theorem d_Md_tableOf_13 : decode b_Md_tableOf 13 = .ok (.aload_n 0, 1) := by decide +kernel
theorem d_Md_tableOf_14 : decode b_Md_tableOf 14 = .ok (.getfield 29, 3) := by decide +kernel
theorem d_Md_tableOf_17 : decode b_Md_tableOf 17 = .ok (.iload_n 1, 1) := by decide +kernel
theorem d_Md_tableOf_18 : decode b_Md_tableOf 18 = .ok (.iaload, 1) := by decide +kernel
theorem d_Md_tableOf_19 : decode b_Md_tableOf 19 = .ok (.isub, 1) := by decide +kernel
theorem d_Md_tableOf_20 : decode b_Md_tableOf 20 = .ok (.goto 12, 3) := by decide +kernel
theorem d_Md_tableOf_23 : decode b_Md_tableOf 23 = .ok (.aload_n 0, 1) := by decide +kernel
theorem d_Md_tableOf_24 : decode b_Md_tableOf 24 = .ok (.getfield 29, 3) := by decide +kernel
theorem d_Md_tableOf_27 : decode b_Md_tableOf 27 = .ok (.iload_n 1, 1) := by decide +kernel
theorem d_Md_tableOf_28 : decode b_Md_tableOf 28 = .ok (.iaload, 1) := by decide +kernel
theorem d_Md_tableOf_29 : decode b_Md_tableOf 29 = .ok (.bipush 6, 2) := by decide +kernel
theorem d_Md_tableOf_31 : decode b_Md_tableOf 31 = .ok (.idiv, 1) := by decide +kernel
theorem d_Md_tableOf_32 : decode b_Md_tableOf 32 = .ok (.ireturn, 1) := by decide +kernel
theorem d_Md_tables_0 : decode b_Md_tables 0 = .ok (.iload_n 1, 1) := by decide +kernel
theorem d_Md_tables_1 : decode b_Md_tables 1 = .ok (.ifCond .ne 10, 3) := by decide +kernel
theorem d_Md_tables_4 : decode b_Md_tables 4 = .ok (.aload_n 0, 1) := by decide +kernel
theorem d_Md_tables_5 : decode b_Md_tables 5 = .ok (.getfield 106, 3) := by decide +kernel
theorem d_Md_tables_8 : decode b_Md_tables 8 = .ok (.goto 13, 3) := by decide +kernel
theorem d_Md_tables_11 : decode b_Md_tables 11 = .ok (.aload_n 0, 1) := by decide +kernel
theorem d_Md_tables_12 : decode b_Md_tables 12 = .ok (.iload_n 1, 1) := by decide +kernel
theorem d_Md_tables_13 : decode b_Md_tables 13 = .ok (.invokevirtual 109, 3) := by decide +kernel
theorem d_Md_tables_16 : decode b_Md_tables 16 = .ok (.iconst 5, 1) := by decide +kernel
theorem d_Md_tables_17 : decode b_Md_tables 17 = .ok (.iadd, 1) := by decide +kernel
theorem d_Md_tables_18 : decode b_Md_tables 18 = .ok (.bipush 6, 2) := by decide +kernel
theorem d_Md_tables_20 : decode b_Md_tables 20 = .ok (.idiv, 1) := by decide +kernel
theorem d_Md_tables_21 : decode b_Md_tables 21 = .ok (.ireturn, 1) := by decide +kernel
theorem d_Md_lies_0 : decode b_Md_lies 0 = .ok (.aload_n 0, 1) := by decide +kernel
theorem d_Md_lies_1 : decode b_Md_lies 1 = .ok (.getfield 26, 3) := by decide +kernel
theorem d_Md_lies_4 : decode b_Md_lies 4 = .ok (.iload_n 1, 1) := by decide +kernel
theorem d_Md_lies_5 : decode b_Md_lies 5 = .ok (.iaload, 1) := by decide +kernel
theorem d_Md_lies_6 : decode b_Md_lies 6 = .ok (.iload_n 2, 1) := by decide +kernel
theorem d_Md_lies_7 : decode b_Md_lies 7 = .ok (.if_icmp .ne 21, 3) := by decide +kernel
theorem d_Md_lies_10 : decode b_Md_lies 10 = .ok (.iload_n 2, 1) := by decide +kernel
theorem d_Md_lies_11 : decode b_Md_lies 11 = .ok (.iconst (-1), 1) := by decide +kernel
theorem d_Md_lies_12 : decode b_Md_lies 12 = .ok (.if_icmp .eq 12, 3) := by decide +kernel
theorem d_Md_lies_15 : decode b_Md_lies 15 = .ok (.aload_n 0, 1) := by decide +kernel
theorem d_Md_lies_16 : decode b_Md_lies 16 = .ok (.iload_n 1, 1) := by decide +kernel
theorem d_Md_lies_17 : decode b_Md_lies 17 = .ok (.invokevirtual 165, 3) := by decide +kernel
theorem d_Md_lies_20 : decode b_Md_lies 20 = .ok (.iload_n 3, 1) := by decide +kernel
theorem d_Md_lies_21 : decode b_Md_lies 21 = .ok (.if_icmp .ne 7, 3) := by decide +kernel
theorem d_Md_lies_24 : decode b_Md_lies 24 = .ok (.iconst 1, 1) := by decide +kernel
theorem d_Md_lies_25 : decode b_Md_lies 25 = .ok (.goto 4, 3) := by decide +kernel
theorem d_Md_lies_28 : decode b_Md_lies 28 = .ok (.iconst 0, 1) := by decide +kernel
theorem d_Md_lies_29 : decode b_Md_lies 29 = .ok (.ireturn, 1) := by decide +kernel
theorem d_Md_latest_0 : decode b_Md_latest 0 = .ok (.iconst (-1), 1) := by decide +kernel
theorem d_Md_latest_1 : decode b_Md_latest 1 = .ok (.istore 5, 2) := by decide +kernel
theorem d_Md_latest_3 : decode b_Md_latest 3 = .ok (.iconst 0, 1) := by decide +kernel
theorem d_Md_latest_4 : decode b_Md_latest 4 = .ok (.istore 6, 2) := by decide +kernel
theorem d_Md_latest_6 : decode b_Md_latest 6 = .ok (.iload 6, 2) := by decide +kernel
theorem d_Md_latest_8 : decode b_Md_latest 8 = .ok (.aload_n 0, 1) := by decide +kernel
theorem d_Md_latest_9 : decode b_Md_latest 9 = .ok (.getfield 75, 3) := by decide +kernel
theorem d_Md_latest_12 : decode b_Md_latest 12 = .ok (.if_icmp .ge 80, 3) := by decide +kernel
theorem d_Md_latest_15 : decode b_Md_latest 15 = .ok (.aload_n 0, 1) := by decide +kernel
theorem d_Md_latest_16 : decode b_Md_latest 16 = .ok (.iload 6, 2) := by decide +kernel
theorem d_Md_latest_18 : decode b_Md_latest 18 = .ok (.iload_n 1, 1) := by decide +kernel
theorem d_Md_latest_19 : decode b_Md_latest 19 = .ok (.iload_n 2, 1) := by decide +kernel
theorem d_Md_latest_20 : decode b_Md_latest 20 = .ok (.invokevirtual 168, 3) := by decide +kernel
theorem d_Md_latest_23 : decode b_Md_latest 23 = .ok (.ifCond .eq 29, 3) := by decide +kernel
theorem d_Md_latest_26 : decode b_Md_latest 26 = .ok (.aload_n 0, 1) := by decide +kernel
theorem d_Md_latest_27 : decode b_Md_latest 27 = .ok (.getfield 7, 3) := by decide +kernel
theorem d_Md_latest_30 : decode b_Md_latest 30 = .ok (.iload 6, 2) := by decide +kernel
theorem d_Md_latest_32 : decode b_Md_latest 32 = .ok (.iaload, 1) := by decide +kernel
theorem d_Md_latest_33 : decode b_Md_latest 33 = .ok (.iload 4, 2) := by decide +kernel
theorem d_Md_latest_35 : decode b_Md_latest 35 = .ok (.if_icmp .ne 17, 3) := by decide +kernel
theorem d_Md_latest_38 : decode b_Md_latest 38 = .ok (.aload_n 0, 1) := by decide +kernel
theorem d_Md_latest_39 : decode b_Md_latest 39 = .ok (.iload 6, 2) := by decide +kernel
theorem d_Md_latest_41 : decode b_Md_latest 41 = .ok (.iload_n 3, 1) := by decide +kernel
theorem d_Md_latest_42 : decode b_Md_latest 42 = .ok (.invokevirtual 172, 3) := by decide +kernel
theorem d_Md_latest_45 : decode b_Md_latest 45 = .ok (.ifCond .eq 7, 3) := by decide +kernel
theorem d_Md_latest_48 : decode b_Md_latest 48 = .ok (.iconst 1, 1) := by decide +kernel
theorem d_Md_latest_49 : decode b_Md_latest 49 = .ok (.goto 4, 3) := by decide +kernel
theorem d_Md_latest_52 : decode b_Md_latest 52 = .ok (.iconst 0, 1) := by decide +kernel
theorem d_Md_latest_53 : decode b_Md_latest 53 = .ok (.istore 7, 2) := by decide +kernel
theorem d_Md_latest_55 : decode b_Md_latest 55 = .ok (.iload 7, 2) := by decide +kernel
theorem d_Md_latest_57 : decode b_Md_latest 57 = .ok (.ifCond .eq 29, 3) := by decide +kernel
theorem d_Md_latest_60 : decode b_Md_latest 60 = .ok (.iload 5, 2) := by decide +kernel
theorem d_Md_latest_62 : decode b_Md_latest 62 = .ok (.ifCond .lt 20, 3) := by decide +kernel
theorem d_Md_latest_65 : decode b_Md_latest 65 = .ok (.aload_n 0, 1) := by decide +kernel
theorem d_Md_latest_66 : decode b_Md_latest 66 = .ok (.getfield 13, 3) := by decide +kernel
theorem d_Md_latest_69 : decode b_Md_latest 69 = .ok (.iload 6, 2) := by decide +kernel
theorem d_Md_latest_71 : decode b_Md_latest 71 = .ok (.iaload, 1) := by decide +kernel
theorem d_Md_latest_72 : decode b_Md_latest 72 = .ok (.aload_n 0, 1) := by decide +kernel
theorem d_Md_latest_73 : decode b_Md_latest 73 = .ok (.getfield 13, 3) := by decide +kernel
theorem d_Md_latest_76 : decode b_Md_latest 76 = .ok (.iload 5, 2) := by decide +kernel
theorem d_Md_latest_78 : decode b_Md_latest 78 = .ok (.iaload, 1) := by decide +kernel
theorem d_Md_latest_79 : decode b_Md_latest 79 = .ok (.if_icmp .le 7, 3) := by decide +kernel
theorem d_Md_latest_82 : decode b_Md_latest 82 = .ok (.iload 6, 2) := by decide +kernel
theorem d_Md_latest_84 : decode b_Md_latest 84 = .ok (.istore 5, 2) := by decide +kernel
theorem d_Md_latest_86 : decode b_Md_latest 86 = .ok (.iinc 6 1, 3) := by decide +kernel
theorem d_Md_latest_89 : decode b_Md_latest 89 = .ok (.goto (-83), 3) := by decide +kernel
theorem d_Md_latest_92 : decode b_Md_latest 92 = .ok (.iload 5, 2) := by decide +kernel
theorem d_Md_latest_94 : decode b_Md_latest 94 = .ok (.ireturn, 1) := by decide +kernel
theorem d_Md_filter_0 : decode b_Md_filter 0 = .ok (.iconst 0, 1) := by decide +kernel
theorem d_Md_filter_1 : decode b_Md_filter 1 = .ok (.istore_n 3, 1) := by decide +kernel
theorem d_Md_filter_2 : decode b_Md_filter 2 = .ok (.iconst 0, 1) := by decide +kernel
theorem d_Md_filter_3 : decode b_Md_filter 3 = .ok (.istore 4, 2) := by decide +kernel
theorem d_Md_filter_5 : decode b_Md_filter 5 = .ok (.iload 4, 2) := by decide +kernel
theorem d_Md_filter_7 : decode b_Md_filter 7 = .ok (.aload_n 0, 1) := by decide +kernel
theorem d_Md_filter_8 : decode b_Md_filter 8 = .ok (.getfield 75, 3) := by decide +kernel
theorem d_Md_filter_11 : decode b_Md_filter 11 = .ok (.if_icmp .ge 58, 3) := by decide +kernel
theorem d_Md_filter_14 : decode b_Md_filter 14 = .ok (.aload_n 0, 1) := by decide +kernel
theorem d_Md_filter_15 : decode b_Md_filter 15 = .ok (.iload 4, 2) := by decide +kernel
theorem d_Md_filter_17 : decode b_Md_filter 17 = .ok (.iload_n 1, 1) := by decide +kernel
theorem d_Md_filter_18 : decode b_Md_filter 18 = .ok (.iload_n 2, 1) := by decide +kernel
theorem d_Md_filter_19 : decode b_Md_filter 19 = .ok (.invokevirtual 168, 3) := by decide +kernel
theorem d_Md_filter_22 : decode b_Md_filter 22 = .ok (.ifCond .eq 41, 3) := by decide +kernel
theorem d_Md_filter_25 : decode b_Md_filter 25 = .ok (.iload_n 3, 1) := by decide +kernel
theorem d_Md_filter_26 : decode b_Md_filter 26 = .ok (.iconst 1, 1) := by decide +kernel
theorem d_Md_filter_27 : decode b_Md_filter 27 = .ok (.iconst 5, 1) := by decide +kernel
theorem d_Md_filter_28 : decode b_Md_filter 28 = .ok (.aload_n 0, 1) := by decide +kernel
theorem d_Md_filter_29 : decode b_Md_filter 29 = .ok (.getfield 7, 3) := by decide +kernel
theorem d_Md_filter_32 : decode b_Md_filter 32 = .ok (.iload 4, 2) := by decide +kernel
theorem d_Md_filter_34 : decode b_Md_filter 34 = .ok (.iaload, 1) := by decide +kernel
theorem d_Md_filter_35 : decode b_Md_filter 35 = .ok (.imul, 1) := by decide +kernel
theorem d_Md_filter_36 : decode b_Md_filter 36 = .ok (.iconst 1, 1) := by decide +kernel
theorem d_Md_filter_37 : decode b_Md_filter 37 = .ok (.iadd, 1) := by decide +kernel
theorem d_Md_filter_38 : decode b_Md_filter 38 = .ok (.bipush 32, 2) := by decide +kernel
theorem d_Md_filter_40 : decode b_Md_filter 40 = .ok (.irem, 1) := by decide +kernel
theorem d_Md_filter_41 : decode b_Md_filter 41 = .ok (.ishl, 1) := by decide +kernel
theorem d_Md_filter_42 : decode b_Md_filter 42 = .ok (.ior, 1) := by decide +kernel
theorem d_Md_filter_43 : decode b_Md_filter 43 = .ok (.iconst 1, 1) := by decide +kernel
theorem d_Md_filter_44 : decode b_Md_filter 44 = .ok (.bipush 11, 2) := by decide +kernel
theorem d_Md_filter_46 : decode b_Md_filter 46 = .ok (.aload_n 0, 1) := by decide +kernel
theorem d_Md_filter_47 : decode b_Md_filter 47 = .ok (.getfield 7, 3) := by decide +kernel
theorem d_Md_filter_50 : decode b_Md_filter 50 = .ok (.iload 4, 2) := by decide +kernel
theorem d_Md_filter_52 : decode b_Md_filter 52 = .ok (.iaload, 1) := by decide +kernel
theorem d_Md_filter_53 : decode b_Md_filter 53 = .ok (.imul, 1) := by decide +kernel
theorem d_Md_filter_54 : decode b_Md_filter 54 = .ok (.bipush 7, 2) := by decide +kernel
theorem d_Md_filter_56 : decode b_Md_filter 56 = .ok (.iadd, 1) := by decide +kernel
theorem d_Md_filter_57 : decode b_Md_filter 57 = .ok (.bipush 32, 2) := by decide +kernel
theorem d_Md_filter_59 : decode b_Md_filter 59 = .ok (.irem, 1) := by decide +kernel
theorem d_Md_filter_60 : decode b_Md_filter 60 = .ok (.ishl, 1) := by decide +kernel
theorem d_Md_filter_61 : decode b_Md_filter 61 = .ok (.ior, 1) := by decide +kernel
theorem d_Md_filter_62 : decode b_Md_filter 62 = .ok (.istore_n 3, 1) := by decide +kernel
theorem d_Md_filter_63 : decode b_Md_filter 63 = .ok (.iinc 4 1, 3) := by decide +kernel
theorem d_Md_filter_66 : decode b_Md_filter 66 = .ok (.goto (-61), 3) := by decide +kernel
theorem d_Md_filter_69 : decode b_Md_filter 69 = .ok (.iload_n 3, 1) := by decide +kernel
theorem d_Md_filter_70 : decode b_Md_filter 70 = .ok (.ireturn, 1) := by decide +kernel
theorem d_Md_bound_0 : decode b_Md_bound 0 = .ok (.iconst (-1), 1) := by decide +kernel
theorem d_Md_bound_1 : decode b_Md_bound 1 = .ok (.istore 4, 2) := by decide +kernel
theorem d_Md_bound_3 : decode b_Md_bound 3 = .ok (.iconst 0, 1) := by decide +kernel
theorem d_Md_bound_4 : decode b_Md_bound 4 = .ok (.istore 5, 2) := by decide +kernel
theorem d_Md_bound_6 : decode b_Md_bound 6 = .ok (.iload 5, 2) := by decide +kernel
theorem d_Md_bound_8 : decode b_Md_bound 8 = .ok (.aload_n 0, 1) := by decide +kernel
theorem d_Md_bound_9 : decode b_Md_bound 9 = .ok (.getfield 75, 3) := by decide +kernel
theorem d_Md_bound_12 : decode b_Md_bound 12 = .ok (.if_icmp .ge 73, 3) := by decide +kernel
theorem d_Md_bound_15 : decode b_Md_bound 15 = .ok (.aload_n 0, 1) := by decide +kernel
theorem d_Md_bound_16 : decode b_Md_bound 16 = .ok (.iload 5, 2) := by decide +kernel
theorem d_Md_bound_18 : decode b_Md_bound 18 = .ok (.iload_n 1, 1) := by decide +kernel
theorem d_Md_bound_19 : decode b_Md_bound 19 = .ok (.iload_n 2, 1) := by decide +kernel
theorem d_Md_bound_20 : decode b_Md_bound 20 = .ok (.invokevirtual 168, 3) := by decide +kernel
theorem d_Md_bound_23 : decode b_Md_bound 23 = .ok (.ifCond .ne 6, 3) := by decide +kernel
theorem d_Md_bound_26 : decode b_Md_bound 26 = .ok (.goto 53, 3) := by decide +kernel
theorem d_Md_bound_29 : decode b_Md_bound 29 = .ok (.iload 4, 2) := by decide +kernel
theorem d_Md_bound_31 : decode b_Md_bound 31 = .ok (.ifCond .lt 34, 3) := by decide +kernel
theorem d_Md_bound_34 : decode b_Md_bound 34 = .ok (.iload_n 3, 1) := by decide +kernel
theorem d_Md_bound_35 : decode b_Md_bound 35 = .ok (.ifCond .eq 18, 3) := by decide +kernel
theorem d_Md_bound_38 : decode b_Md_bound 38 = .ok (.aload_n 0, 1) := by decide +kernel
theorem d_Md_bound_39 : decode b_Md_bound 39 = .ok (.getfield 7, 3) := by decide +kernel
theorem d_Md_bound_42 : decode b_Md_bound 42 = .ok (.iload 5, 2) := by decide +kernel
theorem d_Md_bound_44 : decode b_Md_bound 44 = .ok (.iaload, 1) := by decide +kernel
theorem d_Md_bound_45 : decode b_Md_bound 45 = .ok (.iload 4, 2) := by decide +kernel
theorem d_Md_bound_47 : decode b_Md_bound 47 = .ok (.if_icmp .le 28, 3) := by decide +kernel
theorem d_Md_bound_50 : decode b_Md_bound 50 = .ok (.goto 15, 3) := by decide +kernel
theorem d_Md_bound_53 : decode b_Md_bound 53 = .ok (.aload_n 0, 1) := by decide +kernel
theorem d_Md_bound_54 : decode b_Md_bound 54 = .ok (.getfield 7, 3) := by decide +kernel
theorem d_Md_bound_57 : decode b_Md_bound 57 = .ok (.iload 5, 2) := by decide +kernel
theorem d_Md_bound_59 : decode b_Md_bound 59 = .ok (.iaload, 1) := by decide +kernel
theorem d_Md_bound_60 : decode b_Md_bound 60 = .ok (.iload 4, 2) := by decide +kernel
theorem d_Md_bound_62 : decode b_Md_bound 62 = .ok (.if_icmp .ge 13, 3) := by decide +kernel
theorem d_Md_bound_65 : decode b_Md_bound 65 = .ok (.aload_n 0, 1) := by decide +kernel
theorem d_Md_bound_66 : decode b_Md_bound 66 = .ok (.getfield 7, 3) := by decide +kernel
theorem d_Md_bound_69 : decode b_Md_bound 69 = .ok (.iload 5, 2) := by decide +kernel
theorem d_Md_bound_71 : decode b_Md_bound 71 = .ok (.iaload, 1) := by decide +kernel
theorem d_Md_bound_72 : decode b_Md_bound 72 = .ok (.goto 5, 3) := by decide +kernel
theorem d_Md_bound_75 : decode b_Md_bound 75 = .ok (.iload 4, 2) := by decide +kernel
theorem d_Md_bound_77 : decode b_Md_bound 77 = .ok (.istore 4, 2) := by decide +kernel
theorem d_Md_bound_79 : decode b_Md_bound 79 = .ok (.iinc 5 1, 3) := by decide +kernel
theorem d_Md_bound_82 : decode b_Md_bound 82 = .ok (.goto (-76), 3) := by decide +kernel
theorem d_Md_bound_85 : decode b_Md_bound 85 = .ok (.iload 4, 2) := by decide +kernel
theorem d_Md_bound_87 : decode b_Md_bound 87 = .ok (.ireturn, 1) := by decide +kernel
theorem d_Md_may_0 : decode b_Md_may 0 = .ok (.aload_n 0, 1) := by decide +kernel
theorem d_Md_may_1 : decode b_Md_may 1 = .ok (.iload_n 1, 1) := by decide +kernel
theorem d_Md_may_2 : decode b_Md_may 2 = .ok (.iload_n 2, 1) := by decide +kernel
theorem d_Md_may_3 : decode b_Md_may 3 = .ok (.invokevirtual 175, 3) := by decide +kernel
theorem d_Md_may_6 : decode b_Md_may 6 = .ok (.istore 4, 2) := by decide +kernel
theorem d_Md_may_8 : decode b_Md_may 8 = .ok (.iload 4, 2) := by decide +kernel
theorem d_Md_may_10 : decode b_Md_may 10 = .ok (.iconst 5, 1) := by decide +kernel
theorem d_Md_may_11 : decode b_Md_may 11 = .ok (.iload_n 3, 1) := by decide +kernel
theorem d_Md_may_12 : decode b_Md_may 12 = .ok (.imul, 1) := by decide +kernel
theorem d_Md_may_13 : decode b_Md_may 13 = .ok (.iconst 1, 1) := by decide +kernel
theorem d_Md_may_14 : decode b_Md_may 14 = .ok (.iadd, 1) := by decide +kernel
theorem d_Md_may_15 : decode b_Md_may 15 = .ok (.bipush 32, 2) := by decide +kernel
theorem d_Md_may_17 : decode b_Md_may 17 = .ok (.irem, 1) := by decide +kernel
theorem d_Md_may_18 : decode b_Md_may 18 = .ok (.ishr, 1) := by decide +kernel
theorem d_Md_may_19 : decode b_Md_may 19 = .ok (.iconst 1, 1) := by decide +kernel
theorem d_Md_may_20 : decode b_Md_may 20 = .ok (.iand, 1) := by decide +kernel
theorem d_Md_may_21 : decode b_Md_may 21 = .ok (.iconst 1, 1) := by decide +kernel
theorem d_Md_may_22 : decode b_Md_may 22 = .ok (.if_icmp .ne 26, 3) := by decide +kernel
theorem d_Md_may_25 : decode b_Md_may 25 = .ok (.iload 4, 2) := by decide +kernel
theorem d_Md_may_27 : decode b_Md_may 27 = .ok (.bipush 11, 2) := by decide +kernel
theorem d_Md_may_29 : decode b_Md_may 29 = .ok (.iload_n 3, 1) := by decide +kernel
theorem d_Md_may_30 : decode b_Md_may 30 = .ok (.imul, 1) := by decide +kernel
theorem d_Md_may_31 : decode b_Md_may 31 = .ok (.bipush 7, 2) := by decide +kernel
theorem d_Md_may_33 : decode b_Md_may 33 = .ok (.iadd, 1) := by decide +kernel
theorem d_Md_may_34 : decode b_Md_may 34 = .ok (.bipush 32, 2) := by decide +kernel
theorem d_Md_may_36 : decode b_Md_may 36 = .ok (.irem, 1) := by decide +kernel
theorem d_Md_may_37 : decode b_Md_may 37 = .ok (.ishr, 1) := by decide +kernel
theorem d_Md_may_38 : decode b_Md_may 38 = .ok (.iconst 1, 1) := by decide +kernel
theorem d_Md_may_39 : decode b_Md_may 39 = .ok (.iand, 1) := by decide +kernel
theorem d_Md_may_40 : decode b_Md_may 40 = .ok (.iconst 1, 1) := by decide +kernel
theorem d_Md_may_41 : decode b_Md_may 41 = .ok (.if_icmp .ne 7, 3) := by decide +kernel
theorem d_Md_may_44 : decode b_Md_may 44 = .ok (.iconst 1, 1) := by decide +kernel
theorem d_Md_may_45 : decode b_Md_may 45 = .ok (.goto 4, 3) := by decide +kernel
theorem d_Md_may_48 : decode b_Md_may 48 = .ok (.iconst 0, 1) := by decide +kernel
theorem d_Md_may_49 : decode b_Md_may 49 = .ok (.istore 5, 2) := by decide +kernel
theorem d_Md_may_51 : decode b_Md_may 51 = .ok (.iload 5, 2) := by decide +kernel
theorem d_Md_may_53 : decode b_Md_may 53 = .ok (.ifCond .eq 29, 3) := by decide +kernel
theorem d_Md_may_56 : decode b_Md_may 56 = .ok (.iload_n 3, 1) := by decide +kernel
theorem d_Md_may_57 : decode b_Md_may 57 = .ok (.aload_n 0, 1) := by decide +kernel
theorem d_Md_may_58 : decode b_Md_may 58 = .ok (.iload_n 1, 1) := by decide +kernel
theorem d_Md_may_59 : decode b_Md_may 59 = .ok (.iload_n 2, 1) := by decide +kernel
theorem d_Md_may_60 : decode b_Md_may 60 = .ok (.iconst 0, 1) := by decide +kernel
theorem d_Md_may_61 : decode b_Md_may 61 = .ok (.invokevirtual 179, 3) := by decide +kernel
theorem d_Md_may_64 : decode b_Md_may 64 = .ok (.if_icmp .lt 18, 3) := by decide +kernel
theorem d_Md_may_67 : decode b_Md_may 67 = .ok (.iload_n 3, 1) := by decide +kernel
theorem d_Md_may_68 : decode b_Md_may 68 = .ok (.aload_n 0, 1) := by decide +kernel
theorem d_Md_may_69 : decode b_Md_may 69 = .ok (.iload_n 1, 1) := by decide +kernel
theorem d_Md_may_70 : decode b_Md_may 70 = .ok (.iload_n 2, 1) := by decide +kernel
theorem d_Md_may_71 : decode b_Md_may 71 = .ok (.iconst 1, 1) := by decide +kernel
theorem d_Md_may_72 : decode b_Md_may 72 = .ok (.invokevirtual 179, 3) := by decide +kernel
theorem d_Md_may_75 : decode b_Md_may 75 = .ok (.if_icmp .gt 7, 3) := by decide +kernel
theorem d_Md_may_78 : decode b_Md_may 78 = .ok (.iconst 1, 1) := by decide +kernel
theorem d_Md_may_79 : decode b_Md_may 79 = .ok (.goto 4, 3) := by decide +kernel
theorem d_Md_may_82 : decode b_Md_may 82 = .ok (.iconst 0, 1) := by decide +kernel
theorem d_Md_may_83 : decode b_Md_may 83 = .ok (.ireturn, 1) := by decide +kernel
theorem d_Md_find_0 : decode b_Md_find 0 = .ok (.aload_n 0, 1) := by decide +kernel
theorem d_Md_find_1 : decode b_Md_find 1 = .ok (.iconst 0, 1) := by decide +kernel
theorem d_Md_find_2 : decode b_Md_find 2 = .ok (.putfield 183, 3) := by decide +kernel
theorem d_Md_find_5 : decode b_Md_find 5 = .ok (.aload_n 0, 1) := by decide +kernel
theorem d_Md_find_6 : decode b_Md_find 6 = .ok (.iconst (-1), 1) := by decide +kernel
theorem d_Md_find_7 : decode b_Md_find 7 = .ok (.iconst 0, 1) := by decide +kernel
theorem d_Md_find_8 : decode b_Md_find 8 = .ok (.iload_n 1, 1) := by decide +kernel
theorem d_Md_find_9 : decode b_Md_find 9 = .ok (.iload_n 2, 1) := by decide +kernel
theorem d_Md_find_10 : decode b_Md_find 10 = .ok (.invokevirtual 186, 3) := by decide +kernel
theorem d_Md_find_13 : decode b_Md_find 13 = .ok (.istore_n 3, 1) := by decide +kernel
theorem d_Md_find_14 : decode b_Md_find 14 = .ok (.iconst 0, 1) := by decide +kernel
theorem d_Md_find_15 : decode b_Md_find 15 = .ok (.istore 4, 2) := by decide +kernel
theorem d_Md_find_17 : decode b_Md_find 17 = .ok (.iload 4, 2) := by decide +kernel
theorem d_Md_find_19 : decode b_Md_find 19 = .ok (.iconst 3, 1) := by decide +kernel
theorem d_Md_find_20 : decode b_Md_find 20 = .ok (.if_icmp .ge 69, 3) := by decide +kernel
theorem d_Md_find_23 : decode b_Md_find 23 = .ok (.iconst 0, 1) := by decide +kernel
theorem d_Md_find_24 : decode b_Md_find 24 = .ok (.istore 5, 2) := by decide +kernel
theorem d_Md_find_26 : decode b_Md_find 26 = .ok (.iload 5, 2) := by decide +kernel
theorem d_Md_find_28 : decode b_Md_find 28 = .ok (.aload_n 0, 1) := by decide +kernel
theorem d_Md_find_29 : decode b_Md_find 29 = .ok (.iload 4, 2) := by decide +kernel
theorem d_Md_find_31 : decode b_Md_find 31 = .ok (.invokevirtual 190, 3) := by decide +kernel
theorem d_Md_find_34 : decode b_Md_find 34 = .ok (.if_icmp .ge 49, 3) := by decide +kernel
theorem d_Md_find_37 : decode b_Md_find 37 = .ok (.iload_n 3, 1) := by decide +kernel
theorem d_Md_find_38 : decode b_Md_find 38 = .ok (.ifCond .ge 45, 3) := by decide +kernel
theorem d_Md_find_41 : decode b_Md_find 41 = .ok (.aload_n 0, 1) := by decide +kernel
theorem d_Md_find_42 : decode b_Md_find 42 = .ok (.iload 4, 2) := by decide +kernel
theorem d_Md_find_44 : decode b_Md_find 44 = .ok (.iload 5, 2) := by decide +kernel
theorem d_Md_find_46 : decode b_Md_find 46 = .ok (.iload_n 2, 1) := by decide +kernel
theorem d_Md_find_47 : decode b_Md_find 47 = .ok (.invokevirtual 193, 3) := by decide +kernel
theorem d_Md_find_50 : decode b_Md_find 50 = .ok (.ifCond .ne 6, 3) := by decide +kernel
theorem d_Md_find_53 : decode b_Md_find 53 = .ok (.goto 24, 3) := by decide +kernel
theorem d_Md_find_56 : decode b_Md_find 56 = .ok (.aload_n 0, 1) := by decide +kernel
theorem d_Md_find_57 : decode b_Md_find 57 = .ok (.dup, 1) := by decide +kernel
theorem d_Md_find_58 : decode b_Md_find 58 = .ok (.getfield 183, 3) := by decide +kernel
theorem d_Md_find_61 : decode b_Md_find 61 = .ok (.iconst 1, 1) := by decide +kernel
theorem d_Md_find_62 : decode b_Md_find 62 = .ok (.iadd, 1) := by decide +kernel
theorem d_Md_find_63 : decode b_Md_find 63 = .ok (.putfield 183, 3) := by decide +kernel
theorem d_Md_find_66 : decode b_Md_find 66 = .ok (.aload_n 0, 1) := by decide +kernel
theorem d_Md_find_67 : decode b_Md_find 67 = .ok (.iload 4, 2) := by decide +kernel
theorem d_Md_find_69 : decode b_Md_find 69 = .ok (.iload 5, 2) := by decide +kernel
theorem d_Md_find_71 : decode b_Md_find 71 = .ok (.iload_n 1, 1) := by decide +kernel
theorem d_Md_find_72 : decode b_Md_find 72 = .ok (.iload_n 2, 1) := by decide +kernel
theorem d_Md_find_73 : decode b_Md_find 73 = .ok (.invokevirtual 186, 3) := by decide +kernel
theorem d_Md_find_76 : decode b_Md_find 76 = .ok (.istore_n 3, 1) := by decide +kernel
theorem d_Md_find_77 : decode b_Md_find 77 = .ok (.iinc 5 1, 3) := by decide +kernel
theorem d_Md_find_80 : decode b_Md_find 80 = .ok (.goto (-54), 3) := by decide +kernel
theorem d_Md_find_83 : decode b_Md_find 83 = .ok (.iinc 4 1, 3) := by decide +kernel
theorem d_Md_find_86 : decode b_Md_find 86 = .ok (.goto (-69), 3) := by decide +kernel
theorem d_Md_find_89 : decode b_Md_find 89 = .ok (.iload_n 3, 1) := by decide +kernel
theorem d_Md_find_90 : decode b_Md_find 90 = .ok (.ireturn, 1) := by decide +kernel
theorem d_Md_has_0 : decode b_Md_has 0 = .ok (.aload_n 0, 1) := by decide +kernel
theorem d_Md_has_1 : decode b_Md_has 1 = .ok (.iload_n 1, 1) := by decide +kernel
theorem d_Md_has_2 : decode b_Md_has 2 = .ok (.invokevirtual 196, 3) := by decide +kernel
theorem d_Md_has_5 : decode b_Md_has 5 = .ok (.ifCond .eq 10, 3) := by decide +kernel
theorem d_Md_has_8 : decode b_Md_has 8 = .ok (.iload_n 2, 1) := by decide +kernel
theorem d_Md_has_9 : decode b_Md_has 9 = .ok (.invokestatic 137, 3) := by decide +kernel
theorem d_Md_has_12 : decode b_Md_has 12 = .ok (.ifCond .ne 5, 3) := by decide +kernel
theorem d_Md_has_15 : decode b_Md_has 15 = .ok (.iconst 0, 1) := by decide +kernel
theorem d_Md_has_16 : decode b_Md_has 16 = .ok (.ireturn, 1) := by decide +kernel
theorem d_Md_has_17 : decode b_Md_has 17 = .ok (.aload_n 0, 1) := by decide +kernel
theorem d_Md_has_18 : decode b_Md_has 18 = .ok (.iload_n 1, 1) := by decide +kernel
theorem d_Md_has_19 : decode b_Md_has 19 = .ok (.iload_n 2, 1) := by decide +kernel
theorem d_Md_has_20 : decode b_Md_has 20 = .ok (.invokevirtual 199, 3) := by decide +kernel
theorem d_Md_has_23 : decode b_Md_has 23 = .ok (.istore_n 3, 1) := by decide +kernel
theorem d_Md_has_24 : decode b_Md_has 24 = .ok (.iload_n 3, 1) := by decide +kernel
theorem d_Md_has_25 : decode b_Md_has 25 = .ok (.ifCond .lt 15, 3) := by decide +kernel
theorem d_Md_has_28 : decode b_Md_has 28 = .ok (.aload_n 0, 1) := by decide +kernel
theorem d_Md_has_29 : decode b_Md_has 29 = .ok (.iload_n 3, 1) := by decide +kernel
theorem d_Md_has_30 : decode b_Md_has 30 = .ok (.invokevirtual 92, 3) := by decide +kernel
theorem d_Md_has_33 : decode b_Md_has 33 = .ok (.ifCond .ne 7, 3) := by decide +kernel
theorem d_Md_has_36 : decode b_Md_has 36 = .ok (.iconst 1, 1) := by decide +kernel
theorem d_Md_has_37 : decode b_Md_has 37 = .ok (.goto 4, 3) := by decide +kernel
theorem d_Md_has_40 : decode b_Md_has 40 = .ok (.iconst 0, 1) := by decide +kernel
theorem d_Md_has_41 : decode b_Md_has 41 = .ok (.ireturn, 1) := by decide +kernel
theorem d_Md_get_0 : decode b_Md_get 0 = .ok (.aload_n 0, 1) := by decide +kernel
theorem d_Md_get_1 : decode b_Md_get 1 = .ok (.iload_n 1, 1) := by decide +kernel
theorem d_Md_get_2 : decode b_Md_get 2 = .ok (.invokevirtual 196, 3) := by decide +kernel
theorem d_Md_get_5 : decode b_Md_get 5 = .ok (.ifCond .eq 10, 3) := by decide +kernel
theorem d_Md_get_8 : decode b_Md_get 8 = .ok (.iload_n 2, 1) := by decide +kernel
theorem d_Md_get_9 : decode b_Md_get 9 = .ok (.invokestatic 137, 3) := by decide +kernel
theorem d_Md_get_12 : decode b_Md_get 12 = .ok (.ifCond .ne 5, 3) := by decide +kernel
theorem d_Md_get_15 : decode b_Md_get 15 = .ok (.iconst 0, 1) := by decide +kernel
theorem d_Md_get_16 : decode b_Md_get 16 = .ok (.ireturn, 1) := by decide +kernel
theorem d_Md_get_17 : decode b_Md_get 17 = .ok (.aload_n 0, 1) := by decide +kernel
theorem d_Md_get_18 : decode b_Md_get 18 = .ok (.iload_n 1, 1) := by decide +kernel
theorem d_Md_get_19 : decode b_Md_get 19 = .ok (.iload_n 2, 1) := by decide +kernel
theorem d_Md_get_20 : decode b_Md_get 20 = .ok (.invokevirtual 199, 3) := by decide +kernel
theorem d_Md_get_23 : decode b_Md_get 23 = .ok (.istore_n 3, 1) := by decide +kernel
theorem d_Md_get_24 : decode b_Md_get 24 = .ok (.iload_n 3, 1) := by decide +kernel
theorem d_Md_get_25 : decode b_Md_get 25 = .ok (.ifCond .lt 11, 3) := by decide +kernel
theorem d_Md_get_28 : decode b_Md_get 28 = .ok (.aload_n 0, 1) := by decide +kernel
theorem d_Md_get_29 : decode b_Md_get 29 = .ok (.iload_n 3, 1) := by decide +kernel
theorem d_Md_get_30 : decode b_Md_get 30 = .ok (.invokevirtual 92, 3) := by decide +kernel
theorem d_Md_get_33 : decode b_Md_get 33 = .ok (.ifCond .eq 7, 3) := by decide +kernel
theorem d_Md_get_36 : decode b_Md_get 36 = .ok (.iconst 0, 1) := by decide +kernel
theorem d_Md_get_37 : decode b_Md_get 37 = .ok (.goto 9, 3) := by decide +kernel
theorem d_Md_get_40 : decode b_Md_get 40 = .ok (.aload_n 0, 1) := by decide +kernel
theorem d_Md_get_41 : decode b_Md_get 41 = .ok (.getfield 16, 3) := by decide +kernel
theorem d_Md_get_44 : decode b_Md_get 44 = .ok (.iload_n 3, 1) := by decide +kernel
theorem d_Md_get_45 : decode b_Md_get 45 = .ok (.iaload, 1) := by decide +kernel
theorem d_Md_get_46 : decode b_Md_get 46 = .ok (.ireturn, 1) := by decide +kernel
theorem d_Md_there_0 : decode b_Md_there 0 = .ok (.iconst (-1), 1) := by decide +kernel
theorem d_Md_there_1 : decode b_Md_there 1 = .ok (.istore_n 3, 1) := by decide +kernel
theorem d_Md_there_2 : decode b_Md_there 2 = .ok (.iconst 0, 1) := by decide +kernel
theorem d_Md_there_3 : decode b_Md_there 3 = .ok (.istore 4, 2) := by decide +kernel
theorem d_Md_there_5 : decode b_Md_there 5 = .ok (.iload 4, 2) := by decide +kernel
theorem d_Md_there_7 : decode b_Md_there 7 = .ok (.aload_n 0, 1) := by decide +kernel
theorem d_Md_there_8 : decode b_Md_there 8 = .ok (.getfield 75, 3) := by decide +kernel
theorem d_Md_there_11 : decode b_Md_there 11 = .ok (.if_icmp .ge 77, 3) := by decide +kernel
theorem d_Md_there_14 : decode b_Md_there 14 = .ok (.aload_n 0, 1) := by decide +kernel
theorem d_Md_there_15 : decode b_Md_there 15 = .ok (.getfield 26, 3) := by decide +kernel
theorem d_Md_there_18 : decode b_Md_there 18 = .ok (.iload 4, 2) := by decide +kernel
theorem d_Md_there_20 : decode b_Md_there 20 = .ok (.iaload, 1) := by decide +kernel
theorem d_Md_there_21 : decode b_Md_there 21 = .ok (.bipush 9, 2) := by decide +kernel
theorem d_Md_there_23 : decode b_Md_there 23 = .ok (.if_icmp .eq 28, 3) := by decide +kernel
theorem d_Md_there_26 : decode b_Md_there 26 = .ok (.aload_n 0, 1) := by decide +kernel
theorem d_Md_there_27 : decode b_Md_there 27 = .ok (.getfield 7, 3) := by decide +kernel
theorem d_Md_there_30 : decode b_Md_there 30 = .ok (.iload 4, 2) := by decide +kernel
theorem d_Md_there_32 : decode b_Md_there 32 = .ok (.iaload, 1) := by decide +kernel
theorem d_Md_there_33 : decode b_Md_there 33 = .ok (.iload_n 2, 1) := by decide +kernel
theorem d_Md_there_34 : decode b_Md_there 34 = .ok (.if_icmp .ne 17, 3) := by decide +kernel
theorem d_Md_there_37 : decode b_Md_there 37 = .ok (.aload_n 0, 1) := by decide +kernel
theorem d_Md_there_38 : decode b_Md_there 38 = .ok (.iload 4, 2) := by decide +kernel
theorem d_Md_there_40 : decode b_Md_there 40 = .ok (.iload_n 1, 1) := by decide +kernel
theorem d_Md_there_41 : decode b_Md_there 41 = .ok (.invokevirtual 172, 3) := by decide +kernel
theorem d_Md_there_44 : decode b_Md_there 44 = .ok (.ifCond .eq 7, 3) := by decide +kernel
theorem d_Md_there_47 : decode b_Md_there 47 = .ok (.iconst 1, 1) := by decide +kernel
theorem d_Md_there_48 : decode b_Md_there 48 = .ok (.goto 4, 3) := by decide +kernel
theorem d_Md_there_51 : decode b_Md_there 51 = .ok (.iconst 0, 1) := by decide +kernel
theorem d_Md_there_52 : decode b_Md_there 52 = .ok (.istore 5, 2) := by decide +kernel
theorem d_Md_there_54 : decode b_Md_there 54 = .ok (.iload 5, 2) := by decide +kernel
theorem d_Md_there_56 : decode b_Md_there 56 = .ok (.ifCond .eq 26, 3) := by decide +kernel
theorem d_Md_there_59 : decode b_Md_there 59 = .ok (.iload_n 3, 1) := by decide +kernel
theorem d_Md_there_60 : decode b_Md_there 60 = .ok (.ifCond .lt 19, 3) := by decide +kernel
theorem d_Md_there_63 : decode b_Md_there 63 = .ok (.aload_n 0, 1) := by decide +kernel
theorem d_Md_there_64 : decode b_Md_there 64 = .ok (.getfield 13, 3) := by decide +kernel
theorem d_Md_there_67 : decode b_Md_there 67 = .ok (.iload 4, 2) := by decide +kernel
theorem d_Md_there_69 : decode b_Md_there 69 = .ok (.iaload, 1) := by decide +kernel
theorem d_Md_there_70 : decode b_Md_there 70 = .ok (.aload_n 0, 1) := by decide +kernel
theorem d_Md_there_71 : decode b_Md_there 71 = .ok (.getfield 13, 3) := by decide +kernel
theorem d_Md_there_74 : decode b_Md_there 74 = .ok (.iload_n 3, 1) := by decide +kernel
theorem d_Md_there_75 : decode b_Md_there 75 = .ok (.iaload, 1) := by decide +kernel
theorem d_Md_there_76 : decode b_Md_there 76 = .ok (.if_icmp .le 6, 3) := by decide +kernel
theorem d_Md_there_79 : decode b_Md_there 79 = .ok (.iload 4, 2) := by decide +kernel
theorem d_Md_there_81 : decode b_Md_there 81 = .ok (.istore_n 3, 1) := by decide +kernel
theorem d_Md_there_82 : decode b_Md_there 82 = .ok (.iinc 4 1, 3) := by decide +kernel
theorem d_Md_there_85 : decode b_Md_there 85 = .ok (.goto (-80), 3) := by decide +kernel
theorem d_Md_there_88 : decode b_Md_there 88 = .ok (.iload_n 3, 1) := by decide +kernel
theorem d_Md_there_89 : decode b_Md_there 89 = .ok (.ifCond .lt 15, 3) := by decide +kernel
theorem d_Md_there_92 : decode b_Md_there 92 = .ok (.aload_n 0, 1) := by decide +kernel
theorem d_Md_there_93 : decode b_Md_there 93 = .ok (.iload_n 3, 1) := by decide +kernel
theorem d_Md_there_94 : decode b_Md_there 94 = .ok (.invokevirtual 92, 3) := by decide +kernel
theorem d_Md_there_97 : decode b_Md_there 97 = .ok (.ifCond .ne 7, 3) := by decide +kernel
theorem d_Md_there_100 : decode b_Md_there 100 = .ok (.iconst 1, 1) := by decide +kernel
theorem d_Md_there_101 : decode b_Md_there 101 = .ok (.goto 4, 3) := by decide +kernel
theorem d_Md_there_104 : decode b_Md_there 104 = .ok (.iconst 0, 1) := by decide +kernel
theorem d_Md_there_105 : decode b_Md_there 105 = .ok (.ireturn, 1) := by decide +kernel
theorem d_Md_scan_0 : decode b_Md_scan 0 = .ok (.aload_n 0, 1) := by decide +kernel
theorem d_Md_scan_1 : decode b_Md_scan 1 = .ok (.iload_n 1, 1) := by decide +kernel
theorem d_Md_scan_2 : decode b_Md_scan 2 = .ok (.invokevirtual 196, 3) := by decide +kernel
theorem d_Md_scan_5 : decode b_Md_scan 5 = .ok (.ifCond .eq 7, 3) := by decide +kernel
theorem d_Md_scan_8 : decode b_Md_scan 8 = .ok (.iload_n 3, 1) := by decide +kernel
theorem d_Md_scan_9 : decode b_Md_scan 9 = .ok (.ifCond .ge 5, 3) := by decide +kernel
theorem d_Md_scan_12 : decode b_Md_scan 12 = .ok (.iconst (-1), 1) := by decide +kernel
theorem d_Md_scan_13 : decode b_Md_scan 13 = .ok (.ireturn, 1) := by decide +kernel
theorem d_Md_scan_14 : decode b_Md_scan 14 = .ok (.iconst 0, 1) := by decide +kernel
theorem d_Md_scan_15 : decode b_Md_scan 15 = .ok (.istore 4, 2) := by decide +kernel
theorem d_Md_scan_17 : decode b_Md_scan 17 = .ok (.iload_n 2, 1) := by decide +kernel
theorem d_Md_scan_18 : decode b_Md_scan 18 = .ok (.ifCond .ge 7, 3) := by decide +kernel
theorem d_Md_scan_21 : decode b_Md_scan 21 = .ok (.iconst 0, 1) := by decide +kernel
theorem d_Md_scan_22 : decode b_Md_scan 22 = .ok (.goto 4, 3) := by decide +kernel
theorem d_Md_scan_25 : decode b_Md_scan 25 = .ok (.iload_n 2, 1) := by decide +kernel
theorem d_Md_scan_26 : decode b_Md_scan 26 = .ok (.istore 5, 2) := by decide +kernel
theorem d_Md_scan_28 : decode b_Md_scan 28 = .ok (.iload 5, 2) := by decide +kernel
theorem d_Md_scan_30 : decode b_Md_scan 30 = .ok (.bipush 32, 2) := by decide +kernel
theorem d_Md_scan_32 : decode b_Md_scan 32 = .ok (.if_icmp .ge 34, 3) := by decide +kernel
theorem d_Md_scan_35 : decode b_Md_scan 35 = .ok (.aload_n 0, 1) := by decide +kernel
theorem d_Md_scan_36 : decode b_Md_scan 36 = .ok (.iload_n 1, 1) := by decide +kernel
theorem d_Md_scan_37 : decode b_Md_scan 37 = .ok (.iload 5, 2) := by decide +kernel
theorem d_Md_scan_39 : decode b_Md_scan 39 = .ok (.invokevirtual 202, 3) := by decide +kernel
theorem d_Md_scan_42 : decode b_Md_scan 42 = .ok (.ifCond .ne 6, 3) := by decide +kernel
theorem d_Md_scan_45 : decode b_Md_scan 45 = .ok (.goto 15, 3) := by decide +kernel
theorem d_Md_scan_48 : decode b_Md_scan 48 = .ok (.iload 4, 2) := by decide +kernel
theorem d_Md_scan_50 : decode b_Md_scan 50 = .ok (.iload_n 3, 1) := by decide +kernel
theorem d_Md_scan_51 : decode b_Md_scan 51 = .ok (.if_icmp .ne 6, 3) := by decide +kernel
theorem d_Md_scan_54 : decode b_Md_scan 54 = .ok (.iload 5, 2) := by decide +kernel
theorem d_Md_scan_56 : decode b_Md_scan 56 = .ok (.ireturn, 1) := by decide +kernel
theorem d_Md_scan_57 : decode b_Md_scan 57 = .ok (.iinc 4 1, 3) := by decide +kernel
theorem d_Md_scan_60 : decode b_Md_scan 60 = .ok (.iinc 5 1, 3) := by decide +kernel
theorem d_Md_scan_63 : decode b_Md_scan 63 = .ok (.goto (-35), 3) := by decide +kernel
theorem d_Md_scan_66 : decode b_Md_scan 66 = .ok (.bipush (-2), 2) := by decide +kernel
theorem d_Md_scan_68 : decode b_Md_scan 68 = .ok (.ireturn, 1) := by decide +kernel
theorem d_Md_probes_0 : decode b_Md_probes 0 = .ok (.aload_n 0, 1) := by decide +kernel
theorem d_Md_probes_1 : decode b_Md_probes 1 = .ok (.getfield 183, 3) := by decide +kernel
theorem d_Md_probes_4 : decode b_Md_probes 4 = .ok (.ireturn, 1) := by decide +kernel
theorem d_Md_table_0 : decode b_Md_table 0 = .ok (.iload_n 1, 1) := by decide +kernel
theorem d_Md_table_1 : decode b_Md_table 1 = .ok (.ifCond .lt 8, 3) := by decide +kernel
theorem d_Md_table_4 : decode b_Md_table 4 = .ok (.iload_n 1, 1) := by decide +kernel
theorem d_Md_table_5 : decode b_Md_table 5 = .ok (.iconst 2, 1) := by decide +kernel
theorem d_Md_table_6 : decode b_Md_table 6 = .ok (.if_icmp .le 6, 3) := by decide +kernel
theorem d_Md_table_9 : decode b_Md_table 9 = .ok (.bipush (-2), 2) := by decide +kernel
theorem d_Md_table_11 : decode b_Md_table 11 = .ok (.ireturn, 1) := by decide +kernel
theorem d_Md_table_12 : decode b_Md_table 12 = .ok (.aload_n 0, 1) := by decide +kernel
theorem d_Md_table_13 : decode b_Md_table 13 = .ok (.iload_n 1, 1) := by decide +kernel
theorem d_Md_table_14 : decode b_Md_table 14 = .ok (.invokevirtual 190, 3) := by decide +kernel
theorem d_Md_table_17 : decode b_Md_table 17 = .ok (.istore 4, 2) := by decide +kernel
theorem d_Md_table_19 : decode b_Md_table 19 = .ok (.iload_n 2, 1) := by decide +kernel
theorem d_Md_table_20 : decode b_Md_table 20 = .ok (.iconst (-1), 1) := by decide +kernel
theorem d_Md_table_21 : decode b_Md_table 21 = .ok (.if_icmp .ne 6, 3) := by decide +kernel
theorem d_Md_table_24 : decode b_Md_table 24 = .ok (.iload 4, 2) := by decide +kernel
theorem d_Md_table_26 : decode b_Md_table 26 = .ok (.ireturn, 1) := by decide +kernel
theorem d_Md_table_27 : decode b_Md_table 27 = .ok (.iload_n 2, 1) := by decide +kernel
theorem d_Md_table_28 : decode b_Md_table 28 = .ok (.ifCond .lt 9, 3) := by decide +kernel
theorem d_Md_table_31 : decode b_Md_table 31 = .ok (.iload_n 2, 1) := by decide +kernel
theorem d_Md_table_32 : decode b_Md_table 32 = .ok (.iload 4, 2) := by decide +kernel
theorem d_Md_table_34 : decode b_Md_table 34 = .ok (.if_icmp .lt 6, 3) := by decide +kernel
theorem d_Md_table_37 : decode b_Md_table 37 = .ok (.bipush (-2), 2) := by decide +kernel
theorem d_Md_table_39 : decode b_Md_table 39 = .ok (.ireturn, 1) := by decide +kernel
theorem d_Md_table_40 : decode b_Md_table 40 = .ok (.iconst 0, 1) := by decide +kernel
theorem d_Md_table_41 : decode b_Md_table 41 = .ok (.istore 5, 2) := by decide +kernel
theorem d_Md_table_43 : decode b_Md_table 43 = .ok (.iconst 0, 1) := by decide +kernel
theorem d_Md_table_44 : decode b_Md_table 44 = .ok (.istore 6, 2) := by decide +kernel
theorem d_Md_table_46 : decode b_Md_table 46 = .ok (.iconst 0, 1) := by decide +kernel
theorem d_Md_table_47 : decode b_Md_table 47 = .ok (.istore 7, 2) := by decide +kernel
theorem d_Md_table_49 : decode b_Md_table 49 = .ok (.iload 7, 2) := by decide +kernel
theorem d_Md_table_51 : decode b_Md_table 51 = .ok (.aload_n 0, 1) := by decide +kernel
theorem d_Md_table_52 : decode b_Md_table 52 = .ok (.getfield 75, 3) := by decide +kernel
theorem d_Md_table_55 : decode b_Md_table 55 = .ok (.if_icmp .ge 52, 3) := by decide +kernel
theorem d_Md_table_58 : decode b_Md_table 58 = .ok (.aload_n 0, 1) := by decide +kernel
theorem d_Md_table_59 : decode b_Md_table 59 = .ok (.iload 7, 2) := by decide +kernel
theorem d_Md_table_61 : decode b_Md_table 61 = .ok (.iload_n 1, 1) := by decide +kernel
theorem d_Md_table_62 : decode b_Md_table 62 = .ok (.iload_n 2, 1) := by decide +kernel
theorem d_Md_table_63 : decode b_Md_table 63 = .ok (.invokevirtual 168, 3) := by decide +kernel
theorem d_Md_table_66 : decode b_Md_table 66 = .ok (.ifCond .ne 6, 3) := by decide +kernel
theorem d_Md_table_69 : decode b_Md_table 69 = .ok (.goto 32, 3) := by decide +kernel
theorem d_Md_table_72 : decode b_Md_table 72 = .ok (.iinc 5 1, 3) := by decide +kernel
theorem d_Md_table_75 : decode b_Md_table 75 = .ok (.aload_n 0, 1) := by decide +kernel
theorem d_Md_table_76 : decode b_Md_table 76 = .ok (.getfield 13, 3) := by decide +kernel
theorem d_Md_table_79 : decode b_Md_table 79 = .ok (.iload 7, 2) := by decide +kernel
theorem d_Md_table_81 : decode b_Md_table 81 = .ok (.iaload, 1) := by decide +kernel
theorem d_Md_table_82 : decode b_Md_table 82 = .ok (.iload 6, 2) := by decide +kernel
theorem d_Md_table_84 : decode b_Md_table 84 = .ok (.if_icmp .le 13, 3) := by decide +kernel
theorem d_Md_table_87 : decode b_Md_table 87 = .ok (.aload_n 0, 1) := by decide +kernel
theorem d_Md_table_88 : decode b_Md_table 88 = .ok (.getfield 13, 3) := by decide +kernel
theorem d_Md_table_91 : decode b_Md_table 91 = .ok (.iload 7, 2) := by decide +kernel
theorem d_Md_table_93 : decode b_Md_table 93 = .ok (.iaload, 1) := by decide +kernel
theorem d_Md_table_94 : decode b_Md_table 94 = .ok (.goto 5, 3) := by decide +kernel
theorem d_Md_table_97 : decode b_Md_table 97 = .ok (.iload 6, 2) := by decide +kernel
theorem d_Md_table_99 : decode b_Md_table 99 = .ok (.istore 6, 2) := by decide +kernel
theorem d_Md_table_101 : decode b_Md_table 101 = .ok (.iinc 7 1, 3) := by decide +kernel
theorem d_Md_table_104 : decode b_Md_table 104 = .ok (.goto (-55), 3) := by decide +kernel
theorem d_Md_table_107 : decode b_Md_table 107 = .ok (.iload_n 3, 1) := by decide +kernel
theorem d_Md_table_108 : decode b_Md_table 108 = .ok (.tableswitch 65 0 4 #[36, 39, 46, 54, 62], 36) := by decide +kernel
theorem d_Md_table_144 : decode b_Md_table 144 = .ok (.iload 5, 2) := by decide +kernel
theorem d_Md_table_146 : decode b_Md_table 146 = .ok (.ireturn, 1) := by decide +kernel
theorem d_Md_table_147 : decode b_Md_table 147 = .ok (.aload_n 0, 1) := by decide +kernel
theorem d_Md_table_148 : decode b_Md_table 148 = .ok (.iload_n 1, 1) := by decide +kernel
theorem d_Md_table_149 : decode b_Md_table 149 = .ok (.iload_n 2, 1) := by decide +kernel
theorem d_Md_table_150 : decode b_Md_table 150 = .ok (.invokevirtual 175, 3) := by decide +kernel
theorem d_Md_table_153 : decode b_Md_table 153 = .ok (.ireturn, 1) := by decide +kernel
theorem d_Md_table_154 : decode b_Md_table 154 = .ok (.aload_n 0, 1) := by decide +kernel
theorem d_Md_table_155 : decode b_Md_table 155 = .ok (.iload_n 1, 1) := by decide +kernel
theorem d_Md_table_156 : decode b_Md_table 156 = .ok (.iload_n 2, 1) := by decide +kernel
theorem d_Md_table_157 : decode b_Md_table 157 = .ok (.iconst 0, 1) := by decide +kernel
theorem d_Md_table_158 : decode b_Md_table 158 = .ok (.invokevirtual 179, 3) := by decide +kernel
theorem d_Md_table_161 : decode b_Md_table 161 = .ok (.ireturn, 1) := by decide +kernel
theorem d_Md_table_162 : decode b_Md_table 162 = .ok (.aload_n 0, 1) := by decide +kernel
theorem d_Md_table_163 : decode b_Md_table 163 = .ok (.iload_n 1, 1) := by decide +kernel
theorem d_Md_table_164 : decode b_Md_table 164 = .ok (.iload_n 2, 1) := by decide +kernel
theorem d_Md_table_165 : decode b_Md_table 165 = .ok (.iconst 1, 1) := by decide +kernel
theorem d_Md_table_166 : decode b_Md_table 166 = .ok (.invokevirtual 179, 3) := by decide +kernel
theorem d_Md_table_169 : decode b_Md_table 169 = .ok (.ireturn, 1) := by decide +kernel
theorem d_Md_table_170 : decode b_Md_table 170 = .ok (.iload 6, 2) := by decide +kernel
theorem d_Md_table_172 : decode b_Md_table 172 = .ok (.ireturn, 1) := by decide +kernel
theorem d_Md_table_173 : decode b_Md_table 173 = .ok (.bipush (-2), 2) := by decide +kernel
theorem d_Md_table_175 : decode b_Md_table 175 = .ok (.ireturn, 1) := by decide +kernel
theorem d_Md_segment_0 : decode b_Md_segment 0 = .ok (.aload_n 0, 1) := by decide +kernel
theorem d_Md_segment_1 : decode b_Md_segment 1 = .ok (.getfield 128, 3) := by decide +kernel
theorem d_Md_segment_4 : decode b_Md_segment 4 = .ok (.aload_n 0, 1) := by decide +kernel
theorem d_Md_segment_5 : decode b_Md_segment 5 = .ok (.getfield 144, 3) := by decide +kernel
theorem d_Md_segment_8 : decode b_Md_segment 8 = .ok (.isub, 1) := by decide +kernel
theorem d_Md_segment_9 : decode b_Md_segment 9 = .ok (.iconst 1, 1) := by decide +kernel
theorem d_Md_segment_10 : decode b_Md_segment 10 = .ok (.iadd, 1) := by decide +kernel
theorem d_Md_segment_11 : decode b_Md_segment 11 = .ok (.istore_n 3, 1) := by decide +kernel
theorem d_Md_segment_12 : decode b_Md_segment 12 = .ok (.iload_n 1, 1) := by decide +kernel
theorem d_Md_segment_13 : decode b_Md_segment 13 = .ok (.iconst (-1), 1) := by decide +kernel
theorem d_Md_segment_14 : decode b_Md_segment 14 = .ok (.if_icmp .ne 5, 3) := by decide +kernel
theorem d_Md_segment_17 : decode b_Md_segment 17 = .ok (.iload_n 3, 1) := by decide +kernel
theorem d_Md_segment_18 : decode b_Md_segment 18 = .ok (.ireturn, 1) := by decide +kernel
theorem d_Md_segment_19 : decode b_Md_segment 19 = .ok (.iload_n 1, 1) := by decide +kernel
theorem d_Md_segment_20 : decode b_Md_segment 20 = .ok (.ifCond .lt 8, 3) := by decide +kernel
theorem d_Md_segment_23 : decode b_Md_segment 23 = .ok (.iload_n 1, 1) := by decide +kernel
theorem d_Md_segment_24 : decode b_Md_segment 24 = .ok (.iload_n 3, 1) := by decide +kernel
theorem d_Md_segment_25 : decode b_Md_segment 25 = .ok (.if_icmp .lt 6, 3) := by decide +kernel
theorem d_Md_segment_28 : decode b_Md_segment 28 = .ok (.bipush (-2), 2) := by decide +kernel
theorem d_Md_segment_30 : decode b_Md_segment 30 = .ok (.ireturn, 1) := by decide +kernel
theorem d_Md_segment_31 : decode b_Md_segment 31 = .ok (.iload_n 2, 1) := by decide +kernel
theorem d_Md_segment_32 : decode b_Md_segment 32 = .ok (.tableswitch 61 0 2 #[28, 35, 50], 28) := by decide +kernel
theorem d_Md_segment_60 : decode b_Md_segment 60 = .ok (.aload_n 0, 1) := by decide +kernel
theorem d_Md_segment_61 : decode b_Md_segment 61 = .ok (.getfield 144, 3) := by decide +kernel
theorem d_Md_segment_64 : decode b_Md_segment 64 = .ok (.iload_n 1, 1) := by decide +kernel
theorem d_Md_segment_65 : decode b_Md_segment 65 = .ok (.iadd, 1) := by decide +kernel
theorem d_Md_segment_66 : decode b_Md_segment 66 = .ok (.ireturn, 1) := by decide +kernel
theorem d_Md_segment_67 : decode b_Md_segment 67 = .ok (.aload_n 0, 1) := by decide +kernel
theorem d_Md_segment_68 : decode b_Md_segment 68 = .ok (.getfield 59, 3) := by decide +kernel
theorem d_Md_segment_71 : decode b_Md_segment 71 = .ok (.aload_n 0, 1) := by decide +kernel
theorem d_Md_segment_72 : decode b_Md_segment 72 = .ok (.getfield 144, 3) := by decide +kernel
theorem d_Md_segment_75 : decode b_Md_segment 75 = .ok (.iload_n 1, 1) := by decide +kernel
theorem d_Md_segment_76 : decode b_Md_segment 76 = .ok (.iadd, 1) := by decide +kernel
theorem d_Md_segment_77 : decode b_Md_segment 77 = .ok (.bipush 8, 2) := by decide +kernel
theorem d_Md_segment_79 : decode b_Md_segment 79 = .ok (.irem, 1) := by decide +kernel
theorem d_Md_segment_80 : decode b_Md_segment 80 = .ok (.iaload, 1) := by decide +kernel
theorem d_Md_segment_81 : decode b_Md_segment 81 = .ok (.ireturn, 1) := by decide +kernel
theorem d_Md_segment_82 : decode b_Md_segment 82 = .ok (.aload_n 0, 1) := by decide +kernel
theorem d_Md_segment_83 : decode b_Md_segment 83 = .ok (.aload_n 0, 1) := by decide +kernel
theorem d_Md_segment_84 : decode b_Md_segment 84 = .ok (.getfield 144, 3) := by decide +kernel
theorem d_Md_segment_87 : decode b_Md_segment 87 = .ok (.iload_n 1, 1) := by decide +kernel
theorem d_Md_segment_88 : decode b_Md_segment 88 = .ok (.iadd, 1) := by decide +kernel
theorem d_Md_segment_89 : decode b_Md_segment 89 = .ok (.invokevirtual 156, 3) := by decide +kernel
theorem d_Md_segment_92 : decode b_Md_segment 92 = .ok (.ireturn, 1) := by decide +kernel
theorem d_Md_segment_93 : decode b_Md_segment 93 = .ok (.bipush (-2), 2) := by decide +kernel
theorem d_Md_segment_95 : decode b_Md_segment 95 = .ok (.ireturn, 1) := by decide +kernel
theorem d_Md_look_0 : decode b_Md_look 0 = .ok (.iload_n 1, 1) := by decide +kernel
theorem d_Md_look_1 : decode b_Md_look 1 = .ok (.tableswitch 101 0 4 #[35, 41, 46, 51, 56], 35) := by decide +kernel
theorem d_Md_look_36 : decode b_Md_look 36 = .ok (.aload_n 0, 1) := by decide +kernel
theorem d_Md_look_37 : decode b_Md_look 37 = .ok (.iconst (-1), 1) := by decide +kernel
theorem d_Md_look_38 : decode b_Md_look 38 = .ok (.invokevirtual 109, 3) := by decide +kernel
theorem d_Md_look_41 : decode b_Md_look 41 = .ok (.ireturn, 1) := by decide +kernel
theorem d_Md_look_42 : decode b_Md_look 42 = .ok (.aload_n 0, 1) := by decide +kernel
theorem d_Md_look_43 : decode b_Md_look 43 = .ok (.getfield 89, 3) := by decide +kernel
theorem d_Md_look_46 : decode b_Md_look 46 = .ok (.ireturn, 1) := by decide +kernel
theorem d_Md_look_47 : decode b_Md_look 47 = .ok (.aload_n 0, 1) := by decide +kernel
theorem d_Md_look_48 : decode b_Md_look 48 = .ok (.getfield 125, 3) := by decide +kernel
theorem d_Md_look_51 : decode b_Md_look 51 = .ok (.ireturn, 1) := by decide +kernel
theorem d_Md_look_52 : decode b_Md_look 52 = .ok (.aload_n 0, 1) := by decide +kernel
theorem d_Md_look_53 : decode b_Md_look 53 = .ok (.getfield 134, 3) := by decide +kernel
theorem d_Md_look_56 : decode b_Md_look 56 = .ok (.ireturn, 1) := by decide +kernel
theorem d_Md_look_57 : decode b_Md_look 57 = .ok (.aload_n 0, 1) := by decide +kernel
theorem d_Md_look_58 : decode b_Md_look 58 = .ok (.getfield 53, 3) := by decide +kernel
theorem d_Md_look_61 : decode b_Md_look 61 = .ok (.iconst 0, 1) := by decide +kernel
theorem d_Md_look_62 : decode b_Md_look 62 = .ok (.baload, 1) := by decide +kernel
theorem d_Md_look_63 : decode b_Md_look 63 = .ok (.ifCond .eq 7, 3) := by decide +kernel
theorem d_Md_look_66 : decode b_Md_look 66 = .ok (.iconst 1, 1) := by decide +kernel
theorem d_Md_look_67 : decode b_Md_look 67 = .ok (.goto 4, 3) := by decide +kernel
theorem d_Md_look_70 : decode b_Md_look 70 = .ok (.iconst 0, 1) := by decide +kernel
theorem d_Md_look_71 : decode b_Md_look 71 = .ok (.aload_n 0, 1) := by decide +kernel
theorem d_Md_look_72 : decode b_Md_look 72 = .ok (.getfield 53, 3) := by decide +kernel
theorem d_Md_look_75 : decode b_Md_look 75 = .ok (.iconst 1, 1) := by decide +kernel
theorem d_Md_look_76 : decode b_Md_look 76 = .ok (.baload, 1) := by decide +kernel
theorem d_Md_look_77 : decode b_Md_look 77 = .ok (.ifCond .eq 7, 3) := by decide +kernel
theorem d_Md_look_80 : decode b_Md_look 80 = .ok (.iconst 1, 1) := by decide +kernel
theorem d_Md_look_81 : decode b_Md_look 81 = .ok (.goto 4, 3) := by decide +kernel
theorem d_Md_look_84 : decode b_Md_look 84 = .ok (.iconst 0, 1) := by decide +kernel
theorem d_Md_look_85 : decode b_Md_look 85 = .ok (.iadd, 1) := by decide +kernel
theorem d_Md_look_86 : decode b_Md_look 86 = .ok (.aload_n 0, 1) := by decide +kernel
theorem d_Md_look_87 : decode b_Md_look 87 = .ok (.getfield 53, 3) := by decide +kernel
theorem d_Md_look_90 : decode b_Md_look 90 = .ok (.iconst 2, 1) := by decide +kernel
theorem d_Md_look_91 : decode b_Md_look 91 = .ok (.baload, 1) := by decide +kernel
theorem d_Md_look_92 : decode b_Md_look 92 = .ok (.ifCond .eq 7, 3) := by decide +kernel
theorem d_Md_look_95 : decode b_Md_look 95 = .ok (.iconst 1, 1) := by decide +kernel
theorem d_Md_look_96 : decode b_Md_look 96 = .ok (.goto 4, 3) := by decide +kernel
theorem d_Md_look_99 : decode b_Md_look 99 = .ok (.iconst 0, 1) := by decide +kernel
theorem d_Md_look_100 : decode b_Md_look 100 = .ok (.iadd, 1) := by decide +kernel
theorem d_Md_look_101 : decode b_Md_look 101 = .ok (.ireturn, 1) := by decide +kernel
theorem d_Md_look_102 : decode b_Md_look 102 = .ok (.bipush (-2), 2) := by decide +kernel
theorem d_Md_look_104 : decode b_Md_look 104 = .ok (.ireturn, 1) := by decide +kernel
