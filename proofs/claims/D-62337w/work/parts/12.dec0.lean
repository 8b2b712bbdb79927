-- decoded instructions (printed by main.py)
theorem d_E_init_0 : decode b_E_init 0 = .ok (.aload_n 0, 1) := by decide +kernel
theorem d_E_init_1 : decode b_E_init 1 = .ok (.invokespecial 3, 3) := by decide +kernel
theorem d_E_init_4 : decode b_E_init 4 = .ok (.aload_n 0, 1) := by decide +kernel
theorem d_E_init_5 : decode b_E_init 5 = .ok (.iconst 3, 1) := by decide +kernel
theorem d_E_init_6 : decode b_E_init 6 = .ok (.anewarray 9, 3) := by decide +kernel
theorem d_E_init_9 : decode b_E_init 9 = .ok (.putfield 11, 3) := by decide +kernel
theorem d_E_init_12 : decode b_E_init 12 = .ok (.return_, 1) := by decide +kernel
theorem d_E_before_0 : decode b_E_before 0 = .ok (.aload_n 0, 1) := by decide +kernel
theorem d_E_before_1 : decode b_E_before 1 = .ok (.getfield 15, 3) := by decide +kernel
theorem d_E_before_4 : decode b_E_before 4 = .ok (.iload_n 1, 1) := by decide +kernel
theorem d_E_before_5 : decode b_E_before 5 = .ok (.if_icmp .lt 19, 3) := by decide +kernel
theorem d_E_before_8 : decode b_E_before 8 = .ok (.aload_n 0, 1) := by decide +kernel
theorem d_E_before_9 : decode b_E_before 9 = .ok (.getfield 15, 3) := by decide +kernel
theorem d_E_before_12 : decode b_E_before 12 = .ok (.iload_n 1, 1) := by decide +kernel
theorem d_E_before_13 : decode b_E_before 13 = .ok (.if_icmp .ne 15, 3) := by decide +kernel
theorem d_E_before_16 : decode b_E_before 16 = .ok (.aload_n 0, 1) := by decide +kernel
theorem d_E_before_17 : decode b_E_before 17 = .ok (.getfield 19, 3) := by decide +kernel
theorem d_E_before_20 : decode b_E_before 20 = .ok (.iload_n 2, 1) := by decide +kernel
theorem d_E_before_21 : decode b_E_before 21 = .ok (.if_icmp .le 7, 3) := by decide +kernel
theorem d_E_before_24 : decode b_E_before 24 = .ok (.iconst 1, 1) := by decide +kernel
theorem d_E_before_25 : decode b_E_before 25 = .ok (.goto 4, 3) := by decide +kernel
theorem d_E_before_28 : decode b_E_before 28 = .ok (.iconst 0, 1) := by decide +kernel
theorem d_E_before_29 : decode b_E_before 29 = .ok (.ireturn, 1) := by decide +kernel
theorem d_E_gone_0 : decode b_E_gone 0 = .ok (.aload_n 0, 1) := by decide +kernel
theorem d_E_gone_1 : decode b_E_gone 1 = .ok (.getfield 22, 3) := by decide +kernel
theorem d_E_gone_4 : decode b_E_gone 4 = .ok (.ifCond .ne 18, 3) := by decide +kernel
theorem d_E_gone_7 : decode b_E_gone 7 = .ok (.aload_n 0, 1) := by decide +kernel
theorem d_E_gone_8 : decode b_E_gone 8 = .ok (.getfield 26, 3) := by decide +kernel
theorem d_E_gone_11 : decode b_E_gone 11 = .ok (.ifCond .lt 15, 3) := by decide +kernel
theorem d_E_gone_14 : decode b_E_gone 14 = .ok (.iload_n 1, 1) := by decide +kernel
theorem d_E_gone_15 : decode b_E_gone 15 = .ok (.aload_n 0, 1) := by decide +kernel
theorem d_E_gone_16 : decode b_E_gone 16 = .ok (.getfield 26, 3) := by decide +kernel
theorem d_E_gone_19 : decode b_E_gone 19 = .ok (.if_icmp .lt 7, 3) := by decide +kernel
theorem d_E_gone_22 : decode b_E_gone 22 = .ok (.iconst 1, 1) := by decide +kernel
theorem d_E_gone_23 : decode b_E_gone 23 = .ok (.goto 4, 3) := by decide +kernel
theorem d_E_gone_26 : decode b_E_gone 26 = .ok (.iconst 0, 1) := by decide +kernel
theorem d_E_gone_27 : decode b_E_gone 27 = .ok (.ireturn, 1) := by decide +kernel
theorem d_E_value_0 : decode b_E_value 0 = .ok (.aload_n 0, 1) := by decide +kernel
theorem d_E_value_1 : decode b_E_value 1 = .ok (.getfield 29, 3) := by decide +kernel
theorem d_E_value_4 : decode b_E_value 4 = .ok (.getfield 33, 3) := by decide +kernel
theorem d_E_value_7 : decode b_E_value 7 = .ok (.aload_n 0, 1) := by decide +kernel
theorem d_E_value_8 : decode b_E_value 8 = .ok (.getfield 39, 3) := by decide +kernel
theorem d_E_value_11 : decode b_E_value 11 = .ok (.iaload, 1) := by decide +kernel
theorem d_E_value_12 : decode b_E_value 12 = .ok (.ireturn, 1) := by decide +kernel
theorem d_E_leave_0 : decode b_E_leave 0 = .ok (.aload_n 0, 1) := by decide +kernel
theorem d_E_leave_1 : decode b_E_leave 1 = .ok (.getfield 29, 3) := by decide +kernel
theorem d_E_leave_4 : decode b_E_leave 4 = .ok (.ifnull 23, 3) := by decide +kernel
theorem d_E_leave_7 : decode b_E_leave 7 = .ok (.aload_n 0, 1) := by decide +kernel
theorem d_E_leave_8 : decode b_E_leave 8 = .ok (.getfield 22, 3) := by decide +kernel
theorem d_E_leave_11 : decode b_E_leave 11 = .ok (.ifCond .ne 16, 3) := by decide +kernel
theorem d_E_leave_14 : decode b_E_leave 14 = .ok (.aload_n 0, 1) := by decide +kernel
theorem d_E_leave_15 : decode b_E_leave 15 = .ok (.getfield 29, 3) := by decide +kernel
theorem d_E_leave_18 : decode b_E_leave 18 = .ok (.dup, 1) := by decide +kernel
theorem d_E_leave_19 : decode b_E_leave 19 = .ok (.getfield 45, 3) := by decide +kernel
theorem d_E_leave_22 : decode b_E_leave 22 = .ok (.iconst 1, 1) := by decide +kernel
theorem d_E_leave_23 : decode b_E_leave 23 = .ok (.isub, 1) := by decide +kernel
theorem d_E_leave_24 : decode b_E_leave 24 = .ok (.putfield 45, 3) := by decide +kernel
theorem d_E_leave_27 : decode b_E_leave 27 = .ok (.aload_n 0, 1) := by decide +kernel
theorem d_E_leave_28 : decode b_E_leave 28 = .ok (.aconst_null, 1) := by decide +kernel
theorem d_E_leave_29 : decode b_E_leave 29 = .ok (.putfield 29, 3) := by decide +kernel
theorem d_E_leave_32 : decode b_E_leave 32 = .ok (.return_, 1) := by decide +kernel
theorem d_E_settle_0 : decode b_E_settle 0 = .ok (.aload_n 0, 1) := by decide +kernel
theorem d_E_settle_1 : decode b_E_settle 1 = .ok (.invokevirtual 42, 3) := by decide +kernel
theorem d_E_settle_4 : decode b_E_settle 4 = .ok (.aload_n 0, 1) := by decide +kernel
theorem d_E_settle_5 : decode b_E_settle 5 = .ok (.aload_n 1, 1) := by decide +kernel
theorem d_E_settle_6 : decode b_E_settle 6 = .ok (.putfield 29, 3) := by decide +kernel
theorem d_E_settle_9 : decode b_E_settle 9 = .ok (.aload_n 0, 1) := by decide +kernel
theorem d_E_settle_10 : decode b_E_settle 10 = .ok (.iload_n 2, 1) := by decide +kernel
theorem d_E_settle_11 : decode b_E_settle 11 = .ok (.putfield 39, 3) := by decide +kernel
theorem d_E_settle_14 : decode b_E_settle 14 = .ok (.aload_n 0, 1) := by decide +kernel
theorem d_E_settle_15 : decode b_E_settle 15 = .ok (.getfield 22, 3) := by decide +kernel
theorem d_E_settle_18 : decode b_E_settle 18 = .ok (.ifCond .ne 13, 3) := by decide +kernel
theorem d_E_settle_21 : decode b_E_settle 21 = .ok (.aload_n 1, 1) := by decide +kernel
theorem d_E_settle_22 : decode b_E_settle 22 = .ok (.dup, 1) := by decide +kernel
theorem d_E_settle_23 : decode b_E_settle 23 = .ok (.getfield 45, 3) := by decide +kernel
theorem d_E_settle_26 : decode b_E_settle 26 = .ok (.iconst 1, 1) := by decide +kernel
theorem d_E_settle_27 : decode b_E_settle 27 = .ok (.iadd, 1) := by decide +kernel
theorem d_E_settle_28 : decode b_E_settle 28 = .ok (.putfield 45, 3) := by decide +kernel
theorem d_E_settle_31 : decode b_E_settle 31 = .ok (.return_, 1) := by decide +kernel
theorem d_S_init_0 : decode b_S_init 0 = .ok (.aload_n 0, 1) := by decide +kernel
theorem d_S_init_1 : decode b_S_init 1 = .ok (.invokespecial 3, 3) := by decide +kernel
theorem d_S_init_4 : decode b_S_init 4 = .ok (.aload_n 0, 1) := by decide +kernel
theorem d_S_init_5 : decode b_S_init 5 = .ok (.bipush 16, 2) := by decide +kernel
theorem d_S_init_7 : decode b_S_init 7 = .ok (.newarray .int, 2) := by decide +kernel
theorem d_S_init_9 : decode b_S_init 9 = .ok (.putfield 9, 3) := by decide +kernel
theorem d_S_init_12 : decode b_S_init 12 = .ok (.aload_n 0, 1) := by decide +kernel
theorem d_S_init_13 : decode b_S_init 13 = .ok (.bipush 16, 2) := by decide +kernel
theorem d_S_init_15 : decode b_S_init 15 = .ok (.newarray .int, 2) := by decide +kernel
theorem d_S_init_17 : decode b_S_init 17 = .ok (.putfield 15, 3) := by decide +kernel
theorem d_S_init_20 : decode b_S_init 20 = .ok (.aload_n 0, 1) := by decide +kernel
theorem d_S_init_21 : decode b_S_init 21 = .ok (.bipush 16, 2) := by decide +kernel
theorem d_S_init_23 : decode b_S_init 23 = .ok (.newarray .int, 2) := by decide +kernel
theorem d_S_init_25 : decode b_S_init 25 = .ok (.putfield 18, 3) := by decide +kernel
theorem d_S_init_28 : decode b_S_init 28 = .ok (.return_, 1) := by decide +kernel
theorem d_S_begin_0 : decode b_S_begin 0 = .ok (.aload_n 0, 1) := by decide +kernel
theorem d_S_begin_1 : decode b_S_begin 1 = .ok (.iload_n 1, 1) := by decide +kernel
theorem d_S_begin_2 : decode b_S_begin 2 = .ok (.putfield 21, 3) := by decide +kernel
theorem d_S_begin_5 : decode b_S_begin 5 = .ok (.aload_n 0, 1) := by decide +kernel
theorem d_S_begin_6 : decode b_S_begin 6 = .ok (.iconst 0, 1) := by decide +kernel
theorem d_S_begin_7 : decode b_S_begin 7 = .ok (.putfield 25, 3) := by decide +kernel
theorem d_S_begin_10 : decode b_S_begin 10 = .ok (.aload_n 0, 1) := by decide +kernel
theorem d_S_begin_11 : decode b_S_begin 11 = .ok (.iconst 0, 1) := by decide +kernel
theorem d_S_begin_12 : decode b_S_begin 12 = .ok (.putfield 28, 3) := by decide +kernel
theorem d_S_begin_15 : decode b_S_begin 15 = .ok (.aload_n 0, 1) := by decide +kernel
theorem d_S_begin_16 : decode b_S_begin 16 = .ok (.aconst_null, 1) := by decide +kernel
theorem d_S_begin_17 : decode b_S_begin 17 = .ok (.putfield 31, 3) := by decide +kernel
theorem d_S_begin_20 : decode b_S_begin 20 = .ok (.return_, 1) := by decide +kernel
theorem d_S_write_0 : decode b_S_write 0 = .ok (.aload_n 0, 1) := by decide +kernel
theorem d_S_write_1 : decode b_S_write 1 = .ok (.getfield 9, 3) := by decide +kernel
theorem d_S_write_4 : decode b_S_write 4 = .ok (.aload_n 0, 1) := by decide +kernel
theorem d_S_write_5 : decode b_S_write 5 = .ok (.getfield 25, 3) := by decide +kernel
theorem d_S_write_8 : decode b_S_write 8 = .ok (.iload_n 1, 1) := by decide +kernel
theorem d_S_write_9 : decode b_S_write 9 = .ok (.iastore, 1) := by decide +kernel
theorem d_S_write_10 : decode b_S_write 10 = .ok (.aload_n 0, 1) := by decide +kernel
theorem d_S_write_11 : decode b_S_write 11 = .ok (.getfield 15, 3) := by decide +kernel
theorem d_S_write_14 : decode b_S_write 14 = .ok (.aload_n 0, 1) := by decide +kernel
theorem d_S_write_15 : decode b_S_write 15 = .ok (.getfield 25, 3) := by decide +kernel
theorem d_S_write_18 : decode b_S_write 18 = .ok (.iload_n 2, 1) := by decide +kernel
theorem d_S_write_19 : decode b_S_write 19 = .ok (.iastore, 1) := by decide +kernel
theorem d_S_write_20 : decode b_S_write 20 = .ok (.aload_n 0, 1) := by decide +kernel
theorem d_S_write_21 : decode b_S_write 21 = .ok (.getfield 18, 3) := by decide +kernel
theorem d_S_write_24 : decode b_S_write 24 = .ok (.aload_n 0, 1) := by decide +kernel
theorem d_S_write_25 : decode b_S_write 25 = .ok (.getfield 25, 3) := by decide +kernel
theorem d_S_write_28 : decode b_S_write 28 = .ok (.iload_n 3, 1) := by decide +kernel
theorem d_S_write_29 : decode b_S_write 29 = .ok (.iastore, 1) := by decide +kernel
theorem d_S_write_30 : decode b_S_write 30 = .ok (.aload_n 0, 1) := by decide +kernel
theorem d_S_write_31 : decode b_S_write 31 = .ok (.dup, 1) := by decide +kernel
theorem d_S_write_32 : decode b_S_write 32 = .ok (.getfield 25, 3) := by decide +kernel
theorem d_S_write_35 : decode b_S_write 35 = .ok (.iconst 1, 1) := by decide +kernel
theorem d_S_write_36 : decode b_S_write 36 = .ok (.iadd, 1) := by decide +kernel
theorem d_S_write_37 : decode b_S_write 37 = .ok (.putfield 25, 3) := by decide +kernel
theorem d_S_write_40 : decode b_S_write 40 = .ok (.aload_n 0, 1) := by decide +kernel
theorem d_S_write_41 : decode b_S_write 41 = .ok (.getfield 25, 3) := by decide +kernel
theorem d_S_write_44 : decode b_S_write 44 = .ok (.iconst 1, 1) := by decide +kernel
theorem d_S_write_45 : decode b_S_write 45 = .ok (.isub, 1) := by decide +kernel
theorem d_S_write_46 : decode b_S_write 46 = .ok (.ireturn, 1) := by decide +kernel
theorem d_Mt_init_0 : decode b_Mt_init 0 = .ok (.aload_n 0, 1) := by decide +kernel
theorem d_Mt_init_1 : decode b_Mt_init 1 = .ok (.invokespecial 3, 3) := by decide +kernel
theorem d_Mt_init_4 : decode b_Mt_init 4 = .ok (.aload_n 0, 1) := by decide +kernel
theorem d_Mt_init_5 : decode b_Mt_init 5 = .ok (.new 9, 3) := by decide +kernel
theorem d_Mt_init_8 : decode b_Mt_init 8 = .ok (.dup, 1) := by decide +kernel
theorem d_Mt_init_9 : decode b_Mt_init 9 = .ok (.invokespecial 11, 3) := by decide +kernel
theorem d_Mt_init_12 : decode b_Mt_init 12 = .ok (.putfield 12, 3) := by decide +kernel
theorem d_Mt_init_15 : decode b_Mt_init 15 = .ok (.return_, 1) := by decide +kernel
theorem d_Mt_last_0 : decode b_Mt_last 0 = .ok (.aload_n 0, 1) := by decide +kernel
theorem d_Mt_last_1 : decode b_Mt_last 1 = .ok (.getfield 12, 3) := by decide +kernel
theorem d_Mt_last_4 : decode b_Mt_last 4 = .ok (.astore_n 3, 1) := by decide +kernel
theorem d_Mt_last_5 : decode b_Mt_last 5 = .ok (.iconst 2, 1) := by decide +kernel
theorem d_Mt_last_6 : decode b_Mt_last 6 = .ok (.istore 4, 2) := by decide +kernel
theorem d_Mt_last_8 : decode b_Mt_last 8 = .ok (.iload 4, 2) := by decide +kernel
theorem d_Mt_last_10 : decode b_Mt_last 10 = .ok (.ifCond .lt 45, 3) := by decide +kernel
theorem d_Mt_last_13 : decode b_Mt_last 13 = .ok (.aload_n 3, 1) := by decide +kernel
theorem d_Mt_last_14 : decode b_Mt_last 14 = .ok (.getfield 18, 3) := by decide +kernel
theorem d_Mt_last_17 : decode b_Mt_last 17 = .ok (.iload 4, 2) := by decide +kernel
theorem d_Mt_last_19 : decode b_Mt_last 19 = .ok (.aaload, 1) := by decide +kernel
theorem d_Mt_last_20 : decode b_Mt_last 20 = .ok (.ifnull 29, 3) := by decide +kernel
theorem d_Mt_last_23 : decode b_Mt_last 23 = .ok (.aload_n 3, 1) := by decide +kernel
theorem d_Mt_last_24 : decode b_Mt_last 24 = .ok (.getfield 18, 3) := by decide +kernel
theorem d_Mt_last_27 : decode b_Mt_last 27 = .ok (.iload 4, 2) := by decide +kernel
theorem d_Mt_last_29 : decode b_Mt_last 29 = .ok (.aaload, 1) := by decide +kernel
theorem d_Mt_last_30 : decode b_Mt_last 30 = .ok (.iload_n 1, 1) := by decide +kernel
theorem d_Mt_last_31 : decode b_Mt_last 31 = .ok (.iload_n 2, 1) := by decide +kernel
theorem d_Mt_last_32 : decode b_Mt_last 32 = .ok (.invokevirtual 22, 3) := by decide +kernel
theorem d_Mt_last_35 : decode b_Mt_last 35 = .ok (.ifCond .eq 14, 3) := by decide +kernel
theorem d_Mt_last_38 : decode b_Mt_last 38 = .ok (.aload_n 3, 1) := by decide +kernel
theorem d_Mt_last_39 : decode b_Mt_last 39 = .ok (.getfield 18, 3) := by decide +kernel
theorem d_Mt_last_42 : decode b_Mt_last 42 = .ok (.iload 4, 2) := by decide +kernel
theorem d_Mt_last_44 : decode b_Mt_last 44 = .ok (.aaload, 1) := by decide +kernel
theorem d_Mt_last_45 : decode b_Mt_last 45 = .ok (.astore_n 3, 1) := by decide +kernel
theorem d_Mt_last_46 : decode b_Mt_last 46 = .ok (.goto (-33), 3) := by decide +kernel
theorem d_Mt_last_49 : decode b_Mt_last 49 = .ok (.iinc 4 (-1), 3) := by decide +kernel
theorem d_Mt_last_52 : decode b_Mt_last 52 = .ok (.goto (-44), 3) := by decide +kernel
theorem d_Mt_last_55 : decode b_Mt_last 55 = .ok (.aload_n 3, 1) := by decide +kernel
theorem d_Mt_last_56 : decode b_Mt_last 56 = .ok (.areturn, 1) := by decide +kernel
theorem d_Mt_insert_0 : decode b_Mt_insert 0 = .ok (.aload_n 0, 1) := by decide +kernel
theorem d_Mt_insert_1 : decode b_Mt_insert 1 = .ok (.getfield 12, 3) := by decide +kernel
theorem d_Mt_insert_4 : decode b_Mt_insert 4 = .ok (.astore_n 2, 1) := by decide +kernel
theorem d_Mt_insert_5 : decode b_Mt_insert 5 = .ok (.iconst 2, 1) := by decide +kernel
theorem d_Mt_insert_6 : decode b_Mt_insert 6 = .ok (.istore_n 3, 1) := by decide +kernel
theorem d_Mt_insert_7 : decode b_Mt_insert 7 = .ok (.iload_n 3, 1) := by decide +kernel
theorem d_Mt_insert_8 : decode b_Mt_insert 8 = .ok (.ifCond .lt 99, 3) := by decide +kernel
theorem d_Mt_insert_11 : decode b_Mt_insert 11 = .ok (.aload_n 2, 1) := by decide +kernel
theorem d_Mt_insert_12 : decode b_Mt_insert 12 = .ok (.getfield 18, 3) := by decide +kernel
theorem d_Mt_insert_15 : decode b_Mt_insert 15 = .ok (.iload_n 3, 1) := by decide +kernel
theorem d_Mt_insert_16 : decode b_Mt_insert 16 = .ok (.aaload, 1) := by decide +kernel
theorem d_Mt_insert_17 : decode b_Mt_insert 17 = .ok (.ifnull 33, 3) := by decide +kernel
theorem d_Mt_insert_20 : decode b_Mt_insert 20 = .ok (.aload_n 2, 1) := by decide +kernel
theorem d_Mt_insert_21 : decode b_Mt_insert 21 = .ok (.getfield 18, 3) := by decide +kernel
theorem d_Mt_insert_24 : decode b_Mt_insert 24 = .ok (.iload_n 3, 1) := by decide +kernel
theorem d_Mt_insert_25 : decode b_Mt_insert 25 = .ok (.aaload, 1) := by decide +kernel
theorem d_Mt_insert_26 : decode b_Mt_insert 26 = .ok (.aload_n 1, 1) := by decide +kernel
theorem d_Mt_insert_27 : decode b_Mt_insert 27 = .ok (.getfield 26, 3) := by decide +kernel
theorem d_Mt_insert_30 : decode b_Mt_insert 30 = .ok (.aload_n 1, 1) := by decide +kernel
theorem d_Mt_insert_31 : decode b_Mt_insert 31 = .ok (.getfield 30, 3) := by decide +kernel
theorem d_Mt_insert_34 : decode b_Mt_insert 34 = .ok (.invokevirtual 22, 3) := by decide +kernel
theorem d_Mt_insert_37 : decode b_Mt_insert 37 = .ok (.ifCond .eq 13, 3) := by decide +kernel
theorem d_Mt_insert_40 : decode b_Mt_insert 40 = .ok (.aload_n 2, 1) := by decide +kernel
theorem d_Mt_insert_41 : decode b_Mt_insert 41 = .ok (.getfield 18, 3) := by decide +kernel
theorem d_Mt_insert_44 : decode b_Mt_insert 44 = .ok (.iload_n 3, 1) := by decide +kernel
theorem d_Mt_insert_45 : decode b_Mt_insert 45 = .ok (.aaload, 1) := by decide +kernel
theorem d_Mt_insert_46 : decode b_Mt_insert 46 = .ok (.astore_n 2, 1) := by decide +kernel
theorem d_Mt_insert_47 : decode b_Mt_insert 47 = .ok (.goto (-36), 3) := by decide +kernel
theorem d_Mt_insert_50 : decode b_Mt_insert 50 = .ok (.aload_n 1, 1) := by decide +kernel
theorem d_Mt_insert_51 : decode b_Mt_insert 51 = .ok (.getfield 30, 3) := by decide +kernel
theorem d_Mt_insert_54 : decode b_Mt_insert 54 = .ok (.iconst 1, 1) := by decide +kernel
theorem d_Mt_insert_55 : decode b_Mt_insert 55 = .ok (.iload_n 3, 1) := by decide +kernel
theorem d_Mt_insert_56 : decode b_Mt_insert 56 = .ok (.ishl, 1) := by decide +kernel
theorem d_Mt_insert_57 : decode b_Mt_insert 57 = .ok (.irem, 1) := by decide +kernel
theorem d_Mt_insert_58 : decode b_Mt_insert 58 = .ok (.ifCond .ne 7, 3) := by decide +kernel
theorem d_Mt_insert_61 : decode b_Mt_insert 61 = .ok (.iconst 1, 1) := by decide +kernel
theorem d_Mt_insert_62 : decode b_Mt_insert 62 = .ok (.goto 4, 3) := by decide +kernel
theorem d_Mt_insert_65 : decode b_Mt_insert 65 = .ok (.iconst 0, 1) := by decide +kernel
theorem d_Mt_insert_66 : decode b_Mt_insert 66 = .ok (.istore 4, 2) := by decide +kernel
theorem d_Mt_insert_68 : decode b_Mt_insert 68 = .ok (.aload_n 1, 1) := by decide +kernel
theorem d_Mt_insert_69 : decode b_Mt_insert 69 = .ok (.getfield 18, 3) := by decide +kernel
theorem d_Mt_insert_72 : decode b_Mt_insert 72 = .ok (.iload_n 3, 1) := by decide +kernel
theorem d_Mt_insert_73 : decode b_Mt_insert 73 = .ok (.iload 4, 2) := by decide +kernel
theorem d_Mt_insert_75 : decode b_Mt_insert 75 = .ok (.ifCond .eq 12, 3) := by decide +kernel
theorem d_Mt_insert_78 : decode b_Mt_insert 78 = .ok (.aload_n 2, 1) := by decide +kernel
theorem d_Mt_insert_79 : decode b_Mt_insert 79 = .ok (.getfield 18, 3) := by decide +kernel
theorem d_Mt_insert_82 : decode b_Mt_insert 82 = .ok (.iload_n 3, 1) := by decide +kernel
theorem d_Mt_insert_83 : decode b_Mt_insert 83 = .ok (.aaload, 1) := by decide +kernel
theorem d_Mt_insert_84 : decode b_Mt_insert 84 = .ok (.goto 4, 3) := by decide +kernel
theorem d_Mt_insert_87 : decode b_Mt_insert 87 = .ok (.aconst_null, 1) := by decide +kernel
theorem d_Mt_insert_88 : decode b_Mt_insert 88 = .ok (.aastore, 1) := by decide +kernel
theorem d_Mt_insert_89 : decode b_Mt_insert 89 = .ok (.iload 4, 2) := by decide +kernel
theorem d_Mt_insert_91 : decode b_Mt_insert 91 = .ok (.ifCond .eq 10, 3) := by decide +kernel
theorem d_Mt_insert_94 : decode b_Mt_insert 94 = .ok (.aload_n 2, 1) := by decide +kernel
theorem d_Mt_insert_95 : decode b_Mt_insert 95 = .ok (.getfield 18, 3) := by decide +kernel
theorem d_Mt_insert_98 : decode b_Mt_insert 98 = .ok (.iload_n 3, 1) := by decide +kernel
theorem d_Mt_insert_99 : decode b_Mt_insert 99 = .ok (.aload_n 1, 1) := by decide +kernel
theorem d_Mt_insert_100 : decode b_Mt_insert 100 = .ok (.aastore, 1) := by decide +kernel
theorem d_Mt_insert_101 : decode b_Mt_insert 101 = .ok (.iinc 3 (-1), 3) := by decide +kernel
theorem d_Mt_insert_104 : decode b_Mt_insert 104 = .ok (.goto (-97), 3) := by decide +kernel
theorem d_Mt_insert_107 : decode b_Mt_insert 107 = .ok (.aload_n 0, 1) := by decide +kernel
theorem d_Mt_insert_108 : decode b_Mt_insert 108 = .ok (.dup, 1) := by decide +kernel
theorem d_Mt_insert_109 : decode b_Mt_insert 109 = .ok (.getfield 33, 3) := by decide +kernel
theorem d_Mt_insert_112 : decode b_Mt_insert 112 = .ok (.iconst 1, 1) := by decide +kernel
theorem d_Mt_insert_113 : decode b_Mt_insert 113 = .ok (.iadd, 1) := by decide +kernel
theorem d_Mt_insert_114 : decode b_Mt_insert 114 = .ok (.putfield 33, 3) := by decide +kernel
theorem d_Mt_insert_117 : decode b_Mt_insert 117 = .ok (.return_, 1) := by decide +kernel
theorem d_Mt_find_0 : decode b_Mt_find 0 = .ok (.aload_n 0, 1) := by decide +kernel
theorem d_Mt_find_1 : decode b_Mt_find 1 = .ok (.iload_n 1, 1) := by decide +kernel
theorem d_Mt_find_2 : decode b_Mt_find 2 = .ok (.iload_n 2, 1) := by decide +kernel
theorem d_Mt_find_3 : decode b_Mt_find 3 = .ok (.invokevirtual 36, 3) := by decide +kernel
theorem d_Mt_find_6 : decode b_Mt_find 6 = .ok (.getfield 18, 3) := by decide +kernel
theorem d_Mt_find_9 : decode b_Mt_find 9 = .ok (.iconst 0, 1) := by decide +kernel
theorem d_Mt_find_10 : decode b_Mt_find 10 = .ok (.aaload, 1) := by decide +kernel
theorem d_Mt_find_11 : decode b_Mt_find 11 = .ok (.astore_n 3, 1) := by decide +kernel
theorem d_Mt_find_12 : decode b_Mt_find 12 = .ok (.aload_n 3, 1) := by decide +kernel
theorem d_Mt_find_13 : decode b_Mt_find 13 = .ok (.ifnull 15, 3) := by decide +kernel
theorem d_Mt_find_16 : decode b_Mt_find 16 = .ok (.aload_n 3, 1) := by decide +kernel
theorem d_Mt_find_17 : decode b_Mt_find 17 = .ok (.getfield 26, 3) := by decide +kernel
theorem d_Mt_find_20 : decode b_Mt_find 20 = .ok (.iload_n 1, 1) := by decide +kernel
theorem d_Mt_find_21 : decode b_Mt_find 21 = .ok (.if_icmp .ne 7, 3) := by decide +kernel
theorem d_Mt_find_24 : decode b_Mt_find 24 = .ok (.aload_n 3, 1) := by decide +kernel
theorem d_Mt_find_25 : decode b_Mt_find 25 = .ok (.goto 4, 3) := by decide +kernel
theorem d_Mt_find_28 : decode b_Mt_find 28 = .ok (.aconst_null, 1) := by decide +kernel
theorem d_Mt_find_29 : decode b_Mt_find 29 = .ok (.areturn, 1) := by decide +kernel
theorem d_Mt_clear_0 : decode b_Mt_clear 0 = .ok (.iconst 0, 1) := by decide +kernel
theorem d_Mt_clear_1 : decode b_Mt_clear 1 = .ok (.istore_n 1, 1) := by decide +kernel
theorem d_Mt_clear_2 : decode b_Mt_clear 2 = .ok (.iload_n 1, 1) := by decide +kernel
theorem d_Mt_clear_3 : decode b_Mt_clear 3 = .ok (.iconst 3, 1) := by decide +kernel
theorem d_Mt_clear_4 : decode b_Mt_clear 4 = .ok (.if_icmp .ge 19, 3) := by decide +kernel
theorem d_Mt_clear_7 : decode b_Mt_clear 7 = .ok (.aload_n 0, 1) := by decide +kernel
theorem d_Mt_clear_8 : decode b_Mt_clear 8 = .ok (.getfield 12, 3) := by decide +kernel
theorem d_Mt_clear_11 : decode b_Mt_clear 11 = .ok (.getfield 18, 3) := by decide +kernel
theorem d_Mt_clear_14 : decode b_Mt_clear 14 = .ok (.iload_n 1, 1) := by decide +kernel
theorem d_Mt_clear_15 : decode b_Mt_clear 15 = .ok (.aconst_null, 1) := by decide +kernel
theorem d_Mt_clear_16 : decode b_Mt_clear 16 = .ok (.aastore, 1) := by decide +kernel
theorem d_Mt_clear_17 : decode b_Mt_clear 17 = .ok (.iinc 1 1, 3) := by decide +kernel
theorem d_Mt_clear_20 : decode b_Mt_clear 20 = .ok (.goto (-18), 3) := by decide +kernel
theorem d_Mt_clear_23 : decode b_Mt_clear 23 = .ok (.aload_n 0, 1) := by decide +kernel
theorem d_Mt_clear_24 : decode b_Mt_clear 24 = .ok (.iconst 0, 1) := by decide +kernel
theorem d_Mt_clear_25 : decode b_Mt_clear 25 = .ok (.putfield 33, 3) := by decide +kernel
theorem d_Mt_clear_28 : decode b_Mt_clear 28 = .ok (.return_, 1) := by decide +kernel
theorem d_Mt_begin_0 : decode b_Mt_begin 0 = .ok (.aload_n 0, 1) := by decide +kernel
theorem d_Mt_begin_1 : decode b_Mt_begin 1 = .ok (.aload_n 0, 1) := by decide +kernel
theorem d_Mt_begin_2 : decode b_Mt_begin 2 = .ok (.iload_n 1, 1) := by decide +kernel
theorem d_Mt_begin_3 : decode b_Mt_begin 3 = .ok (.ldc 42, 2) := by decide +kernel
theorem d_Mt_begin_5 : decode b_Mt_begin 5 = .ok (.invokevirtual 36, 3) := by decide +kernel
theorem d_Mt_begin_8 : decode b_Mt_begin 8 = .ok (.getfield 18, 3) := by decide +kernel
theorem d_Mt_begin_11 : decode b_Mt_begin 11 = .ok (.iconst 0, 1) := by decide +kernel
theorem d_Mt_begin_12 : decode b_Mt_begin 12 = .ok (.aaload, 1) := by decide +kernel
theorem d_Mt_begin_13 : decode b_Mt_begin 13 = .ok (.putfield 43, 3) := by decide +kernel
theorem d_Mt_begin_16 : decode b_Mt_begin 16 = .ok (.return_, 1) := by decide +kernel
theorem d_Mt_look_0 : decode b_Mt_look 0 = .ok (.aload_n 0, 1) := by decide +kernel
theorem d_Mt_look_1 : decode b_Mt_look 1 = .ok (.getfield 43, 3) := by decide +kernel
theorem d_Mt_look_4 : decode b_Mt_look 4 = .ok (.areturn, 1) := by decide +kernel
theorem d_Mt_step_0 : decode b_Mt_step 0 = .ok (.aload_n 0, 1) := by decide +kernel
theorem d_Mt_step_1 : decode b_Mt_step 1 = .ok (.aload_n 0, 1) := by decide +kernel
theorem d_Mt_step_2 : decode b_Mt_step 2 = .ok (.getfield 43, 3) := by decide +kernel
theorem d_Mt_step_5 : decode b_Mt_step 5 = .ok (.getfield 18, 3) := by decide +kernel
theorem d_Mt_step_8 : decode b_Mt_step 8 = .ok (.iconst 0, 1) := by decide +kernel
theorem d_Mt_step_9 : decode b_Mt_step 9 = .ok (.aaload, 1) := by decide +kernel
theorem d_Mt_step_10 : decode b_Mt_step 10 = .ok (.putfield 43, 3) := by decide +kernel
theorem d_Mt_step_13 : decode b_Mt_step 13 = .ok (.return_, 1) := by decide +kernel
theorem d_Tb_init_0 : decode b_Tb_init 0 = .ok (.aload_n 0, 1) := by decide +kernel
theorem d_Tb_init_1 : decode b_Tb_init 1 = .ok (.invokespecial 3, 3) := by decide +kernel
theorem d_Tb_init_4 : decode b_Tb_init 4 = .ok (.aload_n 0, 1) := by decide +kernel
theorem d_Tb_init_5 : decode b_Tb_init 5 = .ok (.bipush 8, 2) := by decide +kernel
theorem d_Tb_init_7 : decode b_Tb_init 7 = .ok (.anewarray 9, 3) := by decide +kernel
theorem d_Tb_init_10 : decode b_Tb_init 10 = .ok (.putfield 11, 3) := by decide +kernel
theorem d_Tb_init_13 : decode b_Tb_init 13 = .ok (.return_, 1) := by decide +kernel
theorem d_Tb_bits_0 : decode b_Tb_bits 0 = .ok (.iconst 1, 1) := by decide +kernel
theorem d_Tb_bits_1 : decode b_Tb_bits 1 = .ok (.iconst 5, 1) := by decide +kernel
theorem d_Tb_bits_2 : decode b_Tb_bits 2 = .ok (.iload_n 0, 1) := by decide +kernel
theorem d_Tb_bits_3 : decode b_Tb_bits 3 = .ok (.imul, 1) := by decide +kernel
theorem d_Tb_bits_4 : decode b_Tb_bits 4 = .ok (.iconst 1, 1) := by decide +kernel
theorem d_Tb_bits_5 : decode b_Tb_bits 5 = .ok (.iadd, 1) := by decide +kernel
theorem d_Tb_bits_6 : decode b_Tb_bits 6 = .ok (.bipush 32, 2) := by decide +kernel
theorem d_Tb_bits_8 : decode b_Tb_bits 8 = .ok (.irem, 1) := by decide +kernel
theorem d_Tb_bits_9 : decode b_Tb_bits 9 = .ok (.ishl, 1) := by decide +kernel
theorem d_Tb_bits_10 : decode b_Tb_bits 10 = .ok (.iconst 1, 1) := by decide +kernel
theorem d_Tb_bits_11 : decode b_Tb_bits 11 = .ok (.bipush 11, 2) := by decide +kernel
theorem d_Tb_bits_13 : decode b_Tb_bits 13 = .ok (.iload_n 0, 1) := by decide +kernel
theorem d_Tb_bits_14 : decode b_Tb_bits 14 = .ok (.imul, 1) := by decide +kernel
theorem d_Tb_bits_15 : decode b_Tb_bits 15 = .ok (.bipush 7, 2) := by decide +kernel
theorem d_Tb_bits_17 : decode b_Tb_bits 17 = .ok (.iadd, 1) := by decide +kernel
theorem d_Tb_bits_18 : decode b_Tb_bits 18 = .ok (.bipush 32, 2) := by decide +kernel
theorem d_Tb_bits_20 : decode b_Tb_bits 20 = .ok (.irem, 1) := by decide +kernel
theorem d_Tb_bits_21 : decode b_Tb_bits 21 = .ok (.ishl, 1) := by decide +kernel
theorem d_Tb_bits_22 : decode b_Tb_bits 22 = .ok (.ior, 1) := by decide +kernel
theorem d_Tb_bits_23 : decode b_Tb_bits 23 = .ok (.ireturn, 1) := by decide +kernel
theorem d_Tb_add_0 : decode b_Tb_add 0 = .ok (.aload_n 0, 1) := by decide +kernel
theorem d_Tb_add_1 : decode b_Tb_add 1 = .ok (.getfield 11, 3) := by decide +kernel
theorem d_Tb_add_4 : decode b_Tb_add 4 = .ok (.aload_n 0, 1) := by decide +kernel
theorem d_Tb_add_5 : decode b_Tb_add 5 = .ok (.getfield 17, 3) := by decide +kernel
theorem d_Tb_add_8 : decode b_Tb_add 8 = .ok (.aload_n 1, 1) := by decide +kernel
theorem d_Tb_add_9 : decode b_Tb_add 9 = .ok (.aastore, 1) := by decide +kernel
theorem d_Tb_add_10 : decode b_Tb_add 10 = .ok (.aload_n 0, 1) := by decide +kernel
theorem d_Tb_add_11 : decode b_Tb_add 11 = .ok (.dup, 1) := by decide +kernel
theorem d_Tb_add_12 : decode b_Tb_add 12 = .ok (.getfield 17, 3) := by decide +kernel
theorem d_Tb_add_15 : decode b_Tb_add 15 = .ok (.iconst 1, 1) := by decide +kernel
theorem d_Tb_add_16 : decode b_Tb_add 16 = .ok (.iadd, 1) := by decide +kernel
theorem d_Tb_add_17 : decode b_Tb_add 17 = .ok (.putfield 17, 3) := by decide +kernel
theorem d_Tb_add_20 : decode b_Tb_add 20 = .ok (.aload_n 0, 1) := by decide +kernel
theorem d_Tb_add_21 : decode b_Tb_add 21 = .ok (.dup, 1) := by decide +kernel
theorem d_Tb_add_22 : decode b_Tb_add 22 = .ok (.getfield 21, 3) := by decide +kernel
theorem d_Tb_add_25 : decode b_Tb_add 25 = .ok (.aload_n 1, 1) := by decide +kernel
theorem d_Tb_add_26 : decode b_Tb_add 26 = .ok (.getfield 24, 3) := by decide +kernel
theorem d_Tb_add_29 : decode b_Tb_add 29 = .ok (.invokestatic 27, 3) := by decide +kernel
theorem d_Tb_add_32 : decode b_Tb_add 32 = .ok (.ior, 1) := by decide +kernel
theorem d_Tb_add_33 : decode b_Tb_add 33 = .ok (.putfield 21, 3) := by decide +kernel
theorem d_Tb_add_36 : decode b_Tb_add 36 = .ok (.return_, 1) := by decide +kernel
theorem d_Tb_may_0 : decode b_Tb_may 0 = .ok (.aload_n 0, 1) := by decide +kernel
theorem d_Tb_may_1 : decode b_Tb_may 1 = .ok (.getfield 11, 3) := by decide +kernel
theorem d_Tb_may_4 : decode b_Tb_may 4 = .ok (.iconst 0, 1) := by decide +kernel
theorem d_Tb_may_5 : decode b_Tb_may 5 = .ok (.aaload, 1) := by decide +kernel
theorem d_Tb_may_6 : decode b_Tb_may 6 = .ok (.getfield 24, 3) := by decide +kernel
theorem d_Tb_may_9 : decode b_Tb_may 9 = .ok (.iload_n 1, 1) := by decide +kernel
theorem d_Tb_may_10 : decode b_Tb_may 10 = .ok (.if_icmp .gt 41, 3) := by decide +kernel
theorem d_Tb_may_13 : decode b_Tb_may 13 = .ok (.iload_n 1, 1) := by decide +kernel
theorem d_Tb_may_14 : decode b_Tb_may 14 = .ok (.aload_n 0, 1) := by decide +kernel
theorem d_Tb_may_15 : decode b_Tb_may 15 = .ok (.getfield 11, 3) := by decide +kernel
theorem d_Tb_may_18 : decode b_Tb_may 18 = .ok (.aload_n 0, 1) := by decide +kernel
theorem d_Tb_may_19 : decode b_Tb_may 19 = .ok (.getfield 17, 3) := by decide +kernel
theorem d_Tb_may_22 : decode b_Tb_may 22 = .ok (.iconst 1, 1) := by decide +kernel
theorem d_Tb_may_23 : decode b_Tb_may 23 = .ok (.isub, 1) := by decide +kernel
theorem d_Tb_may_24 : decode b_Tb_may 24 = .ok (.aaload, 1) := by decide +kernel
theorem d_Tb_may_25 : decode b_Tb_may 25 = .ok (.getfield 24, 3) := by decide +kernel
theorem d_Tb_may_28 : decode b_Tb_may 28 = .ok (.if_icmp .gt 23, 3) := by decide +kernel
theorem d_Tb_may_31 : decode b_Tb_may 31 = .ok (.aload_n 0, 1) := by decide +kernel
theorem d_Tb_may_32 : decode b_Tb_may 32 = .ok (.getfield 21, 3) := by decide +kernel
theorem d_Tb_may_35 : decode b_Tb_may 35 = .ok (.iload_n 1, 1) := by decide +kernel
theorem d_Tb_may_36 : decode b_Tb_may 36 = .ok (.invokestatic 27, 3) := by decide +kernel
theorem d_Tb_may_39 : decode b_Tb_may 39 = .ok (.iand, 1) := by decide +kernel
theorem d_Tb_may_40 : decode b_Tb_may 40 = .ok (.iload_n 1, 1) := by decide +kernel
theorem d_Tb_may_41 : decode b_Tb_may 41 = .ok (.invokestatic 27, 3) := by decide +kernel
theorem d_Tb_may_44 : decode b_Tb_may 44 = .ok (.if_icmp .ne 7, 3) := by decide +kernel
theorem d_Tb_may_47 : decode b_Tb_may 47 = .ok (.iconst 1, 1) := by decide +kernel
theorem d_Tb_may_48 : decode b_Tb_may 48 = .ok (.goto 4, 3) := by decide +kernel
theorem d_Tb_may_51 : decode b_Tb_may 51 = .ok (.iconst 0, 1) := by decide +kernel
theorem d_Tb_may_52 : decode b_Tb_may 52 = .ok (.ireturn, 1) := by decide +kernel
theorem d_Tb_place_0 : decode b_Tb_place 0 = .ok (.iconst 0, 1) := by decide +kernel
theorem d_Tb_place_1 : decode b_Tb_place 1 = .ok (.istore_n 3, 1) := by decide +kernel
theorem d_Tb_place_2 : decode b_Tb_place 2 = .ok (.aload_n 0, 1) := by decide +kernel
theorem d_Tb_place_3 : decode b_Tb_place 3 = .ok (.getfield 17, 3) := by decide +kernel
theorem d_Tb_place_6 : decode b_Tb_place 6 = .ok (.istore 4, 2) := by decide +kernel
theorem d_Tb_place_8 : decode b_Tb_place 8 = .ok (.iload_n 3, 1) := by decide +kernel
theorem d_Tb_place_9 : decode b_Tb_place 9 = .ok (.iload 4, 2) := by decide +kernel
theorem d_Tb_place_11 : decode b_Tb_place 11 = .ok (.if_icmp .ge 41, 3) := by decide +kernel
theorem d_Tb_place_14 : decode b_Tb_place 14 = .ok (.iload_n 3, 1) := by decide +kernel
theorem d_Tb_place_15 : decode b_Tb_place 15 = .ok (.iload 4, 2) := by decide +kernel
theorem d_Tb_place_17 : decode b_Tb_place 17 = .ok (.iadd, 1) := by decide +kernel
theorem d_Tb_place_18 : decode b_Tb_place 18 = .ok (.iconst 2, 1) := by decide +kernel
theorem d_Tb_place_19 : decode b_Tb_place 19 = .ok (.idiv, 1) := by decide +kernel
theorem d_Tb_place_20 : decode b_Tb_place 20 = .ok (.istore 5, 2) := by decide +kernel
theorem d_Tb_place_22 : decode b_Tb_place 22 = .ok (.aload_n 0, 1) := by decide +kernel
theorem d_Tb_place_23 : decode b_Tb_place 23 = .ok (.getfield 11, 3) := by decide +kernel
theorem d_Tb_place_26 : decode b_Tb_place 26 = .ok (.iload 5, 2) := by decide +kernel
theorem d_Tb_place_28 : decode b_Tb_place 28 = .ok (.aaload, 1) := by decide +kernel
theorem d_Tb_place_29 : decode b_Tb_place 29 = .ok (.iload_n 1, 1) := by decide +kernel
theorem d_Tb_place_30 : decode b_Tb_place 30 = .ok (.iload_n 2, 1) := by decide +kernel
theorem d_Tb_place_31 : decode b_Tb_place 31 = .ok (.invokevirtual 31, 3) := by decide +kernel
theorem d_Tb_place_34 : decode b_Tb_place 34 = .ok (.ifCond .eq 11, 3) := by decide +kernel
theorem d_Tb_place_37 : decode b_Tb_place 37 = .ok (.iload 5, 2) := by decide +kernel
theorem d_Tb_place_39 : decode b_Tb_place 39 = .ok (.iconst 1, 1) := by decide +kernel
theorem d_Tb_place_40 : decode b_Tb_place 40 = .ok (.iadd, 1) := by decide +kernel
theorem d_Tb_place_41 : decode b_Tb_place 41 = .ok (.istore_n 3, 1) := by decide +kernel
theorem d_Tb_place_42 : decode b_Tb_place 42 = .ok (.goto 7, 3) := by decide +kernel
theorem d_Tb_place_45 : decode b_Tb_place 45 = .ok (.iload 5, 2) := by decide +kernel
theorem d_Tb_place_47 : decode b_Tb_place 47 = .ok (.istore 4, 2) := by decide +kernel
theorem d_Tb_place_49 : decode b_Tb_place 49 = .ok (.goto (-41), 3) := by decide +kernel
theorem d_Tb_place_52 : decode b_Tb_place 52 = .ok (.iload_n 3, 1) := by decide +kernel
theorem d_Tb_place_53 : decode b_Tb_place 53 = .ok (.ireturn, 1) := by decide +kernel
theorem d_Tb_find_0 : decode b_Tb_find 0 = .ok (.aload_n 0, 1) := by decide +kernel
theorem d_Tb_find_1 : decode b_Tb_find 1 = .ok (.iload_n 1, 1) := by decide +kernel
theorem d_Tb_find_2 : decode b_Tb_find 2 = .ok (.iload_n 2, 1) := by decide +kernel
theorem d_Tb_find_3 : decode b_Tb_find 3 = .ok (.invokevirtual 35, 3) := by decide +kernel
theorem d_Tb_find_6 : decode b_Tb_find 6 = .ok (.istore_n 3, 1) := by decide +kernel
theorem d_Tb_find_7 : decode b_Tb_find 7 = .ok (.iload_n 3, 1) := by decide +kernel
theorem d_Tb_find_8 : decode b_Tb_find 8 = .ok (.aload_n 0, 1) := by decide +kernel
theorem d_Tb_find_9 : decode b_Tb_find 9 = .ok (.getfield 17, 3) := by decide +kernel
theorem d_Tb_find_12 : decode b_Tb_find 12 = .ok (.if_icmp .ge 25, 3) := by decide +kernel
theorem d_Tb_find_15 : decode b_Tb_find 15 = .ok (.aload_n 0, 1) := by decide +kernel
theorem d_Tb_find_16 : decode b_Tb_find 16 = .ok (.getfield 11, 3) := by decide +kernel
theorem d_Tb_find_19 : decode b_Tb_find 19 = .ok (.iload_n 3, 1) := by decide +kernel
theorem d_Tb_find_20 : decode b_Tb_find 20 = .ok (.aaload, 1) := by decide +kernel
theorem d_Tb_find_21 : decode b_Tb_find 21 = .ok (.getfield 24, 3) := by decide +kernel
theorem d_Tb_find_24 : decode b_Tb_find 24 = .ok (.iload_n 1, 1) := by decide +kernel
theorem d_Tb_find_25 : decode b_Tb_find 25 = .ok (.if_icmp .ne 12, 3) := by decide +kernel
theorem d_Tb_find_28 : decode b_Tb_find 28 = .ok (.aload_n 0, 1) := by decide +kernel
theorem d_Tb_find_29 : decode b_Tb_find 29 = .ok (.getfield 11, 3) := by decide +kernel
theorem d_Tb_find_32 : decode b_Tb_find 32 = .ok (.iload_n 3, 1) := by decide +kernel
theorem d_Tb_find_33 : decode b_Tb_find 33 = .ok (.aaload, 1) := by decide +kernel
theorem d_Tb_find_34 : decode b_Tb_find 34 = .ok (.goto 4, 3) := by decide +kernel
theorem d_Tb_find_37 : decode b_Tb_find 37 = .ok (.aconst_null, 1) := by decide +kernel
theorem d_Tb_find_38 : decode b_Tb_find 38 = .ok (.areturn, 1) := by decide +kernel
theorem d_Lv_init_0 : decode b_Lv_init 0 = .ok (.aload_n 0, 1) := by decide +kernel
theorem d_Lv_init_1 : decode b_Lv_init 1 = .ok (.invokespecial 1, 3) := by decide +kernel
theorem d_Lv_init_4 : decode b_Lv_init 4 = .ok (.aload_n 0, 1) := by decide +kernel
theorem d_Lv_init_5 : decode b_Lv_init 5 = .ok (.iload_n 1, 1) := by decide +kernel
theorem d_Lv_init_6 : decode b_Lv_init 6 = .ok (.anewarray 7, 3) := by decide +kernel
theorem d_Lv_init_9 : decode b_Lv_init 9 = .ok (.putfield 9, 3) := by decide +kernel
theorem d_Lv_init_12 : decode b_Lv_init 12 = .ok (.return_, 1) := by decide +kernel
theorem d_Lv_entries_0 : decode b_Lv_entries 0 = .ok (.iconst 0, 1) := by decide +kernel
theorem d_Lv_entries_1 : decode b_Lv_entries 1 = .ok (.istore_n 1, 1) := by decide +kernel
theorem d_Lv_entries_2 : decode b_Lv_entries 2 = .ok (.iconst 0, 1) := by decide +kernel
theorem d_Lv_entries_3 : decode b_Lv_entries 3 = .ok (.istore_n 2, 1) := by decide +kernel
theorem d_Lv_entries_4 : decode b_Lv_entries 4 = .ok (.iload_n 2, 1) := by decide +kernel
theorem d_Lv_entries_5 : decode b_Lv_entries 5 = .ok (.aload_n 0, 1) := by decide +kernel
theorem d_Lv_entries_6 : decode b_Lv_entries 6 = .ok (.getfield 15, 3) := by decide +kernel
theorem d_Lv_entries_9 : decode b_Lv_entries 9 = .ok (.if_icmp .ge 21, 3) := by decide +kernel
theorem d_Lv_entries_12 : decode b_Lv_entries 12 = .ok (.iload_n 1, 1) := by decide +kernel
theorem d_Lv_entries_13 : decode b_Lv_entries 13 = .ok (.aload_n 0, 1) := by decide +kernel
theorem d_Lv_entries_14 : decode b_Lv_entries 14 = .ok (.getfield 9, 3) := by decide +kernel
theorem d_Lv_entries_17 : decode b_Lv_entries 17 = .ok (.iload_n 2, 1) := by decide +kernel
theorem d_Lv_entries_18 : decode b_Lv_entries 18 = .ok (.aaload, 1) := by decide +kernel
theorem d_Lv_entries_19 : decode b_Lv_entries 19 = .ok (.getfield 19, 3) := by decide +kernel
theorem d_Lv_entries_22 : decode b_Lv_entries 22 = .ok (.iadd, 1) := by decide +kernel
theorem d_Lv_entries_23 : decode b_Lv_entries 23 = .ok (.istore_n 1, 1) := by decide +kernel
theorem d_Lv_entries_24 : decode b_Lv_entries 24 = .ok (.iinc 2 1, 3) := by decide +kernel
theorem d_Lv_entries_27 : decode b_Lv_entries 27 = .ok (.goto (-23), 3) := by decide +kernel
theorem d_Lv_entries_30 : decode b_Lv_entries 30 = .ok (.iload_n 1, 1) := by decide +kernel
theorem d_Lv_entries_31 : decode b_Lv_entries 31 = .ok (.ireturn, 1) := by decide +kernel
theorem d_Lv_begin_0 : decode b_Lv_begin 0 = .ok (.aload_n 0, 1) := by decide +kernel
theorem d_Lv_begin_1 : decode b_Lv_begin 1 = .ok (.iload_n 1, 1) := by decide +kernel
theorem d_Lv_begin_2 : decode b_Lv_begin 2 = .ok (.putfield 20, 3) := by decide +kernel
theorem d_Lv_begin_5 : decode b_Lv_begin 5 = .ok (.aload_n 0, 1) := by decide +kernel
theorem d_Lv_begin_6 : decode b_Lv_begin 6 = .ok (.iload_n 2, 1) := by decide +kernel
theorem d_Lv_begin_7 : decode b_Lv_begin 7 = .ok (.putfield 23, 3) := by decide +kernel
theorem d_Lv_begin_10 : decode b_Lv_begin 10 = .ok (.aload_n 0, 1) := by decide +kernel
theorem d_Lv_begin_11 : decode b_Lv_begin 11 = .ok (.iconst 0, 1) := by decide +kernel
theorem d_Lv_begin_12 : decode b_Lv_begin 12 = .ok (.putfield 26, 3) := by decide +kernel
theorem d_Lv_begin_15 : decode b_Lv_begin 15 = .ok (.aload_n 0, 1) := by decide +kernel
theorem d_Lv_begin_16 : decode b_Lv_begin 16 = .ok (.getfield 20, 3) := by decide +kernel
theorem d_Lv_begin_19 : decode b_Lv_begin 19 = .ok (.aload_n 0, 1) := by decide +kernel
theorem d_Lv_begin_20 : decode b_Lv_begin 20 = .ok (.getfield 23, 3) := by decide +kernel
theorem d_Lv_begin_23 : decode b_Lv_begin 23 = .ok (.if_icmp .ge 50, 3) := by decide +kernel
theorem d_Lv_begin_26 : decode b_Lv_begin 26 = .ok (.aload_n 0, 1) := by decide +kernel
theorem d_Lv_begin_27 : decode b_Lv_begin 27 = .ok (.getfield 9, 3) := by decide +kernel
theorem d_Lv_begin_30 : decode b_Lv_begin 30 = .ok (.aload_n 0, 1) := by decide +kernel
theorem d_Lv_begin_31 : decode b_Lv_begin 31 = .ok (.getfield 20, 3) := by decide +kernel
theorem d_Lv_begin_34 : decode b_Lv_begin 34 = .ok (.aaload, 1) := by decide +kernel
theorem d_Lv_begin_35 : decode b_Lv_begin 35 = .ok (.getfield 29, 3) := by decide +kernel
theorem d_Lv_begin_38 : decode b_Lv_begin 38 = .ok (.aload_n 0, 1) := by decide +kernel
theorem d_Lv_begin_39 : decode b_Lv_begin 39 = .ok (.getfield 9, 3) := by decide +kernel
theorem d_Lv_begin_42 : decode b_Lv_begin 42 = .ok (.aload_n 0, 1) := by decide +kernel
theorem d_Lv_begin_43 : decode b_Lv_begin 43 = .ok (.getfield 20, 3) := by decide +kernel
theorem d_Lv_begin_46 : decode b_Lv_begin 46 = .ok (.aaload, 1) := by decide +kernel
theorem d_Lv_begin_47 : decode b_Lv_begin 47 = .ok (.getfield 19, 3) := by decide +kernel
theorem d_Lv_begin_50 : decode b_Lv_begin 50 = .ok (.iconst 1, 1) := by decide +kernel
theorem d_Lv_begin_51 : decode b_Lv_begin 51 = .ok (.isub, 1) := by decide +kernel
theorem d_Lv_begin_52 : decode b_Lv_begin 52 = .ok (.aaload, 1) := by decide +kernel
theorem d_Lv_begin_53 : decode b_Lv_begin 53 = .ok (.getfield 33, 3) := by decide +kernel
theorem d_Lv_begin_56 : decode b_Lv_begin 56 = .ok (.iload_n 3, 1) := by decide +kernel
theorem d_Lv_begin_57 : decode b_Lv_begin 57 = .ok (.if_icmp .ge 16, 3) := by decide +kernel
theorem d_Lv_begin_60 : decode b_Lv_begin 60 = .ok (.aload_n 0, 1) := by decide +kernel
theorem d_Lv_begin_61 : decode b_Lv_begin 61 = .ok (.dup, 1) := by decide +kernel
theorem d_Lv_begin_62 : decode b_Lv_begin 62 = .ok (.getfield 20, 3) := by decide +kernel
theorem d_Lv_begin_65 : decode b_Lv_begin 65 = .ok (.iconst 1, 1) := by decide +kernel
theorem d_Lv_begin_66 : decode b_Lv_begin 66 = .ok (.iadd, 1) := by decide +kernel
theorem d_Lv_begin_67 : decode b_Lv_begin 67 = .ok (.putfield 20, 3) := by decide +kernel
theorem d_Lv_begin_70 : decode b_Lv_begin 70 = .ok (.goto (-55), 3) := by decide +kernel
theorem d_Lv_begin_73 : decode b_Lv_begin 73 = .ok (.aload_n 0, 1) := by decide +kernel
theorem d_Lv_begin_74 : decode b_Lv_begin 74 = .ok (.getfield 20, 3) := by decide +kernel
theorem d_Lv_begin_77 : decode b_Lv_begin 77 = .ok (.aload_n 0, 1) := by decide +kernel
theorem d_Lv_begin_78 : decode b_Lv_begin 78 = .ok (.getfield 23, 3) := by decide +kernel
theorem d_Lv_begin_81 : decode b_Lv_begin 81 = .ok (.if_icmp .ge 22, 3) := by decide +kernel
theorem d_Lv_begin_84 : decode b_Lv_begin 84 = .ok (.aload_n 0, 1) := by decide +kernel
theorem d_Lv_begin_85 : decode b_Lv_begin 85 = .ok (.aload_n 0, 1) := by decide +kernel
theorem d_Lv_begin_86 : decode b_Lv_begin 86 = .ok (.getfield 9, 3) := by decide +kernel
theorem d_Lv_begin_89 : decode b_Lv_begin 89 = .ok (.aload_n 0, 1) := by decide +kernel
theorem d_Lv_begin_90 : decode b_Lv_begin 90 = .ok (.getfield 20, 3) := by decide +kernel
theorem d_Lv_begin_93 : decode b_Lv_begin 93 = .ok (.aaload, 1) := by decide +kernel
theorem d_Lv_begin_94 : decode b_Lv_begin 94 = .ok (.iload_n 3, 1) := by decide +kernel
theorem d_Lv_begin_95 : decode b_Lv_begin 95 = .ok (.ldc 40, 2) := by decide +kernel
theorem d_Lv_begin_97 : decode b_Lv_begin 97 = .ok (.invokevirtual 41, 3) := by decide +kernel
theorem d_Lv_begin_100 : decode b_Lv_begin 100 = .ok (.putfield 26, 3) := by decide +kernel
theorem d_Lv_begin_103 : decode b_Lv_begin 103 = .ok (.return_, 1) := by decide +kernel
theorem d_Lv_look_0 : decode b_Lv_look 0 = .ok (.aload_n 0, 1) := by decide +kernel
theorem d_Lv_look_1 : decode b_Lv_look 1 = .ok (.getfield 20, 3) := by decide +kernel
theorem d_Lv_look_4 : decode b_Lv_look 4 = .ok (.aload_n 0, 1) := by decide +kernel
theorem d_Lv_look_5 : decode b_Lv_look 5 = .ok (.getfield 23, 3) := by decide +kernel
theorem d_Lv_look_8 : decode b_Lv_look 8 = .ok (.if_icmp .ge 23, 3) := by decide +kernel
theorem d_Lv_look_11 : decode b_Lv_look 11 = .ok (.aload_n 0, 1) := by decide +kernel
theorem d_Lv_look_12 : decode b_Lv_look 12 = .ok (.getfield 9, 3) := by decide +kernel
theorem d_Lv_look_15 : decode b_Lv_look 15 = .ok (.aload_n 0, 1) := by decide +kernel
theorem d_Lv_look_16 : decode b_Lv_look 16 = .ok (.getfield 20, 3) := by decide +kernel
theorem d_Lv_look_19 : decode b_Lv_look 19 = .ok (.aaload, 1) := by decide +kernel
theorem d_Lv_look_20 : decode b_Lv_look 20 = .ok (.getfield 29, 3) := by decide +kernel
theorem d_Lv_look_23 : decode b_Lv_look 23 = .ok (.aload_n 0, 1) := by decide +kernel
theorem d_Lv_look_24 : decode b_Lv_look 24 = .ok (.getfield 26, 3) := by decide +kernel
theorem d_Lv_look_27 : decode b_Lv_look 27 = .ok (.aaload, 1) := by decide +kernel
theorem d_Lv_look_28 : decode b_Lv_look 28 = .ok (.goto 4, 3) := by decide +kernel
theorem d_Lv_look_31 : decode b_Lv_look 31 = .ok (.aconst_null, 1) := by decide +kernel
theorem d_Lv_look_32 : decode b_Lv_look 32 = .ok (.areturn, 1) := by decide +kernel
theorem d_Lv_step_0 : decode b_Lv_step 0 = .ok (.aload_n 0, 1) := by decide +kernel
theorem d_Lv_step_1 : decode b_Lv_step 1 = .ok (.dup, 1) := by decide +kernel
theorem d_Lv_step_2 : decode b_Lv_step 2 = .ok (.getfield 26, 3) := by decide +kernel
theorem d_Lv_step_5 : decode b_Lv_step 5 = .ok (.iconst 1, 1) := by decide +kernel
theorem d_Lv_step_6 : decode b_Lv_step 6 = .ok (.iadd, 1) := by decide +kernel
theorem d_Lv_step_7 : decode b_Lv_step 7 = .ok (.putfield 26, 3) := by decide +kernel
theorem d_Lv_step_10 : decode b_Lv_step 10 = .ok (.aload_n 0, 1) := by decide +kernel
theorem d_Lv_step_11 : decode b_Lv_step 11 = .ok (.getfield 26, 3) := by decide +kernel
theorem d_Lv_step_14 : decode b_Lv_step 14 = .ok (.aload_n 0, 1) := by decide +kernel
theorem d_Lv_step_15 : decode b_Lv_step 15 = .ok (.getfield 9, 3) := by decide +kernel
theorem d_Lv_step_18 : decode b_Lv_step 18 = .ok (.aload_n 0, 1) := by decide +kernel
theorem d_Lv_step_19 : decode b_Lv_step 19 = .ok (.getfield 20, 3) := by decide +kernel
theorem d_Lv_step_22 : decode b_Lv_step 22 = .ok (.aaload, 1) := by decide +kernel
theorem d_Lv_step_23 : decode b_Lv_step 23 = .ok (.getfield 19, 3) := by decide +kernel
theorem d_Lv_step_26 : decode b_Lv_step 26 = .ok (.if_icmp .ne 18, 3) := by decide +kernel
theorem d_Lv_step_29 : decode b_Lv_step 29 = .ok (.aload_n 0, 1) := by decide +kernel
theorem d_Lv_step_30 : decode b_Lv_step 30 = .ok (.iconst 0, 1) := by decide +kernel
theorem d_Lv_step_31 : decode b_Lv_step 31 = .ok (.putfield 26, 3) := by decide +kernel
theorem d_Lv_step_34 : decode b_Lv_step 34 = .ok (.aload_n 0, 1) := by decide +kernel
theorem d_Lv_step_35 : decode b_Lv_step 35 = .ok (.dup, 1) := by decide +kernel
theorem d_Lv_step_36 : decode b_Lv_step 36 = .ok (.getfield 20, 3) := by decide +kernel
theorem d_Lv_step_39 : decode b_Lv_step 39 = .ok (.iconst 1, 1) := by decide +kernel
theorem d_Lv_step_40 : decode b_Lv_step 40 = .ok (.iadd, 1) := by decide +kernel
theorem d_Lv_step_41 : decode b_Lv_step 41 = .ok (.putfield 20, 3) := by decide +kernel
theorem d_Lv_step_44 : decode b_Lv_step 44 = .ok (.return_, 1) := by decide +kernel
theorem d_Sg_init_0 : decode b_Sg_init 0 = .ok (.aload_n 0, 1) := by decide +kernel
theorem d_Sg_init_1 : decode b_Sg_init 1 = .ok (.invokespecial 1, 3) := by decide +kernel
theorem d_Sg_init_4 : decode b_Sg_init 4 = .ok (.return_, 1) := by decide +kernel
theorem d_Sg_begin_0 : decode b_Sg_begin 0 = .ok (.aload_n 0, 1) := by decide +kernel
theorem d_Sg_begin_1 : decode b_Sg_begin 1 = .ok (.aload_n 1, 1) := by decide +kernel
theorem d_Sg_begin_2 : decode b_Sg_begin 2 = .ok (.putfield 7, 3) := by decide +kernel
theorem d_Sg_begin_5 : decode b_Sg_begin 5 = .ok (.aload_n 0, 1) := by decide +kernel
theorem d_Sg_begin_6 : decode b_Sg_begin 6 = .ok (.aload_n 1, 1) := by decide +kernel
theorem d_Sg_begin_7 : decode b_Sg_begin 7 = .ok (.ifnonnull 7, 3) := by decide +kernel
theorem d_Sg_begin_10 : decode b_Sg_begin 10 = .ok (.iconst 0, 1) := by decide +kernel
theorem d_Sg_begin_11 : decode b_Sg_begin 11 = .ok (.goto 10, 3) := by decide +kernel
theorem d_Sg_begin_14 : decode b_Sg_begin 14 = .ok (.aload_n 1, 1) := by decide +kernel
theorem d_Sg_begin_15 : decode b_Sg_begin 15 = .ok (.iload_n 2, 1) := by decide +kernel
theorem d_Sg_begin_16 : decode b_Sg_begin 16 = .ok (.ldc 15, 2) := by decide +kernel
theorem d_Sg_begin_18 : decode b_Sg_begin 18 = .ok (.invokevirtual 16, 3) := by decide +kernel
theorem d_Sg_begin_21 : decode b_Sg_begin 21 = .ok (.putfield 22, 3) := by decide +kernel
theorem d_Sg_begin_24 : decode b_Sg_begin 24 = .ok (.return_, 1) := by decide +kernel
theorem d_Sg_look_0 : decode b_Sg_look 0 = .ok (.aload_n 0, 1) := by decide +kernel
theorem d_Sg_look_1 : decode b_Sg_look 1 = .ok (.getfield 7, 3) := by decide +kernel
theorem d_Sg_look_4 : decode b_Sg_look 4 = .ok (.ifnull 32, 3) := by decide +kernel
theorem d_Sg_look_7 : decode b_Sg_look 7 = .ok (.aload_n 0, 1) := by decide +kernel
theorem d_Sg_look_8 : decode b_Sg_look 8 = .ok (.getfield 22, 3) := by decide +kernel
theorem d_Sg_look_11 : decode b_Sg_look 11 = .ok (.aload_n 0, 1) := by decide +kernel
theorem d_Sg_look_12 : decode b_Sg_look 12 = .ok (.getfield 7, 3) := by decide +kernel
theorem d_Sg_look_15 : decode b_Sg_look 15 = .ok (.getfield 26, 3) := by decide +kernel
theorem d_Sg_look_18 : decode b_Sg_look 18 = .ok (.if_icmp .ge 18, 3) := by decide +kernel
theorem d_Sg_look_21 : decode b_Sg_look 21 = .ok (.aload_n 0, 1) := by decide +kernel
theorem d_Sg_look_22 : decode b_Sg_look 22 = .ok (.getfield 7, 3) := by decide +kernel
theorem d_Sg_look_25 : decode b_Sg_look 25 = .ok (.getfield 29, 3) := by decide +kernel
theorem d_Sg_look_28 : decode b_Sg_look 28 = .ok (.aload_n 0, 1) := by decide +kernel
theorem d_Sg_look_29 : decode b_Sg_look 29 = .ok (.getfield 22, 3) := by decide +kernel
theorem d_Sg_look_32 : decode b_Sg_look 32 = .ok (.aaload, 1) := by decide +kernel
theorem d_Sg_look_33 : decode b_Sg_look 33 = .ok (.goto 4, 3) := by decide +kernel
theorem d_Sg_look_36 : decode b_Sg_look 36 = .ok (.aconst_null, 1) := by decide +kernel
theorem d_Sg_look_37 : decode b_Sg_look 37 = .ok (.areturn, 1) := by decide +kernel
theorem d_Sg_step_0 : decode b_Sg_step 0 = .ok (.aload_n 0, 1) := by decide +kernel
theorem d_Sg_step_1 : decode b_Sg_step 1 = .ok (.dup, 1) := by decide +kernel
theorem d_Sg_step_2 : decode b_Sg_step 2 = .ok (.getfield 22, 3) := by decide +kernel
theorem d_Sg_step_5 : decode b_Sg_step 5 = .ok (.iconst 1, 1) := by decide +kernel
theorem d_Sg_step_6 : decode b_Sg_step 6 = .ok (.iadd, 1) := by decide +kernel
theorem d_Sg_step_7 : decode b_Sg_step 7 = .ok (.putfield 22, 3) := by decide +kernel
theorem d_Sg_step_10 : decode b_Sg_step 10 = .ok (.return_, 1) := by decide +kernel
theorem d_Mg_init_0 : decode b_Mg_init 0 = .ok (.aload_n 0, 1) := by decide +kernel
theorem d_Mg_init_1 : decode b_Mg_init 1 = .ok (.invokespecial 1, 3) := by decide +kernel
theorem d_Mg_init_4 : decode b_Mg_init 4 = .ok (.aload_n 0, 1) := by decide +kernel
theorem d_Mg_init_5 : decode b_Mg_init 5 = .ok (.bipush 8, 2) := by decide +kernel
theorem d_Mg_init_7 : decode b_Mg_init 7 = .ok (.anewarray 7, 3) := by decide +kernel
theorem d_Mg_init_10 : decode b_Mg_init 10 = .ok (.putfield 9, 3) := by decide +kernel
theorem d_Mg_init_13 : decode b_Mg_init 13 = .ok (.return_, 1) := by decide +kernel
theorem d_Mg_add_0 : decode b_Mg_add 0 = .ok (.aload_n 0, 1) := by decide +kernel
theorem d_Mg_add_1 : decode b_Mg_add 1 = .ok (.getfield 9, 3) := by decide +kernel
theorem d_Mg_add_4 : decode b_Mg_add 4 = .ok (.aload_n 0, 1) := by decide +kernel
theorem d_Mg_add_5 : decode b_Mg_add 5 = .ok (.getfield 15, 3) := by decide +kernel
theorem d_Mg_add_8 : decode b_Mg_add 8 = .ok (.aload_n 1, 1) := by decide +kernel
theorem d_Mg_add_9 : decode b_Mg_add 9 = .ok (.aastore, 1) := by decide +kernel
theorem d_Mg_add_10 : decode b_Mg_add 10 = .ok (.aload_n 0, 1) := by decide +kernel
theorem d_Mg_add_11 : decode b_Mg_add 11 = .ok (.dup, 1) := by decide +kernel
theorem d_Mg_add_12 : decode b_Mg_add 12 = .ok (.getfield 15, 3) := by decide +kernel
theorem d_Mg_add_15 : decode b_Mg_add 15 = .ok (.iconst 1, 1) := by decide +kernel
theorem d_Mg_add_16 : decode b_Mg_add 16 = .ok (.iadd, 1) := by decide +kernel
theorem d_Mg_add_17 : decode b_Mg_add 17 = .ok (.putfield 15, 3) := by decide +kernel
theorem d_Mg_add_20 : decode b_Mg_add 20 = .ok (.return_, 1) := by decide +kernel
theorem d_Mg_least_0 : decode b_Mg_least 0 = .ok (.aconst_null, 1) := by decide +kernel
theorem d_Mg_least_1 : decode b_Mg_least 1 = .ok (.astore_n 1, 1) := by decide +kernel
theorem d_Mg_least_2 : decode b_Mg_least 2 = .ok (.iconst 0, 1) := by decide +kernel
theorem d_Mg_least_3 : decode b_Mg_least 3 = .ok (.istore_n 2, 1) := by decide +kernel
theorem d_Mg_least_4 : decode b_Mg_least 4 = .ok (.iload_n 2, 1) := by decide +kernel
theorem d_Mg_least_5 : decode b_Mg_least 5 = .ok (.aload_n 0, 1) := by decide +kernel
theorem d_Mg_least_6 : decode b_Mg_least 6 = .ok (.getfield 15, 3) := by decide +kernel
theorem d_Mg_least_9 : decode b_Mg_least 9 = .ok (.if_icmp .ge 64, 3) := by decide +kernel
theorem d_Mg_least_12 : decode b_Mg_least 12 = .ok (.aload_n 0, 1) := by decide +kernel
theorem d_Mg_least_13 : decode b_Mg_least 13 = .ok (.getfield 9, 3) := by decide +kernel
theorem d_Mg_least_16 : decode b_Mg_least 16 = .ok (.iload_n 2, 1) := by decide +kernel
theorem d_Mg_least_17 : decode b_Mg_least 17 = .ok (.aaload, 1) := by decide +kernel
theorem d_Mg_least_18 : decode b_Mg_least 18 = .ok (.invokeinterface 19 1, 5) := by decide +kernel
theorem d_Mg_least_23 : decode b_Mg_least 23 = .ok (.astore_n 3, 1) := by decide +kernel
theorem d_Mg_least_24 : decode b_Mg_least 24 = .ok (.aload_n 3, 1) := by decide +kernel
theorem d_Mg_least_25 : decode b_Mg_least 25 = .ok (.ifnonnull 6, 3) := by decide +kernel
theorem d_Mg_least_28 : decode b_Mg_least 28 = .ok (.goto 39, 3) := by decide +kernel
theorem d_Mg_least_31 : decode b_Mg_least 31 = .ok (.aload_n 1, 1) := by decide +kernel
theorem d_Mg_least_32 : decode b_Mg_least 32 = .ok (.ifnull 28, 3) := by decide +kernel
theorem d_Mg_least_35 : decode b_Mg_least 35 = .ok (.aload_n 3, 1) := by decide +kernel
theorem d_Mg_least_36 : decode b_Mg_least 36 = .ok (.aload_n 1, 1) := by decide +kernel
theorem d_Mg_least_37 : decode b_Mg_least 37 = .ok (.invokeinterface 19 1, 5) := by decide +kernel
theorem d_Mg_least_42 : decode b_Mg_least 42 = .ok (.getfield 23, 3) := by decide +kernel
theorem d_Mg_least_45 : decode b_Mg_least 45 = .ok (.aload_n 1, 1) := by decide +kernel
theorem d_Mg_least_46 : decode b_Mg_least 46 = .ok (.invokeinterface 19 1, 5) := by decide +kernel
theorem d_Mg_least_51 : decode b_Mg_least 51 = .ok (.getfield 28, 3) := by decide +kernel
theorem d_Mg_least_54 : decode b_Mg_least 54 = .ok (.invokevirtual 31, 3) := by decide +kernel
theorem d_Mg_least_57 : decode b_Mg_least 57 = .ok (.ifCond .eq 10, 3) := by decide +kernel
theorem d_Mg_least_60 : decode b_Mg_least 60 = .ok (.aload_n 0, 1) := by decide +kernel
theorem d_Mg_least_61 : decode b_Mg_least 61 = .ok (.getfield 9, 3) := by decide +kernel
theorem d_Mg_least_64 : decode b_Mg_least 64 = .ok (.iload_n 2, 1) := by decide +kernel
theorem d_Mg_least_65 : decode b_Mg_least 65 = .ok (.aaload, 1) := by decide +kernel
theorem d_Mg_least_66 : decode b_Mg_least 66 = .ok (.astore_n 1, 1) := by decide +kernel
theorem d_Mg_least_67 : decode b_Mg_least 67 = .ok (.iinc 2 1, 3) := by decide +kernel
theorem d_Mg_least_70 : decode b_Mg_least 70 = .ok (.goto (-66), 3) := by decide +kernel
theorem d_Mg_least_73 : decode b_Mg_least 73 = .ok (.aload_n 1, 1) := by decide +kernel
theorem d_Mg_least_74 : decode b_Mg_least 74 = .ok (.areturn, 1) := by decide +kernel
theorem d_Mg_look_0 : decode b_Mg_look 0 = .ok (.aload_n 0, 1) := by decide +kernel
theorem d_Mg_look_1 : decode b_Mg_look 1 = .ok (.invokevirtual 35, 3) := by decide +kernel
theorem d_Mg_look_4 : decode b_Mg_look 4 = .ok (.astore_n 1, 1) := by decide +kernel
theorem d_Mg_look_5 : decode b_Mg_look 5 = .ok (.aload_n 1, 1) := by decide +kernel
theorem d_Mg_look_6 : decode b_Mg_look 6 = .ok (.ifnonnull 7, 3) := by decide +kernel
theorem d_Mg_look_9 : decode b_Mg_look 9 = .ok (.aconst_null, 1) := by decide +kernel
theorem d_Mg_look_10 : decode b_Mg_look 10 = .ok (.goto 9, 3) := by decide +kernel
theorem d_Mg_look_13 : decode b_Mg_look 13 = .ok (.aload_n 1, 1) := by decide +kernel
theorem d_Mg_look_14 : decode b_Mg_look 14 = .ok (.invokeinterface 19 1, 5) := by decide +kernel
theorem d_Mg_look_19 : decode b_Mg_look 19 = .ok (.areturn, 1) := by decide +kernel
theorem d_Mg_step_0 : decode b_Mg_step 0 = .ok (.aload_n 0, 1) := by decide +kernel
theorem d_Mg_step_1 : decode b_Mg_step 1 = .ok (.invokevirtual 35, 3) := by decide +kernel
theorem d_Mg_step_4 : decode b_Mg_step 4 = .ok (.invokeinterface 39 1, 5) := by decide +kernel
theorem d_Mg_step_9 : decode b_Mg_step 9 = .ok (.return_, 1) := by decide +kernel
theorem d_V_init_0 : decode b_V_init 0 = .ok (.aload_n 0, 1) := by decide +kernel
theorem d_V_init_1 : decode b_V_init 1 = .ok (.invokespecial 1, 3) := by decide +kernel
theorem d_V_init_4 : decode b_V_init 4 = .ok (.aload_n 0, 1) := by decide +kernel
theorem d_V_init_5 : decode b_V_init 5 = .ok (.new 7, 3) := by decide +kernel
theorem d_V_init_8 : decode b_V_init 8 = .ok (.dup, 1) := by decide +kernel
theorem d_V_init_9 : decode b_V_init 9 = .ok (.invokespecial 9, 3) := by decide +kernel
theorem d_V_init_12 : decode b_V_init 12 = .ok (.putfield 10, 3) := by decide +kernel
theorem d_V_init_15 : decode b_V_init 15 = .ok (.aload_n 0, 1) := by decide +kernel
theorem d_V_init_16 : decode b_V_init 16 = .ok (.aload_n 0, 1) := by decide +kernel
theorem d_V_init_17 : decode b_V_init 17 = .ok (.getfield 10, 3) := by decide +kernel
theorem d_V_init_20 : decode b_V_init 20 = .ok (.putfield 16, 3) := by decide +kernel
theorem d_V_init_23 : decode b_V_init 23 = .ok (.aload_n 0, 1) := by decide +kernel
theorem d_V_init_24 : decode b_V_init 24 = .ok (.iconst 1, 1) := by decide +kernel
theorem d_V_init_25 : decode b_V_init 25 = .ok (.putfield 19, 3) := by decide +kernel
theorem d_V_init_28 : decode b_V_init 28 = .ok (.aload_n 0, 1) := by decide +kernel
theorem d_V_init_29 : decode b_V_init 29 = .ok (.aload_n 0, 1) := by decide +kernel
theorem d_V_init_30 : decode b_V_init 30 = .ok (.getfield 10, 3) := by decide +kernel
theorem d_V_init_33 : decode b_V_init 33 = .ok (.putfield 23, 3) := by decide +kernel
theorem d_V_init_36 : decode b_V_init 36 = .ok (.aload_n 0, 1) := by decide +kernel
theorem d_V_init_37 : decode b_V_init 37 = .ok (.bipush 6, 2) := by decide +kernel
theorem d_V_init_39 : decode b_V_init 39 = .ok (.newarray .int, 2) := by decide +kernel
theorem d_V_init_41 : decode b_V_init 41 = .ok (.putfield 26, 3) := by decide +kernel
theorem d_V_init_44 : decode b_V_init 44 = .ok (.aload_n 0, 1) := by decide +kernel
theorem d_V_init_45 : decode b_V_init 45 = .ok (.bipush 6, 2) := by decide +kernel
theorem d_V_init_47 : decode b_V_init 47 = .ok (.newarray .int, 2) := by decide +kernel
theorem d_V_init_49 : decode b_V_init 49 = .ok (.putfield 30, 3) := by decide +kernel
theorem d_V_init_52 : decode b_V_init 52 = .ok (.aload_n 0, 1) := by decide +kernel
theorem d_V_init_53 : decode b_V_init 53 = .ok (.bipush 6, 2) := by decide +kernel
theorem d_V_init_55 : decode b_V_init 55 = .ok (.newarray .int, 2) := by decide +kernel
theorem d_V_init_57 : decode b_V_init 57 = .ok (.putfield 33, 3) := by decide +kernel
theorem d_V_init_60 : decode b_V_init 60 = .ok (.aload_n 0, 1) := by decide +kernel
theorem d_V_init_61 : decode b_V_init 61 = .ok (.iconst 3, 1) := by decide +kernel
theorem d_V_init_62 : decode b_V_init 62 = .ok (.newarray .int, 2) := by decide +kernel
theorem d_V_init_64 : decode b_V_init 64 = .ok (.putfield 36, 3) := by decide +kernel
theorem d_V_init_67 : decode b_V_init 67 = .ok (.aload_n 0, 1) := by decide +kernel
theorem d_V_init_68 : decode b_V_init 68 = .ok (.new 39, 3) := by decide +kernel
theorem d_V_init_71 : decode b_V_init 71 = .ok (.dup, 1) := by decide +kernel
theorem d_V_init_72 : decode b_V_init 72 = .ok (.invokespecial 41, 3) := by decide +kernel
theorem d_V_init_75 : decode b_V_init 75 = .ok (.putfield 42, 3) := by decide +kernel
theorem d_V_init_78 : decode b_V_init 78 = .ok (.aload_n 0, 1) := by decide +kernel
theorem d_V_init_79 : decode b_V_init 79 = .ok (.iconst 3, 1) := by decide +kernel
theorem d_V_init_80 : decode b_V_init 80 = .ok (.anewarray 46, 3) := by decide +kernel
theorem d_V_init_83 : decode b_V_init 83 = .ok (.putfield 48, 3) := by decide +kernel
theorem d_V_init_86 : decode b_V_init 86 = .ok (.aload_n 0, 1) := by decide +kernel
theorem d_V_init_87 : decode b_V_init 87 = .ok (.iconst 4, 1) := by decide +kernel
theorem d_V_init_88 : decode b_V_init 88 = .ok (.anewarray 52, 3) := by decide +kernel
theorem d_V_init_91 : decode b_V_init 91 = .ok (.putfield 54, 3) := by decide +kernel
theorem d_V_init_94 : decode b_V_init 94 = .ok (.aload_n 0, 1) := by decide +kernel
theorem d_V_init_95 : decode b_V_init 95 = .ok (.new 58, 3) := by decide +kernel
theorem d_V_init_98 : decode b_V_init 98 = .ok (.dup, 1) := by decide +kernel
theorem d_V_init_99 : decode b_V_init 99 = .ok (.invokespecial 60, 3) := by decide +kernel
theorem d_V_init_102 : decode b_V_init 102 = .ok (.putfield 61, 3) := by decide +kernel
theorem d_V_init_105 : decode b_V_init 105 = .ok (.aload_n 0, 1) := by decide +kernel
theorem d_V_init_106 : decode b_V_init 106 = .ok (.sipush 180, 3) := by decide +kernel
theorem d_V_init_109 : decode b_V_init 109 = .ok (.anewarray 65, 3) := by decide +kernel
theorem d_V_init_112 : decode b_V_init 112 = .ok (.putfield 67, 3) := by decide +kernel
theorem d_V_init_115 : decode b_V_init 115 = .ok (.aload_n 0, 1) := by decide +kernel
theorem d_V_init_116 : decode b_V_init 116 = .ok (.sipush 180, 3) := by decide +kernel
theorem d_V_init_119 : decode b_V_init 119 = .ok (.newarray .boolean, 2) := by decide +kernel
theorem d_V_init_121 : decode b_V_init 121 = .ok (.putfield 71, 3) := by decide +kernel
theorem d_V_init_124 : decode b_V_init 124 = .ok (.aload_n 0, 1) := by decide +kernel
theorem d_V_init_125 : decode b_V_init 125 = .ok (.getfield 48, 3) := by decide +kernel
theorem d_V_init_128 : decode b_V_init 128 = .ok (.iconst 0, 1) := by decide +kernel
theorem d_V_init_129 : decode b_V_init 129 = .ok (.new 46, 3) := by decide +kernel
theorem d_V_init_132 : decode b_V_init 132 = .ok (.dup, 1) := by decide +kernel
theorem d_V_init_133 : decode b_V_init 133 = .ok (.iconst 4, 1) := by decide +kernel
theorem d_V_init_134 : decode b_V_init 134 = .ok (.invokespecial 75, 3) := by decide +kernel
theorem d_V_init_137 : decode b_V_init 137 = .ok (.aastore, 1) := by decide +kernel
theorem d_V_init_138 : decode b_V_init 138 = .ok (.aload_n 0, 1) := by decide +kernel
theorem d_V_init_139 : decode b_V_init 139 = .ok (.getfield 48, 3) := by decide +kernel
theorem d_V_init_142 : decode b_V_init 142 = .ok (.iconst 1, 1) := by decide +kernel
theorem d_V_init_143 : decode b_V_init 143 = .ok (.new 46, 3) := by decide +kernel
theorem d_V_init_146 : decode b_V_init 146 = .ok (.dup, 1) := by decide +kernel
theorem d_V_init_147 : decode b_V_init 147 = .ok (.bipush 8, 2) := by decide +kernel
theorem d_V_init_149 : decode b_V_init 149 = .ok (.invokespecial 75, 3) := by decide +kernel
theorem d_V_init_152 : decode b_V_init 152 = .ok (.aastore, 1) := by decide +kernel
theorem d_V_init_153 : decode b_V_init 153 = .ok (.aload_n 0, 1) := by decide +kernel
theorem d_V_init_154 : decode b_V_init 154 = .ok (.getfield 48, 3) := by decide +kernel
theorem d_V_init_157 : decode b_V_init 157 = .ok (.iconst 2, 1) := by decide +kernel
theorem d_V_init_158 : decode b_V_init 158 = .ok (.new 46, 3) := by decide +kernel
theorem d_V_init_161 : decode b_V_init 161 = .ok (.dup, 1) := by decide +kernel
theorem d_V_init_162 : decode b_V_init 162 = .ok (.bipush 30, 2) := by decide +kernel
theorem d_V_init_164 : decode b_V_init 164 = .ok (.invokespecial 75, 3) := by decide +kernel
theorem d_V_init_167 : decode b_V_init 167 = .ok (.aastore, 1) := by decide +kernel
theorem d_V_init_168 : decode b_V_init 168 = .ok (.iconst 0, 1) := by decide +kernel
theorem d_V_init_169 : decode b_V_init 169 = .ok (.istore_n 1, 1) := by decide +kernel
theorem d_V_init_170 : decode b_V_init 170 = .ok (.iload_n 1, 1) := by decide +kernel
theorem d_V_init_171 : decode b_V_init 171 = .ok (.iconst 4, 1) := by decide +kernel
theorem d_V_init_172 : decode b_V_init 172 = .ok (.if_icmp .ge 22, 3) := by decide +kernel
theorem d_V_init_175 : decode b_V_init 175 = .ok (.aload_n 0, 1) := by decide +kernel
theorem d_V_init_176 : decode b_V_init 176 = .ok (.getfield 54, 3) := by decide +kernel
theorem d_V_init_179 : decode b_V_init 179 = .ok (.iload_n 1, 1) := by decide +kernel
theorem d_V_init_180 : decode b_V_init 180 = .ok (.new 52, 3) := by decide +kernel
theorem d_V_init_183 : decode b_V_init 183 = .ok (.dup, 1) := by decide +kernel
theorem d_V_init_184 : decode b_V_init 184 = .ok (.invokespecial 78, 3) := by decide +kernel
theorem d_V_init_187 : decode b_V_init 187 = .ok (.aastore, 1) := by decide +kernel
theorem d_V_init_188 : decode b_V_init 188 = .ok (.iinc 1 1, 3) := by decide +kernel
theorem d_V_init_191 : decode b_V_init 191 = .ok (.goto (-21), 3) := by decide +kernel
theorem d_V_init_194 : decode b_V_init 194 = .ok (.iconst 0, 1) := by decide +kernel
theorem d_V_init_195 : decode b_V_init 195 = .ok (.istore_n 1, 1) := by decide +kernel
theorem d_V_init_196 : decode b_V_init 196 = .ok (.iload_n 1, 1) := by decide +kernel
theorem d_V_init_197 : decode b_V_init 197 = .ok (.iconst 3, 1) := by decide +kernel
theorem d_V_init_198 : decode b_V_init 198 = .ok (.if_icmp .ge 16, 3) := by decide +kernel
theorem d_V_init_201 : decode b_V_init 201 = .ok (.aload_n 0, 1) := by decide +kernel
theorem d_V_init_202 : decode b_V_init 202 = .ok (.getfield 36, 3) := by decide +kernel
theorem d_V_init_205 : decode b_V_init 205 = .ok (.iload_n 1, 1) := by decide +kernel
theorem d_V_init_206 : decode b_V_init 206 = .ok (.iconst (-1), 1) := by decide +kernel
theorem d_V_init_207 : decode b_V_init 207 = .ok (.iastore, 1) := by decide +kernel
theorem d_V_init_208 : decode b_V_init 208 = .ok (.iinc 1 1, 3) := by decide +kernel
theorem d_V_init_211 : decode b_V_init 211 = .ok (.goto (-15), 3) := by decide +kernel
theorem d_V_init_214 : decode b_V_init 214 = .ok (.return_, 1) := by decide +kernel
theorem d_V_room_0 : decode b_V_room 0 = .ok (.aload_n 0, 1) := by decide +kernel
theorem d_V_room_1 : decode b_V_room 1 = .ok (.getfield 16, 3) := by decide +kernel
theorem d_V_room_4 : decode b_V_room 4 = .ok (.getfield 79, 3) := by decide +kernel
theorem d_V_room_7 : decode b_V_room 7 = .ok (.iload_n 1, 1) := by decide +kernel
theorem d_V_room_8 : decode b_V_room 8 = .ok (.iadd, 1) := by decide +kernel
theorem d_V_room_9 : decode b_V_room 9 = .ok (.bipush 16, 2) := by decide +kernel
theorem d_V_room_11 : decode b_V_room 11 = .ok (.if_icmp .gt 8, 3) := by decide +kernel
theorem d_V_room_14 : decode b_V_room 14 = .ok (.aload_n 0, 1) := by decide +kernel
theorem d_V_room_15 : decode b_V_room 15 = .ok (.getfield 16, 3) := by decide +kernel
theorem d_V_room_18 : decode b_V_room 18 = .ok (.areturn, 1) := by decide +kernel
theorem d_V_room_19 : decode b_V_room 19 = .ok (.aload_n 0, 1) := by decide +kernel
theorem d_V_room_20 : decode b_V_room 20 = .ok (.getfield 82, 3) := by decide +kernel
theorem d_V_room_23 : decode b_V_room 23 = .ok (.astore_n 2, 1) := by decide +kernel
theorem d_V_room_24 : decode b_V_room 24 = .ok (.aload_n 2, 1) := by decide +kernel
theorem d_V_room_25 : decode b_V_room 25 = .ok (.ifnonnull 14, 3) := by decide +kernel
theorem d_V_room_28 : decode b_V_room 28 = .ok (.new 7, 3) := by decide +kernel
theorem d_V_room_31 : decode b_V_room 31 = .ok (.dup, 1) := by decide +kernel
theorem d_V_room_32 : decode b_V_room 32 = .ok (.invokespecial 9, 3) := by decide +kernel
theorem d_V_room_35 : decode b_V_room 35 = .ok (.astore_n 2, 1) := by decide +kernel
theorem d_V_room_36 : decode b_V_room 36 = .ok (.goto 11, 3) := by decide +kernel
theorem d_V_room_39 : decode b_V_room 39 = .ok (.aload_n 0, 1) := by decide +kernel
theorem d_V_room_40 : decode b_V_room 40 = .ok (.aload_n 2, 1) := by decide +kernel
theorem d_V_room_41 : decode b_V_room 41 = .ok (.getfield 85, 3) := by decide +kernel
theorem d_V_room_44 : decode b_V_room 44 = .ok (.putfield 82, 3) := by decide +kernel
theorem d_V_room_47 : decode b_V_room 47 = .ok (.aload_n 2, 1) := by decide +kernel
theorem d_V_room_48 : decode b_V_room 48 = .ok (.aload_n 0, 1) := by decide +kernel
theorem d_V_room_49 : decode b_V_room 49 = .ok (.getfield 16, 3) := by decide +kernel
theorem d_V_room_52 : decode b_V_room 52 = .ok (.getfield 88, 3) := by decide +kernel
theorem d_V_room_55 : decode b_V_room 55 = .ok (.iconst 1, 1) := by decide +kernel
theorem d_V_room_56 : decode b_V_room 56 = .ok (.iadd, 1) := by decide +kernel
theorem d_V_room_57 : decode b_V_room 57 = .ok (.invokevirtual 91, 3) := by decide +kernel
theorem d_V_room_60 : decode b_V_room 60 = .ok (.aload_n 0, 1) := by decide +kernel
theorem d_V_room_61 : decode b_V_room 61 = .ok (.getfield 16, 3) := by decide +kernel
theorem d_V_room_64 : decode b_V_room 64 = .ok (.aload_n 2, 1) := by decide +kernel
theorem d_V_room_65 : decode b_V_room 65 = .ok (.putfield 85, 3) := by decide +kernel
theorem d_V_room_68 : decode b_V_room 68 = .ok (.aload_n 0, 1) := by decide +kernel
theorem d_V_room_69 : decode b_V_room 69 = .ok (.aload_n 2, 1) := by decide +kernel
theorem d_V_room_70 : decode b_V_room 70 = .ok (.putfield 16, 3) := by decide +kernel
theorem d_V_room_73 : decode b_V_room 73 = .ok (.aload_n 0, 1) := by decide +kernel
theorem d_V_room_74 : decode b_V_room 74 = .ok (.dup, 1) := by decide +kernel
theorem d_V_room_75 : decode b_V_room 75 = .ok (.getfield 19, 3) := by decide +kernel
theorem d_V_room_78 : decode b_V_room 78 = .ok (.iconst 1, 1) := by decide +kernel
theorem d_V_room_79 : decode b_V_room 79 = .ok (.iadd, 1) := by decide +kernel
theorem d_V_room_80 : decode b_V_room 80 = .ok (.putfield 19, 3) := by decide +kernel
theorem d_V_room_83 : decode b_V_room 83 = .ok (.aload_n 2, 1) := by decide +kernel
theorem d_V_room_84 : decode b_V_room 84 = .ok (.areturn, 1) := by decide +kernel
theorem d_V_free_0 : decode b_V_free 0 = .ok (.aload_n 1, 1) := by decide +kernel
theorem d_V_free_1 : decode b_V_free 1 = .ok (.aload_n 0, 1) := by decide +kernel
theorem d_V_free_2 : decode b_V_free 2 = .ok (.getfield 82, 3) := by decide +kernel
theorem d_V_free_5 : decode b_V_free 5 = .ok (.putfield 85, 3) := by decide +kernel
theorem d_V_free_8 : decode b_V_free 8 = .ok (.aload_n 0, 1) := by decide +kernel
theorem d_V_free_9 : decode b_V_free 9 = .ok (.aload_n 1, 1) := by decide +kernel
theorem d_V_free_10 : decode b_V_free 10 = .ok (.putfield 82, 3) := by decide +kernel
theorem d_V_free_13 : decode b_V_free 13 = .ok (.aload_n 0, 1) := by decide +kernel
theorem d_V_free_14 : decode b_V_free 14 = .ok (.dup, 1) := by decide +kernel
theorem d_V_free_15 : decode b_V_free 15 = .ok (.getfield 19, 3) := by decide +kernel
theorem d_V_free_18 : decode b_V_free 18 = .ok (.iconst 1, 1) := by decide +kernel
theorem d_V_free_19 : decode b_V_free 19 = .ok (.isub, 1) := by decide +kernel
theorem d_V_free_20 : decode b_V_free 20 = .ok (.putfield 19, 3) := by decide +kernel
theorem d_V_free_23 : decode b_V_free 23 = .ok (.return_, 1) := by decide +kernel
theorem d_V_syncAll_0 : decode b_V_syncAll 0 = .ok (.aload_n 0, 1) := by decide +kernel
theorem d_V_syncAll_1 : decode b_V_syncAll 1 = .ok (.aload_n 0, 1) := by decide +kernel
theorem d_V_syncAll_2 : decode b_V_syncAll 2 = .ok (.getfield 16, 3) := by decide +kernel
theorem d_V_syncAll_5 : decode b_V_syncAll 5 = .ok (.putfield 23, 3) := by decide +kernel
theorem d_V_syncAll_8 : decode b_V_syncAll 8 = .ok (.aload_n 0, 1) := by decide +kernel
theorem d_V_syncAll_9 : decode b_V_syncAll 9 = .ok (.aload_n 0, 1) := by decide +kernel
theorem d_V_syncAll_10 : decode b_V_syncAll 10 = .ok (.getfield 16, 3) := by decide +kernel
theorem d_V_syncAll_13 : decode b_V_syncAll 13 = .ok (.getfield 79, 3) := by decide +kernel
theorem d_V_syncAll_16 : decode b_V_syncAll 16 = .ok (.putfield 94, 3) := by decide +kernel
theorem d_V_syncAll_19 : decode b_V_syncAll 19 = .ok (.aload_n 0, 1) := by decide +kernel
theorem d_V_syncAll_20 : decode b_V_syncAll 20 = .ok (.aload_n 0, 1) := by decide +kernel
theorem d_V_syncAll_21 : decode b_V_syncAll 21 = .ok (.getfield 97, 3) := by decide +kernel
theorem d_V_syncAll_24 : decode b_V_syncAll 24 = .ok (.putfield 100, 3) := by decide +kernel
theorem d_V_syncAll_27 : decode b_V_syncAll 27 = .ok (.aload_n 0, 1) := by decide +kernel
theorem d_V_syncAll_28 : decode b_V_syncAll 28 = .ok (.iconst 0, 1) := by decide +kernel
theorem d_V_syncAll_29 : decode b_V_syncAll 29 = .ok (.putfield 103, 3) := by decide +kernel
theorem d_V_syncAll_32 : decode b_V_syncAll 32 = .ok (.return_, 1) := by decide +kernel
theorem d_V_sync_0 : decode b_V_sync 0 = .ok (.aload_n 0, 1) := by decide +kernel
theorem d_V_sync_1 : decode b_V_sync 1 = .ok (.getfield 103, 3) := by decide +kernel
theorem d_V_sync_4 : decode b_V_sync 4 = .ok (.istore_n 1, 1) := by decide +kernel
theorem d_V_sync_5 : decode b_V_sync 5 = .ok (.aload_n 0, 1) := by decide +kernel
theorem d_V_sync_6 : decode b_V_sync 6 = .ok (.invokevirtual 106, 3) := by decide +kernel
theorem d_V_sync_9 : decode b_V_sync 9 = .ok (.iload_n 1, 1) := by decide +kernel
theorem d_V_sync_10 : decode b_V_sync 10 = .ok (.ireturn, 1) := by decide +kernel
theorem d_V_isKey_0 : decode b_V_isKey 0 = .ok (.iload_n 0, 1) := by decide +kernel
theorem d_V_isKey_1 : decode b_V_isKey 1 = .ok (.ifCond .lt 13, 3) := by decide +kernel
theorem d_V_isKey_4 : decode b_V_isKey 4 = .ok (.iload_n 0, 1) := by decide +kernel
theorem d_V_isKey_5 : decode b_V_isKey 5 = .ok (.bipush 32, 2) := by decide +kernel
theorem d_V_isKey_7 : decode b_V_isKey 7 = .ok (.if_icmp .ge 7, 3) := by decide +kernel
theorem d_V_isKey_10 : decode b_V_isKey 10 = .ok (.iconst 1, 1) := by decide +kernel
theorem d_V_isKey_11 : decode b_V_isKey 11 = .ok (.goto 4, 3) := by decide +kernel
theorem d_V_isKey_14 : decode b_V_isKey 14 = .ok (.iconst 0, 1) := by decide +kernel
theorem d_V_isKey_15 : decode b_V_isKey 15 = .ok (.ireturn, 1) := by decide +kernel
theorem d_V_ready_0 : decode b_V_ready 0 = .ok (.aload_n 0, 1) := by decide +kernel
theorem d_V_ready_1 : decode b_V_ready 1 = .ok (.getfield 109, 3) := by decide +kernel
theorem d_V_ready_4 : decode b_V_ready 4 = .ok (.bipush 6, 2) := by decide +kernel
theorem d_V_ready_6 : decode b_V_ready 6 = .ok (.if_icmp .ne 6, 3) := by decide +kernel
theorem d_V_ready_9 : decode b_V_ready 9 = .ok (.bipush (-3), 2) := by decide +kernel
theorem d_V_ready_11 : decode b_V_ready 11 = .ok (.ireturn, 1) := by decide +kernel
theorem d_V_ready_12 : decode b_V_ready 12 = .ok (.aload_n 0, 1) := by decide +kernel
theorem d_V_ready_13 : decode b_V_ready 13 = .ok (.getfield 26, 3) := by decide +kernel
theorem d_V_ready_16 : decode b_V_ready 16 = .ok (.aload_n 0, 1) := by decide +kernel
theorem d_V_ready_17 : decode b_V_ready 17 = .ok (.getfield 109, 3) := by decide +kernel
theorem d_V_ready_20 : decode b_V_ready 20 = .ok (.iload_n 1, 1) := by decide +kernel
theorem d_V_ready_21 : decode b_V_ready 21 = .ok (.iastore, 1) := by decide +kernel
theorem d_V_ready_22 : decode b_V_ready 22 = .ok (.aload_n 0, 1) := by decide +kernel
theorem d_V_ready_23 : decode b_V_ready 23 = .ok (.getfield 30, 3) := by decide +kernel
theorem d_V_ready_26 : decode b_V_ready 26 = .ok (.aload_n 0, 1) := by decide +kernel
theorem d_V_ready_27 : decode b_V_ready 27 = .ok (.getfield 109, 3) := by decide +kernel
theorem d_V_ready_30 : decode b_V_ready 30 = .ok (.iload_n 2, 1) := by decide +kernel
theorem d_V_ready_31 : decode b_V_ready 31 = .ok (.iastore, 1) := by decide +kernel
theorem d_V_ready_32 : decode b_V_ready 32 = .ok (.aload_n 0, 1) := by decide +kernel
theorem d_V_ready_33 : decode b_V_ready 33 = .ok (.getfield 33, 3) := by decide +kernel
theorem d_V_ready_36 : decode b_V_ready 36 = .ok (.aload_n 0, 1) := by decide +kernel
theorem d_V_ready_37 : decode b_V_ready 37 = .ok (.getfield 109, 3) := by decide +kernel
theorem d_V_ready_40 : decode b_V_ready 40 = .ok (.iload_n 3, 1) := by decide +kernel
theorem d_V_ready_41 : decode b_V_ready 41 = .ok (.iastore, 1) := by decide +kernel
theorem d_V_ready_42 : decode b_V_ready 42 = .ok (.aload_n 0, 1) := by decide +kernel
theorem d_V_ready_43 : decode b_V_ready 43 = .ok (.dup, 1) := by decide +kernel
theorem d_V_ready_44 : decode b_V_ready 44 = .ok (.getfield 109, 3) := by decide +kernel
theorem d_V_ready_47 : decode b_V_ready 47 = .ok (.iconst 1, 1) := by decide +kernel
theorem d_V_ready_48 : decode b_V_ready 48 = .ok (.iadd, 1) := by decide +kernel
theorem d_V_ready_49 : decode b_V_ready 49 = .ok (.putfield 109, 3) := by decide +kernel
theorem d_V_ready_52 : decode b_V_ready 52 = .ok (.aload_n 0, 1) := by decide +kernel
theorem d_V_ready_53 : decode b_V_ready 53 = .ok (.getfield 109, 3) := by decide +kernel
theorem d_V_ready_56 : decode b_V_ready 56 = .ok (.ireturn, 1) := by decide +kernel
theorem d_V_put_0 : decode b_V_put 0 = .ok (.iload_n 1, 1) := by decide +kernel
theorem d_V_put_1 : decode b_V_put 1 = .ok (.invokestatic 112, 3) := by decide +kernel
theorem d_V_put_4 : decode b_V_put 4 = .ok (.ifCond .eq 14, 3) := by decide +kernel
theorem d_V_put_7 : decode b_V_put 7 = .ok (.iload_n 3, 1) := by decide +kernel
theorem d_V_put_8 : decode b_V_put 8 = .ok (.ifCond .lt 10, 3) := by decide +kernel
theorem d_V_put_11 : decode b_V_put 11 = .ok (.iload_n 3, 1) := by decide +kernel
theorem d_V_put_12 : decode b_V_put 12 = .ok (.sipush 1000, 3) := by decide +kernel
theorem d_V_put_15 : decode b_V_put 15 = .ok (.if_icmp .le 7, 3) := by decide +kernel
theorem d_V_put_18 : decode b_V_put 18 = .ok (.iconst (-1), 1) := by decide +kernel
theorem d_V_put_19 : decode b_V_put 19 = .ok (.goto 10, 3) := by decide +kernel
theorem d_V_put_22 : decode b_V_put 22 = .ok (.aload_n 0, 1) := by decide +kernel
theorem d_V_put_23 : decode b_V_put 23 = .ok (.iload_n 1, 1) := by decide +kernel
theorem d_V_put_24 : decode b_V_put 24 = .ok (.iload_n 2, 1) := by decide +kernel
theorem d_V_put_25 : decode b_V_put 25 = .ok (.iload_n 3, 1) := by decide +kernel
theorem d_V_put_26 : decode b_V_put 26 = .ok (.invokevirtual 116, 3) := by decide +kernel
theorem d_V_put_29 : decode b_V_put 29 = .ok (.ireturn, 1) := by decide +kernel
theorem d_V_delete_0 : decode b_V_delete 0 = .ok (.iload_n 1, 1) := by decide +kernel
theorem d_V_delete_1 : decode b_V_delete 1 = .ok (.invokestatic 112, 3) := by decide +kernel
theorem d_V_delete_4 : decode b_V_delete 4 = .ok (.ifCond .eq 13, 3) := by decide +kernel
theorem d_V_delete_7 : decode b_V_delete 7 = .ok (.aload_n 0, 1) := by decide +kernel
theorem d_V_delete_8 : decode b_V_delete 8 = .ok (.iload_n 1, 1) := by decide +kernel
theorem d_V_delete_9 : decode b_V_delete 9 = .ok (.iconst 0, 1) := by decide +kernel
theorem d_V_delete_10 : decode b_V_delete 10 = .ok (.iconst (-1), 1) := by decide +kernel
theorem d_V_delete_11 : decode b_V_delete 11 = .ok (.invokevirtual 116, 3) := by decide +kernel
theorem d_V_delete_14 : decode b_V_delete 14 = .ok (.goto 4, 3) := by decide +kernel
theorem d_V_delete_17 : decode b_V_delete 17 = .ok (.iconst (-1), 1) := by decide +kernel
theorem d_V_delete_18 : decode b_V_delete 18 = .ok (.ireturn, 1) := by decide +kernel
theorem d_V_code_0 : decode b_V_code 0 = .ok (.iload_n 1, 1) := by decide +kernel
theorem d_V_code_1 : decode b_V_code 1 = .ok (.ifCond .eq 10, 3) := by decide +kernel
theorem d_V_code_4 : decode b_V_code 4 = .ok (.iload_n 0, 1) := by decide +kernel
theorem d_V_code_5 : decode b_V_code 5 = .ok (.bipush 32, 2) := by decide +kernel
theorem d_V_code_7 : decode b_V_code 7 = .ok (.iadd, 1) := by decide +kernel
theorem d_V_code_8 : decode b_V_code 8 = .ok (.goto 4, 3) := by decide +kernel
theorem d_V_code_11 : decode b_V_code 11 = .ok (.iload_n 0, 1) := by decide +kernel
theorem d_V_code_12 : decode b_V_code 12 = .ok (.ireturn, 1) := by decide +kernel
theorem d_V_join_0 : decode b_V_join 0 = .ok (.aload_n 0, 1) := by decide +kernel
theorem d_V_join_1 : decode b_V_join 1 = .ok (.getfield 48, 3) := by decide +kernel
theorem d_V_join_4 : decode b_V_join 4 = .ok (.iload_n 1, 1) := by decide +kernel
theorem d_V_join_5 : decode b_V_join 5 = .ok (.aaload, 1) := by decide +kernel
theorem d_V_join_6 : decode b_V_join 6 = .ok (.astore_n 3, 1) := by decide +kernel
theorem d_V_join_7 : decode b_V_join 7 = .ok (.iload_n 1, 1) := by decide +kernel
theorem d_V_join_8 : decode b_V_join 8 = .ok (.ifCond .le 22, 3) := by decide +kernel
theorem d_V_join_11 : decode b_V_join 11 = .ok (.aload_n 3, 1) := by decide +kernel
theorem d_V_join_12 : decode b_V_join 12 = .ok (.iconst 0, 1) := by decide +kernel
theorem d_V_join_13 : decode b_V_join 13 = .ok (.aload_n 3, 1) := by decide +kernel
theorem d_V_join_14 : decode b_V_join 14 = .ok (.getfield 213, 3) := by decide +kernel
theorem d_V_join_17 : decode b_V_join 17 = .ok (.iload_n 2, 1) := by decide +kernel
theorem d_V_join_18 : decode b_V_join 18 = .ok (.invokevirtual 228, 3) := by decide +kernel
theorem d_V_join_21 : decode b_V_join 21 = .ok (.aload_n 0, 1) := by decide +kernel
theorem d_V_join_22 : decode b_V_join 22 = .ok (.getfield 61, 3) := by decide +kernel
theorem d_V_join_25 : decode b_V_join 25 = .ok (.aload_n 3, 1) := by decide +kernel
theorem d_V_join_26 : decode b_V_join 26 = .ok (.invokevirtual 231, 3) := by decide +kernel
theorem d_V_join_29 : decode b_V_join 29 = .ok (.return_, 1) := by decide +kernel
theorem d_V_join_30 : decode b_V_join 30 = .ok (.iconst 0, 1) := by decide +kernel
theorem d_V_join_31 : decode b_V_join 31 = .ok (.istore 4, 2) := by decide +kernel
theorem d_V_join_33 : decode b_V_join 33 = .ok (.iload 4, 2) := by decide +kernel
theorem d_V_join_35 : decode b_V_join 35 = .ok (.aload_n 3, 1) := by decide +kernel
theorem d_V_join_36 : decode b_V_join 36 = .ok (.getfield 213, 3) := by decide +kernel
theorem d_V_join_39 : decode b_V_join 39 = .ok (.if_icmp .ge 41, 3) := by decide +kernel
theorem d_V_join_42 : decode b_V_join 42 = .ok (.aload_n 0, 1) := by decide +kernel
theorem d_V_join_43 : decode b_V_join 43 = .ok (.getfield 54, 3) := by decide +kernel
theorem d_V_join_46 : decode b_V_join 46 = .ok (.iload 4, 2) := by decide +kernel
theorem d_V_join_48 : decode b_V_join 48 = .ok (.aaload, 1) := by decide +kernel
theorem d_V_join_49 : decode b_V_join 49 = .ok (.aload_n 3, 1) := by decide +kernel
theorem d_V_join_50 : decode b_V_join 50 = .ok (.getfield 214, 3) := by decide +kernel
theorem d_V_join_53 : decode b_V_join 53 = .ok (.iload 4, 2) := by decide +kernel
theorem d_V_join_55 : decode b_V_join 55 = .ok (.aaload, 1) := by decide +kernel
theorem d_V_join_56 : decode b_V_join 56 = .ok (.iload_n 2, 1) := by decide +kernel
theorem d_V_join_57 : decode b_V_join 57 = .ok (.invokevirtual 234, 3) := by decide +kernel
theorem d_V_join_60 : decode b_V_join 60 = .ok (.aload_n 0, 1) := by decide +kernel
theorem d_V_join_61 : decode b_V_join 61 = .ok (.getfield 61, 3) := by decide +kernel
theorem d_V_join_64 : decode b_V_join 64 = .ok (.aload_n 0, 1) := by decide +kernel
theorem d_V_join_65 : decode b_V_join 65 = .ok (.getfield 54, 3) := by decide +kernel
theorem d_V_join_68 : decode b_V_join 68 = .ok (.iload 4, 2) := by decide +kernel
theorem d_V_join_70 : decode b_V_join 70 = .ok (.aaload, 1) := by decide +kernel
theorem d_V_join_71 : decode b_V_join 71 = .ok (.invokevirtual 231, 3) := by decide +kernel
theorem d_V_join_74 : decode b_V_join 74 = .ok (.iinc 4 1, 3) := by decide +kernel
theorem d_V_join_77 : decode b_V_join 77 = .ok (.goto (-44), 3) := by decide +kernel
theorem d_V_join_80 : decode b_V_join 80 = .ok (.return_, 1) := by decide +kernel
theorem d_V_gather_0 : decode b_V_gather 0 = .ok (.aload_n 0, 1) := by decide +kernel
theorem d_V_gather_1 : decode b_V_gather 1 = .ok (.iconst 0, 1) := by decide +kernel
theorem d_V_gather_2 : decode b_V_gather 2 = .ok (.putfield 181, 3) := by decide +kernel
theorem d_V_gather_5 : decode b_V_gather 5 = .ok (.aload_n 1, 1) := by decide +kernel
theorem d_V_gather_6 : decode b_V_gather 6 = .ok (.invokeinterface 184 1, 5) := by decide +kernel
theorem d_V_gather_11 : decode b_V_gather 11 = .ok (.astore_n 2, 1) := by decide +kernel
theorem d_V_gather_12 : decode b_V_gather 12 = .ok (.aload_n 2, 1) := by decide +kernel
theorem d_V_gather_13 : decode b_V_gather 13 = .ok (.ifnull 39, 3) := by decide +kernel
theorem d_V_gather_16 : decode b_V_gather 16 = .ok (.aload_n 0, 1) := by decide +kernel
theorem d_V_gather_17 : decode b_V_gather 17 = .ok (.getfield 67, 3) := by decide +kernel
theorem d_V_gather_20 : decode b_V_gather 20 = .ok (.aload_n 0, 1) := by decide +kernel
theorem d_V_gather_21 : decode b_V_gather 21 = .ok (.getfield 181, 3) := by decide +kernel
theorem d_V_gather_24 : decode b_V_gather 24 = .ok (.aload_n 2, 1) := by decide +kernel
theorem d_V_gather_25 : decode b_V_gather 25 = .ok (.aastore, 1) := by decide +kernel
theorem d_V_gather_26 : decode b_V_gather 26 = .ok (.aload_n 0, 1) := by decide +kernel
theorem d_V_gather_27 : decode b_V_gather 27 = .ok (.dup, 1) := by decide +kernel
theorem d_V_gather_28 : decode b_V_gather 28 = .ok (.getfield 181, 3) := by decide +kernel
theorem d_V_gather_31 : decode b_V_gather 31 = .ok (.iconst 1, 1) := by decide +kernel
theorem d_V_gather_32 : decode b_V_gather 32 = .ok (.iadd, 1) := by decide +kernel
theorem d_V_gather_33 : decode b_V_gather 33 = .ok (.putfield 181, 3) := by decide +kernel
theorem d_V_gather_36 : decode b_V_gather 36 = .ok (.aload_n 1, 1) := by decide +kernel
theorem d_V_gather_37 : decode b_V_gather 37 = .ok (.invokeinterface 190 1, 5) := by decide +kernel
theorem d_V_gather_42 : decode b_V_gather 42 = .ok (.aload_n 1, 1) := by decide +kernel
theorem d_V_gather_43 : decode b_V_gather 43 = .ok (.invokeinterface 184 1, 5) := by decide +kernel
theorem d_V_gather_48 : decode b_V_gather 48 = .ok (.astore_n 2, 1) := by decide +kernel
theorem d_V_gather_49 : decode b_V_gather 49 = .ok (.goto (-37), 3) := by decide +kernel
theorem d_V_gather_52 : decode b_V_gather 52 = .ok (.return_, 1) := by decide +kernel
theorem d_V_between_0 : decode b_V_between 0 = .ok (.iconst 0, 1) := by decide +kernel
theorem d_V_between_1 : decode b_V_between 1 = .ok (.istore_n 3, 1) := by decide +kernel
theorem d_V_between_2 : decode b_V_between 2 = .ok (.aload_n 0, 1) := by decide +kernel
theorem d_V_between_3 : decode b_V_between 3 = .ok (.getfield 36, 3) := by decide +kernel
theorem d_V_between_6 : decode b_V_between 6 = .ok (.astore 4, 2) := by decide +kernel
theorem d_V_between_8 : decode b_V_between 8 = .ok (.aload 4, 2) := by decide +kernel
theorem d_V_between_10 : decode b_V_between 10 = .ok (.arraylength, 1) := by decide +kernel
theorem d_V_between_11 : decode b_V_between 11 = .ok (.istore 5, 2) := by decide +kernel
theorem d_V_between_13 : decode b_V_between 13 = .ok (.iconst 0, 1) := by decide +kernel
theorem d_V_between_14 : decode b_V_between 14 = .ok (.istore 6, 2) := by decide +kernel
theorem d_V_between_16 : decode b_V_between 16 = .ok (.iload 6, 2) := by decide +kernel
theorem d_V_between_18 : decode b_V_between 18 = .ok (.iload 5, 2) := by decide +kernel
theorem d_V_between_20 : decode b_V_between 20 = .ok (.if_icmp .ge 36, 3) := by decide +kernel
theorem d_V_between_23 : decode b_V_between 23 = .ok (.aload 4, 2) := by decide +kernel
theorem d_V_between_25 : decode b_V_between 25 = .ok (.iload 6, 2) := by decide +kernel
theorem d_V_between_27 : decode b_V_between 27 = .ok (.iaload, 1) := by decide +kernel
theorem d_V_between_28 : decode b_V_between 28 = .ok (.istore 7, 2) := by decide +kernel
theorem d_V_between_30 : decode b_V_between 30 = .ok (.iload_n 3, 1) := by decide +kernel
theorem d_V_between_31 : decode b_V_between 31 = .ok (.iload 7, 2) := by decide +kernel
theorem d_V_between_33 : decode b_V_between 33 = .ok (.iload_n 1, 1) := by decide +kernel
theorem d_V_between_34 : decode b_V_between 34 = .ok (.if_icmp .lt 13, 3) := by decide +kernel
theorem d_V_between_37 : decode b_V_between 37 = .ok (.iload 7, 2) := by decide +kernel
theorem d_V_between_39 : decode b_V_between 39 = .ok (.iload_n 2, 1) := by decide +kernel
theorem d_V_between_40 : decode b_V_between 40 = .ok (.if_icmp .ge 7, 3) := by decide +kernel
theorem d_V_between_43 : decode b_V_between 43 = .ok (.iconst 1, 1) := by decide +kernel
theorem d_V_between_44 : decode b_V_between 44 = .ok (.goto 4, 3) := by decide +kernel
theorem d_V_between_47 : decode b_V_between 47 = .ok (.iconst 0, 1) := by decide +kernel
theorem d_V_between_48 : decode b_V_between 48 = .ok (.ior, 1) := by decide +kernel
theorem d_V_between_49 : decode b_V_between 49 = .ok (.istore_n 3, 1) := by decide +kernel
theorem d_V_between_50 : decode b_V_between 50 = .ok (.iinc 6 1, 3) := by decide +kernel
theorem d_V_between_53 : decode b_V_between 53 = .ok (.goto (-37), 3) := by decide +kernel
theorem d_V_between_56 : decode b_V_between 56 = .ok (.iload_n 3, 1) := by decide +kernel
theorem d_V_between_57 : decode b_V_between 57 = .ok (.ireturn, 1) := by decide +kernel
theorem d_V_sift_0 : decode b_V_sift 0 = .ok (.iconst 0, 1) := by decide +kernel
theorem d_V_sift_1 : decode b_V_sift 1 = .ok (.istore_n 2, 1) := by decide +kernel
theorem d_V_sift_2 : decode b_V_sift 2 = .ok (.iconst 0, 1) := by decide +kernel
theorem d_V_sift_3 : decode b_V_sift 3 = .ok (.istore_n 3, 1) := by decide +kernel
theorem d_V_sift_4 : decode b_V_sift 4 = .ok (.iload_n 3, 1) := by decide +kernel
theorem d_V_sift_5 : decode b_V_sift 5 = .ok (.aload_n 0, 1) := by decide +kernel
theorem d_V_sift_6 : decode b_V_sift 6 = .ok (.getfield 181, 3) := by decide +kernel
theorem d_V_sift_9 : decode b_V_sift 9 = .ok (.if_icmp .ge 86, 3) := by decide +kernel
theorem d_V_sift_12 : decode b_V_sift 12 = .ok (.iload_n 3, 1) := by decide +kernel
theorem d_V_sift_13 : decode b_V_sift 13 = .ok (.ifCond .le 57, 3) := by decide +kernel
theorem d_V_sift_16 : decode b_V_sift 16 = .ok (.aload_n 0, 1) := by decide +kernel
theorem d_V_sift_17 : decode b_V_sift 17 = .ok (.getfield 67, 3) := by decide +kernel
theorem d_V_sift_20 : decode b_V_sift 20 = .ok (.iload_n 3, 1) := by decide +kernel
theorem d_V_sift_21 : decode b_V_sift 21 = .ok (.iconst 1, 1) := by decide +kernel
theorem d_V_sift_22 : decode b_V_sift 22 = .ok (.isub, 1) := by decide +kernel
theorem d_V_sift_23 : decode b_V_sift 23 = .ok (.aaload, 1) := by decide +kernel
theorem d_V_sift_24 : decode b_V_sift 24 = .ok (.getfield 156, 3) := by decide +kernel
theorem d_V_sift_27 : decode b_V_sift 27 = .ok (.aload_n 0, 1) := by decide +kernel
theorem d_V_sift_28 : decode b_V_sift 28 = .ok (.getfield 67, 3) := by decide +kernel
theorem d_V_sift_31 : decode b_V_sift 31 = .ok (.iload_n 3, 1) := by decide +kernel
theorem d_V_sift_32 : decode b_V_sift 32 = .ok (.aaload, 1) := by decide +kernel
theorem d_V_sift_33 : decode b_V_sift 33 = .ok (.getfield 156, 3) := by decide +kernel
theorem d_V_sift_36 : decode b_V_sift 36 = .ok (.if_icmp .ne 34, 3) := by decide +kernel
theorem d_V_sift_39 : decode b_V_sift 39 = .ok (.aload_n 0, 1) := by decide +kernel
theorem d_V_sift_40 : decode b_V_sift 40 = .ok (.aload_n 0, 1) := by decide +kernel
theorem d_V_sift_41 : decode b_V_sift 41 = .ok (.getfield 67, 3) := by decide +kernel
theorem d_V_sift_44 : decode b_V_sift 44 = .ok (.iload_n 3, 1) := by decide +kernel
theorem d_V_sift_45 : decode b_V_sift 45 = .ok (.aaload, 1) := by decide +kernel
theorem d_V_sift_46 : decode b_V_sift 46 = .ok (.getfield 163, 3) := by decide +kernel
theorem d_V_sift_49 : decode b_V_sift 49 = .ok (.aload_n 0, 1) := by decide +kernel
theorem d_V_sift_50 : decode b_V_sift 50 = .ok (.getfield 67, 3) := by decide +kernel
theorem d_V_sift_53 : decode b_V_sift 53 = .ok (.iload_n 3, 1) := by decide +kernel
theorem d_V_sift_54 : decode b_V_sift 54 = .ok (.iconst 1, 1) := by decide +kernel
theorem d_V_sift_55 : decode b_V_sift 55 = .ok (.isub, 1) := by decide +kernel
theorem d_V_sift_56 : decode b_V_sift 56 = .ok (.aaload, 1) := by decide +kernel
theorem d_V_sift_57 : decode b_V_sift 57 = .ok (.getfield 163, 3) := by decide +kernel
theorem d_V_sift_60 : decode b_V_sift 60 = .ok (.invokevirtual 193, 3) := by decide +kernel
theorem d_V_sift_63 : decode b_V_sift 63 = .ok (.ifCond .ne 7, 3) := by decide +kernel
theorem d_V_sift_66 : decode b_V_sift 66 = .ok (.iconst 1, 1) := by decide +kernel
theorem d_V_sift_67 : decode b_V_sift 67 = .ok (.goto 4, 3) := by decide +kernel
theorem d_V_sift_70 : decode b_V_sift 70 = .ok (.iconst 0, 1) := by decide +kernel
theorem d_V_sift_71 : decode b_V_sift 71 = .ok (.istore 4, 2) := by decide +kernel
theorem d_V_sift_73 : decode b_V_sift 73 = .ok (.aload_n 0, 1) := by decide +kernel
theorem d_V_sift_74 : decode b_V_sift 74 = .ok (.getfield 71, 3) := by decide +kernel
theorem d_V_sift_77 : decode b_V_sift 77 = .ok (.iload_n 3, 1) := by decide +kernel
theorem d_V_sift_78 : decode b_V_sift 78 = .ok (.iload 4, 2) := by decide +kernel
theorem d_V_sift_80 : decode b_V_sift 80 = .ok (.ifCond .ne 7, 3) := by decide +kernel
theorem d_V_sift_83 : decode b_V_sift 83 = .ok (.iconst 1, 1) := by decide +kernel
theorem d_V_sift_84 : decode b_V_sift 84 = .ok (.goto 4, 3) := by decide +kernel
theorem d_V_sift_87 : decode b_V_sift 87 = .ok (.iconst 0, 1) := by decide +kernel
theorem d_V_sift_88 : decode b_V_sift 88 = .ok (.bastore, 1) := by decide +kernel
theorem d_V_sift_89 : decode b_V_sift 89 = .ok (.iinc 3 1, 3) := by decide +kernel
theorem d_V_sift_92 : decode b_V_sift 92 = .ok (.goto (-88), 3) := by decide +kernel
theorem d_V_sift_95 : decode b_V_sift 95 = .ok (.iconst 0, 1) := by decide +kernel
theorem d_V_sift_96 : decode b_V_sift 96 = .ok (.istore_n 3, 1) := by decide +kernel
theorem d_V_sift_97 : decode b_V_sift 97 = .ok (.aload_n 0, 1) := by decide +kernel
theorem d_V_sift_98 : decode b_V_sift 98 = .ok (.getfield 181, 3) := by decide +kernel
theorem d_V_sift_101 : decode b_V_sift 101 = .ok (.iconst 1, 1) := by decide +kernel
theorem d_V_sift_102 : decode b_V_sift 102 = .ok (.isub, 1) := by decide +kernel
theorem d_V_sift_103 : decode b_V_sift 103 = .ok (.istore 4, 2) := by decide +kernel
theorem d_V_sift_105 : decode b_V_sift 105 = .ok (.iload 4, 2) := by decide +kernel
theorem d_V_sift_107 : decode b_V_sift 107 = .ok (.ifCond .lt 118, 3) := by decide +kernel
theorem d_V_sift_110 : decode b_V_sift 110 = .ok (.iload 4, 2) := by decide +kernel
theorem d_V_sift_112 : decode b_V_sift 112 = .ok (.iconst 1, 1) := by decide +kernel
theorem d_V_sift_113 : decode b_V_sift 113 = .ok (.iadd, 1) := by decide +kernel
theorem d_V_sift_114 : decode b_V_sift 114 = .ok (.aload_n 0, 1) := by decide +kernel
theorem d_V_sift_115 : decode b_V_sift 115 = .ok (.getfield 181, 3) := by decide +kernel
theorem d_V_sift_118 : decode b_V_sift 118 = .ok (.if_icmp .ge 30, 3) := by decide +kernel
theorem d_V_sift_121 : decode b_V_sift 121 = .ok (.aload_n 0, 1) := by decide +kernel
theorem d_V_sift_122 : decode b_V_sift 122 = .ok (.getfield 67, 3) := by decide +kernel
theorem d_V_sift_125 : decode b_V_sift 125 = .ok (.iload 4, 2) := by decide +kernel
theorem d_V_sift_127 : decode b_V_sift 127 = .ok (.iconst 1, 1) := by decide +kernel
theorem d_V_sift_128 : decode b_V_sift 128 = .ok (.iadd, 1) := by decide +kernel
theorem d_V_sift_129 : decode b_V_sift 129 = .ok (.aaload, 1) := by decide +kernel
theorem d_V_sift_130 : decode b_V_sift 130 = .ok (.getfield 156, 3) := by decide +kernel
theorem d_V_sift_133 : decode b_V_sift 133 = .ok (.aload_n 0, 1) := by decide +kernel
theorem d_V_sift_134 : decode b_V_sift 134 = .ok (.getfield 67, 3) := by decide +kernel
theorem d_V_sift_137 : decode b_V_sift 137 = .ok (.iload 4, 2) := by decide +kernel
theorem d_V_sift_139 : decode b_V_sift 139 = .ok (.aaload, 1) := by decide +kernel
theorem d_V_sift_140 : decode b_V_sift 140 = .ok (.getfield 156, 3) := by decide +kernel
theorem d_V_sift_143 : decode b_V_sift 143 = .ok (.if_icmp .eq 5, 3) := by decide +kernel
theorem d_V_sift_146 : decode b_V_sift 146 = .ok (.iconst 0, 1) := by decide +kernel
theorem d_V_sift_147 : decode b_V_sift 147 = .ok (.istore_n 3, 1) := by decide +kernel
theorem d_V_sift_148 : decode b_V_sift 148 = .ok (.iload_n 1, 1) := by decide +kernel
theorem d_V_sift_149 : decode b_V_sift 149 = .ok (.ifCond .eq 42, 3) := by decide +kernel
theorem d_V_sift_152 : decode b_V_sift 152 = .ok (.aload_n 0, 1) := by decide +kernel
theorem d_V_sift_153 : decode b_V_sift 153 = .ok (.getfield 71, 3) := by decide +kernel
theorem d_V_sift_156 : decode b_V_sift 156 = .ok (.iload 4, 2) := by decide +kernel
theorem d_V_sift_158 : decode b_V_sift 158 = .ok (.baload, 1) := by decide +kernel
theorem d_V_sift_159 : decode b_V_sift 159 = .ok (.ifCond .eq 32, 3) := by decide +kernel
theorem d_V_sift_162 : decode b_V_sift 162 = .ok (.iload_n 3, 1) := by decide +kernel
theorem d_V_sift_163 : decode b_V_sift 163 = .ok (.ifCond .ne 28, 3) := by decide +kernel
theorem d_V_sift_166 : decode b_V_sift 166 = .ok (.aload_n 0, 1) := by decide +kernel
theorem d_V_sift_167 : decode b_V_sift 167 = .ok (.getfield 67, 3) := by decide +kernel
theorem d_V_sift_170 : decode b_V_sift 170 = .ok (.iload 4, 2) := by decide +kernel
theorem d_V_sift_172 : decode b_V_sift 172 = .ok (.aaload, 1) := by decide +kernel
theorem d_V_sift_173 : decode b_V_sift 173 = .ok (.aload_n 0, 1) := by decide +kernel
theorem d_V_sift_174 : decode b_V_sift 174 = .ok (.getfield 138, 3) := by decide +kernel
theorem d_V_sift_177 : decode b_V_sift 177 = .ok (.invokevirtual 197, 3) := by decide +kernel
theorem d_V_sift_180 : decode b_V_sift 180 = .ok (.ifCond .eq 11, 3) := by decide +kernel
theorem d_V_sift_183 : decode b_V_sift 183 = .ok (.aload_n 0, 1) := by decide +kernel
theorem d_V_sift_184 : decode b_V_sift 184 = .ok (.getfield 71, 3) := by decide +kernel
theorem d_V_sift_187 : decode b_V_sift 187 = .ok (.iload 4, 2) := by decide +kernel
theorem d_V_sift_189 : decode b_V_sift 189 = .ok (.iconst 0, 1) := by decide +kernel
theorem d_V_sift_190 : decode b_V_sift 190 = .ok (.bastore, 1) := by decide +kernel
theorem d_V_sift_191 : decode b_V_sift 191 = .ok (.iload_n 3, 1) := by decide +kernel
theorem d_V_sift_192 : decode b_V_sift 192 = .ok (.aload_n 0, 1) := by decide +kernel
theorem d_V_sift_193 : decode b_V_sift 193 = .ok (.getfield 71, 3) := by decide +kernel
theorem d_V_sift_196 : decode b_V_sift 196 = .ok (.iload 4, 2) := by decide +kernel
theorem d_V_sift_198 : decode b_V_sift 198 = .ok (.baload, 1) := by decide +kernel
theorem d_V_sift_199 : decode b_V_sift 199 = .ok (.ior, 1) := by decide +kernel
theorem d_V_sift_200 : decode b_V_sift 200 = .ok (.istore_n 3, 1) := by decide +kernel
theorem d_V_sift_201 : decode b_V_sift 201 = .ok (.iload_n 2, 1) := by decide +kernel
theorem d_V_sift_202 : decode b_V_sift 202 = .ok (.aload_n 0, 1) := by decide +kernel
theorem d_V_sift_203 : decode b_V_sift 203 = .ok (.getfield 71, 3) := by decide +kernel
theorem d_V_sift_206 : decode b_V_sift 206 = .ok (.iload 4, 2) := by decide +kernel
theorem d_V_sift_208 : decode b_V_sift 208 = .ok (.baload, 1) := by decide +kernel
theorem d_V_sift_209 : decode b_V_sift 209 = .ok (.ifCond .eq 7, 3) := by decide +kernel
theorem d_V_sift_212 : decode b_V_sift 212 = .ok (.iconst 0, 1) := by decide +kernel
theorem d_V_sift_213 : decode b_V_sift 213 = .ok (.goto 4, 3) := by decide +kernel
theorem d_V_sift_216 : decode b_V_sift 216 = .ok (.iconst 1, 1) := by decide +kernel
theorem d_V_sift_217 : decode b_V_sift 217 = .ok (.iadd, 1) := by decide +kernel
theorem d_V_sift_218 : decode b_V_sift 218 = .ok (.istore_n 2, 1) := by decide +kernel
theorem d_V_sift_219 : decode b_V_sift 219 = .ok (.iinc 4 (-1), 3) := by decide +kernel
theorem d_V_sift_222 : decode b_V_sift 222 = .ok (.goto (-117), 3) := by decide +kernel
theorem d_V_sift_225 : decode b_V_sift 225 = .ok (.iload_n 2, 1) := by decide +kernel
theorem d_V_sift_226 : decode b_V_sift 226 = .ok (.ireturn, 1) := by decide +kernel
theorem d_V_clear_0 : decode b_V_clear 0 = .ok (.iconst 0, 1) := by decide +kernel
theorem d_V_clear_1 : decode b_V_clear 1 = .ok (.istore_n 2, 1) := by decide +kernel
theorem d_V_clear_2 : decode b_V_clear 2 = .ok (.iload_n 2, 1) := by decide +kernel
theorem d_V_clear_3 : decode b_V_clear 3 = .ok (.aload_n 1, 1) := by decide +kernel
theorem d_V_clear_4 : decode b_V_clear 4 = .ok (.getfield 213, 3) := by decide +kernel
theorem d_V_clear_7 : decode b_V_clear 7 = .ok (.if_icmp .ge 32, 3) := by decide +kernel
theorem d_V_clear_10 : decode b_V_clear 10 = .ok (.aload_n 1, 1) := by decide +kernel
theorem d_V_clear_11 : decode b_V_clear 11 = .ok (.getfield 214, 3) := by decide +kernel
theorem d_V_clear_14 : decode b_V_clear 14 = .ok (.iload_n 2, 1) := by decide +kernel
theorem d_V_clear_15 : decode b_V_clear 15 = .ok (.aaload, 1) := by decide +kernel
theorem d_V_clear_16 : decode b_V_clear 16 = .ok (.aload_n 0, 1) := by decide +kernel
theorem d_V_clear_17 : decode b_V_clear 17 = .ok (.getfield 200, 3) := by decide +kernel
theorem d_V_clear_20 : decode b_V_clear 20 = .ok (.putfield 207, 3) := by decide +kernel
theorem d_V_clear_23 : decode b_V_clear 23 = .ok (.aload_n 0, 1) := by decide +kernel
theorem d_V_clear_24 : decode b_V_clear 24 = .ok (.aload_n 1, 1) := by decide +kernel
theorem d_V_clear_25 : decode b_V_clear 25 = .ok (.getfield 214, 3) := by decide +kernel
theorem d_V_clear_28 : decode b_V_clear 28 = .ok (.iload_n 2, 1) := by decide +kernel
theorem d_V_clear_29 : decode b_V_clear 29 = .ok (.aaload, 1) := by decide +kernel
theorem d_V_clear_30 : decode b_V_clear 30 = .ok (.putfield 200, 3) := by decide +kernel
theorem d_V_clear_33 : decode b_V_clear 33 = .ok (.iinc 2 1, 3) := by decide +kernel
theorem d_V_clear_36 : decode b_V_clear 36 = .ok (.goto (-34), 3) := by decide +kernel
theorem d_V_clear_39 : decode b_V_clear 39 = .ok (.aload_n 1, 1) := by decide +kernel
theorem d_V_clear_40 : decode b_V_clear 40 = .ok (.iconst 0, 1) := by decide +kernel
theorem d_V_clear_41 : decode b_V_clear 41 = .ok (.putfield 213, 3) := by decide +kernel
theorem d_V_clear_44 : decode b_V_clear 44 = .ok (.return_, 1) := by decide +kernel
theorem d_V_drop_0 : decode b_V_drop 0 = .ok (.aload_n 1, 1) := by decide +kernel
theorem d_V_drop_1 : decode b_V_drop 1 = .ok (.invokevirtual 178, 3) := by decide +kernel
theorem d_V_drop_4 : decode b_V_drop 4 = .ok (.aload_n 1, 1) := by decide +kernel
theorem d_V_drop_5 : decode b_V_drop 5 = .ok (.getfield 150, 3) := by decide +kernel
theorem d_V_drop_8 : decode b_V_drop 8 = .ok (.iconst 0, 1) := by decide +kernel
theorem d_V_drop_9 : decode b_V_drop 9 = .ok (.aload_n 0, 1) := by decide +kernel
theorem d_V_drop_10 : decode b_V_drop 10 = .ok (.getfield 145, 3) := by decide +kernel
theorem d_V_drop_13 : decode b_V_drop 13 = .ok (.aastore, 1) := by decide +kernel
theorem d_V_drop_14 : decode b_V_drop 14 = .ok (.aload_n 0, 1) := by decide +kernel
theorem d_V_drop_15 : decode b_V_drop 15 = .ok (.aload_n 1, 1) := by decide +kernel
theorem d_V_drop_16 : decode b_V_drop 16 = .ok (.putfield 145, 3) := by decide +kernel
theorem d_V_drop_19 : decode b_V_drop 19 = .ok (.return_, 1) := by decide +kernel
theorem d_V_newTable_0 : decode b_V_newTable 0 = .ok (.aload_n 0, 1) := by decide +kernel
theorem d_V_newTable_1 : decode b_V_newTable 1 = .ok (.getfield 200, 3) := by decide +kernel
theorem d_V_newTable_4 : decode b_V_newTable 4 = .ok (.astore_n 1, 1) := by decide +kernel
theorem d_V_newTable_5 : decode b_V_newTable 5 = .ok (.aload_n 1, 1) := by decide +kernel
theorem d_V_newTable_6 : decode b_V_newTable 6 = .ok (.ifnonnull 14, 3) := by decide +kernel
theorem d_V_newTable_9 : decode b_V_newTable 9 = .ok (.new 204, 3) := by decide +kernel
theorem d_V_newTable_12 : decode b_V_newTable 12 = .ok (.dup, 1) := by decide +kernel
theorem d_V_newTable_13 : decode b_V_newTable 13 = .ok (.invokespecial 206, 3) := by decide +kernel
theorem d_V_newTable_16 : decode b_V_newTable 16 = .ok (.astore_n 1, 1) := by decide +kernel
theorem d_V_newTable_17 : decode b_V_newTable 17 = .ok (.goto 11, 3) := by decide +kernel
theorem d_V_newTable_20 : decode b_V_newTable 20 = .ok (.aload_n 0, 1) := by decide +kernel
theorem d_V_newTable_21 : decode b_V_newTable 21 = .ok (.aload_n 1, 1) := by decide +kernel
theorem d_V_newTable_22 : decode b_V_newTable 22 = .ok (.getfield 207, 3) := by decide +kernel
theorem d_V_newTable_25 : decode b_V_newTable 25 = .ok (.putfield 200, 3) := by decide +kernel
theorem d_V_newTable_28 : decode b_V_newTable 28 = .ok (.aload_n 1, 1) := by decide +kernel
theorem d_V_newTable_29 : decode b_V_newTable 29 = .ok (.iconst 0, 1) := by decide +kernel
theorem d_V_newTable_30 : decode b_V_newTable 30 = .ok (.putfield 209, 3) := by decide +kernel
theorem d_V_newTable_33 : decode b_V_newTable 33 = .ok (.aload_n 1, 1) := by decide +kernel
theorem d_V_newTable_34 : decode b_V_newTable 34 = .ok (.iconst 0, 1) := by decide +kernel
theorem d_V_newTable_35 : decode b_V_newTable 35 = .ok (.putfield 210, 3) := by decide +kernel
theorem d_V_newTable_38 : decode b_V_newTable 38 = .ok (.aload_n 1, 1) := by decide +kernel
theorem d_V_newTable_39 : decode b_V_newTable 39 = .ok (.aconst_null, 1) := by decide +kernel
theorem d_V_newTable_40 : decode b_V_newTable 40 = .ok (.putfield 207, 3) := by decide +kernel
theorem d_V_newTable_43 : decode b_V_newTable 43 = .ok (.aload_n 1, 1) := by decide +kernel
theorem d_V_newTable_44 : decode b_V_newTable 44 = .ok (.areturn, 1) := by decide +kernel
theorem d_V_lay_0 : decode b_V_lay 0 = .ok (.aconst_null, 1) := by decide +kernel
theorem d_V_lay_1 : decode b_V_lay 1 = .ok (.astore_n 2, 1) := by decide +kernel
theorem d_V_lay_2 : decode b_V_lay 2 = .ok (.iconst 0, 1) := by decide +kernel
theorem d_V_lay_3 : decode b_V_lay 3 = .ok (.istore_n 3, 1) := by decide +kernel
theorem d_V_lay_4 : decode b_V_lay 4 = .ok (.iload_n 3, 1) := by decide +kernel
theorem d_V_lay_5 : decode b_V_lay 5 = .ok (.aload_n 0, 1) := by decide +kernel
theorem d_V_lay_6 : decode b_V_lay 6 = .ok (.getfield 181, 3) := by decide +kernel
theorem d_V_lay_9 : decode b_V_lay 9 = .ok (.if_icmp .ge 79, 3) := by decide +kernel
theorem d_V_lay_12 : decode b_V_lay 12 = .ok (.aload_n 0, 1) := by decide +kernel
theorem d_V_lay_13 : decode b_V_lay 13 = .ok (.getfield 71, 3) := by decide +kernel
theorem d_V_lay_16 : decode b_V_lay 16 = .ok (.iload_n 3, 1) := by decide +kernel
theorem d_V_lay_17 : decode b_V_lay 17 = .ok (.baload, 1) := by decide +kernel
theorem d_V_lay_18 : decode b_V_lay 18 = .ok (.ifCond .ne 16, 3) := by decide +kernel
theorem d_V_lay_21 : decode b_V_lay 21 = .ok (.aload_n 0, 1) := by decide +kernel
theorem d_V_lay_22 : decode b_V_lay 22 = .ok (.aload_n 0, 1) := by decide +kernel
theorem d_V_lay_23 : decode b_V_lay 23 = .ok (.getfield 67, 3) := by decide +kernel
theorem d_V_lay_26 : decode b_V_lay 26 = .ok (.iload_n 3, 1) := by decide +kernel
theorem d_V_lay_27 : decode b_V_lay 27 = .ok (.aaload, 1) := by decide +kernel
theorem d_V_lay_28 : decode b_V_lay 28 = .ok (.invokevirtual 218, 3) := by decide +kernel
theorem d_V_lay_31 : decode b_V_lay 31 = .ok (.goto 51, 3) := by decide +kernel
theorem d_V_lay_34 : decode b_V_lay 34 = .ok (.aload_n 2, 1) := by decide +kernel
theorem d_V_lay_35 : decode b_V_lay 35 = .ok (.ifnull 12, 3) := by decide +kernel
theorem d_V_lay_38 : decode b_V_lay 38 = .ok (.aload_n 2, 1) := by decide +kernel
theorem d_V_lay_39 : decode b_V_lay 39 = .ok (.getfield 209, 3) := by decide +kernel
theorem d_V_lay_42 : decode b_V_lay 42 = .ok (.bipush 6, 2) := by decide +kernel
theorem d_V_lay_44 : decode b_V_lay 44 = .ok (.if_icmp .ne 28, 3) := by decide +kernel
theorem d_V_lay_47 : decode b_V_lay 47 = .ok (.aload_n 0, 1) := by decide +kernel
theorem d_V_lay_48 : decode b_V_lay 48 = .ok (.invokevirtual 221, 3) := by decide +kernel
theorem d_V_lay_51 : decode b_V_lay 51 = .ok (.astore_n 2, 1) := by decide +kernel
theorem d_V_lay_52 : decode b_V_lay 52 = .ok (.aload_n 1, 1) := by decide +kernel
theorem d_V_lay_53 : decode b_V_lay 53 = .ok (.getfield 214, 3) := by decide +kernel
theorem d_V_lay_56 : decode b_V_lay 56 = .ok (.aload_n 1, 1) := by decide +kernel
theorem d_V_lay_57 : decode b_V_lay 57 = .ok (.getfield 213, 3) := by decide +kernel
theorem d_V_lay_60 : decode b_V_lay 60 = .ok (.aload_n 2, 1) := by decide +kernel
theorem d_V_lay_61 : decode b_V_lay 61 = .ok (.aastore, 1) := by decide +kernel
theorem d_V_lay_62 : decode b_V_lay 62 = .ok (.aload_n 1, 1) := by decide +kernel
theorem d_V_lay_63 : decode b_V_lay 63 = .ok (.dup, 1) := by decide +kernel
theorem d_V_lay_64 : decode b_V_lay 64 = .ok (.getfield 213, 3) := by decide +kernel
theorem d_V_lay_67 : decode b_V_lay 67 = .ok (.iconst 1, 1) := by decide +kernel
theorem d_V_lay_68 : decode b_V_lay 68 = .ok (.iadd, 1) := by decide +kernel
theorem d_V_lay_69 : decode b_V_lay 69 = .ok (.putfield 213, 3) := by decide +kernel
theorem d_V_lay_72 : decode b_V_lay 72 = .ok (.aload_n 2, 1) := by decide +kernel
theorem d_V_lay_73 : decode b_V_lay 73 = .ok (.aload_n 0, 1) := by decide +kernel
theorem d_V_lay_74 : decode b_V_lay 74 = .ok (.getfield 67, 3) := by decide +kernel
theorem d_V_lay_77 : decode b_V_lay 77 = .ok (.iload_n 3, 1) := by decide +kernel
theorem d_V_lay_78 : decode b_V_lay 78 = .ok (.aaload, 1) := by decide +kernel
theorem d_V_lay_79 : decode b_V_lay 79 = .ok (.invokevirtual 225, 3) := by decide +kernel
theorem d_V_lay_82 : decode b_V_lay 82 = .ok (.iinc 3 1, 3) := by decide +kernel
theorem d_V_lay_85 : decode b_V_lay 85 = .ok (.goto (-81), 3) := by decide +kernel
theorem d_V_lay_88 : decode b_V_lay 88 = .ok (.return_, 1) := by decide +kernel
theorem d_V_mergeDown_0 : decode b_V_mergeDown 0 = .ok (.aload_n 0, 1) := by decide +kernel
theorem d_V_mergeDown_1 : decode b_V_mergeDown 1 = .ok (.getfield 61, 3) := by decide +kernel
theorem d_V_mergeDown_4 : decode b_V_mergeDown 4 = .ok (.iconst 0, 1) := by decide +kernel
theorem d_V_mergeDown_5 : decode b_V_mergeDown 5 = .ok (.putfield 237, 3) := by decide +kernel
theorem d_V_mergeDown_8 : decode b_V_mergeDown 8 = .ok (.aload_n 0, 1) := by decide +kernel
theorem d_V_mergeDown_9 : decode b_V_mergeDown 9 = .ok (.iload_n 1, 1) := by decide +kernel
theorem d_V_mergeDown_10 : decode b_V_mergeDown 10 = .ok (.iconst 0, 1) := by decide +kernel
theorem d_V_mergeDown_11 : decode b_V_mergeDown 11 = .ok (.invokevirtual 238, 3) := by decide +kernel
theorem d_V_mergeDown_14 : decode b_V_mergeDown 14 = .ok (.aload_n 0, 1) := by decide +kernel
theorem d_V_mergeDown_15 : decode b_V_mergeDown 15 = .ok (.iload_n 1, 1) := by decide +kernel
theorem d_V_mergeDown_16 : decode b_V_mergeDown 16 = .ok (.iconst 1, 1) := by decide +kernel
theorem d_V_mergeDown_17 : decode b_V_mergeDown 17 = .ok (.iadd, 1) := by decide +kernel
theorem d_V_mergeDown_18 : decode b_V_mergeDown 18 = .ok (.iconst 0, 1) := by decide +kernel
theorem d_V_mergeDown_19 : decode b_V_mergeDown 19 = .ok (.invokevirtual 238, 3) := by decide +kernel
theorem d_V_mergeDown_22 : decode b_V_mergeDown 22 = .ok (.aload_n 0, 1) := by decide +kernel
theorem d_V_mergeDown_23 : decode b_V_mergeDown 23 = .ok (.aload_n 0, 1) := by decide +kernel
theorem d_V_mergeDown_24 : decode b_V_mergeDown 24 = .ok (.getfield 61, 3) := by decide +kernel
theorem d_V_mergeDown_27 : decode b_V_mergeDown 27 = .ok (.invokevirtual 242, 3) := by decide +kernel
theorem d_V_mergeDown_30 : decode b_V_mergeDown 30 = .ok (.aload_n 0, 1) := by decide +kernel
theorem d_V_mergeDown_31 : decode b_V_mergeDown 31 = .ok (.iload_n 1, 1) := by decide +kernel
theorem d_V_mergeDown_32 : decode b_V_mergeDown 32 = .ok (.iconst 1, 1) := by decide +kernel
theorem d_V_mergeDown_33 : decode b_V_mergeDown 33 = .ok (.if_icmp .ne 7, 3) := by decide +kernel
theorem d_V_mergeDown_36 : decode b_V_mergeDown 36 = .ok (.iconst 1, 1) := by decide +kernel
theorem d_V_mergeDown_37 : decode b_V_mergeDown 37 = .ok (.goto 4, 3) := by decide +kernel
theorem d_V_mergeDown_40 : decode b_V_mergeDown 40 = .ok (.iconst 0, 1) := by decide +kernel
theorem d_V_mergeDown_41 : decode b_V_mergeDown 41 = .ok (.invokevirtual 245, 3) := by decide +kernel
theorem d_V_mergeDown_44 : decode b_V_mergeDown 44 = .ok (.istore_n 2, 1) := by decide +kernel
theorem d_V_mergeDown_45 : decode b_V_mergeDown 45 = .ok (.aload_n 0, 1) := by decide +kernel
theorem d_V_mergeDown_46 : decode b_V_mergeDown 46 = .ok (.aload_n 0, 1) := by decide +kernel
theorem d_V_mergeDown_47 : decode b_V_mergeDown 47 = .ok (.getfield 48, 3) := by decide +kernel
theorem d_V_mergeDown_50 : decode b_V_mergeDown 50 = .ok (.iload_n 1, 1) := by decide +kernel
theorem d_V_mergeDown_51 : decode b_V_mergeDown 51 = .ok (.aaload, 1) := by decide +kernel
theorem d_V_mergeDown_52 : decode b_V_mergeDown 52 = .ok (.invokevirtual 249, 3) := by decide +kernel
theorem d_V_mergeDown_55 : decode b_V_mergeDown 55 = .ok (.aload_n 0, 1) := by decide +kernel
theorem d_V_mergeDown_56 : decode b_V_mergeDown 56 = .ok (.aload_n 0, 1) := by decide +kernel
theorem d_V_mergeDown_57 : decode b_V_mergeDown 57 = .ok (.getfield 48, 3) := by decide +kernel
theorem d_V_mergeDown_60 : decode b_V_mergeDown 60 = .ok (.iload_n 1, 1) := by decide +kernel
theorem d_V_mergeDown_61 : decode b_V_mergeDown 61 = .ok (.iconst 1, 1) := by decide +kernel
theorem d_V_mergeDown_62 : decode b_V_mergeDown 62 = .ok (.iadd, 1) := by decide +kernel
theorem d_V_mergeDown_63 : decode b_V_mergeDown 63 = .ok (.aaload, 1) := by decide +kernel
theorem d_V_mergeDown_64 : decode b_V_mergeDown 64 = .ok (.invokevirtual 249, 3) := by decide +kernel
theorem d_V_mergeDown_67 : decode b_V_mergeDown 67 = .ok (.aload_n 0, 1) := by decide +kernel
theorem d_V_mergeDown_68 : decode b_V_mergeDown 68 = .ok (.aload_n 0, 1) := by decide +kernel
theorem d_V_mergeDown_69 : decode b_V_mergeDown 69 = .ok (.getfield 48, 3) := by decide +kernel
theorem d_V_mergeDown_72 : decode b_V_mergeDown 72 = .ok (.iload_n 1, 1) := by decide +kernel
theorem d_V_mergeDown_73 : decode b_V_mergeDown 73 = .ok (.iconst 1, 1) := by decide +kernel
theorem d_V_mergeDown_74 : decode b_V_mergeDown 74 = .ok (.iadd, 1) := by decide +kernel
theorem d_V_mergeDown_75 : decode b_V_mergeDown 75 = .ok (.aaload, 1) := by decide +kernel
theorem d_V_mergeDown_76 : decode b_V_mergeDown 76 = .ok (.invokevirtual 253, 3) := by decide +kernel
theorem d_V_mergeDown_79 : decode b_V_mergeDown 79 = .ok (.iload_n 2, 1) := by decide +kernel
theorem d_V_mergeDown_80 : decode b_V_mergeDown 80 = .ok (.ireturn, 1) := by decide +kernel
theorem d_V_mergeFrom_0 : decode b_V_mergeFrom 0 = .ok (.aload_n 0, 1) := by decide +kernel
theorem d_V_mergeFrom_1 : decode b_V_mergeFrom 1 = .ok (.iload_n 1, 1) := by decide +kernel
theorem d_V_mergeFrom_2 : decode b_V_mergeFrom 2 = .ok (.invokevirtual 256, 3) := by decide +kernel
theorem d_V_mergeFrom_5 : decode b_V_mergeFrom 5 = .ok (.istore_n 2, 1) := by decide +kernel
theorem d_V_mergeFrom_6 : decode b_V_mergeFrom 6 = .ok (.iload_n 1, 1) := by decide +kernel
theorem d_V_mergeFrom_7 : decode b_V_mergeFrom 7 = .ok (.ifCond .ne 27, 3) := by decide +kernel
theorem d_V_mergeFrom_10 : decode b_V_mergeFrom 10 = .ok (.aload_n 0, 1) := by decide +kernel
theorem d_V_mergeFrom_11 : decode b_V_mergeFrom 11 = .ok (.getfield 48, 3) := by decide +kernel
theorem d_V_mergeFrom_14 : decode b_V_mergeFrom 14 = .ok (.iconst 1, 1) := by decide +kernel
theorem d_V_mergeFrom_15 : decode b_V_mergeFrom 15 = .ok (.aaload, 1) := by decide +kernel
theorem d_V_mergeFrom_16 : decode b_V_mergeFrom 16 = .ok (.invokevirtual 260, 3) := by decide +kernel
theorem d_V_mergeFrom_19 : decode b_V_mergeFrom 19 = .ok (.bipush 12, 2) := by decide +kernel
theorem d_V_mergeFrom_21 : decode b_V_mergeFrom 21 = .ok (.if_icmp .le 13, 3) := by decide +kernel
theorem d_V_mergeFrom_24 : decode b_V_mergeFrom 24 = .ok (.iload_n 2, 1) := by decide +kernel
theorem d_V_mergeFrom_25 : decode b_V_mergeFrom 25 = .ok (.aload_n 0, 1) := by decide +kernel
theorem d_V_mergeFrom_26 : decode b_V_mergeFrom 26 = .ok (.iconst 1, 1) := by decide +kernel
theorem d_V_mergeFrom_27 : decode b_V_mergeFrom 27 = .ok (.invokevirtual 256, 3) := by decide +kernel
theorem d_V_mergeFrom_30 : decode b_V_mergeFrom 30 = .ok (.iadd, 1) := by decide +kernel
theorem d_V_mergeFrom_31 : decode b_V_mergeFrom 31 = .ok (.goto 4, 3) := by decide +kernel
theorem d_V_mergeFrom_34 : decode b_V_mergeFrom 34 = .ok (.iload_n 2, 1) := by decide +kernel
theorem d_V_mergeFrom_35 : decode b_V_mergeFrom 35 = .ok (.ireturn, 1) := by decide +kernel
theorem d_V_flush_0 : decode b_V_flush 0 = .ok (.aload_n 0, 1) := by decide +kernel
theorem d_V_flush_1 : decode b_V_flush 1 = .ok (.getfield 42, 3) := by decide +kernel
theorem d_V_flush_4 : decode b_V_flush 4 = .ok (.getfield 120, 3) := by decide +kernel
theorem d_V_flush_7 : decode b_V_flush 7 = .ok (.istore_n 1, 1) := by decide +kernel
theorem d_V_flush_8 : decode b_V_flush 8 = .ok (.iload_n 1, 1) := by decide +kernel
theorem d_V_flush_9 : decode b_V_flush 9 = .ok (.ifCond .ne 5, 3) := by decide +kernel
theorem d_V_flush_12 : decode b_V_flush 12 = .ok (.iconst 0, 1) := by decide +kernel
theorem d_V_flush_13 : decode b_V_flush 13 = .ok (.ireturn, 1) := by decide +kernel
theorem d_V_flush_14 : decode b_V_flush 14 = .ok (.aload_n 0, 1) := by decide +kernel
theorem d_V_flush_15 : decode b_V_flush 15 = .ok (.getfield 48, 3) := by decide +kernel
theorem d_V_flush_18 : decode b_V_flush 18 = .ok (.iconst 0, 1) := by decide +kernel
theorem d_V_flush_19 : decode b_V_flush 19 = .ok (.aaload, 1) := by decide +kernel
theorem d_V_flush_20 : decode b_V_flush 20 = .ok (.astore_n 2, 1) := by decide +kernel
theorem d_V_flush_21 : decode b_V_flush 21 = .ok (.aload_n 2, 1) := by decide +kernel
theorem d_V_flush_22 : decode b_V_flush 22 = .ok (.getfield 213, 3) := by decide +kernel
theorem d_V_flush_25 : decode b_V_flush 25 = .ok (.iconst 4, 1) := by decide +kernel
theorem d_V_flush_26 : decode b_V_flush 26 = .ok (.if_icmp .ne 9, 3) := by decide +kernel
theorem d_V_flush_29 : decode b_V_flush 29 = .ok (.aload_n 0, 1) := by decide +kernel
theorem d_V_flush_30 : decode b_V_flush 30 = .ok (.iconst 0, 1) := by decide +kernel
theorem d_V_flush_31 : decode b_V_flush 31 = .ok (.invokevirtual 263, 3) := by decide +kernel
theorem d_V_flush_34 : decode b_V_flush 34 = .ok (.pop, 1) := by decide +kernel
theorem d_V_flush_35 : decode b_V_flush 35 = .ok (.aload_n 0, 1) := by decide +kernel
theorem d_V_flush_36 : decode b_V_flush 36 = .ok (.getfield 42, 3) := by decide +kernel
theorem d_V_flush_39 : decode b_V_flush 39 = .ok (.iconst 0, 1) := by decide +kernel
theorem d_V_flush_40 : decode b_V_flush 40 = .ok (.invokevirtual 266, 3) := by decide +kernel
theorem d_V_flush_43 : decode b_V_flush 43 = .ok (.aload_n 0, 1) := by decide +kernel
theorem d_V_flush_44 : decode b_V_flush 44 = .ok (.aload_n 0, 1) := by decide +kernel
theorem d_V_flush_45 : decode b_V_flush 45 = .ok (.getfield 42, 3) := by decide +kernel
theorem d_V_flush_48 : decode b_V_flush 48 = .ok (.invokevirtual 242, 3) := by decide +kernel
theorem d_V_flush_51 : decode b_V_flush 51 = .ok (.aload_n 0, 1) := by decide +kernel
theorem d_V_flush_52 : decode b_V_flush 52 = .ok (.iconst 0, 1) := by decide +kernel
theorem d_V_flush_53 : decode b_V_flush 53 = .ok (.invokevirtual 245, 3) := by decide +kernel
theorem d_V_flush_56 : decode b_V_flush 56 = .ok (.istore_n 3, 1) := by decide +kernel
theorem d_V_flush_57 : decode b_V_flush 57 = .ok (.aload_n 0, 1) := by decide +kernel
theorem d_V_flush_58 : decode b_V_flush 58 = .ok (.invokevirtual 221, 3) := by decide +kernel
theorem d_V_flush_61 : decode b_V_flush 61 = .ok (.astore 4, 2) := by decide +kernel
theorem d_V_flush_63 : decode b_V_flush 63 = .ok (.iconst 0, 1) := by decide +kernel
theorem d_V_flush_64 : decode b_V_flush 64 = .ok (.istore 5, 2) := by decide +kernel
theorem d_V_flush_66 : decode b_V_flush 66 = .ok (.iload 5, 2) := by decide +kernel
theorem d_V_flush_68 : decode b_V_flush 68 = .ok (.aload_n 0, 1) := by decide +kernel
theorem d_V_flush_69 : decode b_V_flush 69 = .ok (.getfield 181, 3) := by decide +kernel
theorem d_V_flush_72 : decode b_V_flush 72 = .ok (.if_icmp .ge 45, 3) := by decide +kernel
theorem d_V_flush_75 : decode b_V_flush 75 = .ok (.aload_n 0, 1) := by decide +kernel
theorem d_V_flush_76 : decode b_V_flush 76 = .ok (.getfield 71, 3) := by decide +kernel
theorem d_V_flush_79 : decode b_V_flush 79 = .ok (.iload 5, 2) := by decide +kernel
theorem d_V_flush_81 : decode b_V_flush 81 = .ok (.baload, 1) := by decide +kernel
theorem d_V_flush_82 : decode b_V_flush 82 = .ok (.ifCond .eq 18, 3) := by decide +kernel
theorem d_V_flush_85 : decode b_V_flush 85 = .ok (.aload 4, 2) := by decide +kernel
theorem d_V_flush_87 : decode b_V_flush 87 = .ok (.aload_n 0, 1) := by decide +kernel
theorem d_V_flush_88 : decode b_V_flush 88 = .ok (.getfield 67, 3) := by decide +kernel
theorem d_V_flush_91 : decode b_V_flush 91 = .ok (.iload 5, 2) := by decide +kernel
theorem d_V_flush_93 : decode b_V_flush 93 = .ok (.aaload, 1) := by decide +kernel
theorem d_V_flush_94 : decode b_V_flush 94 = .ok (.invokevirtual 225, 3) := by decide +kernel
theorem d_V_flush_97 : decode b_V_flush 97 = .ok (.goto 14, 3) := by decide +kernel
theorem d_V_flush_100 : decode b_V_flush 100 = .ok (.aload_n 0, 1) := by decide +kernel
theorem d_V_flush_101 : decode b_V_flush 101 = .ok (.aload_n 0, 1) := by decide +kernel
theorem d_V_flush_102 : decode b_V_flush 102 = .ok (.getfield 67, 3) := by decide +kernel
theorem d_V_flush_105 : decode b_V_flush 105 = .ok (.iload 5, 2) := by decide +kernel
theorem d_V_flush_107 : decode b_V_flush 107 = .ok (.aaload, 1) := by decide +kernel
theorem d_V_flush_108 : decode b_V_flush 108 = .ok (.invokevirtual 218, 3) := by decide +kernel
theorem d_V_flush_111 : decode b_V_flush 111 = .ok (.iinc 5 1, 3) := by decide +kernel
theorem d_V_flush_114 : decode b_V_flush 114 = .ok (.goto (-48), 3) := by decide +kernel
theorem d_V_flush_117 : decode b_V_flush 117 = .ok (.aload_n 2, 1) := by decide +kernel
theorem d_V_flush_118 : decode b_V_flush 118 = .ok (.getfield 213, 3) := by decide +kernel
theorem d_V_flush_121 : decode b_V_flush 121 = .ok (.istore 5, 2) := by decide +kernel
theorem d_V_flush_123 : decode b_V_flush 123 = .ok (.iload 5, 2) := by decide +kernel
theorem d_V_flush_125 : decode b_V_flush 125 = .ok (.ifCond .le 25, 3) := by decide +kernel
theorem d_V_flush_128 : decode b_V_flush 128 = .ok (.aload_n 2, 1) := by decide +kernel
theorem d_V_flush_129 : decode b_V_flush 129 = .ok (.getfield 214, 3) := by decide +kernel
theorem d_V_flush_132 : decode b_V_flush 132 = .ok (.iload 5, 2) := by decide +kernel
theorem d_V_flush_134 : decode b_V_flush 134 = .ok (.aload_n 2, 1) := by decide +kernel
theorem d_V_flush_135 : decode b_V_flush 135 = .ok (.getfield 214, 3) := by decide +kernel
theorem d_V_flush_138 : decode b_V_flush 138 = .ok (.iload 5, 2) := by decide +kernel
theorem d_V_flush_140 : decode b_V_flush 140 = .ok (.iconst 1, 1) := by decide +kernel
theorem d_V_flush_141 : decode b_V_flush 141 = .ok (.isub, 1) := by decide +kernel
theorem d_V_flush_142 : decode b_V_flush 142 = .ok (.aaload, 1) := by decide +kernel
theorem d_V_flush_143 : decode b_V_flush 143 = .ok (.aastore, 1) := by decide +kernel
theorem d_V_flush_144 : decode b_V_flush 144 = .ok (.iinc 5 (-1), 3) := by decide +kernel
theorem d_V_flush_147 : decode b_V_flush 147 = .ok (.goto (-24), 3) := by decide +kernel
theorem d_V_flush_150 : decode b_V_flush 150 = .ok (.aload_n 2, 1) := by decide +kernel
theorem d_V_flush_151 : decode b_V_flush 151 = .ok (.getfield 214, 3) := by decide +kernel
theorem d_V_flush_154 : decode b_V_flush 154 = .ok (.iconst 0, 1) := by decide +kernel
theorem d_V_flush_155 : decode b_V_flush 155 = .ok (.aload 4, 2) := by decide +kernel
theorem d_V_flush_157 : decode b_V_flush 157 = .ok (.aastore, 1) := by decide +kernel
theorem d_V_flush_158 : decode b_V_flush 158 = .ok (.aload_n 2, 1) := by decide +kernel
theorem d_V_flush_159 : decode b_V_flush 159 = .ok (.dup, 1) := by decide +kernel
theorem d_V_flush_160 : decode b_V_flush 160 = .ok (.getfield 213, 3) := by decide +kernel
theorem d_V_flush_163 : decode b_V_flush 163 = .ok (.iconst 1, 1) := by decide +kernel
theorem d_V_flush_164 : decode b_V_flush 164 = .ok (.iadd, 1) := by decide +kernel
theorem d_V_flush_165 : decode b_V_flush 165 = .ok (.putfield 213, 3) := by decide +kernel
theorem d_V_flush_168 : decode b_V_flush 168 = .ok (.aload_n 0, 1) := by decide +kernel
theorem d_V_flush_169 : decode b_V_flush 169 = .ok (.getfield 42, 3) := by decide +kernel
theorem d_V_flush_172 : decode b_V_flush 172 = .ok (.invokevirtual 267, 3) := by decide +kernel
theorem d_V_flush_175 : decode b_V_flush 175 = .ok (.aload_n 0, 1) := by decide +kernel
theorem d_V_flush_176 : decode b_V_flush 176 = .ok (.aload_n 0, 1) := by decide +kernel
theorem d_V_flush_177 : decode b_V_flush 177 = .ok (.getfield 97, 3) := by decide +kernel
theorem d_V_flush_180 : decode b_V_flush 180 = .ok (.putfield 269, 3) := by decide +kernel
theorem d_V_flush_183 : decode b_V_flush 183 = .ok (.aload_n 0, 1) := by decide +kernel
theorem d_V_flush_184 : decode b_V_flush 184 = .ok (.invokevirtual 106, 3) := by decide +kernel
theorem d_V_flush_187 : decode b_V_flush 187 = .ok (.aload 4, 2) := by decide +kernel
theorem d_V_flush_189 : decode b_V_flush 189 = .ok (.getfield 209, 3) := by decide +kernel
theorem d_V_flush_192 : decode b_V_flush 192 = .ok (.iload_n 3, 1) := by decide +kernel
theorem d_V_flush_193 : decode b_V_flush 193 = .ok (.iadd, 1) := by decide +kernel
theorem d_V_flush_194 : decode b_V_flush 194 = .ok (.ireturn, 1) := by decide +kernel
theorem d_V_remember_0 : decode b_V_remember 0 = .ok (.aload_n 0, 1) := by decide +kernel
theorem d_V_remember_1 : decode b_V_remember 1 = .ok (.getfield 145, 3) := by decide +kernel
theorem d_V_remember_4 : decode b_V_remember 4 = .ok (.astore 4, 2) := by decide +kernel
theorem d_V_remember_6 : decode b_V_remember 6 = .ok (.aload 4, 2) := by decide +kernel
theorem d_V_remember_8 : decode b_V_remember 8 = .ok (.ifnonnull 15, 3) := by decide +kernel
theorem d_V_remember_11 : decode b_V_remember 11 = .ok (.new 65, 3) := by decide +kernel
theorem d_V_remember_14 : decode b_V_remember 14 = .ok (.dup, 1) := by decide +kernel
theorem d_V_remember_15 : decode b_V_remember 15 = .ok (.invokespecial 149, 3) := by decide +kernel
theorem d_V_remember_18 : decode b_V_remember 18 = .ok (.astore 4, 2) := by decide +kernel
theorem d_V_remember_20 : decode b_V_remember 20 = .ok (.goto 14, 3) := by decide +kernel
theorem d_V_remember_23 : decode b_V_remember 23 = .ok (.aload_n 0, 1) := by decide +kernel
theorem d_V_remember_24 : decode b_V_remember 24 = .ok (.aload 4, 2) := by decide +kernel
theorem d_V_remember_26 : decode b_V_remember 26 = .ok (.getfield 150, 3) := by decide +kernel
theorem d_V_remember_29 : decode b_V_remember 29 = .ok (.iconst 0, 1) := by decide +kernel
theorem d_V_remember_30 : decode b_V_remember 30 = .ok (.aaload, 1) := by decide +kernel
theorem d_V_remember_31 : decode b_V_remember 31 = .ok (.putfield 145, 3) := by decide +kernel
theorem d_V_remember_34 : decode b_V_remember 34 = .ok (.aload 4, 2) := by decide +kernel
theorem d_V_remember_36 : decode b_V_remember 36 = .ok (.aload_n 1, 1) := by decide +kernel
theorem d_V_remember_37 : decode b_V_remember 37 = .ok (.getfield 153, 3) := by decide +kernel
theorem d_V_remember_40 : decode b_V_remember 40 = .ok (.iload_n 2, 1) := by decide +kernel
theorem d_V_remember_41 : decode b_V_remember 41 = .ok (.iaload, 1) := by decide +kernel
theorem d_V_remember_42 : decode b_V_remember 42 = .ok (.bipush 32, 2) := by decide +kernel
theorem d_V_remember_44 : decode b_V_remember 44 = .ok (.irem, 1) := by decide +kernel
theorem d_V_remember_45 : decode b_V_remember 45 = .ok (.putfield 156, 3) := by decide +kernel
theorem d_V_remember_48 : decode b_V_remember 48 = .ok (.aload 4, 2) := by decide +kernel
theorem d_V_remember_50 : decode b_V_remember 50 = .ok (.aload_n 1, 1) := by decide +kernel
theorem d_V_remember_51 : decode b_V_remember 51 = .ok (.getfield 153, 3) := by decide +kernel
theorem d_V_remember_54 : decode b_V_remember 54 = .ok (.iload_n 2, 1) := by decide +kernel
theorem d_V_remember_55 : decode b_V_remember 55 = .ok (.iaload, 1) := by decide +kernel
theorem d_V_remember_56 : decode b_V_remember 56 = .ok (.bipush 32, 2) := by decide +kernel
theorem d_V_remember_58 : decode b_V_remember 58 = .ok (.if_icmp .lt 7, 3) := by decide +kernel
theorem d_V_remember_61 : decode b_V_remember 61 = .ok (.iconst 1, 1) := by decide +kernel
theorem d_V_remember_62 : decode b_V_remember 62 = .ok (.goto 4, 3) := by decide +kernel
theorem d_V_remember_65 : decode b_V_remember 65 = .ok (.iconst 0, 1) := by decide +kernel
theorem d_V_remember_66 : decode b_V_remember 66 = .ok (.putfield 159, 3) := by decide +kernel
theorem d_V_remember_69 : decode b_V_remember 69 = .ok (.aload 4, 2) := by decide +kernel
theorem d_V_remember_71 : decode b_V_remember 71 = .ok (.iload_n 3, 1) := by decide +kernel
theorem d_V_remember_72 : decode b_V_remember 72 = .ok (.putfield 163, 3) := by decide +kernel
theorem d_V_remember_75 : decode b_V_remember 75 = .ok (.aload 4, 2) := by decide +kernel
theorem d_V_remember_77 : decode b_V_remember 77 = .ok (.aload_n 1, 1) := by decide +kernel
theorem d_V_remember_78 : decode b_V_remember 78 = .ok (.getfield 164, 3) := by decide +kernel
theorem d_V_remember_81 : decode b_V_remember 81 = .ok (.iload_n 2, 1) := by decide +kernel
theorem d_V_remember_82 : decode b_V_remember 82 = .ok (.iaload, 1) := by decide +kernel
