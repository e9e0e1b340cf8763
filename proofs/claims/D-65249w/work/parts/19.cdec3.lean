set_option maxRecDepth 100000
theorem dX2_init_0 : decode cX2_init 0 = .ok (.aload_n 0, 1) := by decide +kernel
theorem dX2_init_1 : decode cX2_init 1 = .ok (.invokespecial 1, 3) := by decide +kernel
theorem dX2_init_4 : decode cX2_init 4 = .ok (.aload_n 0, 1) := by decide +kernel
theorem dX2_init_5 : decode cX2_init 5 = .ok (.iload_n 1, 1) := by decide +kernel
theorem dX2_init_6 : decode cX2_init 6 = .ok (.putfield 7, 3) := by decide +kernel
theorem dX2_init_9 : decode cX2_init 9 = .ok (.aload_n 0, 1) := by decide +kernel
theorem dX2_init_10 : decode cX2_init 10 = .ok (.iload_n 2, 1) := by decide +kernel
theorem dX2_init_11 : decode cX2_init 11 = .ok (.putfield 13, 3) := by decide +kernel
theorem dX2_init_14 : decode cX2_init 14 = .ok (.aload_n 0, 1) := by decide +kernel
theorem dX2_init_15 : decode cX2_init 15 = .ok (.iload_n 3, 1) := by decide +kernel
theorem dX2_init_16 : decode cX2_init 16 = .ok (.putfield 16, 3) := by decide +kernel
theorem dX2_init_19 : decode cX2_init 19 = .ok (.return_, 1) := by decide +kernel
theorem dX3_init_0 : decode cX3_init 0 = .ok (.aload_n 0, 1) := by decide +kernel
theorem dX3_init_1 : decode cX3_init 1 = .ok (.invokespecial 1, 3) := by decide +kernel
theorem dX3_init_4 : decode cX3_init 4 = .ok (.aload_n 0, 1) := by decide +kernel
theorem dX3_init_5 : decode cX3_init 5 = .ok (.iload_n 1, 1) := by decide +kernel
theorem dX3_init_6 : decode cX3_init 6 = .ok (.putfield 7, 3) := by decide +kernel
theorem dX3_init_9 : decode cX3_init 9 = .ok (.aload_n 0, 1) := by decide +kernel
theorem dX3_init_10 : decode cX3_init 10 = .ok (.iload_n 2, 1) := by decide +kernel
theorem dX3_init_11 : decode cX3_init 11 = .ok (.putfield 13, 3) := by decide +kernel
theorem dX3_init_14 : decode cX3_init 14 = .ok (.aload_n 0, 1) := by decide +kernel
theorem dX3_init_15 : decode cX3_init 15 = .ok (.iload_n 3, 1) := by decide +kernel
theorem dX3_init_16 : decode cX3_init 16 = .ok (.putfield 16, 3) := by decide +kernel
theorem dX3_init_19 : decode cX3_init 19 = .ok (.aload_n 0, 1) := by decide +kernel
theorem dX3_init_20 : decode cX3_init 20 = .ok (.iload 4, 2) := by decide +kernel
theorem dX3_init_22 : decode cX3_init 22 = .ok (.putfield 19, 3) := by decide +kernel
theorem dX3_init_25 : decode cX3_init 25 = .ok (.aload_n 0, 1) := by decide +kernel
theorem dX3_init_26 : decode cX3_init 26 = .ok (.iload 5, 2) := by decide +kernel
theorem dX3_init_28 : decode cX3_init 28 = .ok (.putfield 22, 3) := by decide +kernel
theorem dX3_init_31 : decode cX3_init 31 = .ok (.return_, 1) := by decide +kernel
theorem dX3_fits_0 : decode cX3_fits 0 = .ok (.iload_n 1, 1) := by decide +kernel
theorem dX3_fits_1 : decode cX3_fits 1 = .ok (.aload_n 0, 1) := by decide +kernel
theorem dX3_fits_2 : decode cX3_fits 2 = .ok (.getfield 7, 3) := by decide +kernel
theorem dX3_fits_5 : decode cX3_fits 5 = .ok (.if_icmp .ne 30, 3) := by decide +kernel
theorem dX3_fits_8 : decode cX3_fits 8 = .ok (.iload_n 2, 1) := by decide +kernel
theorem dX3_fits_9 : decode cX3_fits 9 = .ok (.aload_n 0, 1) := by decide +kernel
theorem dX3_fits_10 : decode cX3_fits 10 = .ok (.getfield 13, 3) := by decide +kernel
theorem dX3_fits_13 : decode cX3_fits 13 = .ok (.if_icmp .ne 22, 3) := by decide +kernel
theorem dX3_fits_16 : decode cX3_fits 16 = .ok (.iload_n 3, 1) := by decide +kernel
theorem dX3_fits_17 : decode cX3_fits 17 = .ok (.aload_n 0, 1) := by decide +kernel
theorem dX3_fits_18 : decode cX3_fits 18 = .ok (.getfield 16, 3) := by decide +kernel
theorem dX3_fits_21 : decode cX3_fits 21 = .ok (.aload_n 0, 1) := by decide +kernel
theorem dX3_fits_22 : decode cX3_fits 22 = .ok (.getfield 19, 3) := by decide +kernel
theorem dX3_fits_25 : decode cX3_fits 25 = .ok (.invokestatic 25, 3) := by decide +kernel
theorem dX3_fits_28 : decode cX3_fits 28 = .ok (.ifCond .eq 7, 3) := by decide +kernel
theorem dX3_fits_31 : decode cX3_fits 31 = .ok (.iconst 1, 1) := by decide +kernel
theorem dX3_fits_32 : decode cX3_fits 32 = .ok (.goto 4, 3) := by decide +kernel
theorem dX3_fits_35 : decode cX3_fits 35 = .ok (.iconst 0, 1) := by decide +kernel
theorem dX3_fits_36 : decode cX3_fits 36 = .ok (.ireturn, 1) := by decide +kernel
theorem dX4_init_0 : decode cX4_init 0 = .ok (.aload_n 0, 1) := by decide +kernel
theorem dX4_init_1 : decode cX4_init 1 = .ok (.aload_n 1, 1) := by decide +kernel
theorem dX4_init_2 : decode cX4_init 2 = .ok (.putfield 3, 3) := by decide +kernel
theorem dX4_init_5 : decode cX4_init 5 = .ok (.aload_n 0, 1) := by decide +kernel
theorem dX4_init_6 : decode cX4_init 6 = .ok (.invokespecial 9, 3) := by decide +kernel
theorem dX4_init_9 : decode cX4_init 9 = .ok (.aload_n 0, 1) := by decide +kernel
theorem dX4_init_10 : decode cX4_init 10 = .ok (.aload_n 1, 1) := by decide +kernel
theorem dX4_init_11 : decode cX4_init 11 = .ok (.getfield 15, 3) := by decide +kernel
theorem dX4_init_14 : decode cX4_init 14 = .ok (.invokevirtual 19, 3) := by decide +kernel
theorem dX4_init_17 : decode cX4_init 17 = .ok (.putfield 25, 3) := by decide +kernel
theorem dX4_init_20 : decode cX4_init 20 = .ok (.aload_n 0, 1) := by decide +kernel
theorem dX4_init_21 : decode cX4_init 21 = .ok (.iload_n 2, 1) := by decide +kernel
theorem dX4_init_22 : decode cX4_init 22 = .ok (.putfield 29, 3) := by decide +kernel
theorem dX4_init_25 : decode cX4_init 25 = .ok (.aload_n 0, 1) := by decide +kernel
theorem dX4_init_26 : decode cX4_init 26 = .ok (.aload_n 3, 1) := by decide +kernel
theorem dX4_init_27 : decode cX4_init 27 = .ok (.iconst 0, 1) := by decide +kernel
theorem dX4_init_28 : decode cX4_init 28 = .ok (.iaload, 1) := by decide +kernel
theorem dX4_init_29 : decode cX4_init 29 = .ok (.putfield 32, 3) := by decide +kernel
theorem dX4_init_32 : decode cX4_init 32 = .ok (.aload_n 0, 1) := by decide +kernel
theorem dX4_init_33 : decode cX4_init 33 = .ok (.aload_n 3, 1) := by decide +kernel
theorem dX4_init_34 : decode cX4_init 34 = .ok (.iconst 1, 1) := by decide +kernel
theorem dX4_init_35 : decode cX4_init 35 = .ok (.iaload, 1) := by decide +kernel
theorem dX4_init_36 : decode cX4_init 36 = .ok (.putfield 35, 3) := by decide +kernel
theorem dX4_init_39 : decode cX4_init 39 = .ok (.aload_n 0, 1) := by decide +kernel
theorem dX4_init_40 : decode cX4_init 40 = .ok (.aload_n 3, 1) := by decide +kernel
theorem dX4_init_41 : decode cX4_init 41 = .ok (.iconst 2, 1) := by decide +kernel
theorem dX4_init_42 : decode cX4_init 42 = .ok (.iaload, 1) := by decide +kernel
theorem dX4_init_43 : decode cX4_init 43 = .ok (.putfield 38, 3) := by decide +kernel
theorem dX4_init_46 : decode cX4_init 46 = .ok (.aload_n 0, 1) := by decide +kernel
theorem dX4_init_47 : decode cX4_init 47 = .ok (.iload 4, 2) := by decide +kernel
theorem dX4_init_49 : decode cX4_init 49 = .ok (.putfield 41, 3) := by decide +kernel
theorem dX4_init_52 : decode cX4_init 52 = .ok (.return_, 1) := by decide +kernel
theorem dX4_refuses_0 : decode cX4_refuses 0 = .ok (.aload_n 0, 1) := by decide +kernel
theorem dX4_refuses_1 : decode cX4_refuses 1 = .ok (.getfield 3, 3) := by decide +kernel
theorem dX4_refuses_4 : decode cX4_refuses 4 = .ok (.aload_n 1, 1) := by decide +kernel
theorem dX4_refuses_5 : decode cX4_refuses 5 = .ok (.aload_n 0, 1) := by decide +kernel
theorem dX4_refuses_6 : decode cX4_refuses 6 = .ok (.getfield 3, 3) := by decide +kernel
theorem dX4_refuses_9 : decode cX4_refuses 9 = .ok (.iload_n 2, 1) := by decide +kernel
theorem dX4_refuses_10 : decode cX4_refuses 10 = .ok (.aload_n 0, 1) := by decide +kernel
theorem dX4_refuses_11 : decode cX4_refuses 11 = .ok (.getfield 25, 3) := by decide +kernel
theorem dX4_refuses_14 : decode cX4_refuses 14 = .ok (.iconst (-1), 1) := by decide +kernel
theorem dX4_refuses_15 : decode cX4_refuses 15 = .ok (.invokevirtual 52, 3) := by decide +kernel
theorem dX4_refuses_18 : decode cX4_refuses 18 = .ok (.invokevirtual 56, 3) := by decide +kernel
theorem dX4_refuses_21 : decode cX4_refuses 21 = .ok (.return_, 1) := by decide +kernel
theorem dX4_names_0 : decode cX4_names 0 = .ok (.aload_n 1, 1) := by decide +kernel
theorem dX4_names_1 : decode cX4_names 1 = .ok (.getfield 60, 3) := by decide +kernel
theorem dX4_names_4 : decode cX4_names 4 = .ok (.iconst 2, 1) := by decide +kernel
theorem dX4_names_5 : decode cX4_names 5 = .ok (.if_icmp .ne 24, 3) := by decide +kernel
theorem dX4_names_8 : decode cX4_names 8 = .ok (.aload_n 1, 1) := by decide +kernel
theorem dX4_names_9 : decode cX4_names 9 = .ok (.getfield 65, 3) := by decide +kernel
theorem dX4_names_12 : decode cX4_names 12 = .ok (.getfield 69, 3) := by decide +kernel
theorem dX4_names_15 : decode cX4_names 15 = .ok (.aload_n 0, 1) := by decide +kernel
theorem dX4_names_16 : decode cX4_names 16 = .ok (.getfield 41, 3) := by decide +kernel
theorem dX4_names_19 : decode cX4_names 19 = .ok (.invokestatic 74, 3) := by decide +kernel
theorem dX4_names_22 : decode cX4_names 22 = .ok (.ifCond .eq 7, 3) := by decide +kernel
theorem dX4_names_25 : decode cX4_names 25 = .ok (.iconst 1, 1) := by decide +kernel
theorem dX4_names_26 : decode cX4_names 26 = .ok (.goto 4, 3) := by decide +kernel
theorem dX4_names_29 : decode cX4_names 29 = .ok (.iconst 0, 1) := by decide +kernel
theorem dX4_names_30 : decode cX4_names 30 = .ok (.ireturn, 1) := by decide +kernel
theorem dX4_takenBack_0 : decode cX4_takenBack 0 = .ok (.return_, 1) := by decide +kernel
theorem dX4_told_0 : decode cX4_told 0 = .ok (.aload_n 0, 1) := by decide +kernel
theorem dX4_told_1 : decode cX4_told 1 = .ok (.getfield 3, 3) := by decide +kernel
theorem dX4_told_4 : decode cX4_told 4 = .ok (.aload_n 1, 1) := by decide +kernel
theorem dX4_told_5 : decode cX4_told 5 = .ok (.aload_n 2, 1) := by decide +kernel
theorem dX4_told_6 : decode cX4_told 6 = .ok (.invokevirtual 48, 3) := by decide +kernel
theorem dX4_told_9 : decode cX4_told 9 = .ok (.return_, 1) := by decide +kernel
theorem dX4_begins_0 : decode cX4_begins 0 = .ok (.aload_n 0, 1) := by decide +kernel
theorem dX4_begins_1 : decode cX4_begins 1 = .ok (.getfield 3, 3) := by decide +kernel
theorem dX4_begins_4 : decode cX4_begins 4 = .ok (.aload_n 1, 1) := by decide +kernel
theorem dX4_begins_5 : decode cX4_begins 5 = .ok (.invokevirtual 44, 3) := by decide +kernel
theorem dX4_begins_8 : decode cX4_begins 8 = .ok (.return_, 1) := by decide +kernel
theorem dX4_newSecond_0 : decode cX4_newSecond 0 = .ok (.return_, 1) := by decide +kernel
theorem dX4_due_0 : decode cX4_due 0 = .ok (.return_, 1) := by decide +kernel
theorem dX5_init_0 : decode cX5_init 0 = .ok (.aload_n 0, 1) := by decide +kernel
theorem dX5_init_1 : decode cX5_init 1 = .ok (.aload_n 1, 1) := by decide +kernel
theorem dX5_init_2 : decode cX5_init 2 = .ok (.putfield 3, 3) := by decide +kernel
theorem dX5_init_5 : decode cX5_init 5 = .ok (.aload_n 0, 1) := by decide +kernel
theorem dX5_init_6 : decode cX5_init 6 = .ok (.aload_n 1, 1) := by decide +kernel
theorem dX5_init_7 : decode cX5_init 7 = .ok (.iconst 0, 1) := by decide +kernel
theorem dX5_init_8 : decode cX5_init 8 = .ok (.aload_n 2, 1) := by decide +kernel
theorem dX5_init_9 : decode cX5_init 9 = .ok (.iload_n 3, 1) := by decide +kernel
theorem dX5_init_10 : decode cX5_init 10 = .ok (.invokespecial 9, 3) := by decide +kernel
theorem dX5_init_13 : decode cX5_init 13 = .ok (.return_, 1) := by decide +kernel
theorem dX5_told_0 : decode cX5_told 0 = .ok (.aload_n 1, 1) := by decide +kernel
theorem dX5_told_1 : decode cX5_told 1 = .ok (.aload_n 0, 1) := by decide +kernel
theorem dX5_told_2 : decode cX5_told 2 = .ok (.getfield 25, 3) := by decide +kernel
theorem dX5_told_5 : decode cX5_told 5 = .ok (.if_acmp .ne 37, 3) := by decide +kernel
theorem dX5_told_8 : decode cX5_told 8 = .ok (.aload_n 0, 1) := by decide +kernel
theorem dX5_told_9 : decode cX5_told 9 = .ok (.aload_n 2, 1) := by decide +kernel
theorem dX5_told_10 : decode cX5_told 10 = .ok (.invokevirtual 40, 3) := by decide +kernel
theorem dX5_told_13 : decode cX5_told 13 = .ok (.ifCond .eq 22, 3) := by decide +kernel
theorem dX5_told_16 : decode cX5_told 16 = .ok (.aload_n 0, 1) := by decide +kernel
theorem dX5_told_17 : decode cX5_told 17 = .ok (.aload_n 0, 1) := by decide +kernel
theorem dX5_told_18 : decode cX5_told 18 = .ok (.getfield 3, 3) := by decide +kernel
theorem dX5_told_21 : decode cX5_told 21 = .ok (.getfield 19, 3) := by decide +kernel
theorem dX5_told_24 : decode cX5_told 24 = .ok (.aload_n 0, 1) := by decide +kernel
theorem dX5_told_25 : decode cX5_told 25 = .ok (.getfield 44, 3) := by decide +kernel
theorem dX5_told_28 : decode cX5_told 28 = .ok (.iadd, 1) := by decide +kernel
theorem dX5_told_29 : decode cX5_told 29 = .ok (.invokevirtual 47, 3) := by decide +kernel
theorem dX5_told_32 : decode cX5_told 32 = .ok (.goto 66, 3) := by decide +kernel
theorem dX5_told_35 : decode cX5_told 35 = .ok (.aload_n 0, 1) := by decide +kernel
theorem dX5_told_36 : decode cX5_told 36 = .ok (.invokevirtual 51, 3) := by decide +kernel
theorem dX5_told_39 : decode cX5_told 39 = .ok (.goto 59, 3) := by decide +kernel
theorem dX5_told_42 : decode cX5_told 42 = .ok (.aload_n 0, 1) := by decide +kernel
theorem dX5_told_43 : decode cX5_told 43 = .ok (.getfield 15, 3) := by decide +kernel
theorem dX5_told_46 : decode cX5_told 46 = .ok (.ifCond .ne 52, 3) := by decide +kernel
theorem dX5_told_49 : decode cX5_told 49 = .ok (.aload_n 0, 1) := by decide +kernel
theorem dX5_told_50 : decode cX5_told 50 = .ok (.aload_n 0, 1) := by decide +kernel
theorem dX5_told_51 : decode cX5_told 51 = .ok (.aload_n 2, 1) := by decide +kernel
theorem dX5_told_52 : decode cX5_told 52 = .ok (.invokevirtual 40, 3) := by decide +kernel
theorem dX5_told_55 : decode cX5_told 55 = .ok (.ifCond .eq 12, 3) := by decide +kernel
theorem dX5_told_58 : decode cX5_told 58 = .ok (.aload_n 0, 1) := by decide +kernel
theorem dX5_told_59 : decode cX5_told 59 = .ok (.getfield 37, 3) := by decide +kernel
theorem dX5_told_62 : decode cX5_told 62 = .ok (.iconst 1, 1) := by decide +kernel
theorem dX5_told_63 : decode cX5_told 63 = .ok (.iadd, 1) := by decide +kernel
theorem dX5_told_64 : decode cX5_told 64 = .ok (.goto 4, 3) := by decide +kernel
theorem dX5_told_67 : decode cX5_told 67 = .ok (.iconst 0, 1) := by decide +kernel
theorem dX5_told_68 : decode cX5_told 68 = .ok (.putfield 37, 3) := by decide +kernel
theorem dX5_told_71 : decode cX5_told 71 = .ok (.aload_n 0, 1) := by decide +kernel
theorem dX5_told_72 : decode cX5_told 72 = .ok (.getfield 37, 3) := by decide +kernel
theorem dX5_told_75 : decode cX5_told 75 = .ok (.aload_n 0, 1) := by decide +kernel
theorem dX5_told_76 : decode cX5_told 76 = .ok (.getfield 55, 3) := by decide +kernel
theorem dX5_told_79 : decode cX5_told 79 = .ok (.if_icmp .ne 19, 3) := by decide +kernel
theorem dX5_told_82 : decode cX5_told 82 = .ok (.aload_n 0, 1) := by decide +kernel
theorem dX5_told_83 : decode cX5_told 83 = .ok (.aload_n 0, 1) := by decide +kernel
theorem dX5_told_84 : decode cX5_told 84 = .ok (.getfield 3, 3) := by decide +kernel
theorem dX5_told_87 : decode cX5_told 87 = .ok (.getfield 19, 3) := by decide +kernel
theorem dX5_told_90 : decode cX5_told 90 = .ok (.aload_n 0, 1) := by decide +kernel
theorem dX5_told_91 : decode cX5_told 91 = .ok (.getfield 44, 3) := by decide +kernel
theorem dX5_told_94 : decode cX5_told 94 = .ok (.iadd, 1) := by decide +kernel
theorem dX5_told_95 : decode cX5_told 95 = .ok (.invokevirtual 47, 3) := by decide +kernel
theorem dX5_told_98 : decode cX5_told 98 = .ok (.aload_n 0, 1) := by decide +kernel
theorem dX5_told_99 : decode cX5_told 99 = .ok (.getfield 3, 3) := by decide +kernel
theorem dX5_told_102 : decode cX5_told 102 = .ok (.aload_n 1, 1) := by decide +kernel
theorem dX5_told_103 : decode cX5_told 103 = .ok (.aload_n 2, 1) := by decide +kernel
theorem dX5_told_104 : decode cX5_told 104 = .ok (.invokevirtual 58, 3) := by decide +kernel
theorem dX5_told_107 : decode cX5_told 107 = .ok (.return_, 1) := by decide +kernel
theorem dX5_opens_0 : decode cX5_opens 0 = .ok (.aload_n 0, 1) := by decide +kernel
theorem dX5_opens_1 : decode cX5_opens 1 = .ok (.iconst 1, 1) := by decide +kernel
theorem dX5_opens_2 : decode cX5_opens 2 = .ok (.putfield 15, 3) := by decide +kernel
theorem dX5_opens_5 : decode cX5_opens 5 = .ok (.aload_n 0, 1) := by decide +kernel
theorem dX5_opens_6 : decode cX5_opens 6 = .ok (.iload_n 1, 1) := by decide +kernel
theorem dX5_opens_7 : decode cX5_opens 7 = .ok (.putfield 22, 3) := by decide +kernel
theorem dX5_opens_10 : decode cX5_opens 10 = .ok (.aload_n 0, 1) := by decide +kernel
theorem dX5_opens_11 : decode cX5_opens 11 = .ok (.aconst_null, 1) := by decide +kernel
theorem dX5_opens_12 : decode cX5_opens 12 = .ok (.putfield 25, 3) := by decide +kernel
theorem dX5_opens_15 : decode cX5_opens 15 = .ok (.return_, 1) := by decide +kernel
theorem dX5_closes_0 : decode cX5_closes 0 = .ok (.aload_n 0, 1) := by decide +kernel
theorem dX5_closes_1 : decode cX5_closes 1 = .ok (.iconst 0, 1) := by decide +kernel
theorem dX5_closes_2 : decode cX5_closes 2 = .ok (.putfield 15, 3) := by decide +kernel
theorem dX5_closes_5 : decode cX5_closes 5 = .ok (.aload_n 0, 1) := by decide +kernel
theorem dX5_closes_6 : decode cX5_closes 6 = .ok (.iconst 0, 1) := by decide +kernel
theorem dX5_closes_7 : decode cX5_closes 7 = .ok (.putfield 37, 3) := by decide +kernel
theorem dX5_closes_10 : decode cX5_closes 10 = .ok (.aload_n 0, 1) := by decide +kernel
theorem dX5_closes_11 : decode cX5_closes 11 = .ok (.aconst_null, 1) := by decide +kernel
theorem dX5_closes_12 : decode cX5_closes 12 = .ok (.putfield 25, 3) := by decide +kernel
theorem dX5_closes_15 : decode cX5_closes 15 = .ok (.return_, 1) := by decide +kernel
theorem dX5_takenBack_0 : decode cX5_takenBack 0 = .ok (.aload_n 1, 1) := by decide +kernel
theorem dX5_takenBack_1 : decode cX5_takenBack 1 = .ok (.aload_n 0, 1) := by decide +kernel
theorem dX5_takenBack_2 : decode cX5_takenBack 2 = .ok (.getfield 25, 3) := by decide +kernel
theorem dX5_takenBack_5 : decode cX5_takenBack 5 = .ok (.if_acmp .ne 14, 3) := by decide +kernel
theorem dX5_takenBack_8 : decode cX5_takenBack 8 = .ok (.aload_n 0, 1) := by decide +kernel
theorem dX5_takenBack_9 : decode cX5_takenBack 9 = .ok (.aload_n 0, 1) := by decide +kernel
theorem dX5_takenBack_10 : decode cX5_takenBack 10 = .ok (.getfield 3, 3) := by decide +kernel
theorem dX5_takenBack_13 : decode cX5_takenBack 13 = .ok (.getfield 19, 3) := by decide +kernel
theorem dX5_takenBack_16 : decode cX5_takenBack 16 = .ok (.invokevirtual 47, 3) := by decide +kernel
theorem dX5_takenBack_19 : decode cX5_takenBack 19 = .ok (.return_, 1) := by decide +kernel
theorem dX5_begins_0 : decode cX5_begins 0 = .ok (.aload_n 0, 1) := by decide +kernel
theorem dX5_begins_1 : decode cX5_begins 1 = .ok (.getfield 15, 3) := by decide +kernel
theorem dX5_begins_4 : decode cX5_begins 4 = .ok (.iconst 1, 1) := by decide +kernel
theorem dX5_begins_5 : decode cX5_begins 5 = .ok (.if_icmp .ne 38, 3) := by decide +kernel
theorem dX5_begins_8 : decode cX5_begins 8 = .ok (.aload_n 0, 1) := by decide +kernel
theorem dX5_begins_9 : decode cX5_begins 9 = .ok (.getfield 3, 3) := by decide +kernel
theorem dX5_begins_12 : decode cX5_begins 12 = .ok (.getfield 19, 3) := by decide +kernel
theorem dX5_begins_15 : decode cX5_begins 15 = .ok (.aload_n 0, 1) := by decide +kernel
theorem dX5_begins_16 : decode cX5_begins 16 = .ok (.getfield 22, 3) := by decide +kernel
theorem dX5_begins_19 : decode cX5_begins 19 = .ok (.if_icmp .lt 24, 3) := by decide +kernel
theorem dX5_begins_22 : decode cX5_begins 22 = .ok (.aload_n 0, 1) := by decide +kernel
theorem dX5_begins_23 : decode cX5_begins 23 = .ok (.iconst 2, 1) := by decide +kernel
theorem dX5_begins_24 : decode cX5_begins 24 = .ok (.putfield 15, 3) := by decide +kernel
theorem dX5_begins_27 : decode cX5_begins 27 = .ok (.aload_n 0, 1) := by decide +kernel
theorem dX5_begins_28 : decode cX5_begins 28 = .ok (.aload_n 1, 1) := by decide +kernel
theorem dX5_begins_29 : decode cX5_begins 29 = .ok (.putfield 25, 3) := by decide +kernel
theorem dX5_begins_32 : decode cX5_begins 32 = .ok (.aload_n 0, 1) := by decide +kernel
theorem dX5_begins_33 : decode cX5_begins 33 = .ok (.getfield 3, 3) := by decide +kernel
theorem dX5_begins_36 : decode cX5_begins 36 = .ok (.aload_n 1, 1) := by decide +kernel
theorem dX5_begins_37 : decode cX5_begins 37 = .ok (.invokevirtual 29, 3) := by decide +kernel
theorem dX5_begins_40 : decode cX5_begins 40 = .ok (.goto 28, 3) := by decide +kernel
theorem dX5_begins_43 : decode cX5_begins 43 = .ok (.aload_n 0, 1) := by decide +kernel
theorem dX5_begins_44 : decode cX5_begins 44 = .ok (.getfield 15, 3) := by decide +kernel
theorem dX5_begins_47 : decode cX5_begins 47 = .ok (.ifCond .ne 14, 3) := by decide +kernel
theorem dX5_begins_50 : decode cX5_begins 50 = .ok (.aload_n 0, 1) := by decide +kernel
theorem dX5_begins_51 : decode cX5_begins 51 = .ok (.getfield 3, 3) := by decide +kernel
theorem dX5_begins_54 : decode cX5_begins 54 = .ok (.aload_n 1, 1) := by decide +kernel
theorem dX5_begins_55 : decode cX5_begins 55 = .ok (.invokevirtual 29, 3) := by decide +kernel
theorem dX5_begins_58 : decode cX5_begins 58 = .ok (.goto 10, 3) := by decide +kernel
theorem dX5_begins_61 : decode cX5_begins 61 = .ok (.aload_n 0, 1) := by decide +kernel
theorem dX5_begins_62 : decode cX5_begins 62 = .ok (.aload_n 1, 1) := by decide +kernel
theorem dX5_begins_63 : decode cX5_begins 63 = .ok (.bipush 9, 2) := by decide +kernel
theorem dX5_begins_65 : decode cX5_begins 65 = .ok (.invokevirtual 33, 3) := by decide +kernel
theorem dX5_begins_68 : decode cX5_begins 68 = .ok (.return_, 1) := by decide +kernel
theorem dX6_init_0 : decode cX6_init 0 = .ok (.aload_n 0, 1) := by decide +kernel
theorem dX6_init_1 : decode cX6_init 1 = .ok (.aload_n 1, 1) := by decide +kernel
theorem dX6_init_2 : decode cX6_init 2 = .ok (.putfield 3, 3) := by decide +kernel
theorem dX6_init_5 : decode cX6_init 5 = .ok (.aload_n 0, 1) := by decide +kernel
theorem dX6_init_6 : decode cX6_init 6 = .ok (.aload_n 1, 1) := by decide +kernel
theorem dX6_init_7 : decode cX6_init 7 = .ok (.iconst 1, 1) := by decide +kernel
theorem dX6_init_8 : decode cX6_init 8 = .ok (.aload_n 2, 1) := by decide +kernel
theorem dX6_init_9 : decode cX6_init 9 = .ok (.iconst 0, 1) := by decide +kernel
theorem dX6_init_10 : decode cX6_init 10 = .ok (.invokespecial 9, 3) := by decide +kernel
theorem dX6_init_13 : decode cX6_init 13 = .ok (.aload_n 0, 1) := by decide +kernel
theorem dX6_init_14 : decode cX6_init 14 = .ok (.new 15, 3) := by decide +kernel
theorem dX6_init_17 : decode cX6_init 17 = .ok (.dup, 1) := by decide +kernel
theorem dX6_init_18 : decode cX6_init 18 = .ok (.invokespecial 17, 3) := by decide +kernel
theorem dX6_init_21 : decode cX6_init 21 = .ok (.putfield 20, 3) := by decide +kernel
theorem dX6_init_24 : decode cX6_init 24 = .ok (.return_, 1) := by decide +kernel
theorem dX6_begins_0 : decode cX6_begins 0 = .ok (.aload_n 0, 1) := by decide +kernel
theorem dX6_begins_1 : decode cX6_begins 1 = .ok (.getfield 24, 3) := by decide +kernel
theorem dX6_begins_4 : decode cX6_begins 4 = .ok (.aload_n 0, 1) := by decide +kernel
theorem dX6_begins_5 : decode cX6_begins 5 = .ok (.getfield 32, 3) := by decide +kernel
theorem dX6_begins_8 : decode cX6_begins 8 = .ok (.if_icmp .ge 21, 3) := by decide +kernel
theorem dX6_begins_11 : decode cX6_begins 11 = .ok (.aload_n 0, 1) := by decide +kernel
theorem dX6_begins_12 : decode cX6_begins 12 = .ok (.getfield 20, 3) := by decide +kernel
theorem dX6_begins_15 : decode cX6_begins 15 = .ok (.invokevirtual 35, 3) := by decide +kernel
theorem dX6_begins_18 : decode cX6_begins 18 = .ok (.ifCond .ne 11, 3) := by decide +kernel
theorem dX6_begins_21 : decode cX6_begins 21 = .ok (.aload_n 0, 1) := by decide +kernel
theorem dX6_begins_22 : decode cX6_begins 22 = .ok (.aload_n 1, 1) := by decide +kernel
theorem dX6_begins_23 : decode cX6_begins 23 = .ok (.invokevirtual 39, 3) := by decide +kernel
theorem dX6_begins_26 : decode cX6_begins 26 = .ok (.goto 51, 3) := by decide +kernel
theorem dX6_begins_29 : decode cX6_begins 29 = .ok (.aload_n 0, 1) := by decide +kernel
theorem dX6_begins_30 : decode cX6_begins 30 = .ok (.getfield 20, 3) := by decide +kernel
theorem dX6_begins_33 : decode cX6_begins 33 = .ok (.invokevirtual 35, 3) := by decide +kernel
theorem dX6_begins_36 : decode cX6_begins 36 = .ok (.aload_n 0, 1) := by decide +kernel
theorem dX6_begins_37 : decode cX6_begins 37 = .ok (.getfield 42, 3) := by decide +kernel
theorem dX6_begins_40 : decode cX6_begins 40 = .ok (.if_icmp .ge 20, 3) := by decide +kernel
theorem dX6_begins_43 : decode cX6_begins 43 = .ok (.aload_n 1, 1) := by decide +kernel
theorem dX6_begins_44 : decode cX6_begins 44 = .ok (.iconst 1, 1) := by decide +kernel
theorem dX6_begins_45 : decode cX6_begins 45 = .ok (.putfield 45, 3) := by decide +kernel
theorem dX6_begins_48 : decode cX6_begins 48 = .ok (.aload_n 0, 1) := by decide +kernel
theorem dX6_begins_49 : decode cX6_begins 49 = .ok (.getfield 20, 3) := by decide +kernel
theorem dX6_begins_52 : decode cX6_begins 52 = .ok (.aload_n 1, 1) := by decide +kernel
theorem dX6_begins_53 : decode cX6_begins 53 = .ok (.invokevirtual 50, 3) := by decide +kernel
theorem dX6_begins_56 : decode cX6_begins 56 = .ok (.pop, 1) := by decide +kernel
theorem dX6_begins_57 : decode cX6_begins 57 = .ok (.goto 20, 3) := by decide +kernel
theorem dX6_begins_60 : decode cX6_begins 60 = .ok (.aload_n 0, 1) := by decide +kernel
theorem dX6_begins_61 : decode cX6_begins 61 = .ok (.dup, 1) := by decide +kernel
theorem dX6_begins_62 : decode cX6_begins 62 = .ok (.getfield 54, 3) := by decide +kernel
theorem dX6_begins_65 : decode cX6_begins 65 = .ok (.iconst 1, 1) := by decide +kernel
theorem dX6_begins_66 : decode cX6_begins 66 = .ok (.iadd, 1) := by decide +kernel
theorem dX6_begins_67 : decode cX6_begins 67 = .ok (.putfield 54, 3) := by decide +kernel
theorem dX6_begins_70 : decode cX6_begins 70 = .ok (.aload_n 0, 1) := by decide +kernel
theorem dX6_begins_71 : decode cX6_begins 71 = .ok (.aload_n 1, 1) := by decide +kernel
theorem dX6_begins_72 : decode cX6_begins 72 = .ok (.bipush 10, 2) := by decide +kernel
theorem dX6_begins_74 : decode cX6_begins 74 = .ok (.invokevirtual 57, 3) := by decide +kernel
theorem dX6_begins_77 : decode cX6_begins 77 = .ok (.return_, 1) := by decide +kernel
theorem dX6_works_0 : decode cX6_works 0 = .ok (.aload_n 0, 1) := by decide +kernel
theorem dX6_works_1 : decode cX6_works 1 = .ok (.dup, 1) := by decide +kernel
theorem dX6_works_2 : decode cX6_works 2 = .ok (.getfield 24, 3) := by decide +kernel
theorem dX6_works_5 : decode cX6_works 5 = .ok (.iconst 1, 1) := by decide +kernel
theorem dX6_works_6 : decode cX6_works 6 = .ok (.iadd, 1) := by decide +kernel
theorem dX6_works_7 : decode cX6_works 7 = .ok (.putfield 24, 3) := by decide +kernel
theorem dX6_works_10 : decode cX6_works 10 = .ok (.aload_n 0, 1) := by decide +kernel
theorem dX6_works_11 : decode cX6_works 11 = .ok (.getfield 3, 3) := by decide +kernel
theorem dX6_works_14 : decode cX6_works 14 = .ok (.aload_n 1, 1) := by decide +kernel
theorem dX6_works_15 : decode cX6_works 15 = .ok (.invokevirtual 28, 3) := by decide +kernel
theorem dX6_works_18 : decode cX6_works 18 = .ok (.return_, 1) := by decide +kernel
theorem dX6_told_0 : decode cX6_told 0 = .ok (.aload_n 0, 1) := by decide +kernel
theorem dX6_told_1 : decode cX6_told 1 = .ok (.dup, 1) := by decide +kernel
theorem dX6_told_2 : decode cX6_told 2 = .ok (.getfield 24, 3) := by decide +kernel
theorem dX6_told_5 : decode cX6_told 5 = .ok (.iconst 1, 1) := by decide +kernel
theorem dX6_told_6 : decode cX6_told 6 = .ok (.isub, 1) := by decide +kernel
theorem dX6_told_7 : decode cX6_told 7 = .ok (.putfield 24, 3) := by decide +kernel
theorem dX6_told_10 : decode cX6_told 10 = .ok (.aload_n 0, 1) := by decide +kernel
theorem dX6_told_11 : decode cX6_told 11 = .ok (.getfield 3, 3) := by decide +kernel
theorem dX6_told_14 : decode cX6_told 14 = .ok (.aload_n 1, 1) := by decide +kernel
theorem dX6_told_15 : decode cX6_told 15 = .ok (.aload_n 2, 1) := by decide +kernel
theorem dX6_told_16 : decode cX6_told 16 = .ok (.invokevirtual 61, 3) := by decide +kernel
theorem dX6_told_19 : decode cX6_told 19 = .ok (.return_, 1) := by decide +kernel
theorem dX6_takenBack_0 : decode cX6_takenBack 0 = .ok (.aload_n 1, 1) := by decide +kernel
theorem dX6_takenBack_1 : decode cX6_takenBack 1 = .ok (.getfield 45, 3) := by decide +kernel
theorem dX6_takenBack_4 : decode cX6_takenBack 4 = .ok (.iconst 1, 1) := by decide +kernel
theorem dX6_takenBack_5 : decode cX6_takenBack 5 = .ok (.if_icmp .ne 15, 3) := by decide +kernel
theorem dX6_takenBack_8 : decode cX6_takenBack 8 = .ok (.aload_n 0, 1) := by decide +kernel
theorem dX6_takenBack_9 : decode cX6_takenBack 9 = .ok (.getfield 20, 3) := by decide +kernel
theorem dX6_takenBack_12 : decode cX6_takenBack 12 = .ok (.aload_n 1, 1) := by decide +kernel
theorem dX6_takenBack_13 : decode cX6_takenBack 13 = .ok (.invokevirtual 65, 3) := by decide +kernel
theorem dX6_takenBack_16 : decode cX6_takenBack 16 = .ok (.pop, 1) := by decide +kernel
theorem dX6_takenBack_17 : decode cX6_takenBack 17 = .ok (.goto 13, 3) := by decide +kernel
theorem dX6_takenBack_20 : decode cX6_takenBack 20 = .ok (.aload_n 0, 1) := by decide +kernel
theorem dX6_takenBack_21 : decode cX6_takenBack 21 = .ok (.dup, 1) := by decide +kernel
theorem dX6_takenBack_22 : decode cX6_takenBack 22 = .ok (.getfield 24, 3) := by decide +kernel
theorem dX6_takenBack_25 : decode cX6_takenBack 25 = .ok (.iconst 1, 1) := by decide +kernel
theorem dX6_takenBack_26 : decode cX6_takenBack 26 = .ok (.isub, 1) := by decide +kernel
theorem dX6_takenBack_27 : decode cX6_takenBack 27 = .ok (.putfield 24, 3) := by decide +kernel
theorem dX6_takenBack_30 : decode cX6_takenBack 30 = .ok (.return_, 1) := by decide +kernel
theorem dX6_letsIn_0 : decode cX6_letsIn 0 = .ok (.aload_n 0, 1) := by decide +kernel
theorem dX6_letsIn_1 : decode cX6_letsIn 1 = .ok (.getfield 24, 3) := by decide +kernel
theorem dX6_letsIn_4 : decode cX6_letsIn 4 = .ok (.aload_n 0, 1) := by decide +kernel
theorem dX6_letsIn_5 : decode cX6_letsIn 5 = .ok (.getfield 32, 3) := by decide +kernel
theorem dX6_letsIn_8 : decode cX6_letsIn 8 = .ok (.if_icmp .ge 38, 3) := by decide +kernel
theorem dX6_letsIn_11 : decode cX6_letsIn 11 = .ok (.aload_n 0, 1) := by decide +kernel
theorem dX6_letsIn_12 : decode cX6_letsIn 12 = .ok (.getfield 20, 3) := by decide +kernel
theorem dX6_letsIn_15 : decode cX6_letsIn 15 = .ok (.invokevirtual 35, 3) := by decide +kernel
theorem dX6_letsIn_18 : decode cX6_letsIn 18 = .ok (.ifCond .le 28, 3) := by decide +kernel
theorem dX6_letsIn_21 : decode cX6_letsIn 21 = .ok (.aload_n 0, 1) := by decide +kernel
theorem dX6_letsIn_22 : decode cX6_letsIn 22 = .ok (.getfield 20, 3) := by decide +kernel
theorem dX6_letsIn_25 : decode cX6_letsIn 25 = .ok (.iconst 0, 1) := by decide +kernel
theorem dX6_letsIn_26 : decode cX6_letsIn 26 = .ok (.invokevirtual 68, 3) := by decide +kernel
theorem dX6_letsIn_29 : decode cX6_letsIn 29 = .ok (.checkcast 46, 3) := by decide +kernel
theorem dX6_letsIn_32 : decode cX6_letsIn 32 = .ok (.astore_n 1, 1) := by decide +kernel
theorem dX6_letsIn_33 : decode cX6_letsIn 33 = .ok (.aload_n 1, 1) := by decide +kernel
theorem dX6_letsIn_34 : decode cX6_letsIn 34 = .ok (.iconst 0, 1) := by decide +kernel
theorem dX6_letsIn_35 : decode cX6_letsIn 35 = .ok (.putfield 45, 3) := by decide +kernel
theorem dX6_letsIn_38 : decode cX6_letsIn 38 = .ok (.aload_n 0, 1) := by decide +kernel
theorem dX6_letsIn_39 : decode cX6_letsIn 39 = .ok (.aload_n 1, 1) := by decide +kernel
theorem dX6_letsIn_40 : decode cX6_letsIn 40 = .ok (.invokevirtual 39, 3) := by decide +kernel
theorem dX6_letsIn_43 : decode cX6_letsIn 43 = .ok (.goto (-43), 3) := by decide +kernel
theorem dX6_letsIn_46 : decode cX6_letsIn 46 = .ok (.return_, 1) := by decide +kernel
theorem dX7_init_0 : decode cX7_init 0 = .ok (.aload_n 0, 1) := by decide +kernel
theorem dX7_init_1 : decode cX7_init 1 = .ok (.aload_n 1, 1) := by decide +kernel
theorem dX7_init_2 : decode cX7_init 2 = .ok (.putfield 3, 3) := by decide +kernel
theorem dX7_init_5 : decode cX7_init 5 = .ok (.aload_n 0, 1) := by decide +kernel
theorem dX7_init_6 : decode cX7_init 6 = .ok (.aload_n 1, 1) := by decide +kernel
theorem dX7_init_7 : decode cX7_init 7 = .ok (.iconst 2, 1) := by decide +kernel
theorem dX7_init_8 : decode cX7_init 8 = .ok (.aload_n 2, 1) := by decide +kernel
theorem dX7_init_9 : decode cX7_init 9 = .ok (.iconst 0, 1) := by decide +kernel
theorem dX7_init_10 : decode cX7_init 10 = .ok (.invokespecial 9, 3) := by decide +kernel
theorem dX7_init_13 : decode cX7_init 13 = .ok (.aload_n 0, 1) := by decide +kernel
theorem dX7_init_14 : decode cX7_init 14 = .ok (.aload_n 0, 1) := by decide +kernel
theorem dX7_init_15 : decode cX7_init 15 = .ok (.getfield 15, 3) := by decide +kernel
theorem dX7_init_18 : decode cX7_init 18 = .ok (.putfield 19, 3) := by decide +kernel
theorem dX7_init_21 : decode cX7_init 21 = .ok (.return_, 1) := by decide +kernel
theorem dX7_begins_0 : decode cX7_begins 0 = .ok (.aload_n 0, 1) := by decide +kernel
theorem dX7_begins_1 : decode cX7_begins 1 = .ok (.getfield 19, 3) := by decide +kernel
theorem dX7_begins_4 : decode cX7_begins 4 = .ok (.ifCond .ne 11, 3) := by decide +kernel
theorem dX7_begins_7 : decode cX7_begins 7 = .ok (.aload_n 0, 1) := by decide +kernel
theorem dX7_begins_8 : decode cX7_begins 8 = .ok (.aload_n 1, 1) := by decide +kernel
theorem dX7_begins_9 : decode cX7_begins 9 = .ok (.bipush 11, 2) := by decide +kernel
theorem dX7_begins_11 : decode cX7_begins 11 = .ok (.invokevirtual 22, 3) := by decide +kernel
theorem dX7_begins_14 : decode cX7_begins 14 = .ok (.return_, 1) := by decide +kernel
theorem dX7_begins_15 : decode cX7_begins 15 = .ok (.aload_n 0, 1) := by decide +kernel
theorem dX7_begins_16 : decode cX7_begins 16 = .ok (.dup, 1) := by decide +kernel
theorem dX7_begins_17 : decode cX7_begins 17 = .ok (.getfield 19, 3) := by decide +kernel
theorem dX7_begins_20 : decode cX7_begins 20 = .ok (.iconst 1, 1) := by decide +kernel
theorem dX7_begins_21 : decode cX7_begins 21 = .ok (.isub, 1) := by decide +kernel
theorem dX7_begins_22 : decode cX7_begins 22 = .ok (.putfield 19, 3) := by decide +kernel
theorem dX7_begins_25 : decode cX7_begins 25 = .ok (.aload_n 0, 1) := by decide +kernel
theorem dX7_begins_26 : decode cX7_begins 26 = .ok (.getfield 3, 3) := by decide +kernel
theorem dX7_begins_29 : decode cX7_begins 29 = .ok (.aload_n 1, 1) := by decide +kernel
theorem dX7_begins_30 : decode cX7_begins 30 = .ok (.invokevirtual 26, 3) := by decide +kernel
theorem dX7_begins_33 : decode cX7_begins 33 = .ok (.return_, 1) := by decide +kernel
theorem dX7_newSecond_0 : decode cX7_newSecond 0 = .ok (.aload_n 0, 1) := by decide +kernel
theorem dX7_newSecond_1 : decode cX7_newSecond 1 = .ok (.aload_n 0, 1) := by decide +kernel
theorem dX7_newSecond_2 : decode cX7_newSecond 2 = .ok (.getfield 15, 3) := by decide +kernel
theorem dX7_newSecond_5 : decode cX7_newSecond 5 = .ok (.aload_n 0, 1) := by decide +kernel
theorem dX7_newSecond_6 : decode cX7_newSecond 6 = .ok (.getfield 19, 3) := by decide +kernel
theorem dX7_newSecond_9 : decode cX7_newSecond 9 = .ok (.aload_n 0, 1) := by decide +kernel
theorem dX7_newSecond_10 : decode cX7_newSecond 10 = .ok (.getfield 30, 3) := by decide +kernel
theorem dX7_newSecond_13 : decode cX7_newSecond 13 = .ok (.iadd, 1) := by decide +kernel
theorem dX7_newSecond_14 : decode cX7_newSecond 14 = .ok (.invokestatic 33, 3) := by decide +kernel
theorem dX7_newSecond_17 : decode cX7_newSecond 17 = .ok (.putfield 19, 3) := by decide +kernel
theorem dX7_newSecond_20 : decode cX7_newSecond 20 = .ok (.return_, 1) := by decide +kernel
theorem dX8_init_0 : decode cX8_init 0 = .ok (.aload_n 0, 1) := by decide +kernel
theorem dX8_init_1 : decode cX8_init 1 = .ok (.aload_n 1, 1) := by decide +kernel
theorem dX8_init_2 : decode cX8_init 2 = .ok (.putfield 3, 3) := by decide +kernel
theorem dX8_init_5 : decode cX8_init 5 = .ok (.aload_n 0, 1) := by decide +kernel
theorem dX8_init_6 : decode cX8_init 6 = .ok (.aload_n 1, 1) := by decide +kernel
theorem dX8_init_7 : decode cX8_init 7 = .ok (.iconst 3, 1) := by decide +kernel
theorem dX8_init_8 : decode cX8_init 8 = .ok (.aload_n 2, 1) := by decide +kernel
theorem dX8_init_9 : decode cX8_init 9 = .ok (.iconst 0, 1) := by decide +kernel
theorem dX8_init_10 : decode cX8_init 10 = .ok (.invokespecial 9, 3) := by decide +kernel
theorem dX8_init_13 : decode cX8_init 13 = .ok (.return_, 1) := by decide +kernel
theorem dX8_begins_0 : decode cX8_begins 0 = .ok (.aload_n 1, 1) := by decide +kernel
theorem dX8_begins_1 : decode cX8_begins 1 = .ok (.aload_n 0, 1) := by decide +kernel
theorem dX8_begins_2 : decode cX8_begins 2 = .ok (.getfield 3, 3) := by decide +kernel
theorem dX8_begins_5 : decode cX8_begins 5 = .ok (.getfield 15, 3) := by decide +kernel
theorem dX8_begins_8 : decode cX8_begins 8 = .ok (.aload_n 0, 1) := by decide +kernel
theorem dX8_begins_9 : decode cX8_begins 9 = .ok (.getfield 19, 3) := by decide +kernel
theorem dX8_begins_12 : decode cX8_begins 12 = .ok (.iadd, 1) := by decide +kernel
theorem dX8_begins_13 : decode cX8_begins 13 = .ok (.putfield 22, 3) := by decide +kernel
theorem dX8_begins_16 : decode cX8_begins 16 = .ok (.aload_n 0, 1) := by decide +kernel
theorem dX8_begins_17 : decode cX8_begins 17 = .ok (.getfield 3, 3) := by decide +kernel
theorem dX8_begins_20 : decode cX8_begins 20 = .ok (.aload_n 1, 1) := by decide +kernel
theorem dX8_begins_21 : decode cX8_begins 21 = .ok (.invokevirtual 27, 3) := by decide +kernel
theorem dX8_begins_24 : decode cX8_begins 24 = .ok (.return_, 1) := by decide +kernel
theorem dX8_due_0 : decode cX8_due 0 = .ok (.aload_n 0, 1) := by decide +kernel
theorem dX8_due_1 : decode cX8_due 1 = .ok (.getfield 3, 3) := by decide +kernel
theorem dX8_due_4 : decode cX8_due 4 = .ok (.aload_n 1, 1) := by decide +kernel
theorem dX8_due_5 : decode cX8_due 5 = .ok (.getfield 31, 3) := by decide +kernel
theorem dX8_due_8 : decode cX8_due 8 = .ok (.iconst 0, 1) := by decide +kernel
theorem dX8_due_9 : decode cX8_due 9 = .ok (.invokevirtual 35, 3) := by decide +kernel
theorem dX8_due_12 : decode cX8_due 12 = .ok (.checkcast 23, 3) := by decide +kernel
theorem dX8_due_15 : decode cX8_due 15 = .ok (.invokevirtual 41, 3) := by decide +kernel
theorem dX8_due_18 : decode cX8_due 18 = .ok (.pop, 1) := by decide +kernel
theorem dX8_due_19 : decode cX8_due 19 = .ok (.aload_n 1, 1) := by decide +kernel
theorem dX8_due_20 : decode cX8_due 20 = .ok (.invokevirtual 45, 3) := by decide +kernel
theorem dX8_due_23 : decode cX8_due 23 = .ok (.ifCond .eq 10, 3) := by decide +kernel
theorem dX8_due_26 : decode cX8_due 26 = .ok (.aload_n 0, 1) := by decide +kernel
theorem dX8_due_27 : decode cX8_due 27 = .ok (.aload_n 1, 1) := by decide +kernel
theorem dX8_due_28 : decode cX8_due 28 = .ok (.bipush 12, 2) := by decide +kernel
theorem dX8_due_30 : decode cX8_due 30 = .ok (.invokevirtual 49, 3) := by decide +kernel
theorem dX8_due_33 : decode cX8_due 33 = .ok (.return_, 1) := by decide +kernel
theorem dX9_init_0 : decode cX9_init 0 = .ok (.aload_n 0, 1) := by decide +kernel
theorem dX9_init_1 : decode cX9_init 1 = .ok (.aload_n 1, 1) := by decide +kernel
theorem dX9_init_2 : decode cX9_init 2 = .ok (.putfield 3, 3) := by decide +kernel
theorem dX9_init_5 : decode cX9_init 5 = .ok (.aload_n 0, 1) := by decide +kernel
theorem dX9_init_6 : decode cX9_init 6 = .ok (.aload_n 1, 1) := by decide +kernel
theorem dX9_init_7 : decode cX9_init 7 = .ok (.iconst 4, 1) := by decide +kernel
theorem dX9_init_8 : decode cX9_init 8 = .ok (.aload_n 2, 1) := by decide +kernel
theorem dX9_init_9 : decode cX9_init 9 = .ok (.iload_n 3, 1) := by decide +kernel
theorem dX9_init_10 : decode cX9_init 10 = .ok (.invokespecial 9, 3) := by decide +kernel
theorem dX9_init_13 : decode cX9_init 13 = .ok (.return_, 1) := by decide +kernel
theorem dX9_told_0 : decode cX9_told 0 = .ok (.aload_n 1, 1) := by decide +kernel
theorem dX9_told_1 : decode cX9_told 1 = .ok (.getfield 15, 3) := by decide +kernel
theorem dX9_told_4 : decode cX9_told 4 = .ok (.invokevirtual 21, 3) := by decide +kernel
theorem dX9_told_7 : decode cX9_told 7 = .ok (.istore_n 3, 1) := by decide +kernel
theorem dX9_told_8 : decode cX9_told 8 = .ok (.aload_n 0, 1) := by decide +kernel
theorem dX9_told_9 : decode cX9_told 9 = .ok (.aload_n 2, 1) := by decide +kernel
theorem dX9_told_10 : decode cX9_told 10 = .ok (.invokevirtual 27, 3) := by decide +kernel
theorem dX9_told_13 : decode cX9_told 13 = .ok (.ifCond .eq 51, 3) := by decide +kernel
theorem dX9_told_16 : decode cX9_told 16 = .ok (.iload_n 3, 1) := by decide +kernel
theorem dX9_told_17 : decode cX9_told 17 = .ok (.aload_n 0, 1) := by decide +kernel
theorem dX9_told_18 : decode cX9_told 18 = .ok (.getfield 31, 3) := by decide +kernel
theorem dX9_told_21 : decode cX9_told 21 = .ok (.if_icmp .ge 43, 3) := by decide +kernel
theorem dX9_told_24 : decode cX9_told 24 = .ok (.aload_n 1, 1) := by decide +kernel
theorem dX9_told_25 : decode cX9_told 25 = .ok (.iconst 2, 1) := by decide +kernel
theorem dX9_told_26 : decode cX9_told 26 = .ok (.putfield 35, 3) := by decide +kernel
theorem dX9_told_29 : decode cX9_told 29 = .ok (.aload_n 1, 1) := by decide +kernel
theorem dX9_told_30 : decode cX9_told 30 = .ok (.aload_n 0, 1) := by decide +kernel
theorem dX9_told_31 : decode cX9_told 31 = .ok (.getfield 3, 3) := by decide +kernel
theorem dX9_told_34 : decode cX9_told 34 = .ok (.getfield 38, 3) := by decide +kernel
theorem dX9_told_37 : decode cX9_told 37 = .ok (.aload_n 0, 1) := by decide +kernel
theorem dX9_told_38 : decode cX9_told 38 = .ok (.getfield 41, 3) := by decide +kernel
theorem dX9_told_41 : decode cX9_told 41 = .ok (.ifCond .ne 10, 3) := by decide +kernel
theorem dX9_told_44 : decode cX9_told 44 = .ok (.aload_n 0, 1) := by decide +kernel
theorem dX9_told_45 : decode cX9_told 45 = .ok (.getfield 44, 3) := by decide +kernel
theorem dX9_told_48 : decode cX9_told 48 = .ok (.goto 11, 3) := by decide +kernel
theorem dX9_told_51 : decode cX9_told 51 = .ok (.aload_n 0, 1) := by decide +kernel
theorem dX9_told_52 : decode cX9_told 52 = .ok (.getfield 44, 3) := by decide +kernel
theorem dX9_told_55 : decode cX9_told 55 = .ok (.iload_n 3, 1) := by decide +kernel
theorem dX9_told_56 : decode cX9_told 56 = .ok (.iconst 1, 1) := by decide +kernel
theorem dX9_told_57 : decode cX9_told 57 = .ok (.isub, 1) := by decide +kernel
theorem dX9_told_58 : decode cX9_told 58 = .ok (.ishl, 1) := by decide +kernel
theorem dX9_told_59 : decode cX9_told 59 = .ok (.iadd, 1) := by decide +kernel
theorem dX9_told_60 : decode cX9_told 60 = .ok (.putfield 47, 3) := by decide +kernel
theorem dX9_told_63 : decode cX9_told 63 = .ok (.return_, 1) := by decide +kernel
theorem dX9_told_64 : decode cX9_told 64 = .ok (.iconst 0, 1) := by decide +kernel
theorem dX9_told_65 : decode cX9_told 65 = .ok (.istore 4, 2) := by decide +kernel
theorem dX9_told_67 : decode cX9_told 67 = .ok (.iload 4, 2) := by decide +kernel
theorem dX9_told_69 : decode cX9_told 69 = .ok (.iload_n 3, 1) := by decide +kernel
theorem dX9_told_70 : decode cX9_told 70 = .ok (.iconst 1, 1) := by decide +kernel
theorem dX9_told_71 : decode cX9_told 71 = .ok (.isub, 1) := by decide +kernel
theorem dX9_told_72 : decode cX9_told 72 = .ok (.if_icmp .ge 39, 3) := by decide +kernel
theorem dX9_told_75 : decode cX9_told 75 = .ok (.aload_n 2, 1) := by decide +kernel
theorem dX9_told_76 : decode cX9_told 76 = .ok (.getfield 50, 3) := by decide +kernel
theorem dX9_told_79 : decode cX9_told 79 = .ok (.iconst 2, 1) := by decide +kernel
theorem dX9_told_80 : decode cX9_told 80 = .ok (.if_icmp .ne 31, 3) := by decide +kernel
theorem dX9_told_83 : decode cX9_told 83 = .ok (.aload_n 1, 1) := by decide +kernel
theorem dX9_told_84 : decode cX9_told 84 = .ok (.getfield 15, 3) := by decide +kernel
theorem dX9_told_87 : decode cX9_told 87 = .ok (.iload 4, 2) := by decide +kernel
theorem dX9_told_89 : decode cX9_told 89 = .ok (.invokevirtual 53, 3) := by decide +kernel
theorem dX9_told_92 : decode cX9_told 92 = .ok (.checkcast 16, 3) := by decide +kernel
theorem dX9_told_95 : decode cX9_told 95 = .ok (.getfield 57, 3) := by decide +kernel
theorem dX9_told_98 : decode cX9_told 98 = .ok (.aload_n 2, 1) := by decide +kernel
theorem dX9_told_99 : decode cX9_told 99 = .ok (.getfield 57, 3) := by decide +kernel
theorem dX9_told_102 : decode cX9_told 102 = .ok (.invokevirtual 61, 3) := by decide +kernel
theorem dX9_told_105 : decode cX9_told 105 = .ok (.iinc 4 1, 3) := by decide +kernel
theorem dX9_told_108 : decode cX9_told 108 = .ok (.goto (-41), 3) := by decide +kernel
theorem dX9_told_111 : decode cX9_told 111 = .ok (.aload_n 0, 1) := by decide +kernel
theorem dX9_told_112 : decode cX9_told 112 = .ok (.getfield 3, 3) := by decide +kernel
theorem dX9_told_115 : decode cX9_told 115 = .ok (.aload_n 1, 1) := by decide +kernel
theorem dX9_told_116 : decode cX9_told 116 = .ok (.aload_n 2, 1) := by decide +kernel
theorem dX9_told_117 : decode cX9_told 117 = .ok (.invokevirtual 67, 3) := by decide +kernel
theorem dX9_told_120 : decode cX9_told 120 = .ok (.return_, 1) := by decide +kernel
theorem dX9_due_0 : decode cX9_due 0 = .ok (.aload_n 1, 1) := by decide +kernel
theorem dX9_due_1 : decode cX9_due 1 = .ok (.iconst 0, 1) := by decide +kernel
theorem dX9_due_2 : decode cX9_due 2 = .ok (.putfield 35, 3) := by decide +kernel
theorem dX9_due_5 : decode cX9_due 5 = .ok (.aload_n 0, 1) := by decide +kernel
theorem dX9_due_6 : decode cX9_due 6 = .ok (.getfield 3, 3) := by decide +kernel
theorem dX9_due_9 : decode cX9_due 9 = .ok (.aload_n 1, 1) := by decide +kernel
theorem dX9_due_10 : decode cX9_due 10 = .ok (.invokevirtual 71, 3) := by decide +kernel
theorem dX9_due_13 : decode cX9_due 13 = .ok (.return_, 1) := by decide +kernel
theorem dX10_init_0 : decode cX10_init 0 = .ok (.aload_n 0, 1) := by decide +kernel
theorem dX10_init_1 : decode cX10_init 1 = .ok (.aload_n 1, 1) := by decide +kernel
theorem dX10_init_2 : decode cX10_init 2 = .ok (.putfield 3, 3) := by decide +kernel
theorem dX10_init_5 : decode cX10_init 5 = .ok (.aload_n 0, 1) := by decide +kernel
theorem dX10_init_6 : decode cX10_init 6 = .ok (.aload_n 1, 1) := by decide +kernel
theorem dX10_init_7 : decode cX10_init 7 = .ok (.iconst 5, 1) := by decide +kernel
theorem dX10_init_8 : decode cX10_init 8 = .ok (.aload_n 2, 1) := by decide +kernel
theorem dX10_init_9 : decode cX10_init 9 = .ok (.iconst 0, 1) := by decide +kernel
theorem dX10_init_10 : decode cX10_init 10 = .ok (.invokespecial 9, 3) := by decide +kernel
theorem dX10_init_13 : decode cX10_init 13 = .ok (.return_, 1) := by decide +kernel
theorem dX10_told_0 : decode cX10_told 0 = .ok (.aload_n 1, 1) := by decide +kernel
theorem dX10_told_1 : decode cX10_told 1 = .ok (.aload_n 2, 1) := by decide +kernel
theorem dX10_told_2 : decode cX10_told 2 = .ok (.invokevirtual 31, 3) := by decide +kernel
theorem dX10_told_5 : decode cX10_told 5 = .ok (.astore_n 3, 1) := by decide +kernel
theorem dX10_told_6 : decode cX10_told 6 = .ok (.aload_n 2, 1) := by decide +kernel
theorem dX10_told_7 : decode cX10_told 7 = .ok (.getfield 35, 3) := by decide +kernel
theorem dX10_told_10 : decode cX10_told 10 = .ok (.iconst 1, 1) := by decide +kernel
theorem dX10_told_11 : decode cX10_told 11 = .ok (.if_icmp .ne 35, 3) := by decide +kernel
theorem dX10_told_14 : decode cX10_told 14 = .ok (.aload_n 3, 1) := by decide +kernel
theorem dX10_told_15 : decode cX10_told 15 = .ok (.ifnull 19, 3) := by decide +kernel
theorem dX10_told_18 : decode cX10_told 18 = .ok (.aload_n 3, 1) := by decide +kernel
theorem dX10_told_19 : decode cX10_told 19 = .ok (.invokevirtual 38, 3) := by decide +kernel
theorem dX10_told_22 : decode cX10_told 22 = .ok (.ifCond .eq 12, 3) := by decide +kernel
theorem dX10_told_25 : decode cX10_told 25 = .ok (.aload_n 0, 1) := by decide +kernel
theorem dX10_told_26 : decode cX10_told 26 = .ok (.getfield 3, 3) := by decide +kernel
theorem dX10_told_29 : decode cX10_told 29 = .ok (.aload_n 3, 1) := by decide +kernel
theorem dX10_told_30 : decode cX10_told 30 = .ok (.invokevirtual 42, 3) := by decide +kernel
theorem dX10_told_33 : decode cX10_told 33 = .ok (.pop, 1) := by decide +kernel
theorem dX10_told_34 : decode cX10_told 34 = .ok (.aload_n 0, 1) := by decide +kernel
theorem dX10_told_35 : decode cX10_told 35 = .ok (.getfield 3, 3) := by decide +kernel
theorem dX10_told_38 : decode cX10_told 38 = .ok (.aload_n 1, 1) := by decide +kernel
theorem dX10_told_39 : decode cX10_told 39 = .ok (.aload_n 2, 1) := by decide +kernel
theorem dX10_told_40 : decode cX10_told 40 = .ok (.invokevirtual 46, 3) := by decide +kernel
theorem dX10_told_43 : decode cX10_told 43 = .ok (.goto 46, 3) := by decide +kernel
theorem dX10_told_46 : decode cX10_told 46 = .ok (.aload_n 3, 1) := by decide +kernel
theorem dX10_told_47 : decode cX10_told 47 = .ok (.ifnonnull 15, 3) := by decide +kernel
theorem dX10_told_50 : decode cX10_told 50 = .ok (.aload_n 0, 1) := by decide +kernel
theorem dX10_told_51 : decode cX10_told 51 = .ok (.getfield 3, 3) := by decide +kernel
theorem dX10_told_54 : decode cX10_told 54 = .ok (.aload_n 1, 1) := by decide +kernel
theorem dX10_told_55 : decode cX10_told 55 = .ok (.aload_n 2, 1) := by decide +kernel
theorem dX10_told_56 : decode cX10_told 56 = .ok (.invokevirtual 46, 3) := by decide +kernel
theorem dX10_told_59 : decode cX10_told 59 = .ok (.goto 30, 3) := by decide +kernel
theorem dX10_told_62 : decode cX10_told 62 = .ok (.aload_n 3, 1) := by decide +kernel
theorem dX10_told_63 : decode cX10_told 63 = .ok (.invokevirtual 38, 3) := by decide +kernel
theorem dX10_told_66 : decode cX10_told 66 = .ok (.ifCond .ne 23, 3) := by decide +kernel
theorem dX10_told_69 : decode cX10_told 69 = .ok (.aload_n 2, 1) := by decide +kernel
theorem dX10_told_70 : decode cX10_told 70 = .ok (.getfield 50, 3) := by decide +kernel
theorem dX10_told_73 : decode cX10_told 73 = .ok (.aload_n 3, 1) := by decide +kernel
theorem dX10_told_74 : decode cX10_told 74 = .ok (.getfield 50, 3) := by decide +kernel
theorem dX10_told_77 : decode cX10_told 77 = .ok (.invokevirtual 54, 3) := by decide +kernel
theorem dX10_told_80 : decode cX10_told 80 = .ok (.aload_n 0, 1) := by decide +kernel
theorem dX10_told_81 : decode cX10_told 81 = .ok (.getfield 3, 3) := by decide +kernel
theorem dX10_told_84 : decode cX10_told 84 = .ok (.aload_n 1, 1) := by decide +kernel
theorem dX10_told_85 : decode cX10_told 85 = .ok (.aload_n 3, 1) := by decide +kernel
theorem dX10_told_86 : decode cX10_told 86 = .ok (.invokevirtual 46, 3) := by decide +kernel
theorem dX10_told_89 : decode cX10_told 89 = .ok (.return_, 1) := by decide +kernel
theorem dX10_begins_0 : decode cX10_begins 0 = .ok (.aload_n 1, 1) := by decide +kernel
theorem dX10_begins_1 : decode cX10_begins 1 = .ok (.aload_n 0, 1) := by decide +kernel
theorem dX10_begins_2 : decode cX10_begins 2 = .ok (.getfield 3, 3) := by decide +kernel
theorem dX10_begins_5 : decode cX10_begins 5 = .ok (.getfield 15, 3) := by decide +kernel
theorem dX10_begins_8 : decode cX10_begins 8 = .ok (.aload_n 0, 1) := by decide +kernel
theorem dX10_begins_9 : decode cX10_begins 9 = .ok (.getfield 19, 3) := by decide +kernel
theorem dX10_begins_12 : decode cX10_begins 12 = .ok (.iadd, 1) := by decide +kernel
theorem dX10_begins_13 : decode cX10_begins 13 = .ok (.putfield 22, 3) := by decide +kernel
theorem dX10_begins_16 : decode cX10_begins 16 = .ok (.aload_n 0, 1) := by decide +kernel
theorem dX10_begins_17 : decode cX10_begins 17 = .ok (.getfield 3, 3) := by decide +kernel
theorem dX10_begins_20 : decode cX10_begins 20 = .ok (.aload_n 1, 1) := by decide +kernel
theorem dX10_begins_21 : decode cX10_begins 21 = .ok (.invokevirtual 27, 3) := by decide +kernel
theorem dX10_begins_24 : decode cX10_begins 24 = .ok (.return_, 1) := by decide +kernel
theorem dX10_due_0 : decode cX10_due 0 = .ok (.aload_n 0, 1) := by decide +kernel
theorem dX10_due_1 : decode cX10_due 1 = .ok (.getfield 3, 3) := by decide +kernel
theorem dX10_due_4 : decode cX10_due 4 = .ok (.aload_n 1, 1) := by decide +kernel
theorem dX10_due_5 : decode cX10_due 5 = .ok (.invokevirtual 27, 3) := by decide +kernel
theorem dX10_due_8 : decode cX10_due 8 = .ok (.return_, 1) := by decide +kernel
theorem dX11_init_0 : decode cX11_init 0 = .ok (.aload_n 0, 1) := by decide +kernel
theorem dX11_init_1 : decode cX11_init 1 = .ok (.aload_n 1, 1) := by decide +kernel
theorem dX11_init_2 : decode cX11_init 2 = .ok (.putfield 3, 3) := by decide +kernel
theorem dX11_init_5 : decode cX11_init 5 = .ok (.aload_n 0, 1) := by decide +kernel
theorem dX11_init_6 : decode cX11_init 6 = .ok (.aload_n 1, 1) := by decide +kernel
theorem dX11_init_7 : decode cX11_init 7 = .ok (.bipush 6, 2) := by decide +kernel
theorem dX11_init_9 : decode cX11_init 9 = .ok (.aload_n 2, 1) := by decide +kernel
theorem dX11_init_10 : decode cX11_init 10 = .ok (.iload_n 3, 1) := by decide +kernel
theorem dX11_init_11 : decode cX11_init 11 = .ok (.invokespecial 9, 3) := by decide +kernel
theorem dX11_init_14 : decode cX11_init 14 = .ok (.return_, 1) := by decide +kernel
theorem dX11_told_0 : decode cX11_told 0 = .ok (.aload_n 1, 1) := by decide +kernel
theorem dX11_told_1 : decode cX11_told 1 = .ok (.getfield 15, 3) := by decide +kernel
theorem dX11_told_4 : decode cX11_told 4 = .ok (.ifCond .eq 58, 3) := by decide +kernel
theorem dX11_told_7 : decode cX11_told 7 = .ok (.aload_n 2, 1) := by decide +kernel
theorem dX11_told_8 : decode cX11_told 8 = .ok (.getfield 21, 3) := by decide +kernel
theorem dX11_told_11 : decode cX11_told 11 = .ok (.iconst 1, 1) := by decide +kernel
theorem dX11_told_12 : decode cX11_told 12 = .ok (.if_icmp .ne 17, 3) := by decide +kernel
theorem dX11_told_15 : decode cX11_told 15 = .ok (.aload_n 0, 1) := by decide +kernel
theorem dX11_told_16 : decode cX11_told 16 = .ok (.getfield 3, 3) := by decide +kernel
theorem dX11_told_19 : decode cX11_told 19 = .ok (.aload_n 1, 1) := by decide +kernel
theorem dX11_told_20 : decode cX11_told 20 = .ok (.aload_n 2, 1) := by decide +kernel
theorem dX11_told_21 : decode cX11_told 21 = .ok (.getfield 25, 3) := by decide +kernel
theorem dX11_told_24 : decode cX11_told 24 = .ok (.iconst 1, 1) := by decide +kernel
theorem dX11_told_25 : decode cX11_told 25 = .ok (.invokevirtual 28, 3) := by decide +kernel
theorem dX11_told_28 : decode cX11_told 28 = .ok (.return_, 1) := by decide +kernel
theorem dX11_told_29 : decode cX11_told 29 = .ok (.aload_n 2, 1) := by decide +kernel
theorem dX11_told_30 : decode cX11_told 30 = .ok (.getfield 32, 3) := by decide +kernel
theorem dX11_told_33 : decode cX11_told 33 = .ok (.aload_n 1, 1) := by decide +kernel
theorem dX11_told_34 : decode cX11_told 34 = .ok (.getfield 36, 3) := by decide +kernel
theorem dX11_told_37 : decode cX11_told 37 = .ok (.iconst 0, 1) := by decide +kernel
theorem dX11_told_38 : decode cX11_told 38 = .ok (.invokevirtual 40, 3) := by decide +kernel
theorem dX11_told_41 : decode cX11_told 41 = .ok (.checkcast 16, 3) := by decide +kernel
theorem dX11_told_44 : decode cX11_told 44 = .ok (.getfield 32, 3) := by decide +kernel
theorem dX11_told_47 : decode cX11_told 47 = .ok (.putfield 46, 3) := by decide +kernel
theorem dX11_told_50 : decode cX11_told 50 = .ok (.aload_n 0, 1) := by decide +kernel
theorem dX11_told_51 : decode cX11_told 51 = .ok (.getfield 3, 3) := by decide +kernel
theorem dX11_told_54 : decode cX11_told 54 = .ok (.aload_n 1, 1) := by decide +kernel
theorem dX11_told_55 : decode cX11_told 55 = .ok (.aload_n 2, 1) := by decide +kernel
theorem dX11_told_56 : decode cX11_told 56 = .ok (.invokevirtual 51, 3) := by decide +kernel
theorem dX11_told_59 : decode cX11_told 59 = .ok (.goto 73, 3) := by decide +kernel
theorem dX11_told_62 : decode cX11_told 62 = .ok (.aload_n 0, 1) := by decide +kernel
theorem dX11_told_63 : decode cX11_told 63 = .ok (.aload_n 2, 1) := by decide +kernel
theorem dX11_told_64 : decode cX11_told 64 = .ok (.invokevirtual 55, 3) := by decide +kernel
theorem dX11_told_67 : decode cX11_told 67 = .ok (.ifCond .ne 15, 3) := by decide +kernel
theorem dX11_told_70 : decode cX11_told 70 = .ok (.aload_n 0, 1) := by decide +kernel
theorem dX11_told_71 : decode cX11_told 71 = .ok (.getfield 3, 3) := by decide +kernel
theorem dX11_told_74 : decode cX11_told 74 = .ok (.aload_n 1, 1) := by decide +kernel
theorem dX11_told_75 : decode cX11_told 75 = .ok (.aload_n 2, 1) := by decide +kernel
theorem dX11_told_76 : decode cX11_told 76 = .ok (.invokevirtual 51, 3) := by decide +kernel
theorem dX11_told_79 : decode cX11_told 79 = .ok (.goto 53, 3) := by decide +kernel
theorem dX11_told_82 : decode cX11_told 82 = .ok (.aload_n 0, 1) := by decide +kernel
theorem dX11_told_83 : decode cX11_told 83 = .ok (.getfield 59, 3) := by decide +kernel
theorem dX11_told_86 : decode cX11_told 86 = .ok (.ifCond .ne 19, 3) := by decide +kernel
theorem dX11_told_89 : decode cX11_told 89 = .ok (.aload_n 0, 1) := by decide +kernel
theorem dX11_told_90 : decode cX11_told 90 = .ok (.getfield 3, 3) := by decide +kernel
theorem dX11_told_93 : decode cX11_told 93 = .ok (.aload_n 1, 1) := by decide +kernel
theorem dX11_told_94 : decode cX11_told 94 = .ok (.aload_n 0, 1) := by decide +kernel
theorem dX11_told_95 : decode cX11_told 95 = .ok (.getfield 62, 3) := by decide +kernel
theorem dX11_told_98 : decode cX11_told 98 = .ok (.iconst 1, 1) := by decide +kernel
theorem dX11_told_99 : decode cX11_told 99 = .ok (.invokevirtual 28, 3) := by decide +kernel
theorem dX11_told_102 : decode cX11_told 102 = .ok (.goto 30, 3) := by decide +kernel
theorem dX11_told_105 : decode cX11_told 105 = .ok (.aload_n 1, 1) := by decide +kernel
theorem dX11_told_106 : decode cX11_told 106 = .ok (.iconst 1, 1) := by decide +kernel
theorem dX11_told_107 : decode cX11_told 107 = .ok (.putfield 15, 3) := by decide +kernel
theorem dX11_told_110 : decode cX11_told 110 = .ok (.aload_n 0, 1) := by decide +kernel
theorem dX11_told_111 : decode cX11_told 111 = .ok (.getfield 3, 3) := by decide +kernel
theorem dX11_told_114 : decode cX11_told 114 = .ok (.aload_n 1, 1) := by decide +kernel
theorem dX11_told_115 : decode cX11_told 115 = .ok (.getfield 65, 3) := by decide +kernel
theorem dX11_told_118 : decode cX11_told 118 = .ok (.aload_n 1, 1) := by decide +kernel
theorem dX11_told_119 : decode cX11_told 119 = .ok (.getfield 69, 3) := by decide +kernel
theorem dX11_told_122 : decode cX11_told 122 = .ok (.iconst 1, 1) := by decide +kernel
theorem dX11_told_123 : decode cX11_told 123 = .ok (.iadd, 1) := by decide +kernel
theorem dX11_told_124 : decode cX11_told 124 = .ok (.aload_n 1, 1) := by decide +kernel
theorem dX11_told_125 : decode cX11_told 125 = .ok (.aload_n 0, 1) := by decide +kernel
theorem dX11_told_126 : decode cX11_told 126 = .ok (.getfield 62, 3) := by decide +kernel
theorem dX11_told_129 : decode cX11_told 129 = .ok (.invokevirtual 72, 3) := by decide +kernel
theorem dX11_told_132 : decode cX11_told 132 = .ok (.return_, 1) := by decide +kernel
theorem dX12_init_0 : decode cX12_init 0 = .ok (.aload_n 0, 1) := by decide +kernel
theorem dX12_init_1 : decode cX12_init 1 = .ok (.aload_n 1, 1) := by decide +kernel
theorem dX12_init_2 : decode cX12_init 2 = .ok (.putfield 3, 3) := by decide +kernel
theorem dX12_init_5 : decode cX12_init 5 = .ok (.aload_n 0, 1) := by decide +kernel
theorem dX12_init_6 : decode cX12_init 6 = .ok (.aload_n 1, 1) := by decide +kernel
theorem dX12_init_7 : decode cX12_init 7 = .ok (.bipush 7, 2) := by decide +kernel
theorem dX12_init_9 : decode cX12_init 9 = .ok (.aload_n 2, 1) := by decide +kernel
theorem dX12_init_10 : decode cX12_init 10 = .ok (.iconst 0, 1) := by decide +kernel
theorem dX12_init_11 : decode cX12_init 11 = .ok (.invokespecial 9, 3) := by decide +kernel
theorem dX12_init_14 : decode cX12_init 14 = .ok (.aload_n 0, 1) := by decide +kernel
theorem dX12_init_15 : decode cX12_init 15 = .ok (.bipush 8, 2) := by decide +kernel
theorem dX12_init_17 : decode cX12_init 17 = .ok (.newarray .int, 2) := by decide +kernel
theorem dX12_init_19 : decode cX12_init 19 = .ok (.putfield 15, 3) := by decide +kernel
theorem dX12_init_22 : decode cX12_init 22 = .ok (.aload_n 0, 1) := by decide +kernel
theorem dX12_init_23 : decode cX12_init 23 = .ok (.bipush 8, 2) := by decide +kernel
theorem dX12_init_25 : decode cX12_init 25 = .ok (.newarray .int, 2) := by decide +kernel
theorem dX12_init_27 : decode cX12_init 27 = .ok (.putfield 19, 3) := by decide +kernel
theorem dX12_init_30 : decode cX12_init 30 = .ok (.aload_n 0, 1) := by decide +kernel
theorem dX12_init_31 : decode cX12_init 31 = .ok (.bipush 8, 2) := by decide +kernel
theorem dX12_init_33 : decode cX12_init 33 = .ok (.newarray .boolean, 2) := by decide +kernel
theorem dX12_init_35 : decode cX12_init 35 = .ok (.putfield 22, 3) := by decide +kernel
theorem dX12_init_38 : decode cX12_init 38 = .ok (.iconst 0, 1) := by decide +kernel
theorem dX12_init_39 : decode cX12_init 39 = .ok (.istore_n 3, 1) := by decide +kernel
theorem dX12_init_40 : decode cX12_init 40 = .ok (.iload_n 3, 1) := by decide +kernel
theorem dX12_init_41 : decode cX12_init 41 = .ok (.bipush 8, 2) := by decide +kernel
theorem dX12_init_43 : decode cX12_init 43 = .ok (.if_icmp .ge 23, 3) := by decide +kernel
theorem dX12_init_46 : decode cX12_init 46 = .ok (.aload_n 0, 1) := by decide +kernel
theorem dX12_init_47 : decode cX12_init 47 = .ok (.getfield 15, 3) := by decide +kernel
theorem dX12_init_50 : decode cX12_init 50 = .ok (.iload_n 3, 1) := by decide +kernel
theorem dX12_init_51 : decode cX12_init 51 = .ok (.iconst (-1), 1) := by decide +kernel
theorem dX12_init_52 : decode cX12_init 52 = .ok (.iastore, 1) := by decide +kernel
theorem dX12_init_53 : decode cX12_init 53 = .ok (.aload_n 0, 1) := by decide +kernel
theorem dX12_init_54 : decode cX12_init 54 = .ok (.getfield 19, 3) := by decide +kernel
theorem dX12_init_57 : decode cX12_init 57 = .ok (.iload_n 3, 1) := by decide +kernel
theorem dX12_init_58 : decode cX12_init 58 = .ok (.iconst (-1), 1) := by decide +kernel
theorem dX12_init_59 : decode cX12_init 59 = .ok (.iastore, 1) := by decide +kernel
theorem dX12_init_60 : decode cX12_init 60 = .ok (.iinc 3 1, 3) := by decide +kernel
theorem dX12_init_63 : decode cX12_init 63 = .ok (.goto (-23), 3) := by decide +kernel
theorem dX12_init_66 : decode cX12_init 66 = .ok (.return_, 1) := by decide +kernel
theorem dX12_told_0 : decode cX12_told 0 = .ok (.aload_n 1, 1) := by decide +kernel
theorem dX12_told_1 : decode cX12_told 1 = .ok (.getfield 26, 3) := by decide +kernel
theorem dX12_told_4 : decode cX12_told 4 = .ok (.getfield 32, 3) := by decide +kernel
theorem dX12_told_7 : decode cX12_told 7 = .ok (.istore_n 3, 1) := by decide +kernel
theorem dX12_told_8 : decode cX12_told 8 = .ok (.aload_n 1, 1) := by decide +kernel
theorem dX12_told_9 : decode cX12_told 9 = .ok (.getfield 26, 3) := by decide +kernel
theorem dX12_told_12 : decode cX12_told 12 = .ok (.getfield 38, 3) := by decide +kernel
theorem dX12_told_15 : decode cX12_told 15 = .ok (.ifCond .ne 44, 3) := by decide +kernel
theorem dX12_told_18 : decode cX12_told 18 = .ok (.aload_n 2, 1) := by decide +kernel
theorem dX12_told_19 : decode cX12_told 19 = .ok (.getfield 55, 3) := by decide +kernel
theorem dX12_told_22 : decode cX12_told 22 = .ok (.iconst 1, 1) := by decide +kernel
theorem dX12_told_23 : decode cX12_told 23 = .ok (.if_icmp .ne 36, 3) := by decide +kernel
theorem dX12_told_26 : decode cX12_told 26 = .ok (.aload_n 0, 1) := by decide +kernel
theorem dX12_told_27 : decode cX12_told 27 = .ok (.getfield 15, 3) := by decide +kernel
theorem dX12_told_30 : decode cX12_told 30 = .ok (.iload_n 3, 1) := by decide +kernel
theorem dX12_told_31 : decode cX12_told 31 = .ok (.aload_n 2, 1) := by decide +kernel
theorem dX12_told_32 : decode cX12_told 32 = .ok (.getfield 58, 3) := by decide +kernel
theorem dX12_told_35 : decode cX12_told 35 = .ok (.iastore, 1) := by decide +kernel
theorem dX12_told_36 : decode cX12_told 36 = .ok (.aload_n 0, 1) := by decide +kernel
theorem dX12_told_37 : decode cX12_told 37 = .ok (.getfield 19, 3) := by decide +kernel
theorem dX12_told_40 : decode cX12_told 40 = .ok (.iload_n 3, 1) := by decide +kernel
theorem dX12_told_41 : decode cX12_told 41 = .ok (.aload_n 0, 1) := by decide +kernel
theorem dX12_told_42 : decode cX12_told 42 = .ok (.getfield 3, 3) := by decide +kernel
theorem dX12_told_45 : decode cX12_told 45 = .ok (.getfield 41, 3) := by decide +kernel
theorem dX12_told_48 : decode cX12_told 48 = .ok (.iastore, 1) := by decide +kernel
theorem dX12_told_49 : decode cX12_told 49 = .ok (.aload_n 0, 1) := by decide +kernel
theorem dX12_told_50 : decode cX12_told 50 = .ok (.getfield 22, 3) := by decide +kernel
theorem dX12_told_53 : decode cX12_told 53 = .ok (.iload_n 3, 1) := by decide +kernel
theorem dX12_told_54 : decode cX12_told 54 = .ok (.aload_n 2, 1) := by decide +kernel
theorem dX12_told_55 : decode cX12_told 55 = .ok (.getfield 61, 3) := by decide +kernel
theorem dX12_told_58 : decode cX12_told 58 = .ok (.bastore, 1) := by decide +kernel
theorem dX12_told_59 : decode cX12_told 59 = .ok (.aload_n 0, 1) := by decide +kernel
theorem dX12_told_60 : decode cX12_told 60 = .ok (.getfield 3, 3) := by decide +kernel
theorem dX12_told_63 : decode cX12_told 63 = .ok (.aload_n 1, 1) := by decide +kernel
theorem dX12_told_64 : decode cX12_told 64 = .ok (.aload_n 2, 1) := by decide +kernel
theorem dX12_told_65 : decode cX12_told 65 = .ok (.invokevirtual 64, 3) := by decide +kernel
theorem dX12_told_68 : decode cX12_told 68 = .ok (.return_, 1) := by decide +kernel
theorem dX12_begins_0 : decode cX12_begins 0 = .ok (.aload_n 1, 1) := by decide +kernel
theorem dX12_begins_1 : decode cX12_begins 1 = .ok (.getfield 26, 3) := by decide +kernel
theorem dX12_begins_4 : decode cX12_begins 4 = .ok (.getfield 32, 3) := by decide +kernel
theorem dX12_begins_7 : decode cX12_begins 7 = .ok (.istore_n 2, 1) := by decide +kernel
theorem dX12_begins_8 : decode cX12_begins 8 = .ok (.aload_n 1, 1) := by decide +kernel
theorem dX12_begins_9 : decode cX12_begins 9 = .ok (.getfield 26, 3) := by decide +kernel
theorem dX12_begins_12 : decode cX12_begins 12 = .ok (.getfield 38, 3) := by decide +kernel
theorem dX12_begins_15 : decode cX12_begins 15 = .ok (.ifCond .ne 57, 3) := by decide +kernel
theorem dX12_begins_18 : decode cX12_begins 18 = .ok (.aload_n 0, 1) := by decide +kernel
theorem dX12_begins_19 : decode cX12_begins 19 = .ok (.getfield 19, 3) := by decide +kernel
theorem dX12_begins_22 : decode cX12_begins 22 = .ok (.iload_n 2, 1) := by decide +kernel
theorem dX12_begins_23 : decode cX12_begins 23 = .ok (.iaload, 1) := by decide +kernel
theorem dX12_begins_24 : decode cX12_begins 24 = .ok (.iconst (-1), 1) := by decide +kernel
theorem dX12_begins_25 : decode cX12_begins 25 = .ok (.if_icmp .eq 47, 3) := by decide +kernel
theorem dX12_begins_28 : decode cX12_begins 28 = .ok (.aload_n 0, 1) := by decide +kernel
theorem dX12_begins_29 : decode cX12_begins 29 = .ok (.getfield 3, 3) := by decide +kernel
theorem dX12_begins_32 : decode cX12_begins 32 = .ok (.getfield 41, 3) := by decide +kernel
theorem dX12_begins_35 : decode cX12_begins 35 = .ok (.aload_n 0, 1) := by decide +kernel
theorem dX12_begins_36 : decode cX12_begins 36 = .ok (.getfield 19, 3) := by decide +kernel
theorem dX12_begins_39 : decode cX12_begins 39 = .ok (.iload_n 2, 1) := by decide +kernel
theorem dX12_begins_40 : decode cX12_begins 40 = .ok (.iaload, 1) := by decide +kernel
theorem dX12_begins_41 : decode cX12_begins 41 = .ok (.isub, 1) := by decide +kernel
theorem dX12_begins_42 : decode cX12_begins 42 = .ok (.aload_n 0, 1) := by decide +kernel
theorem dX12_begins_43 : decode cX12_begins 43 = .ok (.getfield 44, 3) := by decide +kernel
theorem dX12_begins_46 : decode cX12_begins 46 = .ok (.if_icmp .gt 26, 3) := by decide +kernel
theorem dX12_begins_49 : decode cX12_begins 49 = .ok (.aload_n 0, 1) := by decide +kernel
theorem dX12_begins_50 : decode cX12_begins 50 = .ok (.getfield 3, 3) := by decide +kernel
theorem dX12_begins_53 : decode cX12_begins 53 = .ok (.aload_n 1, 1) := by decide +kernel
theorem dX12_begins_54 : decode cX12_begins 54 = .ok (.aload_n 0, 1) := by decide +kernel
theorem dX12_begins_55 : decode cX12_begins 55 = .ok (.getfield 15, 3) := by decide +kernel
theorem dX12_begins_58 : decode cX12_begins 58 = .ok (.iload_n 2, 1) := by decide +kernel
theorem dX12_begins_59 : decode cX12_begins 59 = .ok (.iaload, 1) := by decide +kernel
theorem dX12_begins_60 : decode cX12_begins 60 = .ok (.aload_n 0, 1) := by decide +kernel
theorem dX12_begins_61 : decode cX12_begins 61 = .ok (.getfield 22, 3) := by decide +kernel
theorem dX12_begins_64 : decode cX12_begins 64 = .ok (.iload_n 2, 1) := by decide +kernel
theorem dX12_begins_65 : decode cX12_begins 65 = .ok (.baload, 1) := by decide +kernel
theorem dX12_begins_66 : decode cX12_begins 66 = .ok (.invokevirtual 47, 3) := by decide +kernel
theorem dX12_begins_69 : decode cX12_begins 69 = .ok (.goto 11, 3) := by decide +kernel
theorem dX12_begins_72 : decode cX12_begins 72 = .ok (.aload_n 0, 1) := by decide +kernel
theorem dX12_begins_73 : decode cX12_begins 73 = .ok (.getfield 3, 3) := by decide +kernel
theorem dX12_begins_76 : decode cX12_begins 76 = .ok (.aload_n 1, 1) := by decide +kernel
theorem dX12_begins_77 : decode cX12_begins 77 = .ok (.invokevirtual 51, 3) := by decide +kernel
theorem dX12_begins_80 : decode cX12_begins 80 = .ok (.return_, 1) := by decide +kernel
theorem dX13_init_0 : decode cX13_init 0 = .ok (.aload_n 0, 1) := by decide +kernel
theorem dX13_init_1 : decode cX13_init 1 = .ok (.aload_n 1, 1) := by decide +kernel
theorem dX13_init_2 : decode cX13_init 2 = .ok (.putfield 3, 3) := by decide +kernel
theorem dX13_init_5 : decode cX13_init 5 = .ok (.aload_n 0, 1) := by decide +kernel
theorem dX13_init_6 : decode cX13_init 6 = .ok (.aload_n 1, 1) := by decide +kernel
theorem dX13_init_7 : decode cX13_init 7 = .ok (.bipush 8, 2) := by decide +kernel
theorem dX13_init_9 : decode cX13_init 9 = .ok (.iconst 3, 1) := by decide +kernel
theorem dX13_init_10 : decode cX13_init 10 = .ok (.newarray .int, 2) := by decide +kernel
theorem dX13_init_12 : decode cX13_init 12 = .ok (.iconst 0, 1) := by decide +kernel
theorem dX13_init_13 : decode cX13_init 13 = .ok (.invokespecial 9, 3) := by decide +kernel
theorem dX13_init_16 : decode cX13_init 16 = .ok (.return_, 1) := by decide +kernel
theorem dX13_takenBack_0 : decode cX13_takenBack 0 = .ok (.aload_n 1, 1) := by decide +kernel
theorem dX13_takenBack_1 : decode cX13_takenBack 1 = .ok (.getfield 68, 3) := by decide +kernel
theorem dX13_takenBack_4 : decode cX13_takenBack 4 = .ok (.istore_n 2, 1) := by decide +kernel
theorem dX13_takenBack_5 : decode cX13_takenBack 5 = .ok (.iload_n 2, 1) := by decide +kernel
theorem dX13_takenBack_6 : decode cX13_takenBack 6 = .ok (.aload_n 0, 1) := by decide +kernel
theorem dX13_takenBack_7 : decode cX13_takenBack 7 = .ok (.getfield 3, 3) := by decide +kernel
theorem dX13_takenBack_10 : decode cX13_takenBack 10 = .ok (.getfield 15, 3) := by decide +kernel
theorem dX13_takenBack_13 : decode cX13_takenBack 13 = .ok (.invokevirtual 19, 3) := by decide +kernel
theorem dX13_takenBack_16 : decode cX13_takenBack 16 = .ok (.if_icmp .ge 70, 3) := by decide +kernel
theorem dX13_takenBack_19 : decode cX13_takenBack 19 = .ok (.aload_n 0, 1) := by decide +kernel
theorem dX13_takenBack_20 : decode cX13_takenBack 20 = .ok (.getfield 3, 3) := by decide +kernel
theorem dX13_takenBack_23 : decode cX13_takenBack 23 = .ok (.getfield 15, 3) := by decide +kernel
theorem dX13_takenBack_26 : decode cX13_takenBack 26 = .ok (.iload_n 2, 1) := by decide +kernel
theorem dX13_takenBack_27 : decode cX13_takenBack 27 = .ok (.invokevirtual 25, 3) := by decide +kernel
theorem dX13_takenBack_30 : decode cX13_takenBack 30 = .ok (.checkcast 29, 3) := by decide +kernel
theorem dX13_takenBack_33 : decode cX13_takenBack 33 = .ok (.getfield 39, 3) := by decide +kernel
theorem dX13_takenBack_36 : decode cX13_takenBack 36 = .ok (.aload_n 1, 1) := by decide +kernel
theorem dX13_takenBack_37 : decode cX13_takenBack 37 = .ok (.if_acmp .ne 43, 3) := by decide +kernel
theorem dX13_takenBack_40 : decode cX13_takenBack 40 = .ok (.aload_n 0, 1) := by decide +kernel
theorem dX13_takenBack_41 : decode cX13_takenBack 41 = .ok (.getfield 3, 3) := by decide +kernel
theorem dX13_takenBack_44 : decode cX13_takenBack 44 = .ok (.getfield 15, 3) := by decide +kernel
theorem dX13_takenBack_47 : decode cX13_takenBack 47 = .ok (.iload_n 2, 1) := by decide +kernel
theorem dX13_takenBack_48 : decode cX13_takenBack 48 = .ok (.invokevirtual 25, 3) := by decide +kernel
theorem dX13_takenBack_51 : decode cX13_takenBack 51 = .ok (.checkcast 29, 3) := by decide +kernel
theorem dX13_takenBack_54 : decode cX13_takenBack 54 = .ok (.invokevirtual 35, 3) := by decide +kernel
theorem dX13_takenBack_57 : decode cX13_takenBack 57 = .ok (.ifCond .eq 23, 3) := by decide +kernel
theorem dX13_takenBack_60 : decode cX13_takenBack 60 = .ok (.aload_n 0, 1) := by decide +kernel
theorem dX13_takenBack_61 : decode cX13_takenBack 61 = .ok (.aload_n 0, 1) := by decide +kernel
theorem dX13_takenBack_62 : decode cX13_takenBack 62 = .ok (.getfield 3, 3) := by decide +kernel
theorem dX13_takenBack_65 : decode cX13_takenBack 65 = .ok (.getfield 15, 3) := by decide +kernel
theorem dX13_takenBack_68 : decode cX13_takenBack 68 = .ok (.iload_n 2, 1) := by decide +kernel
theorem dX13_takenBack_69 : decode cX13_takenBack 69 = .ok (.invokevirtual 25, 3) := by decide +kernel
theorem dX13_takenBack_72 : decode cX13_takenBack 72 = .ok (.checkcast 29, 3) := by decide +kernel
theorem dX13_takenBack_75 : decode cX13_takenBack 75 = .ok (.bipush 13, 2) := by decide +kernel
theorem dX13_takenBack_77 : decode cX13_takenBack 77 = .ok (.invokevirtual 71, 3) := by decide +kernel
theorem dX13_takenBack_80 : decode cX13_takenBack 80 = .ok (.iinc 2 1, 3) := by decide +kernel
theorem dX13_takenBack_83 : decode cX13_takenBack 83 = .ok (.goto (-78), 3) := by decide +kernel
theorem dX13_takenBack_86 : decode cX13_takenBack 86 = .ok (.return_, 1) := by decide +kernel
theorem dX13_told_0 : decode cX13_told 0 = .ok (.aload_n 0, 1) := by decide +kernel
theorem dX13_told_1 : decode cX13_told 1 = .ok (.getfield 3, 3) := by decide +kernel
theorem dX13_told_4 : decode cX13_told 4 = .ok (.aload_n 1, 1) := by decide +kernel
theorem dX13_told_5 : decode cX13_told 5 = .ok (.aload_n 2, 1) := by decide +kernel
theorem dX13_told_6 : decode cX13_told 6 = .ok (.invokevirtual 64, 3) := by decide +kernel
theorem dX13_told_9 : decode cX13_told 9 = .ok (.aload_n 1, 1) := by decide +kernel
theorem dX13_told_10 : decode cX13_told 10 = .ok (.getfield 68, 3) := by decide +kernel
theorem dX13_told_13 : decode cX13_told 13 = .ok (.istore_n 3, 1) := by decide +kernel
theorem dX13_told_14 : decode cX13_told 14 = .ok (.iload_n 3, 1) := by decide +kernel
theorem dX13_told_15 : decode cX13_told 15 = .ok (.aload_n 0, 1) := by decide +kernel
theorem dX13_told_16 : decode cX13_told 16 = .ok (.getfield 3, 3) := by decide +kernel
theorem dX13_told_19 : decode cX13_told 19 = .ok (.getfield 15, 3) := by decide +kernel
theorem dX13_told_22 : decode cX13_told 22 = .ok (.invokevirtual 19, 3) := by decide +kernel
theorem dX13_told_25 : decode cX13_told 25 = .ok (.if_icmp .ge 72, 3) := by decide +kernel
theorem dX13_told_28 : decode cX13_told 28 = .ok (.aload_n 0, 1) := by decide +kernel
theorem dX13_told_29 : decode cX13_told 29 = .ok (.getfield 3, 3) := by decide +kernel
theorem dX13_told_32 : decode cX13_told 32 = .ok (.getfield 15, 3) := by decide +kernel
theorem dX13_told_35 : decode cX13_told 35 = .ok (.iload_n 3, 1) := by decide +kernel
theorem dX13_told_36 : decode cX13_told 36 = .ok (.invokevirtual 25, 3) := by decide +kernel
theorem dX13_told_39 : decode cX13_told 39 = .ok (.checkcast 29, 3) := by decide +kernel
theorem dX13_told_42 : decode cX13_told 42 = .ok (.getfield 39, 3) := by decide +kernel
theorem dX13_told_45 : decode cX13_told 45 = .ok (.aload_n 1, 1) := by decide +kernel
theorem dX13_told_46 : decode cX13_told 46 = .ok (.if_acmp .ne 45, 3) := by decide +kernel
theorem dX13_told_49 : decode cX13_told 49 = .ok (.aload_n 0, 1) := by decide +kernel
theorem dX13_told_50 : decode cX13_told 50 = .ok (.getfield 3, 3) := by decide +kernel
theorem dX13_told_53 : decode cX13_told 53 = .ok (.getfield 15, 3) := by decide +kernel
theorem dX13_told_56 : decode cX13_told 56 = .ok (.iload_n 3, 1) := by decide +kernel
theorem dX13_told_57 : decode cX13_told 57 = .ok (.invokevirtual 25, 3) := by decide +kernel
theorem dX13_told_60 : decode cX13_told 60 = .ok (.checkcast 29, 3) := by decide +kernel
theorem dX13_told_63 : decode cX13_told 63 = .ok (.invokevirtual 35, 3) := by decide +kernel
theorem dX13_told_66 : decode cX13_told 66 = .ok (.ifCond .eq 25, 3) := by decide +kernel
theorem dX13_told_69 : decode cX13_told 69 = .ok (.aload_n 0, 1) := by decide +kernel
theorem dX13_told_70 : decode cX13_told 70 = .ok (.getfield 3, 3) := by decide +kernel
theorem dX13_told_73 : decode cX13_told 73 = .ok (.aload_n 0, 1) := by decide +kernel
theorem dX13_told_74 : decode cX13_told 74 = .ok (.getfield 3, 3) := by decide +kernel
theorem dX13_told_77 : decode cX13_told 77 = .ok (.getfield 15, 3) := by decide +kernel
theorem dX13_told_80 : decode cX13_told 80 = .ok (.iload_n 3, 1) := by decide +kernel
theorem dX13_told_81 : decode cX13_told 81 = .ok (.invokevirtual 25, 3) := by decide +kernel
theorem dX13_told_84 : decode cX13_told 84 = .ok (.checkcast 29, 3) := by decide +kernel
theorem dX13_told_87 : decode cX13_told 87 = .ok (.aload_n 2, 1) := by decide +kernel
theorem dX13_told_88 : decode cX13_told 88 = .ok (.invokevirtual 64, 3) := by decide +kernel
theorem dX13_told_91 : decode cX13_told 91 = .ok (.iinc 3 1, 3) := by decide +kernel
theorem dX13_told_94 : decode cX13_told 94 = .ok (.goto (-80), 3) := by decide +kernel
theorem dX13_told_97 : decode cX13_told 97 = .ok (.return_, 1) := by decide +kernel
theorem dX13_begins_0 : decode cX13_begins 0 = .ok (.aload_n 1, 1) := by decide +kernel
theorem dX13_begins_1 : decode cX13_begins 1 = .ok (.aload_n 0, 1) := by decide +kernel
theorem dX13_begins_2 : decode cX13_begins 2 = .ok (.aload_n 1, 1) := by decide +kernel
theorem dX13_begins_3 : decode cX13_begins 3 = .ok (.invokevirtual 53, 3) := by decide +kernel
theorem dX13_begins_6 : decode cX13_begins 6 = .ok (.putfield 39, 3) := by decide +kernel
theorem dX13_begins_9 : decode cX13_begins 9 = .ok (.aload_n 1, 1) := by decide +kernel
theorem dX13_begins_10 : decode cX13_begins 10 = .ok (.getfield 39, 3) := by decide +kernel
theorem dX13_begins_13 : decode cX13_begins 13 = .ok (.ifnonnull 14, 3) := by decide +kernel
theorem dX13_begins_16 : decode cX13_begins 16 = .ok (.aload_n 0, 1) := by decide +kernel
theorem dX13_begins_17 : decode cX13_begins 17 = .ok (.getfield 3, 3) := by decide +kernel
theorem dX13_begins_20 : decode cX13_begins 20 = .ok (.aload_n 1, 1) := by decide +kernel
theorem dX13_begins_21 : decode cX13_begins 21 = .ok (.invokevirtual 56, 3) := by decide +kernel
theorem dX13_begins_24 : decode cX13_begins 24 = .ok (.goto 8, 3) := by decide +kernel
theorem dX13_begins_27 : decode cX13_begins 27 = .ok (.aload_n 1, 1) := by decide +kernel
theorem dX13_begins_28 : decode cX13_begins 28 = .ok (.iconst 3, 1) := by decide +kernel
theorem dX13_begins_29 : decode cX13_begins 29 = .ok (.putfield 60, 3) := by decide +kernel
theorem dX13_begins_32 : decode cX13_begins 32 = .ok (.return_, 1) := by decide +kernel
theorem dX13_leader_0 : decode cX13_leader 0 = .ok (.iconst 0, 1) := by decide +kernel
theorem dX13_leader_1 : decode cX13_leader 1 = .ok (.istore_n 2, 1) := by decide +kernel
theorem dX13_leader_2 : decode cX13_leader 2 = .ok (.iload_n 2, 1) := by decide +kernel
theorem dX13_leader_3 : decode cX13_leader 3 = .ok (.aload_n 0, 1) := by decide +kernel
theorem dX13_leader_4 : decode cX13_leader 4 = .ok (.getfield 3, 3) := by decide +kernel
theorem dX13_leader_7 : decode cX13_leader 7 = .ok (.getfield 15, 3) := by decide +kernel
theorem dX13_leader_10 : decode cX13_leader 10 = .ok (.invokevirtual 19, 3) := by decide +kernel
theorem dX13_leader_13 : decode cX13_leader 13 = .ok (.if_icmp .ge 67, 3) := by decide +kernel
theorem dX13_leader_16 : decode cX13_leader 16 = .ok (.aload_n 0, 1) := by decide +kernel
theorem dX13_leader_17 : decode cX13_leader 17 = .ok (.getfield 3, 3) := by decide +kernel
theorem dX13_leader_20 : decode cX13_leader 20 = .ok (.getfield 15, 3) := by decide +kernel
theorem dX13_leader_23 : decode cX13_leader 23 = .ok (.iload_n 2, 1) := by decide +kernel
theorem dX13_leader_24 : decode cX13_leader 24 = .ok (.invokevirtual 25, 3) := by decide +kernel
theorem dX13_leader_27 : decode cX13_leader 27 = .ok (.checkcast 29, 3) := by decide +kernel
theorem dX13_leader_30 : decode cX13_leader 30 = .ok (.astore_n 3, 1) := by decide +kernel
theorem dX13_leader_31 : decode cX13_leader 31 = .ok (.aload_n 3, 1) := by decide +kernel
theorem dX13_leader_32 : decode cX13_leader 32 = .ok (.aload_n 1, 1) := by decide +kernel
theorem dX13_leader_33 : decode cX13_leader 33 = .ok (.if_acmp .eq 41, 3) := by decide +kernel
theorem dX13_leader_36 : decode cX13_leader 36 = .ok (.aload_n 3, 1) := by decide +kernel
theorem dX13_leader_37 : decode cX13_leader 37 = .ok (.getfield 31, 3) := by decide +kernel
theorem dX13_leader_40 : decode cX13_leader 40 = .ok (.aload_n 0, 1) := by decide +kernel
theorem dX13_leader_41 : decode cX13_leader 41 = .ok (.if_acmp .ne 33, 3) := by decide +kernel
theorem dX13_leader_44 : decode cX13_leader 44 = .ok (.aload_n 3, 1) := by decide +kernel
theorem dX13_leader_45 : decode cX13_leader 45 = .ok (.invokevirtual 35, 3) := by decide +kernel
theorem dX13_leader_48 : decode cX13_leader 48 = .ok (.ifCond .eq 26, 3) := by decide +kernel
theorem dX13_leader_51 : decode cX13_leader 51 = .ok (.aload_n 3, 1) := by decide +kernel
theorem dX13_leader_52 : decode cX13_leader 52 = .ok (.getfield 39, 3) := by decide +kernel
theorem dX13_leader_55 : decode cX13_leader 55 = .ok (.ifnonnull 19, 3) := by decide +kernel
theorem dX13_leader_58 : decode cX13_leader 58 = .ok (.aload_n 3, 1) := by decide +kernel
theorem dX13_leader_59 : decode cX13_leader 59 = .ok (.getfield 43, 3) := by decide +kernel
theorem dX13_leader_62 : decode cX13_leader 62 = .ok (.aload_n 1, 1) := by decide +kernel
theorem dX13_leader_63 : decode cX13_leader 63 = .ok (.getfield 43, 3) := by decide +kernel
theorem dX13_leader_66 : decode cX13_leader 66 = .ok (.invokevirtual 47, 3) := by decide +kernel
theorem dX13_leader_69 : decode cX13_leader 69 = .ok (.ifCond .eq 5, 3) := by decide +kernel
theorem dX13_leader_72 : decode cX13_leader 72 = .ok (.aload_n 3, 1) := by decide +kernel
theorem dX13_leader_73 : decode cX13_leader 73 = .ok (.areturn, 1) := by decide +kernel
theorem dX13_leader_74 : decode cX13_leader 74 = .ok (.iinc 2 1, 3) := by decide +kernel
theorem dX13_leader_77 : decode cX13_leader 77 = .ok (.goto (-75), 3) := by decide +kernel
theorem dX13_leader_80 : decode cX13_leader 80 = .ok (.aconst_null, 1) := by decide +kernel
theorem dX13_leader_81 : decode cX13_leader 81 = .ok (.areturn, 1) := by decide +kernel
theorem dX14_init_0 : decode cX14_init 0 = .ok (.aload_n 0, 1) := by decide +kernel
theorem dX14_init_1 : decode cX14_init 1 = .ok (.aload_n 1, 1) := by decide +kernel
theorem dX14_init_2 : decode cX14_init 2 = .ok (.putfield 3, 3) := by decide +kernel
theorem dX14_init_5 : decode cX14_init 5 = .ok (.aload_n 0, 1) := by decide +kernel
theorem dX14_init_6 : decode cX14_init 6 = .ok (.aload_n 1, 1) := by decide +kernel
theorem dX14_init_7 : decode cX14_init 7 = .ok (.bipush 9, 2) := by decide +kernel
theorem dX14_init_9 : decode cX14_init 9 = .ok (.aload_n 2, 1) := by decide +kernel
theorem dX14_init_10 : decode cX14_init 10 = .ok (.iload_n 3, 1) := by decide +kernel
theorem dX14_init_11 : decode cX14_init 11 = .ok (.invokespecial 9, 3) := by decide +kernel
theorem dX14_init_14 : decode cX14_init 14 = .ok (.return_, 1) := by decide +kernel
theorem dX14_told_0 : decode cX14_told 0 = .ok (.aload_n 0, 1) := by decide +kernel
theorem dX14_told_1 : decode cX14_told 1 = .ok (.aload_n 2, 1) := by decide +kernel
theorem dX14_told_2 : decode cX14_told 2 = .ok (.invokevirtual 15, 3) := by decide +kernel
theorem dX14_told_5 : decode cX14_told 5 = .ok (.ifCond .ne 13, 3) := by decide +kernel
theorem dX14_told_8 : decode cX14_told 8 = .ok (.aload_n 0, 1) := by decide +kernel
theorem dX14_told_9 : decode cX14_told 9 = .ok (.getfield 3, 3) := by decide +kernel
theorem dX14_told_12 : decode cX14_told 12 = .ok (.aload_n 1, 1) := by decide +kernel
theorem dX14_told_13 : decode cX14_told 13 = .ok (.aload_n 2, 1) := by decide +kernel
theorem dX14_told_14 : decode cX14_told 14 = .ok (.invokevirtual 19, 3) := by decide +kernel
theorem dX14_told_17 : decode cX14_told 17 = .ok (.return_, 1) := by decide +kernel
theorem dX14_told_18 : decode cX14_told 18 = .ok (.aload_n 0, 1) := by decide +kernel
theorem dX14_told_19 : decode cX14_told 19 = .ok (.getfield 3, 3) := by decide +kernel
theorem dX14_told_22 : decode cX14_told 22 = .ok (.aload_n 0, 1) := by decide +kernel
theorem dX14_told_23 : decode cX14_told 23 = .ok (.getfield 23, 3) := by decide +kernel
theorem dX14_told_26 : decode cX14_told 26 = .ok (.aload_n 0, 1) := by decide +kernel
theorem dX14_told_27 : decode cX14_told 27 = .ok (.getfield 27, 3) := by decide +kernel
theorem dX14_told_30 : decode cX14_told 30 = .ok (.iconst (-1), 1) := by decide +kernel
theorem dX14_told_31 : decode cX14_told 31 = .ok (.invokevirtual 30, 3) := by decide +kernel
theorem dX14_told_34 : decode cX14_told 34 = .ok (.astore_n 3, 1) := by decide +kernel
theorem dX14_told_35 : decode cX14_told 35 = .ok (.aload_n 3, 1) := by decide +kernel
theorem dX14_told_36 : decode cX14_told 36 = .ok (.aload_n 2, 1) := by decide +kernel
theorem dX14_told_37 : decode cX14_told 37 = .ok (.getfield 34, 3) := by decide +kernel
theorem dX14_told_40 : decode cX14_told 40 = .ok (.putfield 40, 3) := by decide +kernel
theorem dX14_told_43 : decode cX14_told 43 = .ok (.aload_n 0, 1) := by decide +kernel
theorem dX14_told_44 : decode cX14_told 44 = .ok (.getfield 3, 3) := by decide +kernel
theorem dX14_told_47 : decode cX14_told 47 = .ok (.aload_n 1, 1) := by decide +kernel
theorem dX14_told_48 : decode cX14_told 48 = .ok (.aload_n 3, 1) := by decide +kernel
theorem dX14_told_49 : decode cX14_told 49 = .ok (.invokevirtual 45, 3) := by decide +kernel
theorem dX14_told_52 : decode cX14_told 52 = .ok (.return_, 1) := by decide +kernel
theorem dX15_init_0 : decode cX15_init 0 = .ok (.aload_n 0, 1) := by decide +kernel
theorem dX15_init_1 : decode cX15_init 1 = .ok (.invokespecial 3, 3) := by decide +kernel
theorem dX15_init_4 : decode cX15_init 4 = .ok (.aload_n 0, 1) := by decide +kernel
theorem dX15_init_5 : decode cX15_init 5 = .ok (.iconst (-1), 1) := by decide +kernel
theorem dX15_init_6 : decode cX15_init 6 = .ok (.putfield 9, 3) := by decide +kernel
theorem dX15_init_9 : decode cX15_init 9 = .ok (.aload_n 0, 1) := by decide +kernel
theorem dX15_init_10 : decode cX15_init 10 = .ok (.iload_n 1, 1) := by decide +kernel
theorem dX15_init_11 : decode cX15_init 11 = .ok (.putfield 15, 3) := by decide +kernel
theorem dX15_init_14 : decode cX15_init 14 = .ok (.aload_n 0, 1) := by decide +kernel
theorem dX15_init_15 : decode cX15_init 15 = .ok (.aload_n 2, 1) := by decide +kernel
theorem dX15_init_16 : decode cX15_init 16 = .ok (.putfield 18, 3) := by decide +kernel
theorem dX15_init_19 : decode cX15_init 19 = .ok (.aload_n 0, 1) := by decide +kernel
theorem dX15_init_20 : decode cX15_init 20 = .ok (.iload_n 3, 1) := by decide +kernel
theorem dX15_init_21 : decode cX15_init 21 = .ok (.putfield 22, 3) := by decide +kernel
theorem dX15_init_24 : decode cX15_init 24 = .ok (.aload_n 0, 1) := by decide +kernel
theorem dX15_init_25 : decode cX15_init 25 = .ok (.iload 4, 2) := by decide +kernel
theorem dX15_init_27 : decode cX15_init 27 = .ok (.putfield 25, 3) := by decide +kernel
theorem dX15_init_30 : decode cX15_init 30 = .ok (.aload_n 0, 1) := by decide +kernel
theorem dX15_init_31 : decode cX15_init 31 = .ok (.iload 5, 2) := by decide +kernel
theorem dX15_init_33 : decode cX15_init 33 = .ok (.putfield 28, 3) := by decide +kernel
theorem dX15_init_36 : decode cX15_init 36 = .ok (.aload_n 0, 1) := by decide +kernel
theorem dX15_init_37 : decode cX15_init 37 = .ok (.iload 6, 2) := by decide +kernel
theorem dX15_init_39 : decode cX15_init 39 = .ok (.putfield 31, 3) := by decide +kernel
theorem dX15_init_42 : decode cX15_init 42 = .ok (.aload_n 0, 1) := by decide +kernel
theorem dX15_init_43 : decode cX15_init 43 = .ok (.iload 7, 2) := by decide +kernel
theorem dX15_init_45 : decode cX15_init 45 = .ok (.putfield 34, 3) := by decide +kernel
theorem dX15_init_48 : decode cX15_init 48 = .ok (.return_, 1) := by decide +kernel
theorem dX15_isLike_0 : decode cX15_isLike 0 = .ok (.aload_n 0, 1) := by decide +kernel
theorem dX15_isLike_1 : decode cX15_isLike 1 = .ok (.getfield 22, 3) := by decide +kernel
theorem dX15_isLike_4 : decode cX15_isLike 4 = .ok (.aload_n 1, 1) := by decide +kernel
theorem dX15_isLike_5 : decode cX15_isLike 5 = .ok (.getfield 22, 3) := by decide +kernel
theorem dX15_isLike_8 : decode cX15_isLike 8 = .ok (.if_icmp .ne 29, 3) := by decide +kernel
theorem dX15_isLike_11 : decode cX15_isLike 11 = .ok (.aload_n 0, 1) := by decide +kernel
theorem dX15_isLike_12 : decode cX15_isLike 12 = .ok (.getfield 25, 3) := by decide +kernel
theorem dX15_isLike_15 : decode cX15_isLike 15 = .ok (.aload_n 1, 1) := by decide +kernel
theorem dX15_isLike_16 : decode cX15_isLike 16 = .ok (.getfield 25, 3) := by decide +kernel
theorem dX15_isLike_19 : decode cX15_isLike 19 = .ok (.if_icmp .ne 18, 3) := by decide +kernel
theorem dX15_isLike_22 : decode cX15_isLike 22 = .ok (.aload_n 0, 1) := by decide +kernel
theorem dX15_isLike_23 : decode cX15_isLike 23 = .ok (.getfield 28, 3) := by decide +kernel
theorem dX15_isLike_26 : decode cX15_isLike 26 = .ok (.aload_n 1, 1) := by decide +kernel
theorem dX15_isLike_27 : decode cX15_isLike 27 = .ok (.getfield 28, 3) := by decide +kernel
theorem dX15_isLike_30 : decode cX15_isLike 30 = .ok (.if_icmp .ne 7, 3) := by decide +kernel
theorem dX15_isLike_33 : decode cX15_isLike 33 = .ok (.iconst 1, 1) := by decide +kernel
theorem dX15_isLike_34 : decode cX15_isLike 34 = .ok (.goto 4, 3) := by decide +kernel
theorem dX15_isLike_37 : decode cX15_isLike 37 = .ok (.iconst 0, 1) := by decide +kernel
theorem dX15_isLike_38 : decode cX15_isLike 38 = .ok (.ireturn, 1) := by decide +kernel
theorem dX15_outcome_0 : decode cX15_outcome 0 = .ok (.aload_n 0, 1) := by decide +kernel
theorem dX15_outcome_1 : decode cX15_outcome 1 = .ok (.getfield 37, 3) := by decide +kernel
theorem dX15_outcome_4 : decode cX15_outcome 4 = .ok (.ifCond .eq 5, 3) := by decide +kernel
theorem dX15_outcome_7 : decode cX15_outcome 7 = .ok (.iconst 4, 1) := by decide +kernel
theorem dX15_outcome_8 : decode cX15_outcome 8 = .ok (.ireturn, 1) := by decide +kernel
theorem dX15_outcome_9 : decode cX15_outcome 9 = .ok (.aload_n 0, 1) := by decide +kernel
theorem dX15_outcome_10 : decode cX15_outcome 10 = .ok (.getfield 41, 3) := by decide +kernel
theorem dX15_outcome_13 : decode cX15_outcome 13 = .ok (.getfield 45, 3) := by decide +kernel
theorem dX15_outcome_16 : decode cX15_outcome 16 = .ok (.iconst 1, 1) := by decide +kernel
theorem dX15_outcome_17 : decode cX15_outcome 17 = .ok (.if_icmp .ne 17, 3) := by decide +kernel
theorem dX15_outcome_20 : decode cX15_outcome 20 = .ok (.aload_n 0, 1) := by decide +kernel
theorem dX15_outcome_21 : decode cX15_outcome 21 = .ok (.getfield 41, 3) := by decide +kernel
theorem dX15_outcome_24 : decode cX15_outcome 24 = .ok (.getfield 50, 3) := by decide +kernel
theorem dX15_outcome_27 : decode cX15_outcome 27 = .ok (.ifCond .eq 7, 3) := by decide +kernel
theorem dX15_outcome_30 : decode cX15_outcome 30 = .ok (.iconst 3, 1) := by decide +kernel
theorem dX15_outcome_31 : decode cX15_outcome 31 = .ok (.goto 10, 3) := by decide +kernel
theorem dX15_outcome_34 : decode cX15_outcome 34 = .ok (.aload_n 0, 1) := by decide +kernel
theorem dX15_outcome_35 : decode cX15_outcome 35 = .ok (.getfield 41, 3) := by decide +kernel
theorem dX15_outcome_38 : decode cX15_outcome 38 = .ok (.getfield 45, 3) := by decide +kernel
theorem dX15_outcome_41 : decode cX15_outcome 41 = .ok (.ireturn, 1) := by decide +kernel
theorem dX16_init_0 : decode cX16_init 0 = .ok (.aload_n 0, 1) := by decide +kernel
theorem dX16_init_1 : decode cX16_init 1 = .ok (.invokespecial 3, 3) := by decide +kernel
theorem dX16_init_4 : decode cX16_init 4 = .ok (.aload_n 0, 1) := by decide +kernel
theorem dX16_init_5 : decode cX16_init 5 = .ok (.new 9, 3) := by decide +kernel
theorem dX16_init_8 : decode cX16_init 8 = .ok (.dup, 1) := by decide +kernel
theorem dX16_init_9 : decode cX16_init 9 = .ok (.invokespecial 11, 3) := by decide +kernel
theorem dX16_init_12 : decode cX16_init 12 = .ok (.putfield 12, 3) := by decide +kernel
theorem dX16_init_15 : decode cX16_init 15 = .ok (.aload_n 0, 1) := by decide +kernel
theorem dX16_init_16 : decode cX16_init 16 = .ok (.iconst (-1), 1) := by decide +kernel
theorem dX16_init_17 : decode cX16_init 17 = .ok (.putfield 18, 3) := by decide +kernel
theorem dX16_init_20 : decode cX16_init 20 = .ok (.aload_n 0, 1) := by decide +kernel
theorem dX16_init_21 : decode cX16_init 21 = .ok (.iconst (-1), 1) := by decide +kernel
theorem dX16_init_22 : decode cX16_init 22 = .ok (.putfield 22, 3) := by decide +kernel
theorem dX16_init_25 : decode cX16_init 25 = .ok (.aload_n 0, 1) := by decide +kernel
theorem dX16_init_26 : decode cX16_init 26 = .ok (.iconst (-1), 1) := by decide +kernel
theorem dX16_init_27 : decode cX16_init 27 = .ok (.putfield 25, 3) := by decide +kernel
theorem dX16_init_30 : decode cX16_init 30 = .ok (.aload_n 0, 1) := by decide +kernel
theorem dX16_init_31 : decode cX16_init 31 = .ok (.iload_n 1, 1) := by decide +kernel
theorem dX16_init_32 : decode cX16_init 32 = .ok (.putfield 28, 3) := by decide +kernel
theorem dX16_init_35 : decode cX16_init 35 = .ok (.aload_n 0, 1) := by decide +kernel
theorem dX16_init_36 : decode cX16_init 36 = .ok (.aload_n 2, 1) := by decide +kernel
theorem dX16_init_37 : decode cX16_init 37 = .ok (.putfield 31, 3) := by decide +kernel
theorem dX16_init_40 : decode cX16_init 40 = .ok (.aload_n 0, 1) := by decide +kernel
theorem dX16_init_41 : decode cX16_init 41 = .ok (.iload_n 3, 1) := by decide +kernel
theorem dX16_init_42 : decode cX16_init 42 = .ok (.putfield 35, 3) := by decide +kernel
theorem dX16_init_45 : decode cX16_init 45 = .ok (.aload_n 0, 1) := by decide +kernel
theorem dX16_init_46 : decode cX16_init 46 = .ok (.aload 4, 2) := by decide +kernel
theorem dX16_init_48 : decode cX16_init 48 = .ok (.putfield 38, 3) := by decide +kernel
theorem dX16_init_51 : decode cX16_init 51 = .ok (.aload_n 0, 1) := by decide +kernel
theorem dX16_init_52 : decode cX16_init 52 = .ok (.aload 5, 2) := by decide +kernel
theorem dX16_init_54 : decode cX16_init 54 = .ok (.putfield 42, 3) := by decide +kernel
theorem dX16_init_57 : decode cX16_init 57 = .ok (.aload_n 0, 1) := by decide +kernel
theorem dX16_init_58 : decode cX16_init 58 = .ok (.iload 6, 2) := by decide +kernel
theorem dX16_init_60 : decode cX16_init 60 = .ok (.putfield 46, 3) := by decide +kernel
theorem dX16_init_63 : decode cX16_init 63 = .ok (.aload_n 0, 1) := by decide +kernel
theorem dX16_init_64 : decode cX16_init 64 = .ok (.iload 7, 2) := by decide +kernel
theorem dX16_init_66 : decode cX16_init 66 = .ok (.putfield 49, 3) := by decide +kernel
theorem dX16_init_69 : decode cX16_init 69 = .ok (.return_, 1) := by decide +kernel
theorem dX16_other_0 : decode cX16_other 0 = .ok (.iconst 0, 1) := by decide +kernel
theorem dX16_other_1 : decode cX16_other 1 = .ok (.istore_n 2, 1) := by decide +kernel
theorem dX16_other_2 : decode cX16_other 2 = .ok (.iload_n 2, 1) := by decide +kernel
theorem dX16_other_3 : decode cX16_other 3 = .ok (.aload_n 0, 1) := by decide +kernel
theorem dX16_other_4 : decode cX16_other 4 = .ok (.getfield 12, 3) := by decide +kernel
theorem dX16_other_7 : decode cX16_other 7 = .ok (.invokevirtual 55, 3) := by decide +kernel
theorem dX16_other_10 : decode cX16_other 10 = .ok (.if_icmp .ge 33, 3) := by decide +kernel
theorem dX16_other_13 : decode cX16_other 13 = .ok (.aload_n 0, 1) := by decide +kernel
theorem dX16_other_14 : decode cX16_other 14 = .ok (.getfield 12, 3) := by decide +kernel
theorem dX16_other_17 : decode cX16_other 17 = .ok (.iload_n 2, 1) := by decide +kernel
theorem dX16_other_18 : decode cX16_other 18 = .ok (.invokevirtual 59, 3) := by decide +kernel
theorem dX16_other_21 : decode cX16_other 21 = .ok (.aload_n 1, 1) := by decide +kernel
theorem dX16_other_22 : decode cX16_other 22 = .ok (.if_acmp .eq 15, 3) := by decide +kernel
theorem dX16_other_25 : decode cX16_other 25 = .ok (.aload_n 0, 1) := by decide +kernel
theorem dX16_other_26 : decode cX16_other 26 = .ok (.getfield 12, 3) := by decide +kernel
theorem dX16_other_29 : decode cX16_other 29 = .ok (.iload_n 2, 1) := by decide +kernel
theorem dX16_other_30 : decode cX16_other 30 = .ok (.invokevirtual 59, 3) := by decide +kernel
theorem dX16_other_33 : decode cX16_other 33 = .ok (.checkcast 13, 3) := by decide +kernel
theorem dX16_other_36 : decode cX16_other 36 = .ok (.areturn, 1) := by decide +kernel
theorem dX16_other_37 : decode cX16_other 37 = .ok (.iinc 2 1, 3) := by decide +kernel
theorem dX16_other_40 : decode cX16_other 40 = .ok (.goto (-38), 3) := by decide +kernel
theorem dX16_other_43 : decode cX16_other 43 = .ok (.aconst_null, 1) := by decide +kernel
theorem dX16_other_44 : decode cX16_other 44 = .ok (.areturn, 1) := by decide +kernel
theorem dX16_isUnderWay_0 : decode cX16_isUnderWay 0 = .ok (.aload_n 0, 1) := by decide +kernel
theorem dX16_isUnderWay_1 : decode cX16_isUnderWay 1 = .ok (.getfield 52, 3) := by decide +kernel
theorem dX16_isUnderWay_4 : decode cX16_isUnderWay 4 = .ok (.ifCond .ne 7, 3) := by decide +kernel
theorem dX16_isUnderWay_7 : decode cX16_isUnderWay 7 = .ok (.iconst 1, 1) := by decide +kernel
theorem dX16_isUnderWay_8 : decode cX16_isUnderWay 8 = .ok (.goto 4, 3) := by decide +kernel
theorem dX16_isUnderWay_11 : decode cX16_isUnderWay 11 = .ok (.iconst 0, 1) := by decide +kernel
theorem dX16_isUnderWay_12 : decode cX16_isUnderWay 12 = .ok (.ireturn, 1) := by decide +kernel
theorem dX16_isWithin_0 : decode cX16_isWithin 0 = .ok (.aload_n 0, 1) := by decide +kernel
theorem dX16_isWithin_1 : decode cX16_isWithin 1 = .ok (.astore_n 2, 1) := by decide +kernel
theorem dX16_isWithin_2 : decode cX16_isWithin 2 = .ok (.aload_n 2, 1) := by decide +kernel
theorem dX16_isWithin_3 : decode cX16_isWithin 3 = .ok (.ifnull 18, 3) := by decide +kernel
theorem dX16_isWithin_6 : decode cX16_isWithin 6 = .ok (.aload_n 2, 1) := by decide +kernel
theorem dX16_isWithin_7 : decode cX16_isWithin 7 = .ok (.aload_n 1, 1) := by decide +kernel
theorem dX16_isWithin_8 : decode cX16_isWithin 8 = .ok (.if_acmp .ne 5, 3) := by decide +kernel
theorem dX16_isWithin_11 : decode cX16_isWithin 11 = .ok (.iconst 1, 1) := by decide +kernel
theorem dX16_isWithin_12 : decode cX16_isWithin 12 = .ok (.ireturn, 1) := by decide +kernel
theorem dX16_isWithin_13 : decode cX16_isWithin 13 = .ok (.aload_n 2, 1) := by decide +kernel
theorem dX16_isWithin_14 : decode cX16_isWithin 14 = .ok (.getfield 38, 3) := by decide +kernel
theorem dX16_isWithin_17 : decode cX16_isWithin 17 = .ok (.astore_n 2, 1) := by decide +kernel
theorem dX16_isWithin_18 : decode cX16_isWithin 18 = .ok (.goto (-16), 3) := by decide +kernel
theorem dX16_isWithin_21 : decode cX16_isWithin 21 = .ok (.iconst 0, 1) := by decide +kernel
theorem dX16_isWithin_22 : decode cX16_isWithin 22 = .ok (.ireturn, 1) := by decide +kernel
theorem dX17_init_0 : decode cX17_init 0 = .ok (.aload_n 0, 1) := by decide +kernel
theorem dX17_init_1 : decode cX17_init 1 = .ok (.invokespecial 3, 3) := by decide +kernel
theorem dX17_init_4 : decode cX17_init 4 = .ok (.aload_n 0, 1) := by decide +kernel
theorem dX17_init_5 : decode cX17_init 5 = .ok (.iload_n 1, 1) := by decide +kernel
theorem dX17_init_6 : decode cX17_init 6 = .ok (.putfield 9, 3) := by decide +kernel
theorem dX17_init_9 : decode cX17_init 9 = .ok (.aload_n 0, 1) := by decide +kernel
theorem dX17_init_10 : decode cX17_init 10 = .ok (.iload_n 2, 1) := by decide +kernel
theorem dX17_init_11 : decode cX17_init 11 = .ok (.putfield 15, 3) := by decide +kernel
theorem dX17_init_14 : decode cX17_init 14 = .ok (.aload_n 0, 1) := by decide +kernel
theorem dX17_init_15 : decode cX17_init 15 = .ok (.iload_n 3, 1) := by decide +kernel
theorem dX17_init_16 : decode cX17_init 16 = .ok (.putfield 18, 3) := by decide +kernel
theorem dX17_init_19 : decode cX17_init 19 = .ok (.aload_n 0, 1) := by decide +kernel
theorem dX17_init_20 : decode cX17_init 20 = .ok (.iload 4, 2) := by decide +kernel
theorem dX17_init_22 : decode cX17_init 22 = .ok (.putfield 21, 3) := by decide +kernel
theorem dX17_init_25 : decode cX17_init 25 = .ok (.aload_n 0, 1) := by decide +kernel
theorem dX17_init_26 : decode cX17_init 26 = .ok (.iload 5, 2) := by decide +kernel
theorem dX17_init_28 : decode cX17_init 28 = .ok (.putfield 24, 3) := by decide +kernel
theorem dX17_init_31 : decode cX17_init 31 = .ok (.return_, 1) := by decide +kernel
theorem dX17_suppressed_0 : decode cX17_suppressed 0 = .ok (.aload_n 0, 1) := by decide +kernel
theorem dX17_suppressed_1 : decode cX17_suppressed 1 = .ok (.getfield 27, 3) := by decide +kernel
theorem dX17_suppressed_4 : decode cX17_suppressed 4 = .ok (.ifnonnull 13, 3) := by decide +kernel
theorem dX17_suppressed_7 : decode cX17_suppressed 7 = .ok (.aload_n 1, 1) := by decide +kernel
theorem dX17_suppressed_8 : decode cX17_suppressed 8 = .ok (.aload_n 0, 1) := by decide +kernel
theorem dX17_suppressed_9 : decode cX17_suppressed 9 = .ok (.if_acmp .eq 8, 3) := by decide +kernel
theorem dX17_suppressed_12 : decode cX17_suppressed 12 = .ok (.aload_n 0, 1) := by decide +kernel
theorem dX17_suppressed_13 : decode cX17_suppressed 13 = .ok (.aload_n 1, 1) := by decide +kernel
theorem dX17_suppressed_14 : decode cX17_suppressed 14 = .ok (.putfield 27, 3) := by decide +kernel
theorem dX17_suppressed_17 : decode cX17_suppressed 17 = .ok (.return_, 1) := by decide +kernel
theorem dX17_numberOf_0 : decode cX17_numberOf 0 = .ok (.aload_n 0, 1) := by decide +kernel
theorem dX17_numberOf_1 : decode cX17_numberOf 1 = .ok (.ifnonnull 7, 3) := by decide +kernel
theorem dX17_numberOf_4 : decode cX17_numberOf 4 = .ok (.iconst (-1), 1) := by decide +kernel
theorem dX17_numberOf_5 : decode cX17_numberOf 5 = .ok (.goto 7, 3) := by decide +kernel
theorem dX17_numberOf_8 : decode cX17_numberOf 8 = .ok (.aload_n 0, 1) := by decide +kernel
theorem dX17_numberOf_9 : decode cX17_numberOf 9 = .ok (.getfield 9, 3) := by decide +kernel
theorem dX17_numberOf_12 : decode cX17_numberOf 12 = .ok (.ireturn, 1) := by decide +kernel
theorem dX18_init_0 : decode cX18_init 0 = .ok (.aload_n 0, 1) := by decide +kernel
theorem dX18_init_1 : decode cX18_init 1 = .ok (.invokespecial 1, 3) := by decide +kernel
theorem dX18_init_4 : decode cX18_init 4 = .ok (.aload_n 0, 1) := by decide +kernel
theorem dX18_init_5 : decode cX18_init 5 = .ok (.iload_n 1, 1) := by decide +kernel
theorem dX18_init_6 : decode cX18_init 6 = .ok (.putfield 7, 3) := by decide +kernel
theorem dX18_init_9 : decode cX18_init 9 = .ok (.aload_n 0, 1) := by decide +kernel
theorem dX18_init_10 : decode cX18_init 10 = .ok (.aload_n 2, 1) := by decide +kernel
theorem dX18_init_11 : decode cX18_init 11 = .ok (.getfield 13, 3) := by decide +kernel
theorem dX18_init_14 : decode cX18_init 14 = .ok (.putfield 18, 3) := by decide +kernel
theorem dX18_init_17 : decode cX18_init 17 = .ok (.aload_n 0, 1) := by decide +kernel
theorem dX18_init_18 : decode cX18_init 18 = .ok (.aload_n 2, 1) := by decide +kernel
theorem dX18_init_19 : decode cX18_init 19 = .ok (.getfield 21, 3) := by decide +kernel
theorem dX18_init_22 : decode cX18_init 22 = .ok (.putfield 24, 3) := by decide +kernel
theorem dX18_init_25 : decode cX18_init 25 = .ok (.aload_n 0, 1) := by decide +kernel
theorem dX18_init_26 : decode cX18_init 26 = .ok (.iload_n 3, 1) := by decide +kernel
theorem dX18_init_27 : decode cX18_init 27 = .ok (.putfield 25, 3) := by decide +kernel
theorem dX18_init_30 : decode cX18_init 30 = .ok (.aload_n 0, 1) := by decide +kernel
theorem dX18_init_31 : decode cX18_init 31 = .ok (.iload 4, 2) := by decide +kernel
theorem dX18_init_33 : decode cX18_init 33 = .ok (.putfield 28, 3) := by decide +kernel
theorem dX18_init_36 : decode cX18_init 36 = .ok (.return_, 1) := by decide +kernel
theorem dX19_pass_0 : decode cX19_pass 0 = .ok (.aload_n 0, 1) := by decide +kernel
theorem dX19_pass_1 : decode cX19_pass 1 = .ok (.getfield 46, 3) := by decide +kernel
theorem dX19_pass_4 : decode cX19_pass 4 = .ok (.ifCond .ne 23, 3) := by decide +kernel
theorem dX19_pass_7 : decode cX19_pass 7 = .ok (.aload_n 0, 1) := by decide +kernel
theorem dX19_pass_8 : decode cX19_pass 8 = .ok (.getfield 3, 3) := by decide +kernel
theorem dX19_pass_11 : decode cX19_pass 11 = .ok (.getfield 15, 3) := by decide +kernel
theorem dX19_pass_14 : decode cX19_pass 14 = .ok (.aload_n 0, 1) := by decide +kernel
theorem dX19_pass_15 : decode cX19_pass 15 = .ok (.getfield 19, 3) := by decide +kernel
theorem dX19_pass_18 : decode cX19_pass 18 = .ok (.isub, 1) := by decide +kernel
theorem dX19_pass_19 : decode cX19_pass 19 = .ok (.aload_n 0, 1) := by decide +kernel
theorem dX19_pass_20 : decode cX19_pass 20 = .ok (.getfield 37, 3) := by decide +kernel
theorem dX19_pass_23 : decode cX19_pass 23 = .ok (.irem, 1) := by decide +kernel
theorem dX19_pass_24 : decode cX19_pass 24 = .ok (.ifCond .eq 4, 3) := by decide +kernel
theorem dX19_pass_27 : decode cX19_pass 27 = .ok (.return_, 1) := by decide +kernel
theorem dX19_pass_28 : decode cX19_pass 28 = .ok (.aload_n 0, 1) := by decide +kernel
theorem dX19_pass_29 : decode cX19_pass 29 = .ok (.getfield 3, 3) := by decide +kernel
theorem dX19_pass_32 : decode cX19_pass 32 = .ok (.getfield 50, 3) := by decide +kernel
theorem dX19_pass_35 : decode cX19_pass 35 = .ok (.aload_n 0, 1) := by decide +kernel
theorem dX19_pass_36 : decode cX19_pass 36 = .ok (.getfield 28, 3) := by decide +kernel
theorem dX19_pass_39 : decode cX19_pass 39 = .ok (.invokevirtual 54, 3) := by decide +kernel
theorem dX19_pass_42 : decode cX19_pass 42 = .ok (.checkcast 60, 3) := by decide +kernel
theorem dX19_pass_45 : decode cX19_pass 45 = .ok (.getfield 62, 3) := by decide +kernel
theorem dX19_pass_48 : decode cX19_pass 48 = .ok (.aload_n 0, 1) := by decide +kernel
theorem dX19_pass_49 : decode cX19_pass 49 = .ok (.getfield 40, 3) := by decide +kernel
theorem dX19_pass_52 : decode cX19_pass 52 = .ok (.aload_n 0, 1) := by decide +kernel
theorem dX19_pass_53 : decode cX19_pass 53 = .ok (.getfield 43, 3) := by decide +kernel
theorem dX19_pass_56 : decode cX19_pass 56 = .ok (.invokestatic 65, 3) := by decide +kernel
theorem dX19_pass_59 : decode cX19_pass 59 = .ok (.ifCond .ne 16, 3) := by decide +kernel
theorem dX19_pass_62 : decode cX19_pass 62 = .ok (.aload_n 0, 1) := by decide +kernel
theorem dX19_pass_63 : decode cX19_pass 63 = .ok (.dup, 1) := by decide +kernel
theorem dX19_pass_64 : decode cX19_pass 64 = .ok (.getfield 69, 3) := by decide +kernel
theorem dX19_pass_67 : decode cX19_pass 67 = .ok (.iconst 1, 1) := by decide +kernel
theorem dX19_pass_68 : decode cX19_pass 68 = .ok (.iadd, 1) := by decide +kernel
theorem dX19_pass_69 : decode cX19_pass 69 = .ok (.putfield 69, 3) := by decide +kernel
theorem dX19_pass_72 : decode cX19_pass 72 = .ok (.goto 69, 3) := by decide +kernel
theorem dX19_pass_75 : decode cX19_pass 75 = .ok (.aload_n 0, 1) := by decide +kernel
theorem dX19_pass_76 : decode cX19_pass 76 = .ok (.getfield 3, 3) := by decide +kernel
theorem dX19_pass_79 : decode cX19_pass 79 = .ok (.getfield 72, 3) := by decide +kernel
theorem dX19_pass_82 : decode cX19_pass 82 = .ok (.invokevirtual 75, 3) := by decide +kernel
theorem dX19_pass_85 : decode cX19_pass 85 = .ok (.bipush 60, 2) := by decide +kernel
theorem dX19_pass_87 : decode cX19_pass 87 = .ok (.if_icmp .ne 16, 3) := by decide +kernel
theorem dX19_pass_90 : decode cX19_pass 90 = .ok (.aload_n 0, 1) := by decide +kernel
theorem dX19_pass_91 : decode cX19_pass 91 = .ok (.dup, 1) := by decide +kernel
theorem dX19_pass_92 : decode cX19_pass 92 = .ok (.getfield 79, 3) := by decide +kernel
theorem dX19_pass_95 : decode cX19_pass 95 = .ok (.iconst 1, 1) := by decide +kernel
theorem dX19_pass_96 : decode cX19_pass 96 = .ok (.iadd, 1) := by decide +kernel
theorem dX19_pass_97 : decode cX19_pass 97 = .ok (.putfield 79, 3) := by decide +kernel
theorem dX19_pass_100 : decode cX19_pass 100 = .ok (.goto 41, 3) := by decide +kernel
theorem dX19_pass_103 : decode cX19_pass 103 = .ok (.aload_n 0, 1) := by decide +kernel
theorem dX19_pass_104 : decode cX19_pass 104 = .ok (.aload_n 0, 1) := by decide +kernel
theorem dX19_pass_105 : decode cX19_pass 105 = .ok (.getfield 3, 3) := by decide +kernel
theorem dX19_pass_108 : decode cX19_pass 108 = .ok (.aload_n 0, 1) := by decide +kernel
theorem dX19_pass_109 : decode cX19_pass 109 = .ok (.getfield 25, 3) := by decide +kernel
theorem dX19_pass_112 : decode cX19_pass 112 = .ok (.aload_n 0, 1) := by decide +kernel
theorem dX19_pass_113 : decode cX19_pass 113 = .ok (.getfield 28, 3) := by decide +kernel
theorem dX19_pass_116 : decode cX19_pass 116 = .ok (.aload_n 0, 1) := by decide +kernel
theorem dX19_pass_117 : decode cX19_pass 117 = .ok (.getfield 31, 3) := by decide +kernel
theorem dX19_pass_120 : decode cX19_pass 120 = .ok (.aload_n 0, 1) := by decide +kernel
theorem dX19_pass_121 : decode cX19_pass 121 = .ok (.getfield 34, 3) := by decide +kernel
theorem dX19_pass_124 : decode cX19_pass 124 = .ok (.iconst 0, 1) := by decide +kernel
theorem dX19_pass_125 : decode cX19_pass 125 = .ok (.invokevirtual 82, 3) := by decide +kernel
theorem dX19_pass_128 : decode cX19_pass 128 = .ok (.putfield 22, 3) := by decide +kernel
theorem dX19_pass_131 : decode cX19_pass 131 = .ok (.aload_n 0, 1) := by decide +kernel
theorem dX19_pass_132 : decode cX19_pass 132 = .ok (.dup, 1) := by decide +kernel
theorem dX19_pass_133 : decode cX19_pass 133 = .ok (.getfield 86, 3) := by decide +kernel
theorem dX19_pass_136 : decode cX19_pass 136 = .ok (.iconst 1, 1) := by decide +kernel
theorem dX19_pass_137 : decode cX19_pass 137 = .ok (.iadd, 1) := by decide +kernel
theorem dX19_pass_138 : decode cX19_pass 138 = .ok (.putfield 86, 3) := by decide +kernel
theorem dX19_pass_141 : decode cX19_pass 141 = .ok (.return_, 1) := by decide +kernel
theorem dX19_init_0 : decode cX19_init 0 = .ok (.aload_n 0, 1) := by decide +kernel
theorem dX19_init_1 : decode cX19_init 1 = .ok (.aload_n 1, 1) := by decide +kernel
theorem dX19_init_2 : decode cX19_init 2 = .ok (.putfield 3, 3) := by decide +kernel
theorem dX19_init_5 : decode cX19_init 5 = .ok (.aload_n 0, 1) := by decide +kernel
theorem dX19_init_6 : decode cX19_init 6 = .ok (.invokespecial 9, 3) := by decide +kernel
theorem dX19_init_9 : decode cX19_init 9 = .ok (.aload_n 0, 1) := by decide +kernel
theorem dX19_init_10 : decode cX19_init 10 = .ok (.aload_n 0, 1) := by decide +kernel
theorem dX19_init_11 : decode cX19_init 11 = .ok (.getfield 3, 3) := by decide +kernel
theorem dX19_init_14 : decode cX19_init 14 = .ok (.getfield 15, 3) := by decide +kernel
theorem dX19_init_17 : decode cX19_init 17 = .ok (.putfield 19, 3) := by decide +kernel
theorem dX19_init_20 : decode cX19_init 20 = .ok (.aload_n 0, 1) := by decide +kernel
theorem dX19_init_21 : decode cX19_init 21 = .ok (.iconst (-1), 1) := by decide +kernel
theorem dX19_init_22 : decode cX19_init 22 = .ok (.putfield 22, 3) := by decide +kernel
theorem dX19_init_25 : decode cX19_init 25 = .ok (.aload_n 0, 1) := by decide +kernel
theorem dX19_init_26 : decode cX19_init 26 = .ok (.iload_n 2, 1) := by decide +kernel
theorem dX19_init_27 : decode cX19_init 27 = .ok (.putfield 25, 3) := by decide +kernel
theorem dX19_init_30 : decode cX19_init 30 = .ok (.aload_n 0, 1) := by decide +kernel
theorem dX19_init_31 : decode cX19_init 31 = .ok (.iload_n 3, 1) := by decide +kernel
theorem dX19_init_32 : decode cX19_init 32 = .ok (.putfield 28, 3) := by decide +kernel
theorem dX19_init_35 : decode cX19_init 35 = .ok (.aload_n 0, 1) := by decide +kernel
theorem dX19_init_36 : decode cX19_init 36 = .ok (.iload 4, 2) := by decide +kernel
theorem dX19_init_38 : decode cX19_init 38 = .ok (.putfield 31, 3) := by decide +kernel
theorem dX19_init_41 : decode cX19_init 41 = .ok (.aload_n 0, 1) := by decide +kernel
theorem dX19_init_42 : decode cX19_init 42 = .ok (.iload 5, 2) := by decide +kernel
theorem dX19_init_44 : decode cX19_init 44 = .ok (.putfield 34, 3) := by decide +kernel
theorem dX19_init_47 : decode cX19_init 47 = .ok (.aload_n 0, 1) := by decide +kernel
theorem dX19_init_48 : decode cX19_init 48 = .ok (.iload 6, 2) := by decide +kernel
theorem dX19_init_50 : decode cX19_init 50 = .ok (.putfield 37, 3) := by decide +kernel
theorem dX19_init_53 : decode cX19_init 53 = .ok (.aload_n 0, 1) := by decide +kernel
theorem dX19_init_54 : decode cX19_init 54 = .ok (.iload 7, 2) := by decide +kernel
theorem dX19_init_56 : decode cX19_init 56 = .ok (.putfield 40, 3) := by decide +kernel
theorem dX19_init_59 : decode cX19_init 59 = .ok (.aload_n 0, 1) := by decide +kernel
theorem dX19_init_60 : decode cX19_init 60 = .ok (.iload 8, 2) := by decide +kernel
theorem dX19_init_62 : decode cX19_init 62 = .ok (.putfield 43, 3) := by decide +kernel
theorem dX19_init_65 : decode cX19_init 65 = .ok (.return_, 1) := by decide +kernel
theorem dX20_look_0 : decode cX20_look 0 = .ok (.aload_n 0, 1) := by decide +kernel
theorem dX20_look_1 : decode cX20_look 1 = .ok (.invokevirtual 19, 3) := by decide +kernel
theorem dX20_look_4 : decode cX20_look 4 = .ok (.ifCond .eq 31, 3) := by decide +kernel
theorem dX20_look_7 : decode cX20_look 7 = .ok (.aload_n 0, 1) := by decide +kernel
theorem dX20_look_8 : decode cX20_look 8 = .ok (.getfield 23, 3) := by decide +kernel
theorem dX20_look_11 : decode cX20_look 11 = .ok (.ifCond .ne 24, 3) := by decide +kernel
theorem dX20_look_14 : decode cX20_look 14 = .ok (.aload_n 0, 1) := by decide +kernel
theorem dX20_look_15 : decode cX20_look 15 = .ok (.dup, 1) := by decide +kernel
theorem dX20_look_16 : decode cX20_look 16 = .ok (.getfield 27, 3) := by decide +kernel
theorem dX20_look_19 : decode cX20_look 19 = .ok (.iconst 1, 1) := by decide +kernel
theorem dX20_look_20 : decode cX20_look 20 = .ok (.iadd, 1) := by decide +kernel
theorem dX20_look_21 : decode cX20_look 21 = .ok (.putfield 27, 3) := by decide +kernel
theorem dX20_look_24 : decode cX20_look 24 = .ok (.aload_n 0, 1) := by decide +kernel
theorem dX20_look_25 : decode cX20_look 25 = .ok (.aload_n 0, 1) := by decide +kernel
theorem dX20_look_26 : decode cX20_look 26 = .ok (.getfield 3, 3) := by decide +kernel
theorem dX20_look_29 : decode cX20_look 29 = .ok (.getfield 30, 3) := by decide +kernel
theorem dX20_look_32 : decode cX20_look 32 = .ok (.putfield 15, 3) := by decide +kernel
theorem dX20_look_35 : decode cX20_look 35 = .ok (.aload_n 0, 1) := by decide +kernel
theorem dX20_look_36 : decode cX20_look 36 = .ok (.aload_n 0, 1) := by decide +kernel
theorem dX20_look_37 : decode cX20_look 37 = .ok (.invokevirtual 19, 3) := by decide +kernel
theorem dX20_look_40 : decode cX20_look 40 = .ok (.putfield 23, 3) := by decide +kernel
theorem dX20_look_43 : decode cX20_look 43 = .ok (.return_, 1) := by decide +kernel
theorem dX20_init_0 : decode cX20_init 0 = .ok (.aload_n 0, 1) := by decide +kernel
theorem dX20_init_1 : decode cX20_init 1 = .ok (.aload_n 1, 1) := by decide +kernel
theorem dX20_init_2 : decode cX20_init 2 = .ok (.putfield 3, 3) := by decide +kernel
theorem dX20_init_5 : decode cX20_init 5 = .ok (.aload_n 0, 1) := by decide +kernel
theorem dX20_init_6 : decode cX20_init 6 = .ok (.invokespecial 9, 3) := by decide +kernel
theorem dX20_init_9 : decode cX20_init 9 = .ok (.aload_n 0, 1) := by decide +kernel
theorem dX20_init_10 : decode cX20_init 10 = .ok (.iconst (-1), 1) := by decide +kernel
theorem dX20_init_11 : decode cX20_init 11 = .ok (.putfield 15, 3) := by decide +kernel
theorem dX20_init_14 : decode cX20_init 14 = .ok (.return_, 1) := by decide +kernel
theorem dX21_is_0 : decode cX21_is 0 = .ok (.aload_n 0, 1) := by decide +kernel
theorem dX21_is_1 : decode cX21_is 1 = .ok (.getfield 13, 3) := by decide +kernel
theorem dX21_is_4 : decode cX21_is 4 = .ok (.getfield 17, 3) := by decide +kernel
theorem dX21_is_7 : decode cX21_is 7 = .ok (.iconst 1, 1) := by decide +kernel
theorem dX21_is_8 : decode cX21_is 8 = .ok (.if_icmp .ne 7, 3) := by decide +kernel
theorem dX21_is_11 : decode cX21_is 11 = .ok (.iconst 1, 1) := by decide +kernel
theorem dX21_is_12 : decode cX21_is 12 = .ok (.goto 4, 3) := by decide +kernel
theorem dX21_is_15 : decode cX21_is 15 = .ok (.iconst 0, 1) := by decide +kernel
theorem dX21_is_16 : decode cX21_is 16 = .ok (.ireturn, 1) := by decide +kernel
theorem dX21_init_0 : decode cX21_init 0 = .ok (.aload_n 0, 1) := by decide +kernel
theorem dX21_init_1 : decode cX21_init 1 = .ok (.aload_n 1, 1) := by decide +kernel
theorem dX21_init_2 : decode cX21_init 2 = .ok (.putfield 1, 3) := by decide +kernel
theorem dX21_init_5 : decode cX21_init 5 = .ok (.aload_n 0, 1) := by decide +kernel
theorem dX21_init_6 : decode cX21_init 6 = .ok (.aload_n 1, 1) := by decide +kernel
theorem dX21_init_7 : decode cX21_init 7 = .ok (.invokespecial 7, 3) := by decide +kernel
theorem dX21_init_10 : decode cX21_init 10 = .ok (.aload_n 0, 1) := by decide +kernel
theorem dX21_init_11 : decode cX21_init 11 = .ok (.aload_n 2, 1) := by decide +kernel
theorem dX21_init_12 : decode cX21_init 12 = .ok (.putfield 13, 3) := by decide +kernel
theorem dX21_init_15 : decode cX21_init 15 = .ok (.return_, 1) := by decide +kernel
theorem dX22_is_0 : decode cX22_is 0 = .ok (.aload_n 0, 1) := by decide +kernel
theorem dX22_is_1 : decode cX22_is 1 = .ok (.getfield 13, 3) := by decide +kernel
theorem dX22_is_4 : decode cX22_is 4 = .ok (.getfield 21, 3) := by decide +kernel
theorem dX22_is_7 : decode cX22_is 7 = .ok (.aload_n 0, 1) := by decide +kernel
theorem dX22_is_8 : decode cX22_is 8 = .ok (.getfield 17, 3) := by decide +kernel
theorem dX22_is_11 : decode cX22_is 11 = .ok (.if_icmp .ge 7, 3) := by decide +kernel
theorem dX22_is_14 : decode cX22_is 14 = .ok (.iconst 1, 1) := by decide +kernel
theorem dX22_is_15 : decode cX22_is 15 = .ok (.goto 4, 3) := by decide +kernel
theorem dX22_is_18 : decode cX22_is 18 = .ok (.iconst 0, 1) := by decide +kernel
theorem dX22_is_19 : decode cX22_is 19 = .ok (.ireturn, 1) := by decide +kernel
theorem dX22_init_0 : decode cX22_init 0 = .ok (.aload_n 0, 1) := by decide +kernel
theorem dX22_init_1 : decode cX22_init 1 = .ok (.aload_n 1, 1) := by decide +kernel
theorem dX22_init_2 : decode cX22_init 2 = .ok (.putfield 1, 3) := by decide +kernel
theorem dX22_init_5 : decode cX22_init 5 = .ok (.aload_n 0, 1) := by decide +kernel
theorem dX22_init_6 : decode cX22_init 6 = .ok (.aload_n 1, 1) := by decide +kernel
theorem dX22_init_7 : decode cX22_init 7 = .ok (.invokespecial 7, 3) := by decide +kernel
theorem dX22_init_10 : decode cX22_init 10 = .ok (.aload_n 0, 1) := by decide +kernel
theorem dX22_init_11 : decode cX22_init 11 = .ok (.aload_n 2, 1) := by decide +kernel
theorem dX22_init_12 : decode cX22_init 12 = .ok (.putfield 13, 3) := by decide +kernel
theorem dX22_init_15 : decode cX22_init 15 = .ok (.aload_n 0, 1) := by decide +kernel
theorem dX22_init_16 : decode cX22_init 16 = .ok (.iload_n 3, 1) := by decide +kernel
theorem dX22_init_17 : decode cX22_init 17 = .ok (.putfield 17, 3) := by decide +kernel
theorem dX22_init_20 : decode cX22_init 20 = .ok (.return_, 1) := by decide +kernel
theorem dX23_is_0 : decode cX23_is 0 = .ok (.aload_n 0, 1) := by decide +kernel
theorem dX23_is_1 : decode cX23_is 1 = .ok (.getfield 13, 3) := by decide +kernel
theorem dX23_is_4 : decode cX23_is 4 = .ok (.getfield 21, 3) := by decide +kernel
theorem dX23_is_7 : decode cX23_is 7 = .ok (.invokevirtual 27, 3) := by decide +kernel
theorem dX23_is_10 : decode cX23_is 10 = .ok (.aload_n 0, 1) := by decide +kernel
theorem dX23_is_11 : decode cX23_is 11 = .ok (.getfield 17, 3) := by decide +kernel
theorem dX23_is_14 : decode cX23_is 14 = .ok (.if_icmp .lt 7, 3) := by decide +kernel
theorem dX23_is_17 : decode cX23_is 17 = .ok (.iconst 1, 1) := by decide +kernel
theorem dX23_is_18 : decode cX23_is 18 = .ok (.goto 4, 3) := by decide +kernel
theorem dX23_is_21 : decode cX23_is 21 = .ok (.iconst 0, 1) := by decide +kernel
theorem dX23_is_22 : decode cX23_is 22 = .ok (.ireturn, 1) := by decide +kernel
theorem dX23_init_0 : decode cX23_init 0 = .ok (.aload_n 0, 1) := by decide +kernel
theorem dX23_init_1 : decode cX23_init 1 = .ok (.aload_n 1, 1) := by decide +kernel
theorem dX23_init_2 : decode cX23_init 2 = .ok (.putfield 1, 3) := by decide +kernel
theorem dX23_init_5 : decode cX23_init 5 = .ok (.aload_n 0, 1) := by decide +kernel
theorem dX23_init_6 : decode cX23_init 6 = .ok (.aload_n 1, 1) := by decide +kernel
theorem dX23_init_7 : decode cX23_init 7 = .ok (.invokespecial 7, 3) := by decide +kernel
theorem dX23_init_10 : decode cX23_init 10 = .ok (.aload_n 0, 1) := by decide +kernel
theorem dX23_init_11 : decode cX23_init 11 = .ok (.aload_n 2, 1) := by decide +kernel
theorem dX23_init_12 : decode cX23_init 12 = .ok (.putfield 13, 3) := by decide +kernel
theorem dX23_init_15 : decode cX23_init 15 = .ok (.aload_n 0, 1) := by decide +kernel
theorem dX23_init_16 : decode cX23_init 16 = .ok (.iload_n 3, 1) := by decide +kernel
theorem dX23_init_17 : decode cX23_init 17 = .ok (.putfield 17, 3) := by decide +kernel
theorem dX23_init_20 : decode cX23_init 20 = .ok (.return_, 1) := by decide +kernel
theorem dX24_is_0 : decode cX24_is 0 = .ok (.iconst 0, 1) := by decide +kernel
theorem dX24_is_1 : decode cX24_is 1 = .ok (.istore_n 1, 1) := by decide +kernel
theorem dX24_is_2 : decode cX24_is 2 = .ok (.iload_n 1, 1) := by decide +kernel
theorem dX24_is_3 : decode cX24_is 3 = .ok (.aload_n 0, 1) := by decide +kernel
theorem dX24_is_4 : decode cX24_is 4 = .ok (.getfield 3, 3) := by decide +kernel
theorem dX24_is_7 : decode cX24_is 7 = .ok (.getfield 19, 3) := by decide +kernel
theorem dX24_is_10 : decode cX24_is 10 = .ok (.invokevirtual 23, 3) := by decide +kernel
theorem dX24_is_13 : decode cX24_is 13 = .ok (.if_icmp .ge 63, 3) := by decide +kernel
theorem dX24_is_16 : decode cX24_is 16 = .ok (.aload_n 0, 1) := by decide +kernel
theorem dX24_is_17 : decode cX24_is 17 = .ok (.getfield 3, 3) := by decide +kernel
theorem dX24_is_20 : decode cX24_is 20 = .ok (.getfield 19, 3) := by decide +kernel
theorem dX24_is_23 : decode cX24_is 23 = .ok (.iload_n 1, 1) := by decide +kernel
theorem dX24_is_24 : decode cX24_is 24 = .ok (.invokevirtual 29, 3) := by decide +kernel
theorem dX24_is_27 : decode cX24_is 27 = .ok (.checkcast 33, 3) := by decide +kernel
theorem dX24_is_30 : decode cX24_is 30 = .ok (.invokevirtual 35, 3) := by decide +kernel
theorem dX24_is_33 : decode cX24_is 33 = .ok (.ifCond .ne 37, 3) := by decide +kernel
theorem dX24_is_36 : decode cX24_is 36 = .ok (.aload_n 0, 1) := by decide +kernel
theorem dX24_is_37 : decode cX24_is 37 = .ok (.getfield 3, 3) := by decide +kernel
theorem dX24_is_40 : decode cX24_is 40 = .ok (.getfield 38, 3) := by decide +kernel
theorem dX24_is_43 : decode cX24_is 43 = .ok (.aload_n 0, 1) := by decide +kernel
theorem dX24_is_44 : decode cX24_is 44 = .ok (.getfield 3, 3) := by decide +kernel
theorem dX24_is_47 : decode cX24_is 47 = .ok (.getfield 19, 3) := by decide +kernel
theorem dX24_is_50 : decode cX24_is 50 = .ok (.iload_n 1, 1) := by decide +kernel
theorem dX24_is_51 : decode cX24_is 51 = .ok (.invokevirtual 29, 3) := by decide +kernel
theorem dX24_is_54 : decode cX24_is 54 = .ok (.checkcast 33, 3) := by decide +kernel
theorem dX24_is_57 : decode cX24_is 57 = .ok (.getfield 41, 3) := by decide +kernel
theorem dX24_is_60 : decode cX24_is 60 = .ok (.isub, 1) := by decide +kernel
theorem dX24_is_61 : decode cX24_is 61 = .ok (.aload_n 0, 1) := by decide +kernel
theorem dX24_is_62 : decode cX24_is 62 = .ok (.getfield 15, 3) := by decide +kernel
theorem dX24_is_65 : decode cX24_is 65 = .ok (.if_icmp .le 5, 3) := by decide +kernel
theorem dX24_is_68 : decode cX24_is 68 = .ok (.iconst 1, 1) := by decide +kernel
theorem dX24_is_69 : decode cX24_is 69 = .ok (.ireturn, 1) := by decide +kernel
theorem dX24_is_70 : decode cX24_is 70 = .ok (.iinc 1 1, 3) := by decide +kernel
theorem dX24_is_73 : decode cX24_is 73 = .ok (.goto (-71), 3) := by decide +kernel
theorem dX24_is_76 : decode cX24_is 76 = .ok (.iconst 0, 1) := by decide +kernel
theorem dX24_is_77 : decode cX24_is 77 = .ok (.ireturn, 1) := by decide +kernel
theorem dX24_init_0 : decode cX24_init 0 = .ok (.aload_n 0, 1) := by decide +kernel
theorem dX24_init_1 : decode cX24_init 1 = .ok (.aload_n 1, 1) := by decide +kernel
theorem dX24_init_2 : decode cX24_init 2 = .ok (.putfield 3, 3) := by decide +kernel
theorem dX24_init_5 : decode cX24_init 5 = .ok (.aload_n 0, 1) := by decide +kernel
theorem dX24_init_6 : decode cX24_init 6 = .ok (.aload_n 1, 1) := by decide +kernel
theorem dX24_init_7 : decode cX24_init 7 = .ok (.invokespecial 9, 3) := by decide +kernel
theorem dX24_init_10 : decode cX24_init 10 = .ok (.aload_n 0, 1) := by decide +kernel
theorem dX24_init_11 : decode cX24_init 11 = .ok (.iload_n 2, 1) := by decide +kernel
theorem dX24_init_12 : decode cX24_init 12 = .ok (.putfield 15, 3) := by decide +kernel
theorem dX24_init_15 : decode cX24_init 15 = .ok (.return_, 1) := by decide +kernel
