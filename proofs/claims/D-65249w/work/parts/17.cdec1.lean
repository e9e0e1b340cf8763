set_option maxRecDepth 100000
theorem dX0_init_0 : decode cX0_init 0 = .ok (.aload_n 0, 1) := by decide +kernel
theorem dX0_init_1 : decode cX0_init 1 = .ok (.invokespecial 257, 3) := by decide +kernel
theorem dX0_init_4 : decode cX0_init 4 = .ok (.aload_n 0, 1) := by decide +kernel
theorem dX0_init_5 : decode cX0_init 5 = .ok (.new 14, 3) := by decide +kernel
theorem dX0_init_8 : decode cX0_init 8 = .ok (.dup, 1) := by decide +kernel
theorem dX0_init_9 : decode cX0_init 9 = .ok (.invokespecial 151, 3) := by decide +kernel
theorem dX0_init_12 : decode cX0_init 12 = .ok (.putfield 45, 3) := by decide +kernel
theorem dX0_init_15 : decode cX0_init 15 = .ok (.aload_n 0, 1) := by decide +kernel
theorem dX0_init_16 : decode cX0_init 16 = .ok (.new 14, 3) := by decide +kernel
theorem dX0_init_19 : decode cX0_init 19 = .ok (.dup, 1) := by decide +kernel
theorem dX0_init_20 : decode cX0_init 20 = .ok (.invokespecial 151, 3) := by decide +kernel
theorem dX0_init_23 : decode cX0_init 23 = .ok (.putfield 169, 3) := by decide +kernel
theorem dX0_init_26 : decode cX0_init 26 = .ok (.aload_n 0, 1) := by decide +kernel
theorem dX0_init_27 : decode cX0_init 27 = .ok (.new 14, 3) := by decide +kernel
theorem dX0_init_30 : decode cX0_init 30 = .ok (.dup, 1) := by decide +kernel
theorem dX0_init_31 : decode cX0_init 31 = .ok (.invokespecial 151, 3) := by decide +kernel
theorem dX0_init_34 : decode cX0_init 34 = .ok (.putfield 60, 3) := by decide +kernel
theorem dX0_init_37 : decode cX0_init 37 = .ok (.aload_n 0, 1) := by decide +kernel
theorem dX0_init_38 : decode cX0_init 38 = .ok (.new 14, 3) := by decide +kernel
theorem dX0_init_41 : decode cX0_init 41 = .ok (.dup, 1) := by decide +kernel
theorem dX0_init_42 : decode cX0_init 42 = .ok (.invokespecial 151, 3) := by decide +kernel
theorem dX0_init_45 : decode cX0_init 45 = .ok (.putfield 223, 3) := by decide +kernel
theorem dX0_init_48 : decode cX0_init 48 = .ok (.aload_n 0, 1) := by decide +kernel
theorem dX0_init_49 : decode cX0_init 49 = .ok (.new 14, 3) := by decide +kernel
theorem dX0_init_52 : decode cX0_init 52 = .ok (.dup, 1) := by decide +kernel
theorem dX0_init_53 : decode cX0_init 53 = .ok (.invokespecial 151, 3) := by decide +kernel
theorem dX0_init_56 : decode cX0_init 56 = .ok (.putfield 260, 3) := by decide +kernel
theorem dX0_init_59 : decode cX0_init 59 = .ok (.aload_n 0, 1) := by decide +kernel
theorem dX0_init_60 : decode cX0_init 60 = .ok (.new 14, 3) := by decide +kernel
theorem dX0_init_63 : decode cX0_init 63 = .ok (.dup, 1) := by decide +kernel
theorem dX0_init_64 : decode cX0_init 64 = .ok (.invokespecial 151, 3) := by decide +kernel
theorem dX0_init_67 : decode cX0_init 67 = .ok (.putfield 263, 3) := by decide +kernel
theorem dX0_init_70 : decode cX0_init 70 = .ok (.aload_n 0, 1) := by decide +kernel
theorem dX0_init_71 : decode cX0_init 71 = .ok (.new 14, 3) := by decide +kernel
theorem dX0_init_74 : decode cX0_init 74 = .ok (.dup, 1) := by decide +kernel
theorem dX0_init_75 : decode cX0_init 75 = .ok (.invokespecial 151, 3) := by decide +kernel
theorem dX0_init_78 : decode cX0_init 78 = .ok (.putfield 266, 3) := by decide +kernel
theorem dX0_init_81 : decode cX0_init 81 = .ok (.aload_n 0, 1) := by decide +kernel
theorem dX0_init_82 : decode cX0_init 82 = .ok (.new 14, 3) := by decide +kernel
theorem dX0_init_85 : decode cX0_init 85 = .ok (.dup, 1) := by decide +kernel
theorem dX0_init_86 : decode cX0_init 86 = .ok (.invokespecial 151, 3) := by decide +kernel
theorem dX0_init_89 : decode cX0_init 89 = .ok (.putfield 33, 3) := by decide +kernel
theorem dX0_init_92 : decode cX0_init 92 = .ok (.aload_n 0, 1) := by decide +kernel
theorem dX0_init_93 : decode cX0_init 93 = .ok (.new 14, 3) := by decide +kernel
theorem dX0_init_96 : decode cX0_init 96 = .ok (.dup, 1) := by decide +kernel
theorem dX0_init_97 : decode cX0_init 97 = .ok (.invokespecial 151, 3) := by decide +kernel
theorem dX0_init_100 : decode cX0_init 100 = .ok (.putfield 9, 3) := by decide +kernel
theorem dX0_init_103 : decode cX0_init 103 = .ok (.aload_n 0, 1) := by decide +kernel
theorem dX0_init_104 : decode cX0_init 104 = .ok (.new 14, 3) := by decide +kernel
theorem dX0_init_107 : decode cX0_init 107 = .ok (.dup, 1) := by decide +kernel
theorem dX0_init_108 : decode cX0_init 108 = .ok (.invokespecial 151, 3) := by decide +kernel
theorem dX0_init_111 : decode cX0_init 111 = .ok (.putfield 207, 3) := by decide +kernel
theorem dX0_init_114 : decode cX0_init 114 = .ok (.aload_n 0, 1) := by decide +kernel
theorem dX0_init_115 : decode cX0_init 115 = .ok (.new 14, 3) := by decide +kernel
theorem dX0_init_118 : decode cX0_init 118 = .ok (.dup, 1) := by decide +kernel
theorem dX0_init_119 : decode cX0_init 119 = .ok (.invokespecial 151, 3) := by decide +kernel
theorem dX0_init_122 : decode cX0_init 122 = .ok (.putfield 241, 3) := by decide +kernel
theorem dX0_init_125 : decode cX0_init 125 = .ok (.aload_n 0, 1) := by decide +kernel
theorem dX0_init_126 : decode cX0_init 126 = .ok (.new 14, 3) := by decide +kernel
theorem dX0_init_129 : decode cX0_init 129 = .ok (.dup, 1) := by decide +kernel
theorem dX0_init_130 : decode cX0_init 130 = .ok (.invokespecial 151, 3) := by decide +kernel
theorem dX0_init_133 : decode cX0_init 133 = .ok (.putfield 249, 3) := by decide +kernel
theorem dX0_init_136 : decode cX0_init 136 = .ok (.return_, 1) := by decide +kernel
theorem dX0_station_0 : decode cX0_station 0 = .ok (.iload_n 2, 1) := by decide +kernel
theorem dX0_station_1 : decode cX0_station 1 = .ok (.iconst 0, 1) := by decide +kernel
theorem dX0_station_2 : decode cX0_station 2 = .ok (.ldc_w 269, 3) := by decide +kernel
theorem dX0_station_5 : decode cX0_station 5 = .ok (.invokestatic 270, 3) := by decide +kernel
theorem dX0_station_8 : decode cX0_station 8 = .ok (.ifCond .eq 22, 3) := by decide +kernel
theorem dX0_station_11 : decode cX0_station 11 = .ok (.iload_n 1, 1) := by decide +kernel
theorem dX0_station_12 : decode cX0_station 12 = .ok (.iconst 0, 1) := by decide +kernel
theorem dX0_station_13 : decode cX0_station 13 = .ok (.iload_n 2, 1) := by decide +kernel
theorem dX0_station_14 : decode cX0_station 14 = .ok (.invokestatic 270, 3) := by decide +kernel
theorem dX0_station_17 : decode cX0_station 17 = .ok (.ifCond .eq 13, 3) := by decide +kernel
theorem dX0_station_20 : decode cX0_station 20 = .ok (.iload_n 3, 1) := by decide +kernel
theorem dX0_station_21 : decode cX0_station 21 = .ok (.iconst 1, 1) := by decide +kernel
theorem dX0_station_22 : decode cX0_station 22 = .ok (.bipush 100, 2) := by decide +kernel
theorem dX0_station_24 : decode cX0_station 24 = .ok (.invokestatic 270, 3) := by decide +kernel
theorem dX0_station_27 : decode cX0_station 27 = .ok (.ifCond .ne 6, 3) := by decide +kernel
theorem dX0_station_30 : decode cX0_station 30 = .ok (.bipush (-2), 2) := by decide +kernel
theorem dX0_station_32 : decode cX0_station 32 = .ok (.ireturn, 1) := by decide +kernel
theorem dX0_station_33 : decode cX0_station 33 = .ok (.aload_n 0, 1) := by decide +kernel
theorem dX0_station_34 : decode cX0_station 34 = .ok (.getfield 45, 3) := by decide +kernel
theorem dX0_station_37 : decode cX0_station 37 = .ok (.invokevirtual 13, 3) := by decide +kernel
theorem dX0_station_40 : decode cX0_station 40 = .ok (.bipush 8, 2) := by decide +kernel
theorem dX0_station_42 : decode cX0_station 42 = .ok (.if_icmp .ne 6, 3) := by decide +kernel
theorem dX0_station_45 : decode cX0_station 45 = .ok (.bipush (-3), 2) := by decide +kernel
theorem dX0_station_47 : decode cX0_station 47 = .ok (.ireturn, 1) := by decide +kernel
theorem dX0_station_48 : decode cX0_station 48 = .ok (.aload_n 0, 1) := by decide +kernel
theorem dX0_station_49 : decode cX0_station 49 = .ok (.getfield 45, 3) := by decide +kernel
theorem dX0_station_52 : decode cX0_station 52 = .ok (.new 52, 3) := by decide +kernel
theorem dX0_station_55 : decode cX0_station 55 = .ok (.dup, 1) := by decide +kernel
theorem dX0_station_56 : decode cX0_station 56 = .ok (.iload_n 1, 1) := by decide +kernel
theorem dX0_station_57 : decode cX0_station 57 = .ok (.iload_n 2, 1) := by decide +kernel
theorem dX0_station_58 : decode cX0_station 58 = .ok (.iload_n 3, 1) := by decide +kernel
theorem dX0_station_59 : decode cX0_station 59 = .ok (.invokespecial 273, 3) := by decide +kernel
theorem dX0_station_62 : decode cX0_station 62 = .ok (.invokevirtual 27, 3) := by decide +kernel
theorem dX0_station_65 : decode cX0_station 65 = .ok (.pop, 1) := by decide +kernel
theorem dX0_station_66 : decode cX0_station 66 = .ok (.aload_n 0, 1) := by decide +kernel
theorem dX0_station_67 : decode cX0_station 67 = .ok (.getfield 45, 3) := by decide +kernel
theorem dX0_station_70 : decode cX0_station 70 = .ok (.invokevirtual 13, 3) := by decide +kernel
theorem dX0_station_73 : decode cX0_station 73 = .ok (.iconst 1, 1) := by decide +kernel
theorem dX0_station_74 : decode cX0_station 74 = .ok (.isub, 1) := by decide +kernel
theorem dX0_station_75 : decode cX0_station 75 = .ok (.ireturn, 1) := by decide +kernel
theorem dX0_in_0 : decode cX0_in 0 = .ok (.iload_n 0, 1) := by decide +kernel
theorem dX0_in_1 : decode cX0_in 1 = .ok (.iload_n 1, 1) := by decide +kernel
theorem dX0_in_2 : decode cX0_in 2 = .ok (.if_icmp .lt 12, 3) := by decide +kernel
theorem dX0_in_5 : decode cX0_in 5 = .ok (.iload_n 0, 1) := by decide +kernel
theorem dX0_in_6 : decode cX0_in 6 = .ok (.iload_n 2, 1) := by decide +kernel
theorem dX0_in_7 : decode cX0_in 7 = .ok (.if_icmp .gt 7, 3) := by decide +kernel
theorem dX0_in_10 : decode cX0_in 10 = .ok (.iconst 1, 1) := by decide +kernel
theorem dX0_in_11 : decode cX0_in 11 = .ok (.goto 4, 3) := by decide +kernel
theorem dX0_in_14 : decode cX0_in 14 = .ok (.iconst 0, 1) := by decide +kernel
theorem dX0_in_15 : decode cX0_in 15 = .ok (.ireturn, 1) := by decide +kernel
theorem dX0_fault_0 : decode cX0_fault 0 = .ok (.aload_n 0, 1) := by decide +kernel
theorem dX0_fault_1 : decode cX0_fault 1 = .ok (.aload_n 0, 1) := by decide +kernel
theorem dX0_fault_2 : decode cX0_fault 2 = .ok (.getfield 169, 3) := by decide +kernel
theorem dX0_fault_5 : decode cX0_fault 5 = .ok (.new 63, 3) := by decide +kernel
theorem dX0_fault_8 : decode cX0_fault 8 = .ok (.dup, 1) := by decide +kernel
theorem dX0_fault_9 : decode cX0_fault 9 = .ok (.iload_n 1, 1) := by decide +kernel
theorem dX0_fault_10 : decode cX0_fault 10 = .ok (.iload_n 2, 1) := by decide +kernel
theorem dX0_fault_11 : decode cX0_fault 11 = .ok (.iload_n 3, 1) := by decide +kernel
theorem dX0_fault_12 : decode cX0_fault 12 = .ok (.iload 4, 2) := by decide +kernel
theorem dX0_fault_14 : decode cX0_fault 14 = .ok (.iload 5, 2) := by decide +kernel
theorem dX0_fault_16 : decode cX0_fault 16 = .ok (.invokespecial 288, 3) := by decide +kernel
theorem dX0_fault_19 : decode cX0_fault 19 = .ok (.iload 5, 2) := by decide +kernel
theorem dX0_fault_21 : decode cX0_fault 21 = .ok (.iconst 1, 1) := by decide +kernel
theorem dX0_fault_22 : decode cX0_fault 22 = .ok (.bipush 7, 2) := by decide +kernel
theorem dX0_fault_24 : decode cX0_fault 24 = .ok (.invokestatic 270, 3) := by decide +kernel
theorem dX0_fault_27 : decode cX0_fault 27 = .ok (.invokevirtual 289, 3) := by decide +kernel
theorem dX0_fault_30 : decode cX0_fault 30 = .ok (.ireturn, 1) := by decide +kernel
theorem dX0_plan_0 : decode cX0_plan 0 = .ok (.aload_n 0, 1) := by decide +kernel
theorem dX0_plan_1 : decode cX0_plan 1 = .ok (.getfield 45, 3) := by decide +kernel
theorem dX0_plan_4 : decode cX0_plan 4 = .ok (.aload_n 2, 1) := by decide +kernel
theorem dX0_plan_5 : decode cX0_plan 5 = .ok (.getfield 276, 3) := by decide +kernel
theorem dX0_plan_8 : decode cX0_plan 8 = .ok (.invokestatic 277, 3) := by decide +kernel
theorem dX0_plan_11 : decode cX0_plan 11 = .ok (.ifCond .ne 5, 3) := by decide +kernel
theorem dX0_plan_14 : decode cX0_plan 14 = .ok (.iconst (-1), 1) := by decide +kernel
theorem dX0_plan_15 : decode cX0_plan 15 = .ok (.ireturn, 1) := by decide +kernel
theorem dX0_plan_16 : decode cX0_plan 16 = .ok (.aload_n 2, 1) := by decide +kernel
theorem dX0_plan_17 : decode cX0_plan 17 = .ok (.getfield 281, 3) := by decide +kernel
theorem dX0_plan_20 : decode cX0_plan 20 = .ok (.iconst 0, 1) := by decide +kernel
theorem dX0_plan_21 : decode cX0_plan 21 = .ok (.iconst 2, 1) := by decide +kernel
theorem dX0_plan_22 : decode cX0_plan 22 = .ok (.invokestatic 270, 3) := by decide +kernel
theorem dX0_plan_25 : decode cX0_plan 25 = .ok (.ifCond .eq 25, 3) := by decide +kernel
theorem dX0_plan_28 : decode cX0_plan 28 = .ok (.aload_n 2, 1) := by decide +kernel
theorem dX0_plan_29 : decode cX0_plan 29 = .ok (.getfield 282, 3) := by decide +kernel
theorem dX0_plan_32 : decode cX0_plan 32 = .ok (.ifCond .lt 18, 3) := by decide +kernel
theorem dX0_plan_35 : decode cX0_plan 35 = .ok (.aload_n 2, 1) := by decide +kernel
theorem dX0_plan_36 : decode cX0_plan 36 = .ok (.getfield 285, 3) := by decide +kernel
theorem dX0_plan_39 : decode cX0_plan 39 = .ok (.aload_n 2, 1) := by decide +kernel
theorem dX0_plan_40 : decode cX0_plan 40 = .ok (.getfield 282, 3) := by decide +kernel
theorem dX0_plan_43 : decode cX0_plan 43 = .ok (.if_icmp .lt 7, 3) := by decide +kernel
theorem dX0_plan_46 : decode cX0_plan 46 = .ok (.iload_n 3, 1) := by decide +kernel
theorem dX0_plan_47 : decode cX0_plan 47 = .ok (.ifCond .ne 6, 3) := by decide +kernel
theorem dX0_plan_50 : decode cX0_plan 50 = .ok (.bipush (-2), 2) := by decide +kernel
theorem dX0_plan_52 : decode cX0_plan 52 = .ok (.ireturn, 1) := by decide +kernel
theorem dX0_plan_53 : decode cX0_plan 53 = .ok (.aload_n 1, 1) := by decide +kernel
theorem dX0_plan_54 : decode cX0_plan 54 = .ok (.invokevirtual 13, 3) := by decide +kernel
theorem dX0_plan_57 : decode cX0_plan 57 = .ok (.bipush 30, 2) := by decide +kernel
theorem dX0_plan_59 : decode cX0_plan 59 = .ok (.if_icmp .ne 6, 3) := by decide +kernel
theorem dX0_plan_62 : decode cX0_plan 62 = .ok (.bipush (-3), 2) := by decide +kernel
theorem dX0_plan_64 : decode cX0_plan 64 = .ok (.ireturn, 1) := by decide +kernel
theorem dX0_plan_65 : decode cX0_plan 65 = .ok (.aload_n 1, 1) := by decide +kernel
theorem dX0_plan_66 : decode cX0_plan 66 = .ok (.aload_n 2, 1) := by decide +kernel
theorem dX0_plan_67 : decode cX0_plan 67 = .ok (.invokevirtual 27, 3) := by decide +kernel
theorem dX0_plan_70 : decode cX0_plan 70 = .ok (.pop, 1) := by decide +kernel
theorem dX0_plan_71 : decode cX0_plan 71 = .ok (.aload_n 1, 1) := by decide +kernel
theorem dX0_plan_72 : decode cX0_plan 72 = .ok (.invokevirtual 13, 3) := by decide +kernel
theorem dX0_plan_75 : decode cX0_plan 75 = .ok (.ireturn, 1) := by decide +kernel
theorem dX0_has_0 : decode cX0_has 0 = .ok (.iload_n 1, 1) := by decide +kernel
theorem dX0_has_1 : decode cX0_has 1 = .ok (.ifCond .lt 15, 3) := by decide +kernel
theorem dX0_has_4 : decode cX0_has 4 = .ok (.iload_n 1, 1) := by decide +kernel
theorem dX0_has_5 : decode cX0_has 5 = .ok (.aload_n 0, 1) := by decide +kernel
theorem dX0_has_6 : decode cX0_has 6 = .ok (.invokevirtual 13, 3) := by decide +kernel
theorem dX0_has_9 : decode cX0_has 9 = .ok (.if_icmp .ge 7, 3) := by decide +kernel
theorem dX0_has_12 : decode cX0_has 12 = .ok (.iconst 1, 1) := by decide +kernel
theorem dX0_has_13 : decode cX0_has 13 = .ok (.goto 4, 3) := by decide +kernel
theorem dX0_has_16 : decode cX0_has 16 = .ok (.iconst 0, 1) := by decide +kernel
theorem dX0_has_17 : decode cX0_has 17 = .ok (.ireturn, 1) := by decide +kernel
theorem dX0_slow_0 : decode cX0_slow 0 = .ok (.aload_n 0, 1) := by decide +kernel
theorem dX0_slow_1 : decode cX0_slow 1 = .ok (.aload_n 0, 1) := by decide +kernel
theorem dX0_slow_2 : decode cX0_slow 2 = .ok (.getfield 60, 3) := by decide +kernel
theorem dX0_slow_5 : decode cX0_slow 5 = .ok (.new 63, 3) := by decide +kernel
theorem dX0_slow_8 : decode cX0_slow 8 = .ok (.dup, 1) := by decide +kernel
theorem dX0_slow_9 : decode cX0_slow 9 = .ok (.iload_n 1, 1) := by decide +kernel
theorem dX0_slow_10 : decode cX0_slow 10 = .ok (.iload_n 2, 1) := by decide +kernel
theorem dX0_slow_11 : decode cX0_slow 11 = .ok (.iload_n 3, 1) := by decide +kernel
theorem dX0_slow_12 : decode cX0_slow 12 = .ok (.iload 4, 2) := by decide +kernel
theorem dX0_slow_14 : decode cX0_slow 14 = .ok (.iload 5, 2) := by decide +kernel
theorem dX0_slow_16 : decode cX0_slow 16 = .ok (.invokespecial 288, 3) := by decide +kernel
theorem dX0_slow_19 : decode cX0_slow 19 = .ok (.iload 5, 2) := by decide +kernel
theorem dX0_slow_21 : decode cX0_slow 21 = .ok (.iconst 1, 1) := by decide +kernel
theorem dX0_slow_22 : decode cX0_slow 22 = .ok (.sipush 1000, 3) := by decide +kernel
theorem dX0_slow_25 : decode cX0_slow 25 = .ok (.invokestatic 270, 3) := by decide +kernel
theorem dX0_slow_28 : decode cX0_slow 28 = .ok (.invokevirtual 289, 3) := by decide +kernel
theorem dX0_slow_31 : decode cX0_slow 31 = .ok (.ireturn, 1) := by decide +kernel
theorem dX0_guard_0 : decode cX0_guard 0 = .ok (.iload_n 1, 1) := by decide +kernel
theorem dX0_guard_1 : decode cX0_guard 1 = .ok (.bipush 6, 2) := by decide +kernel
theorem dX0_guard_3 : decode cX0_guard 3 = .ok (.if_icmp .ne 21, 3) := by decide +kernel
theorem dX0_guard_6 : decode cX0_guard 6 = .ok (.iload_n 2, 1) := by decide +kernel
theorem dX0_guard_7 : decode cX0_guard 7 = .ok (.iconst 1, 1) := by decide +kernel
theorem dX0_guard_8 : decode cX0_guard 8 = .ok (.if_icmp .ne 16, 3) := by decide +kernel
theorem dX0_guard_11 : decode cX0_guard 11 = .ok (.aload_n 0, 1) := by decide +kernel
theorem dX0_guard_12 : decode cX0_guard 12 = .ok (.getfield 45, 3) := by decide +kernel
theorem dX0_guard_15 : decode cX0_guard 15 = .ok (.iload_n 3, 1) := by decide +kernel
theorem dX0_guard_16 : decode cX0_guard 16 = .ok (.invokestatic 277, 3) := by decide +kernel
theorem dX0_guard_19 : decode cX0_guard 19 = .ok (.ifCond .ne 5, 3) := by decide +kernel
theorem dX0_guard_22 : decode cX0_guard 22 = .ok (.iconst (-1), 1) := by decide +kernel
theorem dX0_guard_23 : decode cX0_guard 23 = .ok (.ireturn, 1) := by decide +kernel
theorem dX0_guard_24 : decode cX0_guard 24 = .ok (.iload_n 1, 1) := by decide +kernel
theorem dX0_guard_25 : decode cX0_guard 25 = .ok (.ifCond .eq 20, 3) := by decide +kernel
theorem dX0_guard_28 : decode cX0_guard 28 = .ok (.iload_n 1, 1) := by decide +kernel
theorem dX0_guard_29 : decode cX0_guard 29 = .ok (.iconst 4, 1) := by decide +kernel
theorem dX0_guard_30 : decode cX0_guard 30 = .ok (.if_icmp .eq 15, 3) := by decide +kernel
theorem dX0_guard_33 : decode cX0_guard 33 = .ok (.iload_n 1, 1) := by decide +kernel
theorem dX0_guard_34 : decode cX0_guard 34 = .ok (.bipush 6, 2) := by decide +kernel
theorem dX0_guard_36 : decode cX0_guard 36 = .ok (.if_icmp .eq 9, 3) := by decide +kernel
theorem dX0_guard_39 : decode cX0_guard 39 = .ok (.iload_n 1, 1) := by decide +kernel
theorem dX0_guard_40 : decode cX0_guard 40 = .ok (.bipush 9, 2) := by decide +kernel
theorem dX0_guard_42 : decode cX0_guard 42 = .ok (.if_icmp .ne 7, 3) := by decide +kernel
theorem dX0_guard_45 : decode cX0_guard 45 = .ok (.iconst 1, 1) := by decide +kernel
theorem dX0_guard_46 : decode cX0_guard 46 = .ok (.goto 4, 3) := by decide +kernel
theorem dX0_guard_49 : decode cX0_guard 49 = .ok (.iconst 0, 1) := by decide +kernel
theorem dX0_guard_50 : decode cX0_guard 50 = .ok (.istore 6, 2) := by decide +kernel
theorem dX0_guard_52 : decode cX0_guard 52 = .ok (.iload_n 1, 1) := by decide +kernel
theorem dX0_guard_53 : decode cX0_guard 53 = .ok (.iload_n 2, 1) := by decide +kernel
theorem dX0_guard_54 : decode cX0_guard 54 = .ok (.iload_n 3, 1) := by decide +kernel
theorem dX0_guard_55 : decode cX0_guard 55 = .ok (.iload 4, 2) := by decide +kernel
theorem dX0_guard_57 : decode cX0_guard 57 = .ok (.invokestatic 327, 3) := by decide +kernel
theorem dX0_guard_60 : decode cX0_guard 60 = .ok (.ifCond .eq 23, 3) := by decide +kernel
theorem dX0_guard_63 : decode cX0_guard 63 = .ok (.iload 5, 2) := by decide +kernel
theorem dX0_guard_65 : decode cX0_guard 65 = .ok (.iconst 0, 1) := by decide +kernel
theorem dX0_guard_66 : decode cX0_guard 66 = .ok (.iload 6, 2) := by decide +kernel
theorem dX0_guard_68 : decode cX0_guard 68 = .ok (.ifCond .eq 8, 3) := by decide +kernel
theorem dX0_guard_71 : decode cX0_guard 71 = .ok (.bipush 15, 2) := by decide +kernel
theorem dX0_guard_73 : decode cX0_guard 73 = .ok (.goto 4, 3) := by decide +kernel
theorem dX0_guard_76 : decode cX0_guard 76 = .ok (.iconst 0, 1) := by decide +kernel
theorem dX0_guard_77 : decode cX0_guard 77 = .ok (.invokestatic 270, 3) := by decide +kernel
theorem dX0_guard_80 : decode cX0_guard 80 = .ok (.ifCond .ne 6, 3) := by decide +kernel
theorem dX0_guard_83 : decode cX0_guard 83 = .ok (.bipush (-2), 2) := by decide +kernel
theorem dX0_guard_85 : decode cX0_guard 85 = .ok (.ireturn, 1) := by decide +kernel
theorem dX0_guard_86 : decode cX0_guard 86 = .ok (.aload_n 0, 1) := by decide +kernel
theorem dX0_guard_87 : decode cX0_guard 87 = .ok (.getfield 223, 3) := by decide +kernel
theorem dX0_guard_90 : decode cX0_guard 90 = .ok (.invokevirtual 13, 3) := by decide +kernel
theorem dX0_guard_93 : decode cX0_guard 93 = .ok (.bipush 24, 2) := by decide +kernel
theorem dX0_guard_95 : decode cX0_guard 95 = .ok (.if_icmp .ne 6, 3) := by decide +kernel
theorem dX0_guard_98 : decode cX0_guard 98 = .ok (.bipush (-3), 2) := by decide +kernel
theorem dX0_guard_100 : decode cX0_guard 100 = .ok (.ireturn, 1) := by decide +kernel
theorem dX0_guard_101 : decode cX0_guard 101 = .ok (.aload_n 0, 1) := by decide +kernel
theorem dX0_guard_102 : decode cX0_guard 102 = .ok (.getfield 223, 3) := by decide +kernel
theorem dX0_guard_105 : decode cX0_guard 105 = .ok (.aload_n 0, 1) := by decide +kernel
theorem dX0_guard_106 : decode cX0_guard 106 = .ok (.iload_n 1, 1) := by decide +kernel
theorem dX0_guard_107 : decode cX0_guard 107 = .ok (.iconst 3, 1) := by decide +kernel
theorem dX0_guard_108 : decode cX0_guard 108 = .ok (.newarray .int, 2) := by decide +kernel
theorem dX0_guard_110 : decode cX0_guard 110 = .ok (.dup, 1) := by decide +kernel
theorem dX0_guard_111 : decode cX0_guard 111 = .ok (.iconst 0, 1) := by decide +kernel
theorem dX0_guard_112 : decode cX0_guard 112 = .ok (.iload_n 2, 1) := by decide +kernel
theorem dX0_guard_113 : decode cX0_guard 113 = .ok (.iastore, 1) := by decide +kernel
theorem dX0_guard_114 : decode cX0_guard 114 = .ok (.dup, 1) := by decide +kernel
theorem dX0_guard_115 : decode cX0_guard 115 = .ok (.iconst 1, 1) := by decide +kernel
theorem dX0_guard_116 : decode cX0_guard 116 = .ok (.iload_n 3, 1) := by decide +kernel
theorem dX0_guard_117 : decode cX0_guard 117 = .ok (.iastore, 1) := by decide +kernel
theorem dX0_guard_118 : decode cX0_guard 118 = .ok (.dup, 1) := by decide +kernel
theorem dX0_guard_119 : decode cX0_guard 119 = .ok (.iconst 2, 1) := by decide +kernel
theorem dX0_guard_120 : decode cX0_guard 120 = .ok (.iload 4, 2) := by decide +kernel
theorem dX0_guard_122 : decode cX0_guard 122 = .ok (.iastore, 1) := by decide +kernel
theorem dX0_guard_123 : decode cX0_guard 123 = .ok (.iload 5, 2) := by decide +kernel
theorem dX0_guard_125 : decode cX0_guard 125 = .ok (.invokevirtual 330, 3) := by decide +kernel
theorem dX0_guard_128 : decode cX0_guard 128 = .ok (.invokevirtual 27, 3) := by decide +kernel
theorem dX0_guard_131 : decode cX0_guard 131 = .ok (.pop, 1) := by decide +kernel
theorem dX0_guard_132 : decode cX0_guard 132 = .ok (.aload_n 0, 1) := by decide +kernel
theorem dX0_guard_133 : decode cX0_guard 133 = .ok (.getfield 223, 3) := by decide +kernel
theorem dX0_guard_136 : decode cX0_guard 136 = .ok (.invokevirtual 13, 3) := by decide +kernel
theorem dX0_guard_139 : decode cX0_guard 139 = .ok (.iconst 1, 1) := by decide +kernel
theorem dX0_guard_140 : decode cX0_guard 140 = .ok (.isub, 1) := by decide +kernel
theorem dX0_guard_141 : decode cX0_guard 141 = .ok (.ireturn, 1) := by decide +kernel
theorem dX0_fits_0 : decode cX0_fits 0 = .ok (.iload_n 0, 1) := by decide +kernel
theorem dX0_fits_1 : decode cX0_fits 1 = .ok (.tableswitch 302 0 9 #[55, 86, 116, 146, 171, 206, 230, 146, 260, 278], 55) := by decide +kernel
theorem dX0_fits_56 : decode cX0_fits 56 = .ok (.iload_n 1, 1) := by decide +kernel
theorem dX0_fits_57 : decode cX0_fits 57 = .ok (.iconst 1, 1) := by decide +kernel
theorem dX0_fits_58 : decode cX0_fits 58 = .ok (.bipush 20, 2) := by decide +kernel
theorem dX0_fits_60 : decode cX0_fits 60 = .ok (.invokestatic 270, 3) := by decide +kernel
theorem dX0_fits_63 : decode cX0_fits 63 = .ok (.ifCond .eq 22, 3) := by decide +kernel
theorem dX0_fits_66 : decode cX0_fits 66 = .ok (.iload_n 2, 1) := by decide +kernel
theorem dX0_fits_67 : decode cX0_fits 67 = .ok (.iconst 1, 1) := by decide +kernel
theorem dX0_fits_68 : decode cX0_fits 68 = .ok (.sipush 1000, 3) := by decide +kernel
theorem dX0_fits_71 : decode cX0_fits 71 = .ok (.invokestatic 270, 3) := by decide +kernel
theorem dX0_fits_74 : decode cX0_fits 74 = .ok (.ifCond .eq 11, 3) := by decide +kernel
theorem dX0_fits_77 : decode cX0_fits 77 = .ok (.iload_n 3, 1) := by decide +kernel
theorem dX0_fits_78 : decode cX0_fits 78 = .ok (.ifCond .ne 7, 3) := by decide +kernel
theorem dX0_fits_81 : decode cX0_fits 81 = .ok (.iconst 1, 1) := by decide +kernel
theorem dX0_fits_82 : decode cX0_fits 82 = .ok (.goto 4, 3) := by decide +kernel
theorem dX0_fits_85 : decode cX0_fits 85 = .ok (.iconst 0, 1) := by decide +kernel
theorem dX0_fits_86 : decode cX0_fits 86 = .ok (.ireturn, 1) := by decide +kernel
theorem dX0_fits_87 : decode cX0_fits 87 = .ok (.iload_n 1, 1) := by decide +kernel
theorem dX0_fits_88 : decode cX0_fits 88 = .ok (.iconst 1, 1) := by decide +kernel
theorem dX0_fits_89 : decode cX0_fits 89 = .ok (.bipush 10, 2) := by decide +kernel
theorem dX0_fits_91 : decode cX0_fits 91 = .ok (.invokestatic 270, 3) := by decide +kernel
theorem dX0_fits_94 : decode cX0_fits 94 = .ok (.ifCond .eq 21, 3) := by decide +kernel
theorem dX0_fits_97 : decode cX0_fits 97 = .ok (.iload_n 2, 1) := by decide +kernel
theorem dX0_fits_98 : decode cX0_fits 98 = .ok (.iconst 0, 1) := by decide +kernel
theorem dX0_fits_99 : decode cX0_fits 99 = .ok (.bipush 10, 2) := by decide +kernel
theorem dX0_fits_101 : decode cX0_fits 101 = .ok (.invokestatic 270, 3) := by decide +kernel
theorem dX0_fits_104 : decode cX0_fits 104 = .ok (.ifCond .eq 11, 3) := by decide +kernel
theorem dX0_fits_107 : decode cX0_fits 107 = .ok (.iload_n 3, 1) := by decide +kernel
theorem dX0_fits_108 : decode cX0_fits 108 = .ok (.ifCond .ne 7, 3) := by decide +kernel
theorem dX0_fits_111 : decode cX0_fits 111 = .ok (.iconst 1, 1) := by decide +kernel
theorem dX0_fits_112 : decode cX0_fits 112 = .ok (.goto 4, 3) := by decide +kernel
theorem dX0_fits_115 : decode cX0_fits 115 = .ok (.iconst 0, 1) := by decide +kernel
theorem dX0_fits_116 : decode cX0_fits 116 = .ok (.ireturn, 1) := by decide +kernel
theorem dX0_fits_117 : decode cX0_fits 117 = .ok (.iload_n 1, 1) := by decide +kernel
theorem dX0_fits_118 : decode cX0_fits 118 = .ok (.iconst 1, 1) := by decide +kernel
theorem dX0_fits_119 : decode cX0_fits 119 = .ok (.bipush 100, 2) := by decide +kernel
theorem dX0_fits_121 : decode cX0_fits 121 = .ok (.invokestatic 270, 3) := by decide +kernel
theorem dX0_fits_124 : decode cX0_fits 124 = .ok (.ifCond .eq 21, 3) := by decide +kernel
theorem dX0_fits_127 : decode cX0_fits 127 = .ok (.iload_n 2, 1) := by decide +kernel
theorem dX0_fits_128 : decode cX0_fits 128 = .ok (.iconst 1, 1) := by decide +kernel
theorem dX0_fits_129 : decode cX0_fits 129 = .ok (.bipush 100, 2) := by decide +kernel
theorem dX0_fits_131 : decode cX0_fits 131 = .ok (.invokestatic 270, 3) := by decide +kernel
theorem dX0_fits_134 : decode cX0_fits 134 = .ok (.ifCond .eq 11, 3) := by decide +kernel
theorem dX0_fits_137 : decode cX0_fits 137 = .ok (.iload_n 3, 1) := by decide +kernel
theorem dX0_fits_138 : decode cX0_fits 138 = .ok (.ifCond .ne 7, 3) := by decide +kernel
theorem dX0_fits_141 : decode cX0_fits 141 = .ok (.iconst 1, 1) := by decide +kernel
theorem dX0_fits_142 : decode cX0_fits 142 = .ok (.goto 4, 3) := by decide +kernel
theorem dX0_fits_145 : decode cX0_fits 145 = .ok (.iconst 0, 1) := by decide +kernel
theorem dX0_fits_146 : decode cX0_fits 146 = .ok (.ireturn, 1) := by decide +kernel
theorem dX0_fits_147 : decode cX0_fits 147 = .ok (.iload_n 1, 1) := by decide +kernel
theorem dX0_fits_148 : decode cX0_fits 148 = .ok (.iconst 1, 1) := by decide +kernel
theorem dX0_fits_149 : decode cX0_fits 149 = .ok (.sipush 1000, 3) := by decide +kernel
theorem dX0_fits_152 : decode cX0_fits 152 = .ok (.invokestatic 270, 3) := by decide +kernel
theorem dX0_fits_155 : decode cX0_fits 155 = .ok (.ifCond .eq 15, 3) := by decide +kernel
theorem dX0_fits_158 : decode cX0_fits 158 = .ok (.iload_n 2, 1) := by decide +kernel
theorem dX0_fits_159 : decode cX0_fits 159 = .ok (.ifCond .ne 11, 3) := by decide +kernel
theorem dX0_fits_162 : decode cX0_fits 162 = .ok (.iload_n 3, 1) := by decide +kernel
theorem dX0_fits_163 : decode cX0_fits 163 = .ok (.ifCond .ne 7, 3) := by decide +kernel
theorem dX0_fits_166 : decode cX0_fits 166 = .ok (.iconst 1, 1) := by decide +kernel
theorem dX0_fits_167 : decode cX0_fits 167 = .ok (.goto 4, 3) := by decide +kernel
theorem dX0_fits_170 : decode cX0_fits 170 = .ok (.iconst 0, 1) := by decide +kernel
theorem dX0_fits_171 : decode cX0_fits 171 = .ok (.ireturn, 1) := by decide +kernel
theorem dX0_fits_172 : decode cX0_fits 172 = .ok (.iload_n 1, 1) := by decide +kernel
theorem dX0_fits_173 : decode cX0_fits 173 = .ok (.iconst 2, 1) := by decide +kernel
theorem dX0_fits_174 : decode cX0_fits 174 = .ok (.bipush 6, 2) := by decide +kernel
theorem dX0_fits_176 : decode cX0_fits 176 = .ok (.invokestatic 270, 3) := by decide +kernel
theorem dX0_fits_179 : decode cX0_fits 179 = .ok (.ifCond .eq 26, 3) := by decide +kernel
theorem dX0_fits_182 : decode cX0_fits 182 = .ok (.iload_n 2, 1) := by decide +kernel
theorem dX0_fits_183 : decode cX0_fits 183 = .ok (.iconst 1, 1) := by decide +kernel
theorem dX0_fits_184 : decode cX0_fits 184 = .ok (.bipush 50, 2) := by decide +kernel
theorem dX0_fits_186 : decode cX0_fits 186 = .ok (.invokestatic 270, 3) := by decide +kernel
theorem dX0_fits_189 : decode cX0_fits 189 = .ok (.ifCond .eq 16, 3) := by decide +kernel
theorem dX0_fits_192 : decode cX0_fits 192 = .ok (.iload_n 3, 1) := by decide +kernel
theorem dX0_fits_193 : decode cX0_fits 193 = .ok (.iconst 0, 1) := by decide +kernel
theorem dX0_fits_194 : decode cX0_fits 194 = .ok (.iconst 1, 1) := by decide +kernel
theorem dX0_fits_195 : decode cX0_fits 195 = .ok (.invokestatic 270, 3) := by decide +kernel
theorem dX0_fits_198 : decode cX0_fits 198 = .ok (.ifCond .eq 7, 3) := by decide +kernel
theorem dX0_fits_201 : decode cX0_fits 201 = .ok (.iconst 1, 1) := by decide +kernel
theorem dX0_fits_202 : decode cX0_fits 202 = .ok (.goto 4, 3) := by decide +kernel
theorem dX0_fits_205 : decode cX0_fits 205 = .ok (.iconst 0, 1) := by decide +kernel
theorem dX0_fits_206 : decode cX0_fits 206 = .ok (.ireturn, 1) := by decide +kernel
theorem dX0_fits_207 : decode cX0_fits 207 = .ok (.iload_n 1, 1) := by decide +kernel
theorem dX0_fits_208 : decode cX0_fits 208 = .ok (.iconst 1, 1) := by decide +kernel
theorem dX0_fits_209 : decode cX0_fits 209 = .ok (.bipush 100, 2) := by decide +kernel
theorem dX0_fits_211 : decode cX0_fits 211 = .ok (.invokestatic 270, 3) := by decide +kernel
theorem dX0_fits_214 : decode cX0_fits 214 = .ok (.ifCond .eq 15, 3) := by decide +kernel
theorem dX0_fits_217 : decode cX0_fits 217 = .ok (.iload_n 2, 1) := by decide +kernel
theorem dX0_fits_218 : decode cX0_fits 218 = .ok (.ifCond .ne 11, 3) := by decide +kernel
theorem dX0_fits_221 : decode cX0_fits 221 = .ok (.iload_n 3, 1) := by decide +kernel
theorem dX0_fits_222 : decode cX0_fits 222 = .ok (.ifCond .ne 7, 3) := by decide +kernel
theorem dX0_fits_225 : decode cX0_fits 225 = .ok (.iconst 1, 1) := by decide +kernel
theorem dX0_fits_226 : decode cX0_fits 226 = .ok (.goto 4, 3) := by decide +kernel
theorem dX0_fits_229 : decode cX0_fits 229 = .ok (.iconst 0, 1) := by decide +kernel
theorem dX0_fits_230 : decode cX0_fits 230 = .ok (.ireturn, 1) := by decide +kernel
theorem dX0_fits_231 : decode cX0_fits 231 = .ok (.iload_n 1, 1) := by decide +kernel
theorem dX0_fits_232 : decode cX0_fits 232 = .ok (.iconst 0, 1) := by decide +kernel
theorem dX0_fits_233 : decode cX0_fits 233 = .ok (.iconst 1, 1) := by decide +kernel
theorem dX0_fits_234 : decode cX0_fits 234 = .ok (.invokestatic 270, 3) := by decide +kernel
theorem dX0_fits_237 : decode cX0_fits 237 = .ok (.ifCond .eq 22, 3) := by decide +kernel
theorem dX0_fits_240 : decode cX0_fits 240 = .ok (.iload_n 2, 1) := by decide +kernel
theorem dX0_fits_241 : decode cX0_fits 241 = .ok (.iconst 0, 1) := by decide +kernel
theorem dX0_fits_242 : decode cX0_fits 242 = .ok (.ldc_w 269, 3) := by decide +kernel
theorem dX0_fits_245 : decode cX0_fits 245 = .ok (.invokestatic 270, 3) := by decide +kernel
theorem dX0_fits_248 : decode cX0_fits 248 = .ok (.ifCond .eq 11, 3) := by decide +kernel
theorem dX0_fits_251 : decode cX0_fits 251 = .ok (.iload_n 3, 1) := by decide +kernel
theorem dX0_fits_252 : decode cX0_fits 252 = .ok (.ifCond .ne 7, 3) := by decide +kernel
theorem dX0_fits_255 : decode cX0_fits 255 = .ok (.iconst 1, 1) := by decide +kernel
theorem dX0_fits_256 : decode cX0_fits 256 = .ok (.goto 4, 3) := by decide +kernel
theorem dX0_fits_259 : decode cX0_fits 259 = .ok (.iconst 0, 1) := by decide +kernel
theorem dX0_fits_260 : decode cX0_fits 260 = .ok (.ireturn, 1) := by decide +kernel
theorem dX0_fits_261 : decode cX0_fits 261 = .ok (.iload_n 1, 1) := by decide +kernel
theorem dX0_fits_262 : decode cX0_fits 262 = .ok (.ifCond .ne 15, 3) := by decide +kernel
theorem dX0_fits_265 : decode cX0_fits 265 = .ok (.iload_n 2, 1) := by decide +kernel
theorem dX0_fits_266 : decode cX0_fits 266 = .ok (.ifCond .ne 11, 3) := by decide +kernel
theorem dX0_fits_269 : decode cX0_fits 269 = .ok (.iload_n 3, 1) := by decide +kernel
theorem dX0_fits_270 : decode cX0_fits 270 = .ok (.ifCond .ne 7, 3) := by decide +kernel
theorem dX0_fits_273 : decode cX0_fits 273 = .ok (.iconst 1, 1) := by decide +kernel
theorem dX0_fits_274 : decode cX0_fits 274 = .ok (.goto 4, 3) := by decide +kernel
theorem dX0_fits_277 : decode cX0_fits 277 = .ok (.iconst 0, 1) := by decide +kernel
theorem dX0_fits_278 : decode cX0_fits 278 = .ok (.ireturn, 1) := by decide +kernel
theorem dX0_fits_279 : decode cX0_fits 279 = .ok (.iload_n 1, 1) := by decide +kernel
theorem dX0_fits_280 : decode cX0_fits 280 = .ok (.ifCond .ne 21, 3) := by decide +kernel
theorem dX0_fits_283 : decode cX0_fits 283 = .ok (.iload_n 2, 1) := by decide +kernel
theorem dX0_fits_284 : decode cX0_fits 284 = .ok (.iconst 0, 1) := by decide +kernel
theorem dX0_fits_285 : decode cX0_fits 285 = .ok (.bipush 15, 2) := by decide +kernel
theorem dX0_fits_287 : decode cX0_fits 287 = .ok (.invokestatic 270, 3) := by decide +kernel
theorem dX0_fits_290 : decode cX0_fits 290 = .ok (.ifCond .eq 11, 3) := by decide +kernel
theorem dX0_fits_293 : decode cX0_fits 293 = .ok (.iload_n 3, 1) := by decide +kernel
theorem dX0_fits_294 : decode cX0_fits 294 = .ok (.ifCond .ne 7, 3) := by decide +kernel
theorem dX0_fits_297 : decode cX0_fits 297 = .ok (.iconst 1, 1) := by decide +kernel
theorem dX0_fits_298 : decode cX0_fits 298 = .ok (.goto 4, 3) := by decide +kernel
theorem dX0_fits_301 : decode cX0_fits 301 = .ok (.iconst 0, 1) := by decide +kernel
theorem dX0_fits_302 : decode cX0_fits 302 = .ok (.ireturn, 1) := by decide +kernel
theorem dX0_fits_303 : decode cX0_fits 303 = .ok (.iconst 0, 1) := by decide +kernel
theorem dX0_fits_304 : decode cX0_fits 304 = .ok (.ireturn, 1) := by decide +kernel
theorem dX0_made_0 : decode cX0_made 0 = .ok (.iload_n 1, 1) := by decide +kernel
theorem dX0_made_1 : decode cX0_made 1 = .ok (.tableswitch 143 0 8 #[51, 62, 72, 82, 92, 103, 113, 124, 134], 51) := by decide +kernel
theorem dX0_made_52 : decode cX0_made 52 = .ok (.new 293, 3) := by decide +kernel
theorem dX0_made_55 : decode cX0_made 55 = .ok (.dup, 1) := by decide +kernel
theorem dX0_made_56 : decode cX0_made 56 = .ok (.aload_n 0, 1) := by decide +kernel
theorem dX0_made_57 : decode cX0_made 57 = .ok (.aload_n 2, 1) := by decide +kernel
theorem dX0_made_58 : decode cX0_made 58 = .ok (.iload_n 3, 1) := by decide +kernel
theorem dX0_made_59 : decode cX0_made 59 = .ok (.invokespecial 295, 3) := by decide +kernel
theorem dX0_made_62 : decode cX0_made 62 = .ok (.areturn, 1) := by decide +kernel
theorem dX0_made_63 : decode cX0_made 63 = .ok (.new 236, 3) := by decide +kernel
theorem dX0_made_66 : decode cX0_made 66 = .ok (.dup, 1) := by decide +kernel
theorem dX0_made_67 : decode cX0_made 67 = .ok (.aload_n 0, 1) := by decide +kernel
theorem dX0_made_68 : decode cX0_made 68 = .ok (.aload_n 2, 1) := by decide +kernel
theorem dX0_made_69 : decode cX0_made 69 = .ok (.invokespecial 298, 3) := by decide +kernel
theorem dX0_made_72 : decode cX0_made 72 = .ok (.areturn, 1) := by decide +kernel
theorem dX0_made_73 : decode cX0_made 73 = .ok (.new 301, 3) := by decide +kernel
theorem dX0_made_76 : decode cX0_made 76 = .ok (.dup, 1) := by decide +kernel
theorem dX0_made_77 : decode cX0_made 77 = .ok (.aload_n 0, 1) := by decide +kernel
theorem dX0_made_78 : decode cX0_made 78 = .ok (.aload_n 2, 1) := by decide +kernel
theorem dX0_made_79 : decode cX0_made 79 = .ok (.invokespecial 303, 3) := by decide +kernel
theorem dX0_made_82 : decode cX0_made 82 = .ok (.areturn, 1) := by decide +kernel
theorem dX0_made_83 : decode cX0_made 83 = .ok (.new 304, 3) := by decide +kernel
theorem dX0_made_86 : decode cX0_made 86 = .ok (.dup, 1) := by decide +kernel
theorem dX0_made_87 : decode cX0_made 87 = .ok (.aload_n 0, 1) := by decide +kernel
theorem dX0_made_88 : decode cX0_made 88 = .ok (.aload_n 2, 1) := by decide +kernel
theorem dX0_made_89 : decode cX0_made 89 = .ok (.invokespecial 306, 3) := by decide +kernel
theorem dX0_made_92 : decode cX0_made 92 = .ok (.areturn, 1) := by decide +kernel
theorem dX0_made_93 : decode cX0_made 93 = .ok (.new 307, 3) := by decide +kernel
theorem dX0_made_96 : decode cX0_made 96 = .ok (.dup, 1) := by decide +kernel
theorem dX0_made_97 : decode cX0_made 97 = .ok (.aload_n 0, 1) := by decide +kernel
theorem dX0_made_98 : decode cX0_made 98 = .ok (.aload_n 2, 1) := by decide +kernel
theorem dX0_made_99 : decode cX0_made 99 = .ok (.iload_n 3, 1) := by decide +kernel
theorem dX0_made_100 : decode cX0_made 100 = .ok (.invokespecial 309, 3) := by decide +kernel
theorem dX0_made_103 : decode cX0_made 103 = .ok (.areturn, 1) := by decide +kernel
theorem dX0_made_104 : decode cX0_made 104 = .ok (.new 310, 3) := by decide +kernel
theorem dX0_made_107 : decode cX0_made 107 = .ok (.dup, 1) := by decide +kernel
theorem dX0_made_108 : decode cX0_made 108 = .ok (.aload_n 0, 1) := by decide +kernel
theorem dX0_made_109 : decode cX0_made 109 = .ok (.aload_n 2, 1) := by decide +kernel
theorem dX0_made_110 : decode cX0_made 110 = .ok (.invokespecial 312, 3) := by decide +kernel
theorem dX0_made_113 : decode cX0_made 113 = .ok (.areturn, 1) := by decide +kernel
theorem dX0_made_114 : decode cX0_made 114 = .ok (.new 313, 3) := by decide +kernel
theorem dX0_made_117 : decode cX0_made 117 = .ok (.dup, 1) := by decide +kernel
theorem dX0_made_118 : decode cX0_made 118 = .ok (.aload_n 0, 1) := by decide +kernel
theorem dX0_made_119 : decode cX0_made 119 = .ok (.aload_n 2, 1) := by decide +kernel
theorem dX0_made_120 : decode cX0_made 120 = .ok (.iload_n 3, 1) := by decide +kernel
theorem dX0_made_121 : decode cX0_made 121 = .ok (.invokespecial 315, 3) := by decide +kernel
theorem dX0_made_124 : decode cX0_made 124 = .ok (.areturn, 1) := by decide +kernel
theorem dX0_made_125 : decode cX0_made 125 = .ok (.new 316, 3) := by decide +kernel
theorem dX0_made_128 : decode cX0_made 128 = .ok (.dup, 1) := by decide +kernel
theorem dX0_made_129 : decode cX0_made 129 = .ok (.aload_n 0, 1) := by decide +kernel
theorem dX0_made_130 : decode cX0_made 130 = .ok (.aload_n 2, 1) := by decide +kernel
theorem dX0_made_131 : decode cX0_made 131 = .ok (.invokespecial 318, 3) := by decide +kernel
theorem dX0_made_134 : decode cX0_made 134 = .ok (.areturn, 1) := by decide +kernel
theorem dX0_made_135 : decode cX0_made 135 = .ok (.new 319, 3) := by decide +kernel
theorem dX0_made_138 : decode cX0_made 138 = .ok (.dup, 1) := by decide +kernel
theorem dX0_made_139 : decode cX0_made 139 = .ok (.aload_n 0, 1) := by decide +kernel
theorem dX0_made_140 : decode cX0_made 140 = .ok (.invokespecial 321, 3) := by decide +kernel
theorem dX0_made_143 : decode cX0_made 143 = .ok (.areturn, 1) := by decide +kernel
theorem dX0_made_144 : decode cX0_made 144 = .ok (.new 324, 3) := by decide +kernel
theorem dX0_made_147 : decode cX0_made 147 = .ok (.dup, 1) := by decide +kernel
theorem dX0_made_148 : decode cX0_made 148 = .ok (.aload_n 0, 1) := by decide +kernel
theorem dX0_made_149 : decode cX0_made 149 = .ok (.aload_n 2, 1) := by decide +kernel
theorem dX0_made_150 : decode cX0_made 150 = .ok (.iload_n 3, 1) := by decide +kernel
theorem dX0_made_151 : decode cX0_made 151 = .ok (.invokespecial 326, 3) := by decide +kernel
theorem dX0_made_154 : decode cX0_made 154 = .ok (.areturn, 1) := by decide +kernel
theorem dX0_on_0 : decode cX0_on 0 = .ok (.aload_n 0, 1) := by decide +kernel
theorem dX0_on_1 : decode cX0_on 1 = .ok (.getfield 223, 3) := by decide +kernel
theorem dX0_on_4 : decode cX0_on 4 = .ok (.iload_n 1, 1) := by decide +kernel
theorem dX0_on_5 : decode cX0_on 5 = .ok (.invokestatic 277, 3) := by decide +kernel
theorem dX0_on_8 : decode cX0_on 8 = .ok (.ifCond .ne 5, 3) := by decide +kernel
theorem dX0_on_11 : decode cX0_on 11 = .ok (.iconst (-1), 1) := by decide +kernel
theorem dX0_on_12 : decode cX0_on 12 = .ok (.ireturn, 1) := by decide +kernel
theorem dX0_on_13 : decode cX0_on 13 = .ok (.iconst 0, 1) := by decide +kernel
theorem dX0_on_14 : decode cX0_on 14 = .ok (.istore_n 2, 1) := by decide +kernel
theorem dX0_on_15 : decode cX0_on 15 = .ok (.iload_n 2, 1) := by decide +kernel
theorem dX0_on_16 : decode cX0_on 16 = .ok (.aload_n 0, 1) := by decide +kernel
theorem dX0_on_17 : decode cX0_on 17 = .ok (.getfield 260, 3) := by decide +kernel
theorem dX0_on_20 : decode cX0_on 20 = .ok (.invokevirtual 13, 3) := by decide +kernel
theorem dX0_on_23 : decode cX0_on 23 = .ok (.if_icmp .ge 43, 3) := by decide +kernel
theorem dX0_on_26 : decode cX0_on 26 = .ok (.aload_n 0, 1) := by decide +kernel
theorem dX0_on_27 : decode cX0_on 27 = .ok (.getfield 260, 3) := by decide +kernel
theorem dX0_on_30 : decode cX0_on 30 = .ok (.iload_n 2, 1) := by decide +kernel
theorem dX0_on_31 : decode cX0_on 31 = .ok (.invokevirtual 48, 3) := by decide +kernel
theorem dX0_on_34 : decode cX0_on 34 = .ok (.checkcast 97, 3) := by decide +kernel
theorem dX0_on_37 : decode cX0_on 37 = .ok (.getfield 215, 3) := by decide +kernel
theorem dX0_on_40 : decode cX0_on 40 = .ok (.aload_n 0, 1) := by decide +kernel
theorem dX0_on_41 : decode cX0_on 41 = .ok (.getfield 223, 3) := by decide +kernel
theorem dX0_on_44 : decode cX0_on 44 = .ok (.iload_n 1, 1) := by decide +kernel
theorem dX0_on_45 : decode cX0_on 45 = .ok (.invokevirtual 48, 3) := by decide +kernel
theorem dX0_on_48 : decode cX0_on 48 = .ok (.checkcast 97, 3) := by decide +kernel
theorem dX0_on_51 : decode cX0_on 51 = .ok (.getfield 215, 3) := by decide +kernel
theorem dX0_on_54 : decode cX0_on 54 = .ok (.if_icmp .ne 6, 3) := by decide +kernel
theorem dX0_on_57 : decode cX0_on 57 = .ok (.bipush (-2), 2) := by decide +kernel
theorem dX0_on_59 : decode cX0_on 59 = .ok (.ireturn, 1) := by decide +kernel
theorem dX0_on_60 : decode cX0_on 60 = .ok (.iinc 2 1, 3) := by decide +kernel
theorem dX0_on_63 : decode cX0_on 63 = .ok (.goto (-48), 3) := by decide +kernel
theorem dX0_on_66 : decode cX0_on 66 = .ok (.aload_n 0, 1) := by decide +kernel
theorem dX0_on_67 : decode cX0_on 67 = .ok (.getfield 260, 3) := by decide +kernel
theorem dX0_on_70 : decode cX0_on 70 = .ok (.invokevirtual 13, 3) := by decide +kernel
theorem dX0_on_73 : decode cX0_on 73 = .ok (.iconst 5, 1) := by decide +kernel
theorem dX0_on_74 : decode cX0_on 74 = .ok (.if_icmp .ne 6, 3) := by decide +kernel
theorem dX0_on_77 : decode cX0_on 77 = .ok (.bipush (-3), 2) := by decide +kernel
theorem dX0_on_79 : decode cX0_on 79 = .ok (.ireturn, 1) := by decide +kernel
theorem dX0_on_80 : decode cX0_on 80 = .ok (.aload_n 0, 1) := by decide +kernel
theorem dX0_on_81 : decode cX0_on 81 = .ok (.getfield 260, 3) := by decide +kernel
theorem dX0_on_84 : decode cX0_on 84 = .ok (.aload_n 0, 1) := by decide +kernel
theorem dX0_on_85 : decode cX0_on 85 = .ok (.getfield 223, 3) := by decide +kernel
theorem dX0_on_88 : decode cX0_on 88 = .ok (.iload_n 1, 1) := by decide +kernel
theorem dX0_on_89 : decode cX0_on 89 = .ok (.invokevirtual 48, 3) := by decide +kernel
theorem dX0_on_92 : decode cX0_on 92 = .ok (.checkcast 97, 3) := by decide +kernel
theorem dX0_on_95 : decode cX0_on 95 = .ok (.invokevirtual 27, 3) := by decide +kernel
theorem dX0_on_98 : decode cX0_on 98 = .ok (.pop, 1) := by decide +kernel
theorem dX0_on_99 : decode cX0_on 99 = .ok (.aload_n 0, 1) := by decide +kernel
theorem dX0_on_100 : decode cX0_on 100 = .ok (.getfield 260, 3) := by decide +kernel
theorem dX0_on_103 : decode cX0_on 103 = .ok (.invokevirtual 13, 3) := by decide +kernel
theorem dX0_on_106 : decode cX0_on 106 = .ok (.ireturn, 1) := by decide +kernel
theorem dX0_tower_0 : decode cX0_tower 0 = .ok (.aload_n 0, 1) := by decide +kernel
theorem dX0_tower_1 : decode cX0_tower 1 = .ok (.getfield 263, 3) := by decide +kernel
theorem dX0_tower_4 : decode cX0_tower 4 = .ok (.invokevirtual 13, 3) := by decide +kernel
theorem dX0_tower_7 : decode cX0_tower 7 = .ok (.bipush 10, 2) := by decide +kernel
theorem dX0_tower_9 : decode cX0_tower 9 = .ok (.if_icmp .ne 6, 3) := by decide +kernel
theorem dX0_tower_12 : decode cX0_tower 12 = .ok (.bipush (-3), 2) := by decide +kernel
theorem dX0_tower_14 : decode cX0_tower 14 = .ok (.ireturn, 1) := by decide +kernel
theorem dX0_tower_15 : decode cX0_tower 15 = .ok (.aload_n 0, 1) := by decide +kernel
theorem dX0_tower_16 : decode cX0_tower 16 = .ok (.getfield 260, 3) := by decide +kernel
theorem dX0_tower_19 : decode cX0_tower 19 = .ok (.invokevirtual 13, 3) := by decide +kernel
theorem dX0_tower_22 : decode cX0_tower 22 = .ok (.anewarray 97, 3) := by decide +kernel
theorem dX0_tower_25 : decode cX0_tower 25 = .ok (.astore_n 1, 1) := by decide +kernel
theorem dX0_tower_26 : decode cX0_tower 26 = .ok (.iconst 0, 1) := by decide +kernel
theorem dX0_tower_27 : decode cX0_tower 27 = .ok (.istore_n 2, 1) := by decide +kernel
theorem dX0_tower_28 : decode cX0_tower 28 = .ok (.iload_n 2, 1) := by decide +kernel
theorem dX0_tower_29 : decode cX0_tower 29 = .ok (.aload_n 1, 1) := by decide +kernel
theorem dX0_tower_30 : decode cX0_tower 30 = .ok (.arraylength, 1) := by decide +kernel
theorem dX0_tower_31 : decode cX0_tower 31 = .ok (.if_icmp .ge 23, 3) := by decide +kernel
theorem dX0_tower_34 : decode cX0_tower 34 = .ok (.aload_n 1, 1) := by decide +kernel
theorem dX0_tower_35 : decode cX0_tower 35 = .ok (.iload_n 2, 1) := by decide +kernel
theorem dX0_tower_36 : decode cX0_tower 36 = .ok (.aload_n 0, 1) := by decide +kernel
theorem dX0_tower_37 : decode cX0_tower 37 = .ok (.getfield 260, 3) := by decide +kernel
theorem dX0_tower_40 : decode cX0_tower 40 = .ok (.iload_n 2, 1) := by decide +kernel
theorem dX0_tower_41 : decode cX0_tower 41 = .ok (.invokevirtual 48, 3) := by decide +kernel
theorem dX0_tower_44 : decode cX0_tower 44 = .ok (.checkcast 97, 3) := by decide +kernel
theorem dX0_tower_47 : decode cX0_tower 47 = .ok (.aastore, 1) := by decide +kernel
theorem dX0_tower_48 : decode cX0_tower 48 = .ok (.iinc 2 1, 3) := by decide +kernel
theorem dX0_tower_51 : decode cX0_tower 51 = .ok (.goto (-23), 3) := by decide +kernel
theorem dX0_tower_54 : decode cX0_tower 54 = .ok (.aload_n 0, 1) := by decide +kernel
theorem dX0_tower_55 : decode cX0_tower 55 = .ok (.getfield 260, 3) := by decide +kernel
theorem dX0_tower_58 : decode cX0_tower 58 = .ok (.invokevirtual 334, 3) := by decide +kernel
theorem dX0_tower_61 : decode cX0_tower 61 = .ok (.aload_n 0, 1) := by decide +kernel
theorem dX0_tower_62 : decode cX0_tower 62 = .ok (.getfield 263, 3) := by decide +kernel
theorem dX0_tower_65 : decode cX0_tower 65 = .ok (.aload_n 1, 1) := by decide +kernel
theorem dX0_tower_66 : decode cX0_tower 66 = .ok (.invokevirtual 27, 3) := by decide +kernel
theorem dX0_tower_69 : decode cX0_tower 69 = .ok (.pop, 1) := by decide +kernel
theorem dX0_tower_70 : decode cX0_tower 70 = .ok (.aload_n 0, 1) := by decide +kernel
theorem dX0_tower_71 : decode cX0_tower 71 = .ok (.getfield 263, 3) := by decide +kernel
theorem dX0_tower_74 : decode cX0_tower 74 = .ok (.invokevirtual 13, 3) := by decide +kernel
theorem dX0_tower_77 : decode cX0_tower 77 = .ok (.iconst 1, 1) := by decide +kernel
theorem dX0_tower_78 : decode cX0_tower 78 = .ok (.isub, 1) := by decide +kernel
theorem dX0_tower_79 : decode cX0_tower 79 = .ok (.ireturn, 1) := by decide +kernel
theorem dX0_order_0 : decode cX0_order 0 = .ok (.aload_n 0, 1) := by decide +kernel
theorem dX0_order_1 : decode cX0_order 1 = .ok (.getfield 263, 3) := by decide +kernel
theorem dX0_order_4 : decode cX0_order 4 = .ok (.iload_n 1, 1) := by decide +kernel
theorem dX0_order_5 : decode cX0_order 5 = .ok (.invokestatic 277, 3) := by decide +kernel
theorem dX0_order_8 : decode cX0_order 8 = .ok (.ifCond .eq 14, 3) := by decide +kernel
theorem dX0_order_11 : decode cX0_order 11 = .ok (.aload_n 0, 1) := by decide +kernel
theorem dX0_order_12 : decode cX0_order 12 = .ok (.getfield 45, 3) := by decide +kernel
theorem dX0_order_15 : decode cX0_order 15 = .ok (.iload_n 2, 1) := by decide +kernel
theorem dX0_order_16 : decode cX0_order 16 = .ok (.invokestatic 277, 3) := by decide +kernel
theorem dX0_order_19 : decode cX0_order 19 = .ok (.ifCond .ne 5, 3) := by decide +kernel
theorem dX0_order_22 : decode cX0_order 22 = .ok (.iconst (-1), 1) := by decide +kernel
theorem dX0_order_23 : decode cX0_order 23 = .ok (.ireturn, 1) := by decide +kernel
theorem dX0_order_24 : decode cX0_order 24 = .ok (.iload_n 3, 1) := by decide +kernel
theorem dX0_order_25 : decode cX0_order 25 = .ok (.iconst 0, 1) := by decide +kernel
theorem dX0_order_26 : decode cX0_order 26 = .ok (.iconst 2, 1) := by decide +kernel
theorem dX0_order_27 : decode cX0_order 27 = .ok (.invokestatic 270, 3) := by decide +kernel
theorem dX0_order_30 : decode cX0_order 30 = .ok (.ifCond .eq 28, 3) := by decide +kernel
theorem dX0_order_33 : decode cX0_order 33 = .ok (.iload 4, 2) := by decide +kernel
theorem dX0_order_35 : decode cX0_order 35 = .ok (.iconst 0, 1) := by decide +kernel
theorem dX0_order_36 : decode cX0_order 36 = .ok (.iload_n 3, 1) := by decide +kernel
theorem dX0_order_37 : decode cX0_order 37 = .ok (.ifCond .ne 7, 3) := by decide +kernel
theorem dX0_order_40 : decode cX0_order 40 = .ok (.iconst 0, 1) := by decide +kernel
theorem dX0_order_41 : decode cX0_order 41 = .ok (.goto 6, 3) := by decide +kernel
theorem dX0_order_44 : decode cX0_order 44 = .ok (.ldc_w 269, 3) := by decide +kernel
theorem dX0_order_47 : decode cX0_order 47 = .ok (.invokestatic 270, 3) := by decide +kernel
theorem dX0_order_50 : decode cX0_order 50 = .ok (.ifCond .eq 8, 3) := by decide +kernel
theorem dX0_order_53 : decode cX0_order 53 = .ok (.iload 5, 2) := by decide +kernel
theorem dX0_order_55 : decode cX0_order 55 = .ok (.ifCond .ge 6, 3) := by decide +kernel
theorem dX0_order_58 : decode cX0_order 58 = .ok (.bipush (-2), 2) := by decide +kernel
theorem dX0_order_60 : decode cX0_order 60 = .ok (.ireturn, 1) := by decide +kernel
theorem dX0_order_61 : decode cX0_order 61 = .ok (.aload_n 0, 1) := by decide +kernel
theorem dX0_order_62 : decode cX0_order 62 = .ok (.getfield 266, 3) := by decide +kernel
theorem dX0_order_65 : decode cX0_order 65 = .ok (.invokevirtual 13, 3) := by decide +kernel
theorem dX0_order_68 : decode cX0_order 68 = .ok (.bipush 60, 2) := by decide +kernel
theorem dX0_order_70 : decode cX0_order 70 = .ok (.if_icmp .ne 8, 3) := by decide +kernel
theorem dX0_order_73 : decode cX0_order 73 = .ok (.bipush (-3), 2) := by decide +kernel
theorem dX0_order_75 : decode cX0_order 75 = .ok (.goto 14, 3) := by decide +kernel
theorem dX0_order_78 : decode cX0_order 78 = .ok (.aload_n 0, 1) := by decide +kernel
theorem dX0_order_79 : decode cX0_order 79 = .ok (.iload_n 1, 1) := by decide +kernel
theorem dX0_order_80 : decode cX0_order 80 = .ok (.iload_n 2, 1) := by decide +kernel
theorem dX0_order_81 : decode cX0_order 81 = .ok (.iload_n 3, 1) := by decide +kernel
theorem dX0_order_82 : decode cX0_order 82 = .ok (.iload 4, 2) := by decide +kernel
theorem dX0_order_84 : decode cX0_order 84 = .ok (.iload 5, 2) := by decide +kernel
theorem dX0_order_86 : decode cX0_order 86 = .ok (.invokevirtual 337, 3) := by decide +kernel
theorem dX0_order_89 : decode cX0_order 89 = .ok (.ireturn, 1) := by decide +kernel
theorem dX0_begins_0 : decode cX0_begins 0 = .ok (.new 66, 3) := by decide +kernel
theorem dX0_begins_3 : decode cX0_begins 3 = .ok (.dup, 1) := by decide +kernel
theorem dX0_begins_4 : decode cX0_begins 4 = .ok (.aload_n 0, 1) := by decide +kernel
theorem dX0_begins_5 : decode cX0_begins 5 = .ok (.getfield 266, 3) := by decide +kernel
theorem dX0_begins_8 : decode cX0_begins 8 = .ok (.invokevirtual 13, 3) := by decide +kernel
theorem dX0_begins_11 : decode cX0_begins 11 = .ok (.aload_n 0, 1) := by decide +kernel
theorem dX0_begins_12 : decode cX0_begins 12 = .ok (.getfield 263, 3) := by decide +kernel
theorem dX0_begins_15 : decode cX0_begins 15 = .ok (.iload_n 1, 1) := by decide +kernel
theorem dX0_begins_16 : decode cX0_begins 16 = .ok (.invokevirtual 48, 3) := by decide +kernel
theorem dX0_begins_19 : decode cX0_begins 19 = .ok (.checkcast 340, 3) := by decide +kernel
theorem dX0_begins_22 : decode cX0_begins 22 = .ok (.iload_n 2, 1) := by decide +kernel
theorem dX0_begins_23 : decode cX0_begins 23 = .ok (.iload_n 3, 1) := by decide +kernel
theorem dX0_begins_24 : decode cX0_begins 24 = .ok (.iload 4, 2) := by decide +kernel
theorem dX0_begins_26 : decode cX0_begins 26 = .ok (.iload 5, 2) := by decide +kernel
theorem dX0_begins_28 : decode cX0_begins 28 = .ok (.aload_n 0, 1) := by decide +kernel
theorem dX0_begins_29 : decode cX0_begins 29 = .ok (.getfield 19, 3) := by decide +kernel
theorem dX0_begins_32 : decode cX0_begins 32 = .ok (.invokespecial 341, 3) := by decide +kernel
theorem dX0_begins_35 : decode cX0_begins 35 = .ok (.astore 6, 2) := by decide +kernel
theorem dX0_begins_37 : decode cX0_begins 37 = .ok (.aload_n 0, 1) := by decide +kernel
theorem dX0_begins_38 : decode cX0_begins 38 = .ok (.getfield 266, 3) := by decide +kernel
theorem dX0_begins_41 : decode cX0_begins 41 = .ok (.aload 6, 2) := by decide +kernel
theorem dX0_begins_43 : decode cX0_begins 43 = .ok (.invokevirtual 27, 3) := by decide +kernel
theorem dX0_begins_46 : decode cX0_begins 46 = .ok (.pop, 1) := by decide +kernel
theorem dX0_begins_47 : decode cX0_begins 47 = .ok (.aload_n 0, 1) := by decide +kernel
theorem dX0_begins_48 : decode cX0_begins 48 = .ok (.aload 6, 2) := by decide +kernel
theorem dX0_begins_50 : decode cX0_begins 50 = .ok (.iconst 0, 1) := by decide +kernel
theorem dX0_begins_51 : decode cX0_begins 51 = .ok (.aconst_null, 1) := by decide +kernel
theorem dX0_begins_52 : decode cX0_begins 52 = .ok (.invokevirtual 109, 3) := by decide +kernel
theorem dX0_begins_55 : decode cX0_begins 55 = .ok (.aload 6, 2) := by decide +kernel
theorem dX0_begins_57 : decode cX0_begins 57 = .ok (.getfield 344, 3) := by decide +kernel
theorem dX0_begins_60 : decode cX0_begins 60 = .ok (.ireturn, 1) := by decide +kernel
theorem dX0_begin_0 : decode cX0_begin 0 = .ok (.iload_n 2, 1) := by decide +kernel
theorem dX0_begin_1 : decode cX0_begin 1 = .ok (.aload_n 1, 1) := by decide +kernel
theorem dX0_begin_2 : decode cX0_begin 2 = .ok (.getfield 81, 3) := by decide +kernel
theorem dX0_begin_5 : decode cX0_begin 5 = .ok (.arraylength, 1) := by decide +kernel
theorem dX0_begin_6 : decode cX0_begin 6 = .ok (.if_icmp .ne 15, 3) := by decide +kernel
theorem dX0_begin_9 : decode cX0_begin 9 = .ok (.aload_n 0, 1) := by decide +kernel
theorem dX0_begin_10 : decode cX0_begin 10 = .ok (.aload_n 1, 1) := by decide +kernel
theorem dX0_begin_11 : decode cX0_begin 11 = .ok (.iload_n 2, 1) := by decide +kernel
theorem dX0_begin_12 : decode cX0_begin 12 = .ok (.aload_n 3, 1) := by decide +kernel
theorem dX0_begin_13 : decode cX0_begin 13 = .ok (.aload_n 1, 1) := by decide +kernel
theorem dX0_begin_14 : decode cX0_begin 14 = .ok (.getfield 85, 3) := by decide +kernel
theorem dX0_begin_17 : decode cX0_begin 17 = .ok (.invokevirtual 88, 3) := by decide +kernel
theorem dX0_begin_20 : decode cX0_begin 20 = .ok (.return_, 1) := by decide +kernel
theorem dX0_begin_21 : decode cX0_begin 21 = .ok (.aload_n 0, 1) := by decide +kernel
theorem dX0_begin_22 : decode cX0_begin 22 = .ok (.aload_n 1, 1) := by decide +kernel
theorem dX0_begin_23 : decode cX0_begin 23 = .ok (.iload_n 2, 1) := by decide +kernel
theorem dX0_begin_24 : decode cX0_begin 24 = .ok (.aload_n 3, 1) := by decide +kernel
theorem dX0_begin_25 : decode cX0_begin 25 = .ok (.aload_n 1, 1) := by decide +kernel
theorem dX0_begin_26 : decode cX0_begin 26 = .ok (.getfield 81, 3) := by decide +kernel
theorem dX0_begin_29 : decode cX0_begin 29 = .ok (.iload_n 2, 1) := by decide +kernel
theorem dX0_begin_30 : decode cX0_begin 30 = .ok (.aaload, 1) := by decide +kernel
theorem dX0_begin_31 : decode cX0_begin 31 = .ok (.iconst (-1), 1) := by decide +kernel
theorem dX0_begin_32 : decode cX0_begin 32 = .ok (.invokevirtual 42, 3) := by decide +kernel
theorem dX0_begin_35 : decode cX0_begin 35 = .ok (.astore 4, 2) := by decide +kernel
theorem dX0_begin_37 : decode cX0_begin 37 = .ok (.aload_n 3, 1) := by decide +kernel
theorem dX0_begin_38 : decode cX0_begin 38 = .ok (.ifnonnull 9, 3) := by decide +kernel
theorem dX0_begin_41 : decode cX0_begin 41 = .ok (.aload_n 1, 1) := by decide +kernel
theorem dX0_begin_42 : decode cX0_begin 42 = .ok (.aload 4, 2) := by decide +kernel
theorem dX0_begin_44 : decode cX0_begin 44 = .ok (.putfield 77, 3) := by decide +kernel
theorem dX0_begin_47 : decode cX0_begin 47 = .ok (.aload 4, 2) := by decide +kernel
theorem dX0_begin_49 : decode cX0_begin 49 = .ok (.getfield 92, 3) := by decide +kernel
theorem dX0_begin_52 : decode cX0_begin 52 = .ok (.aload 4, 2) := by decide +kernel
theorem dX0_begin_54 : decode cX0_begin 54 = .ok (.invokevirtual 96, 3) := by decide +kernel
theorem dX0_begin_57 : decode cX0_begin 57 = .ok (.return_, 1) := by decide +kernel
theorem dX0_beginTry_0 : decode cX0_beginTry 0 = .ok (.aload_n 0, 1) := by decide +kernel
theorem dX0_beginTry_1 : decode cX0_beginTry 1 = .ok (.aload_n 1, 1) := by decide +kernel
theorem dX0_beginTry_2 : decode cX0_beginTry 2 = .ok (.iload_n 2, 1) := by decide +kernel
theorem dX0_beginTry_3 : decode cX0_beginTry 3 = .ok (.aload_n 3, 1) := by decide +kernel
theorem dX0_beginTry_4 : decode cX0_beginTry 4 = .ok (.aconst_null, 1) := by decide +kernel
theorem dX0_beginTry_5 : decode cX0_beginTry 5 = .ok (.iload 4, 2) := by decide +kernel
theorem dX0_beginTry_7 : decode cX0_beginTry 7 = .ok (.invokevirtual 42, 3) := by decide +kernel
theorem dX0_beginTry_10 : decode cX0_beginTry 10 = .ok (.astore 5, 2) := by decide +kernel
theorem dX0_beginTry_12 : decode cX0_beginTry 12 = .ok (.aload 5, 2) := by decide +kernel
theorem dX0_beginTry_14 : decode cX0_beginTry 14 = .ok (.aload_n 0, 1) := by decide +kernel
theorem dX0_beginTry_15 : decode cX0_beginTry 15 = .ok (.getfield 19, 3) := by decide +kernel
theorem dX0_beginTry_18 : decode cX0_beginTry 18 = .ok (.aload_n 0, 1) := by decide +kernel
theorem dX0_beginTry_19 : decode cX0_beginTry 19 = .ok (.getfield 45, 3) := by decide +kernel
theorem dX0_beginTry_22 : decode cX0_beginTry 22 = .ok (.iload 4, 2) := by decide +kernel
theorem dX0_beginTry_24 : decode cX0_beginTry 24 = .ok (.invokevirtual 48, 3) := by decide +kernel
theorem dX0_beginTry_27 : decode cX0_beginTry 27 = .ok (.checkcast 52, 3) := by decide +kernel
theorem dX0_beginTry_30 : decode cX0_beginTry 30 = .ok (.getfield 54, 3) := by decide +kernel
theorem dX0_beginTry_33 : decode cX0_beginTry 33 = .ok (.iadd, 1) := by decide +kernel
theorem dX0_beginTry_34 : decode cX0_beginTry 34 = .ok (.putfield 57, 3) := by decide +kernel
theorem dX0_beginTry_37 : decode cX0_beginTry 37 = .ok (.iconst 0, 1) := by decide +kernel
theorem dX0_beginTry_38 : decode cX0_beginTry 38 = .ok (.istore 6, 2) := by decide +kernel
theorem dX0_beginTry_40 : decode cX0_beginTry 40 = .ok (.iload 6, 2) := by decide +kernel
theorem dX0_beginTry_42 : decode cX0_beginTry 42 = .ok (.aload_n 0, 1) := by decide +kernel
theorem dX0_beginTry_43 : decode cX0_beginTry 43 = .ok (.getfield 60, 3) := by decide +kernel
theorem dX0_beginTry_46 : decode cX0_beginTry 46 = .ok (.invokevirtual 13, 3) := by decide +kernel
theorem dX0_beginTry_49 : decode cX0_beginTry 49 = .ok (.if_icmp .ge 62, 3) := by decide +kernel
theorem dX0_beginTry_52 : decode cX0_beginTry 52 = .ok (.aload_n 0, 1) := by decide +kernel
theorem dX0_beginTry_53 : decode cX0_beginTry 53 = .ok (.getfield 60, 3) := by decide +kernel
theorem dX0_beginTry_56 : decode cX0_beginTry 56 = .ok (.iload 6, 2) := by decide +kernel
theorem dX0_beginTry_58 : decode cX0_beginTry 58 = .ok (.invokevirtual 48, 3) := by decide +kernel
theorem dX0_beginTry_61 : decode cX0_beginTry 61 = .ok (.checkcast 63, 3) := by decide +kernel
theorem dX0_beginTry_64 : decode cX0_beginTry 64 = .ok (.iload 4, 2) := by decide +kernel
theorem dX0_beginTry_66 : decode cX0_beginTry 66 = .ok (.aload_n 1, 1) := by decide +kernel
theorem dX0_beginTry_67 : decode cX0_beginTry 67 = .ok (.getfield 65, 3) := by decide +kernel
theorem dX0_beginTry_70 : decode cX0_beginTry 70 = .ok (.aload_n 0, 1) := by decide +kernel
theorem dX0_beginTry_71 : decode cX0_beginTry 71 = .ok (.getfield 19, 3) := by decide +kernel
theorem dX0_beginTry_74 : decode cX0_beginTry 74 = .ok (.invokevirtual 70, 3) := by decide +kernel
theorem dX0_beginTry_77 : decode cX0_beginTry 77 = .ok (.ifCond .eq 28, 3) := by decide +kernel
theorem dX0_beginTry_80 : decode cX0_beginTry 80 = .ok (.aload 5, 2) := by decide +kernel
theorem dX0_beginTry_82 : decode cX0_beginTry 82 = .ok (.dup, 1) := by decide +kernel
theorem dX0_beginTry_83 : decode cX0_beginTry 83 = .ok (.getfield 57, 3) := by decide +kernel
theorem dX0_beginTry_86 : decode cX0_beginTry 86 = .ok (.aload_n 0, 1) := by decide +kernel
theorem dX0_beginTry_87 : decode cX0_beginTry 87 = .ok (.getfield 60, 3) := by decide +kernel
theorem dX0_beginTry_90 : decode cX0_beginTry 90 = .ok (.iload 6, 2) := by decide +kernel
theorem dX0_beginTry_92 : decode cX0_beginTry 92 = .ok (.invokevirtual 48, 3) := by decide +kernel
theorem dX0_beginTry_95 : decode cX0_beginTry 95 = .ok (.checkcast 63, 3) := by decide +kernel
theorem dX0_beginTry_98 : decode cX0_beginTry 98 = .ok (.getfield 74, 3) := by decide +kernel
theorem dX0_beginTry_101 : decode cX0_beginTry 101 = .ok (.iadd, 1) := by decide +kernel
theorem dX0_beginTry_102 : decode cX0_beginTry 102 = .ok (.putfield 57, 3) := by decide +kernel
theorem dX0_beginTry_105 : decode cX0_beginTry 105 = .ok (.iinc 6 1, 3) := by decide +kernel
theorem dX0_beginTry_108 : decode cX0_beginTry 108 = .ok (.goto (-68), 3) := by decide +kernel
theorem dX0_beginTry_111 : decode cX0_beginTry 111 = .ok (.aload_n 3, 1) := by decide +kernel
theorem dX0_beginTry_112 : decode cX0_beginTry 112 = .ok (.ifnonnull 9, 3) := by decide +kernel
theorem dX0_beginTry_115 : decode cX0_beginTry 115 = .ok (.aload_n 1, 1) := by decide +kernel
theorem dX0_beginTry_116 : decode cX0_beginTry 116 = .ok (.aload 5, 2) := by decide +kernel
theorem dX0_beginTry_118 : decode cX0_beginTry 118 = .ok (.putfield 77, 3) := by decide +kernel
theorem dX0_beginTry_121 : decode cX0_beginTry 121 = .ok (.return_, 1) := by decide +kernel
theorem dX0_add_0 : decode cX0_add 0 = .ok (.new 31, 3) := by decide +kernel
theorem dX0_add_3 : decode cX0_add 3 = .ok (.dup, 1) := by decide +kernel
theorem dX0_add_4 : decode cX0_add 4 = .ok (.aload_n 0, 1) := by decide +kernel
theorem dX0_add_5 : decode cX0_add 5 = .ok (.getfield 33, 3) := by decide +kernel
theorem dX0_add_8 : decode cX0_add 8 = .ok (.invokevirtual 13, 3) := by decide +kernel
theorem dX0_add_11 : decode cX0_add 11 = .ok (.aload_n 1, 1) := by decide +kernel
theorem dX0_add_12 : decode cX0_add 12 = .ok (.iload_n 2, 1) := by decide +kernel
theorem dX0_add_13 : decode cX0_add 13 = .ok (.aload_n 3, 1) := by decide +kernel
theorem dX0_add_14 : decode cX0_add 14 = .ok (.aload 4, 2) := by decide +kernel
theorem dX0_add_16 : decode cX0_add 16 = .ok (.iload 5, 2) := by decide +kernel
theorem dX0_add_18 : decode cX0_add 18 = .ok (.aload_n 0, 1) := by decide +kernel
theorem dX0_add_19 : decode cX0_add 19 = .ok (.getfield 19, 3) := by decide +kernel
theorem dX0_add_22 : decode cX0_add 22 = .ok (.invokespecial 36, 3) := by decide +kernel
theorem dX0_add_25 : decode cX0_add 25 = .ok (.astore 6, 2) := by decide +kernel
theorem dX0_add_27 : decode cX0_add 27 = .ok (.aload_n 0, 1) := by decide +kernel
theorem dX0_add_28 : decode cX0_add 28 = .ok (.getfield 33, 3) := by decide +kernel
theorem dX0_add_31 : decode cX0_add 31 = .ok (.aload 6, 2) := by decide +kernel
theorem dX0_add_33 : decode cX0_add 33 = .ok (.invokevirtual 27, 3) := by decide +kernel
theorem dX0_add_36 : decode cX0_add 36 = .ok (.pop, 1) := by decide +kernel
theorem dX0_add_37 : decode cX0_add 37 = .ok (.aload_n 3, 1) := by decide +kernel
theorem dX0_add_38 : decode cX0_add 38 = .ok (.ifnull 13, 3) := by decide +kernel
theorem dX0_add_41 : decode cX0_add 41 = .ok (.aload_n 3, 1) := by decide +kernel
theorem dX0_add_42 : decode cX0_add 42 = .ok (.getfield 39, 3) := by decide +kernel
theorem dX0_add_45 : decode cX0_add 45 = .ok (.aload 6, 2) := by decide +kernel
theorem dX0_add_47 : decode cX0_add 47 = .ok (.invokevirtual 27, 3) := by decide +kernel
theorem dX0_add_50 : decode cX0_add 50 = .ok (.pop, 1) := by decide +kernel
theorem dX0_add_51 : decode cX0_add 51 = .ok (.aload 6, 2) := by decide +kernel
theorem dX0_add_53 : decode cX0_add 53 = .ok (.areturn, 1) := by decide +kernel
theorem dX0_goesIn_0 : decode cX0_goesIn 0 = .ok (.aload_n 0, 1) := by decide +kernel
theorem dX0_goesIn_1 : decode cX0_goesIn 1 = .ok (.aload_n 1, 1) := by decide +kernel
theorem dX0_goesIn_2 : decode cX0_goesIn 2 = .ok (.getfield 102, 3) := by decide +kernel
theorem dX0_goesIn_5 : decode cX0_goesIn 5 = .ok (.aload_n 1, 1) := by decide +kernel
theorem dX0_goesIn_6 : decode cX0_goesIn 6 = .ok (.getfield 106, 3) := by decide +kernel
theorem dX0_goesIn_9 : decode cX0_goesIn 9 = .ok (.iconst 1, 1) := by decide +kernel
theorem dX0_goesIn_10 : decode cX0_goesIn 10 = .ok (.iadd, 1) := by decide +kernel
theorem dX0_goesIn_11 : decode cX0_goesIn 11 = .ok (.aload_n 1, 1) := by decide +kernel
theorem dX0_goesIn_12 : decode cX0_goesIn 12 = .ok (.invokevirtual 109, 3) := by decide +kernel
theorem dX0_goesIn_15 : decode cX0_goesIn 15 = .ok (.return_, 1) := by decide +kernel
theorem dX0_failed_0 : decode cX0_failed 0 = .ok (.new 7, 3) := by decide +kernel
theorem dX0_failed_3 : decode cX0_failed 3 = .ok (.dup, 1) := by decide +kernel
theorem dX0_failed_4 : decode cX0_failed 4 = .ok (.aload_n 0, 1) := by decide +kernel
theorem dX0_failed_5 : decode cX0_failed 5 = .ok (.getfield 9, 3) := by decide +kernel
theorem dX0_failed_8 : decode cX0_failed 8 = .ok (.invokevirtual 13, 3) := by decide +kernel
theorem dX0_failed_11 : decode cX0_failed 11 = .ok (.iload_n 1, 1) := by decide +kernel
theorem dX0_failed_12 : decode cX0_failed 12 = .ok (.aload_n 0, 1) := by decide +kernel
theorem dX0_failed_13 : decode cX0_failed 13 = .ok (.getfield 19, 3) := by decide +kernel
theorem dX0_failed_16 : decode cX0_failed 16 = .ok (.iload_n 2, 1) := by decide +kernel
theorem dX0_failed_17 : decode cX0_failed 17 = .ok (.iload_n 3, 1) := by decide +kernel
theorem dX0_failed_18 : decode cX0_failed 18 = .ok (.invokespecial 23, 3) := by decide +kernel
theorem dX0_failed_21 : decode cX0_failed 21 = .ok (.astore 4, 2) := by decide +kernel
theorem dX0_failed_23 : decode cX0_failed 23 = .ok (.aload_n 0, 1) := by decide +kernel
theorem dX0_failed_24 : decode cX0_failed 24 = .ok (.getfield 9, 3) := by decide +kernel
theorem dX0_failed_27 : decode cX0_failed 27 = .ok (.aload 4, 2) := by decide +kernel
theorem dX0_failed_29 : decode cX0_failed 29 = .ok (.invokevirtual 27, 3) := by decide +kernel
theorem dX0_failed_32 : decode cX0_failed 32 = .ok (.pop, 1) := by decide +kernel
theorem dX0_failed_33 : decode cX0_failed 33 = .ok (.aload 4, 2) := by decide +kernel
theorem dX0_failed_35 : decode cX0_failed 35 = .ok (.areturn, 1) := by decide +kernel
theorem dX0_fails_0 : decode cX0_fails 0 = .ok (.aload_n 1, 1) := by decide +kernel
theorem dX0_fails_1 : decode cX0_fails 1 = .ok (.iconst 2, 1) := by decide +kernel
theorem dX0_fails_2 : decode cX0_fails 2 = .ok (.putfield 113, 3) := by decide +kernel
theorem dX0_fails_5 : decode cX0_fails 5 = .ok (.aload_n 1, 1) := by decide +kernel
theorem dX0_fails_6 : decode cX0_fails 6 = .ok (.aload_n 2, 1) := by decide +kernel
theorem dX0_fails_7 : decode cX0_fails 7 = .ok (.putfield 126, 3) := by decide +kernel
theorem dX0_fails_10 : decode cX0_fails 10 = .ok (.aload_n 0, 1) := by decide +kernel
theorem dX0_fails_11 : decode cX0_fails 11 = .ok (.aload_n 1, 1) := by decide +kernel
theorem dX0_fails_12 : decode cX0_fails 12 = .ok (.invokevirtual 123, 3) := by decide +kernel
theorem dX0_fails_15 : decode cX0_fails 15 = .ok (.return_, 1) := by decide +kernel
theorem dX0_ended_0 : decode cX0_ended 0 = .ok (.aload_n 1, 1) := by decide +kernel
theorem dX0_ended_1 : decode cX0_ended 1 = .ok (.aload_n 0, 1) := by decide +kernel
theorem dX0_ended_2 : decode cX0_ended 2 = .ok (.getfield 19, 3) := by decide +kernel
theorem dX0_ended_5 : decode cX0_ended 5 = .ok (.putfield 138, 3) := by decide +kernel
theorem dX0_ended_8 : decode cX0_ended 8 = .ok (.aload_n 1, 1) := by decide +kernel
theorem dX0_ended_9 : decode cX0_ended 9 = .ok (.getfield 140, 3) := by decide +kernel
theorem dX0_ended_12 : decode cX0_ended 12 = .ok (.ifnull 19, 3) := by decide +kernel
theorem dX0_ended_15 : decode cX0_ended 15 = .ok (.aload_n 1, 1) := by decide +kernel
theorem dX0_ended_16 : decode cX0_ended 16 = .ok (.getfield 140, 3) := by decide +kernel
theorem dX0_ended_19 : decode cX0_ended 19 = .ok (.getfield 92, 3) := by decide +kernel
theorem dX0_ended_22 : decode cX0_ended 22 = .ok (.aload_n 1, 1) := by decide +kernel
theorem dX0_ended_23 : decode cX0_ended 23 = .ok (.getfield 140, 3) := by decide +kernel
theorem dX0_ended_26 : decode cX0_ended 26 = .ok (.aload_n 1, 1) := by decide +kernel
theorem dX0_ended_27 : decode cX0_ended 27 = .ok (.invokevirtual 143, 3) := by decide +kernel
theorem dX0_ended_30 : decode cX0_ended 30 = .ok (.return_, 1) := by decide +kernel
theorem dX0_ended_31 : decode cX0_ended 31 = .ok (.aload_n 1, 1) := by decide +kernel
theorem dX0_ended_32 : decode cX0_ended 32 = .ok (.getfield 102, 3) := by decide +kernel
theorem dX0_ended_35 : decode cX0_ended 35 = .ok (.aload_n 0, 1) := by decide +kernel
theorem dX0_ended_36 : decode cX0_ended 36 = .ok (.getfield 19, 3) := by decide +kernel
theorem dX0_ended_39 : decode cX0_ended 39 = .ok (.putfield 147, 3) := by decide +kernel
theorem dX0_ended_42 : decode cX0_ended 42 = .ok (.aload_n 0, 1) := by decide +kernel
theorem dX0_ended_43 : decode cX0_ended 43 = .ok (.dup, 1) := by decide +kernel
theorem dX0_ended_44 : decode cX0_ended 44 = .ok (.getfield 148, 3) := by decide +kernel
theorem dX0_ended_47 : decode cX0_ended 47 = .ok (.iconst 1, 1) := by decide +kernel
theorem dX0_ended_48 : decode cX0_ended 48 = .ok (.iadd, 1) := by decide +kernel
theorem dX0_ended_49 : decode cX0_ended 49 = .ok (.putfield 148, 3) := by decide +kernel
theorem dX0_ended_52 : decode cX0_ended 52 = .ok (.return_, 1) := by decide +kernel
theorem dX0_alike_0 : decode cX0_alike 0 = .ok (.aload_n 2, 1) := by decide +kernel
theorem dX0_alike_1 : decode cX0_alike 1 = .ok (.getfield 113, 3) := by decide +kernel
theorem dX0_alike_4 : decode cX0_alike 4 = .ok (.iconst 1, 1) := by decide +kernel
theorem dX0_alike_5 : decode cX0_alike 5 = .ok (.if_icmp .ne 19, 3) := by decide +kernel
theorem dX0_alike_8 : decode cX0_alike 8 = .ok (.aload_n 0, 1) := by decide +kernel
theorem dX0_alike_9 : decode cX0_alike 9 = .ok (.aload_n 1, 1) := by decide +kernel
theorem dX0_alike_10 : decode cX0_alike 10 = .ok (.aload_n 2, 1) := by decide +kernel
theorem dX0_alike_11 : decode cX0_alike 11 = .ok (.getfield 116, 3) := by decide +kernel
theorem dX0_alike_14 : decode cX0_alike 14 = .ok (.aload_n 2, 1) := by decide +kernel
theorem dX0_alike_15 : decode cX0_alike 15 = .ok (.getfield 119, 3) := by decide +kernel
theorem dX0_alike_18 : decode cX0_alike 18 = .ok (.invokevirtual 130, 3) := by decide +kernel
theorem dX0_alike_21 : decode cX0_alike 21 = .ok (.goto 12, 3) := by decide +kernel
theorem dX0_alike_24 : decode cX0_alike 24 = .ok (.aload_n 0, 1) := by decide +kernel
theorem dX0_alike_25 : decode cX0_alike 25 = .ok (.aload_n 1, 1) := by decide +kernel
theorem dX0_alike_26 : decode cX0_alike 26 = .ok (.aload_n 2, 1) := by decide +kernel
theorem dX0_alike_27 : decode cX0_alike 27 = .ok (.getfield 126, 3) := by decide +kernel
theorem dX0_alike_30 : decode cX0_alike 30 = .ok (.invokevirtual 134, 3) := by decide +kernel
theorem dX0_alike_33 : decode cX0_alike 33 = .ok (.return_, 1) := by decide +kernel
theorem dX0_good_0 : decode cX0_good 0 = .ok (.aload_n 1, 1) := by decide +kernel
theorem dX0_good_1 : decode cX0_good 1 = .ok (.iconst 1, 1) := by decide +kernel
theorem dX0_good_2 : decode cX0_good 2 = .ok (.putfield 113, 3) := by decide +kernel
theorem dX0_good_5 : decode cX0_good 5 = .ok (.aload_n 1, 1) := by decide +kernel
theorem dX0_good_6 : decode cX0_good 6 = .ok (.iload_n 2, 1) := by decide +kernel
theorem dX0_good_7 : decode cX0_good 7 = .ok (.putfield 116, 3) := by decide +kernel
theorem dX0_good_10 : decode cX0_good 10 = .ok (.aload_n 1, 1) := by decide +kernel
theorem dX0_good_11 : decode cX0_good 11 = .ok (.iload_n 3, 1) := by decide +kernel
theorem dX0_good_12 : decode cX0_good 12 = .ok (.putfield 119, 3) := by decide +kernel
theorem dX0_good_15 : decode cX0_good 15 = .ok (.aload_n 0, 1) := by decide +kernel
theorem dX0_good_16 : decode cX0_good 16 = .ok (.aload_n 1, 1) := by decide +kernel
theorem dX0_good_17 : decode cX0_good 17 = .ok (.invokevirtual 123, 3) := by decide +kernel
theorem dX0_good_20 : decode cX0_good 20 = .ok (.return_, 1) := by decide +kernel
theorem dX0_isUnder_0 : decode cX0_isUnder 0 = .ok (.iload_n 0, 1) := by decide +kernel
theorem dX0_isUnder_1 : decode cX0_isUnder 1 = .ok (.istore_n 2, 1) := by decide +kernel
theorem dX0_isUnder_2 : decode cX0_isUnder 2 = .ok (.iload_n 2, 1) := by decide +kernel
theorem dX0_isUnder_3 : decode cX0_isUnder 3 = .ok (.iconst (-1), 1) := by decide +kernel
theorem dX0_isUnder_4 : decode cX0_isUnder 4 = .ok (.if_icmp .eq 19, 3) := by decide +kernel
theorem dX0_isUnder_7 : decode cX0_isUnder 7 = .ok (.iload_n 2, 1) := by decide +kernel
theorem dX0_isUnder_8 : decode cX0_isUnder 8 = .ok (.iload_n 1, 1) := by decide +kernel
theorem dX0_isUnder_9 : decode cX0_isUnder 9 = .ok (.if_icmp .ne 5, 3) := by decide +kernel
theorem dX0_isUnder_12 : decode cX0_isUnder 12 = .ok (.iconst 1, 1) := by decide +kernel
theorem dX0_isUnder_13 : decode cX0_isUnder 13 = .ok (.ireturn, 1) := by decide +kernel
theorem dX0_isUnder_14 : decode cX0_isUnder 14 = .ok (.getstatic 3, 3) := by decide +kernel
theorem dX0_isUnder_17 : decode cX0_isUnder 17 = .ok (.iload_n 2, 1) := by decide +kernel
theorem dX0_isUnder_18 : decode cX0_isUnder 18 = .ok (.iaload, 1) := by decide +kernel
theorem dX0_isUnder_19 : decode cX0_isUnder 19 = .ok (.istore_n 2, 1) := by decide +kernel
theorem dX0_isUnder_20 : decode cX0_isUnder 20 = .ok (.goto (-18), 3) := by decide +kernel
theorem dX0_isUnder_23 : decode cX0_isUnder 23 = .ok (.iconst 0, 1) := by decide +kernel
theorem dX0_isUnder_24 : decode cX0_isUnder 24 = .ok (.ireturn, 1) := by decide +kernel
theorem dX0_takeBack_0 : decode cX0_takeBack 0 = .ok (.new 14, 3) := by decide +kernel
theorem dX0_takeBack_3 : decode cX0_takeBack 3 = .ok (.dup, 1) := by decide +kernel
theorem dX0_takeBack_4 : decode cX0_takeBack 4 = .ok (.invokespecial 151, 3) := by decide +kernel
theorem dX0_takeBack_7 : decode cX0_takeBack 7 = .ok (.astore_n 2, 1) := by decide +kernel
theorem dX0_takeBack_8 : decode cX0_takeBack 8 = .ok (.aload_n 1, 1) := by decide +kernel
theorem dX0_takeBack_9 : decode cX0_takeBack 9 = .ok (.getfield 154, 3) := by decide +kernel
theorem dX0_takeBack_12 : decode cX0_takeBack 12 = .ok (.istore_n 3, 1) := by decide +kernel
theorem dX0_takeBack_13 : decode cX0_takeBack 13 = .ok (.iload_n 3, 1) := by decide +kernel
theorem dX0_takeBack_14 : decode cX0_takeBack 14 = .ok (.aload_n 0, 1) := by decide +kernel
theorem dX0_takeBack_15 : decode cX0_takeBack 15 = .ok (.getfield 33, 3) := by decide +kernel
theorem dX0_takeBack_18 : decode cX0_takeBack 18 = .ok (.invokevirtual 13, 3) := by decide +kernel
theorem dX0_takeBack_21 : decode cX0_takeBack 21 = .ok (.if_icmp .ge 60, 3) := by decide +kernel
theorem dX0_takeBack_24 : decode cX0_takeBack 24 = .ok (.aload_n 0, 1) := by decide +kernel
theorem dX0_takeBack_25 : decode cX0_takeBack 25 = .ok (.getfield 33, 3) := by decide +kernel
theorem dX0_takeBack_28 : decode cX0_takeBack 28 = .ok (.iload_n 3, 1) := by decide +kernel
theorem dX0_takeBack_29 : decode cX0_takeBack 29 = .ok (.invokevirtual 48, 3) := by decide +kernel
theorem dX0_takeBack_32 : decode cX0_takeBack 32 = .ok (.checkcast 31, 3) := by decide +kernel
theorem dX0_takeBack_35 : decode cX0_takeBack 35 = .ok (.invokevirtual 157, 3) := by decide +kernel
theorem dX0_takeBack_38 : decode cX0_takeBack 38 = .ok (.ifCond .eq 37, 3) := by decide +kernel
theorem dX0_takeBack_41 : decode cX0_takeBack 41 = .ok (.aload_n 0, 1) := by decide +kernel
theorem dX0_takeBack_42 : decode cX0_takeBack 42 = .ok (.getfield 33, 3) := by decide +kernel
theorem dX0_takeBack_45 : decode cX0_takeBack 45 = .ok (.iload_n 3, 1) := by decide +kernel
theorem dX0_takeBack_46 : decode cX0_takeBack 46 = .ok (.invokevirtual 48, 3) := by decide +kernel
theorem dX0_takeBack_49 : decode cX0_takeBack 49 = .ok (.checkcast 31, 3) := by decide +kernel
theorem dX0_takeBack_52 : decode cX0_takeBack 52 = .ok (.aload_n 1, 1) := by decide +kernel
theorem dX0_takeBack_53 : decode cX0_takeBack 53 = .ok (.invokevirtual 161, 3) := by decide +kernel
theorem dX0_takeBack_56 : decode cX0_takeBack 56 = .ok (.ifCond .eq 19, 3) := by decide +kernel
theorem dX0_takeBack_59 : decode cX0_takeBack 59 = .ok (.aload_n 2, 1) := by decide +kernel
theorem dX0_takeBack_60 : decode cX0_takeBack 60 = .ok (.aload_n 0, 1) := by decide +kernel
theorem dX0_takeBack_61 : decode cX0_takeBack 61 = .ok (.getfield 33, 3) := by decide +kernel
theorem dX0_takeBack_64 : decode cX0_takeBack 64 = .ok (.iload_n 3, 1) := by decide +kernel
theorem dX0_takeBack_65 : decode cX0_takeBack 65 = .ok (.invokevirtual 48, 3) := by decide +kernel
theorem dX0_takeBack_68 : decode cX0_takeBack 68 = .ok (.checkcast 31, 3) := by decide +kernel
theorem dX0_takeBack_71 : decode cX0_takeBack 71 = .ok (.invokevirtual 27, 3) := by decide +kernel
theorem dX0_takeBack_74 : decode cX0_takeBack 74 = .ok (.pop, 1) := by decide +kernel
theorem dX0_takeBack_75 : decode cX0_takeBack 75 = .ok (.iinc 3 1, 3) := by decide +kernel
theorem dX0_takeBack_78 : decode cX0_takeBack 78 = .ok (.goto (-65), 3) := by decide +kernel
theorem dX0_takeBack_81 : decode cX0_takeBack 81 = .ok (.iconst 0, 1) := by decide +kernel
theorem dX0_takeBack_82 : decode cX0_takeBack 82 = .ok (.istore_n 3, 1) := by decide +kernel
theorem dX0_takeBack_83 : decode cX0_takeBack 83 = .ok (.iload_n 3, 1) := by decide +kernel
theorem dX0_takeBack_84 : decode cX0_takeBack 84 = .ok (.aload_n 2, 1) := by decide +kernel
theorem dX0_takeBack_85 : decode cX0_takeBack 85 = .ok (.invokevirtual 13, 3) := by decide +kernel
theorem dX0_takeBack_88 : decode cX0_takeBack 88 = .ok (.if_icmp .ge 36, 3) := by decide +kernel
theorem dX0_takeBack_91 : decode cX0_takeBack 91 = .ok (.aload_n 2, 1) := by decide +kernel
theorem dX0_takeBack_92 : decode cX0_takeBack 92 = .ok (.iload_n 3, 1) := by decide +kernel
theorem dX0_takeBack_93 : decode cX0_takeBack 93 = .ok (.invokevirtual 48, 3) := by decide +kernel
theorem dX0_takeBack_96 : decode cX0_takeBack 96 = .ok (.checkcast 31, 3) := by decide +kernel
theorem dX0_takeBack_99 : decode cX0_takeBack 99 = .ok (.iconst 3, 1) := by decide +kernel
theorem dX0_takeBack_100 : decode cX0_takeBack 100 = .ok (.putfield 113, 3) := by decide +kernel
theorem dX0_takeBack_103 : decode cX0_takeBack 103 = .ok (.aload_n 2, 1) := by decide +kernel
theorem dX0_takeBack_104 : decode cX0_takeBack 104 = .ok (.iload_n 3, 1) := by decide +kernel
theorem dX0_takeBack_105 : decode cX0_takeBack 105 = .ok (.invokevirtual 48, 3) := by decide +kernel
theorem dX0_takeBack_108 : decode cX0_takeBack 108 = .ok (.checkcast 31, 3) := by decide +kernel
theorem dX0_takeBack_111 : decode cX0_takeBack 111 = .ok (.aload_n 0, 1) := by decide +kernel
theorem dX0_takeBack_112 : decode cX0_takeBack 112 = .ok (.getfield 19, 3) := by decide +kernel
theorem dX0_takeBack_115 : decode cX0_takeBack 115 = .ok (.putfield 138, 3) := by decide +kernel
theorem dX0_takeBack_118 : decode cX0_takeBack 118 = .ok (.iinc 3 1, 3) := by decide +kernel
theorem dX0_takeBack_121 : decode cX0_takeBack 121 = .ok (.goto (-38), 3) := by decide +kernel
theorem dX0_takeBack_124 : decode cX0_takeBack 124 = .ok (.iconst 0, 1) := by decide +kernel
theorem dX0_takeBack_125 : decode cX0_takeBack 125 = .ok (.istore_n 3, 1) := by decide +kernel
theorem dX0_takeBack_126 : decode cX0_takeBack 126 = .ok (.iload_n 3, 1) := by decide +kernel
theorem dX0_takeBack_127 : decode cX0_takeBack 127 = .ok (.aload_n 2, 1) := by decide +kernel
theorem dX0_takeBack_128 : decode cX0_takeBack 128 = .ok (.invokevirtual 13, 3) := by decide +kernel
theorem dX0_takeBack_131 : decode cX0_takeBack 131 = .ok (.if_icmp .ge 45, 3) := by decide +kernel
theorem dX0_takeBack_134 : decode cX0_takeBack 134 = .ok (.aload_n 2, 1) := by decide +kernel
theorem dX0_takeBack_135 : decode cX0_takeBack 135 = .ok (.iload_n 3, 1) := by decide +kernel
theorem dX0_takeBack_136 : decode cX0_takeBack 136 = .ok (.invokevirtual 48, 3) := by decide +kernel
theorem dX0_takeBack_139 : decode cX0_takeBack 139 = .ok (.checkcast 31, 3) := by decide +kernel
theorem dX0_takeBack_142 : decode cX0_takeBack 142 = .ok (.getfield 92, 3) := by decide +kernel
theorem dX0_takeBack_145 : decode cX0_takeBack 145 = .ok (.ifnull 25, 3) := by decide +kernel
theorem dX0_takeBack_148 : decode cX0_takeBack 148 = .ok (.aload_n 2, 1) := by decide +kernel
theorem dX0_takeBack_149 : decode cX0_takeBack 149 = .ok (.iload_n 3, 1) := by decide +kernel
theorem dX0_takeBack_150 : decode cX0_takeBack 150 = .ok (.invokevirtual 48, 3) := by decide +kernel
theorem dX0_takeBack_153 : decode cX0_takeBack 153 = .ok (.checkcast 31, 3) := by decide +kernel
theorem dX0_takeBack_156 : decode cX0_takeBack 156 = .ok (.getfield 92, 3) := by decide +kernel
theorem dX0_takeBack_159 : decode cX0_takeBack 159 = .ok (.aload_n 2, 1) := by decide +kernel
theorem dX0_takeBack_160 : decode cX0_takeBack 160 = .ok (.iload_n 3, 1) := by decide +kernel
theorem dX0_takeBack_161 : decode cX0_takeBack 161 = .ok (.invokevirtual 48, 3) := by decide +kernel
theorem dX0_takeBack_164 : decode cX0_takeBack 164 = .ok (.checkcast 31, 3) := by decide +kernel
theorem dX0_takeBack_167 : decode cX0_takeBack 167 = .ok (.invokevirtual 165, 3) := by decide +kernel
theorem dX0_takeBack_170 : decode cX0_takeBack 170 = .ok (.iinc 3 1, 3) := by decide +kernel
theorem dX0_takeBack_173 : decode cX0_takeBack 173 = .ok (.goto (-47), 3) := by decide +kernel
theorem dX0_takeBack_176 : decode cX0_takeBack 176 = .ok (.aload_n 2, 1) := by decide +kernel
theorem dX0_takeBack_177 : decode cX0_takeBack 177 = .ok (.invokevirtual 13, 3) := by decide +kernel
theorem dX0_takeBack_180 : decode cX0_takeBack 180 = .ok (.ireturn, 1) := by decide +kernel
theorem dX0_cancel_0 : decode cX0_cancel 0 = .ok (.aload_n 0, 1) := by decide +kernel
theorem dX0_cancel_1 : decode cX0_cancel 1 = .ok (.getfield 266, 3) := by decide +kernel
theorem dX0_cancel_4 : decode cX0_cancel 4 = .ok (.iload_n 1, 1) := by decide +kernel
theorem dX0_cancel_5 : decode cX0_cancel 5 = .ok (.invokestatic 277, 3) := by decide +kernel
theorem dX0_cancel_8 : decode cX0_cancel 8 = .ok (.ifCond .ne 5, 3) := by decide +kernel
theorem dX0_cancel_11 : decode cX0_cancel 11 = .ok (.iconst (-1), 1) := by decide +kernel
theorem dX0_cancel_12 : decode cX0_cancel 12 = .ok (.ireturn, 1) := by decide +kernel
theorem dX0_cancel_13 : decode cX0_cancel 13 = .ok (.aload_n 0, 1) := by decide +kernel
theorem dX0_cancel_14 : decode cX0_cancel 14 = .ok (.getfield 266, 3) := by decide +kernel
theorem dX0_cancel_17 : decode cX0_cancel 17 = .ok (.iload_n 1, 1) := by decide +kernel
theorem dX0_cancel_18 : decode cX0_cancel 18 = .ok (.invokevirtual 48, 3) := by decide +kernel
theorem dX0_cancel_21 : decode cX0_cancel 21 = .ok (.checkcast 66, 3) := by decide +kernel
theorem dX0_cancel_24 : decode cX0_cancel 24 = .ok (.astore_n 2, 1) := by decide +kernel
theorem dX0_cancel_25 : decode cX0_cancel 25 = .ok (.aload_n 2, 1) := by decide +kernel
theorem dX0_cancel_26 : decode cX0_cancel 26 = .ok (.invokevirtual 345, 3) := by decide +kernel
theorem dX0_cancel_29 : decode cX0_cancel 29 = .ok (.ifCond .eq 6, 3) := by decide +kernel
theorem dX0_cancel_32 : decode cX0_cancel 32 = .ok (.bipush (-4), 2) := by decide +kernel
theorem dX0_cancel_34 : decode cX0_cancel 34 = .ok (.ireturn, 1) := by decide +kernel
theorem dX0_cancel_35 : decode cX0_cancel 35 = .ok (.aload_n 2, 1) := by decide +kernel
theorem dX0_cancel_36 : decode cX0_cancel 36 = .ok (.iconst 1, 1) := by decide +kernel
theorem dX0_cancel_37 : decode cX0_cancel 37 = .ok (.putfield 348, 3) := by decide +kernel
theorem dX0_cancel_40 : decode cX0_cancel 40 = .ok (.aload_n 2, 1) := by decide +kernel
theorem dX0_cancel_41 : decode cX0_cancel 41 = .ok (.aload_n 0, 1) := by decide +kernel
theorem dX0_cancel_42 : decode cX0_cancel 42 = .ok (.getfield 19, 3) := by decide +kernel
theorem dX0_cancel_45 : decode cX0_cancel 45 = .ok (.putfield 147, 3) := by decide +kernel
theorem dX0_cancel_48 : decode cX0_cancel 48 = .ok (.aload_n 0, 1) := by decide +kernel
theorem dX0_cancel_49 : decode cX0_cancel 49 = .ok (.aload_n 2, 1) := by decide +kernel
theorem dX0_cancel_50 : decode cX0_cancel 50 = .ok (.getfield 77, 3) := by decide +kernel
theorem dX0_cancel_53 : decode cX0_cancel 53 = .ok (.invokevirtual 351, 3) := by decide +kernel
theorem dX0_cancel_56 : decode cX0_cancel 56 = .ok (.ireturn, 1) := by decide +kernel
theorem dX0_second_0 : decode cX0_second 0 = .ok (.iload_n 1, 1) := by decide +kernel
theorem dX0_second_1 : decode cX0_second 1 = .ok (.iconst 1, 1) := by decide +kernel
theorem dX0_second_2 : decode cX0_second 2 = .ok (.bipush 100, 2) := by decide +kernel
theorem dX0_second_4 : decode cX0_second 4 = .ok (.invokestatic 270, 3) := by decide +kernel
theorem dX0_second_7 : decode cX0_second 7 = .ok (.ifCond .ne 6, 3) := by decide +kernel
theorem dX0_second_10 : decode cX0_second 10 = .ok (.bipush (-2), 2) := by decide +kernel
theorem dX0_second_12 : decode cX0_second 12 = .ok (.ireturn, 1) := by decide +kernel
theorem dX0_second_13 : decode cX0_second 13 = .ok (.aload_n 0, 1) := by decide +kernel
theorem dX0_second_14 : decode cX0_second 14 = .ok (.iconst 0, 1) := by decide +kernel
theorem dX0_second_15 : decode cX0_second 15 = .ok (.putfield 148, 3) := by decide +kernel
theorem dX0_second_18 : decode cX0_second 18 = .ok (.iconst 0, 1) := by decide +kernel
theorem dX0_second_19 : decode cX0_second 19 = .ok (.istore_n 2, 1) := by decide +kernel
theorem dX0_second_20 : decode cX0_second 20 = .ok (.iload_n 2, 1) := by decide +kernel
theorem dX0_second_21 : decode cX0_second 21 = .ok (.iload_n 1, 1) := by decide +kernel
theorem dX0_second_22 : decode cX0_second 22 = .ok (.if_icmp .ge 13, 3) := by decide +kernel
theorem dX0_second_25 : decode cX0_second 25 = .ok (.aload_n 0, 1) := by decide +kernel
theorem dX0_second_26 : decode cX0_second 26 = .ok (.invokevirtual 355, 3) := by decide +kernel
theorem dX0_second_29 : decode cX0_second 29 = .ok (.iinc 2 1, 3) := by decide +kernel
theorem dX0_second_32 : decode cX0_second 32 = .ok (.goto (-12), 3) := by decide +kernel
theorem dX0_second_35 : decode cX0_second 35 = .ok (.aload_n 0, 1) := by decide +kernel
theorem dX0_second_36 : decode cX0_second 36 = .ok (.getfield 148, 3) := by decide +kernel
theorem dX0_second_39 : decode cX0_second 39 = .ok (.ireturn, 1) := by decide +kernel
theorem dX0_pass_0 : decode cX0_pass 0 = .ok (.aload_n 0, 1) := by decide +kernel
theorem dX0_pass_1 : decode cX0_pass 1 = .ok (.dup, 1) := by decide +kernel
theorem dX0_pass_2 : decode cX0_pass 2 = .ok (.getfield 19, 3) := by decide +kernel
theorem dX0_pass_5 : decode cX0_pass 5 = .ok (.iconst 1, 1) := by decide +kernel
theorem dX0_pass_6 : decode cX0_pass 6 = .ok (.iadd, 1) := by decide +kernel
theorem dX0_pass_7 : decode cX0_pass 7 = .ok (.putfield 19, 3) := by decide +kernel
theorem dX0_pass_10 : decode cX0_pass 10 = .ok (.iconst 0, 1) := by decide +kernel
theorem dX0_pass_11 : decode cX0_pass 11 = .ok (.istore_n 1, 1) := by decide +kernel
theorem dX0_pass_12 : decode cX0_pass 12 = .ok (.iload_n 1, 1) := by decide +kernel
theorem dX0_pass_13 : decode cX0_pass 13 = .ok (.aload_n 0, 1) := by decide +kernel
theorem dX0_pass_14 : decode cX0_pass 14 = .ok (.getfield 223, 3) := by decide +kernel
theorem dX0_pass_17 : decode cX0_pass 17 = .ok (.invokevirtual 13, 3) := by decide +kernel
theorem dX0_pass_20 : decode cX0_pass 20 = .ok (.if_icmp .ge 23, 3) := by decide +kernel
theorem dX0_pass_23 : decode cX0_pass 23 = .ok (.aload_n 0, 1) := by decide +kernel
theorem dX0_pass_24 : decode cX0_pass 24 = .ok (.getfield 223, 3) := by decide +kernel
theorem dX0_pass_27 : decode cX0_pass 27 = .ok (.iload_n 1, 1) := by decide +kernel
theorem dX0_pass_28 : decode cX0_pass 28 = .ok (.invokevirtual 48, 3) := by decide +kernel
theorem dX0_pass_31 : decode cX0_pass 31 = .ok (.checkcast 97, 3) := by decide +kernel
theorem dX0_pass_34 : decode cX0_pass 34 = .ok (.invokevirtual 226, 3) := by decide +kernel
theorem dX0_pass_37 : decode cX0_pass 37 = .ok (.iinc 1 1, 3) := by decide +kernel
theorem dX0_pass_40 : decode cX0_pass 40 = .ok (.goto (-28), 3) := by decide +kernel
theorem dX0_pass_43 : decode cX0_pass 43 = .ok (.iconst 0, 1) := by decide +kernel
theorem dX0_pass_44 : decode cX0_pass 44 = .ok (.istore_n 1, 1) := by decide +kernel
theorem dX0_pass_45 : decode cX0_pass 45 = .ok (.iload_n 1, 1) := by decide +kernel
theorem dX0_pass_46 : decode cX0_pass 46 = .ok (.aload_n 0, 1) := by decide +kernel
theorem dX0_pass_47 : decode cX0_pass 47 = .ok (.getfield 33, 3) := by decide +kernel
theorem dX0_pass_50 : decode cX0_pass 50 = .ok (.invokevirtual 13, 3) := by decide +kernel
theorem dX0_pass_53 : decode cX0_pass 53 = .ok (.if_icmp .ge 79, 3) := by decide +kernel
theorem dX0_pass_56 : decode cX0_pass 56 = .ok (.aload_n 0, 1) := by decide +kernel
theorem dX0_pass_57 : decode cX0_pass 57 = .ok (.getfield 33, 3) := by decide +kernel
theorem dX0_pass_60 : decode cX0_pass 60 = .ok (.iload_n 1, 1) := by decide +kernel
theorem dX0_pass_61 : decode cX0_pass 61 = .ok (.invokevirtual 48, 3) := by decide +kernel
theorem dX0_pass_64 : decode cX0_pass 64 = .ok (.checkcast 31, 3) := by decide +kernel
theorem dX0_pass_67 : decode cX0_pass 67 = .ok (.getfield 92, 3) := by decide +kernel
theorem dX0_pass_70 : decode cX0_pass 70 = .ok (.ifnonnull 56, 3) := by decide +kernel
theorem dX0_pass_73 : decode cX0_pass 73 = .ok (.aload_n 0, 1) := by decide +kernel
theorem dX0_pass_74 : decode cX0_pass 74 = .ok (.getfield 33, 3) := by decide +kernel
theorem dX0_pass_77 : decode cX0_pass 77 = .ok (.iload_n 1, 1) := by decide +kernel
theorem dX0_pass_78 : decode cX0_pass 78 = .ok (.invokevirtual 48, 3) := by decide +kernel
theorem dX0_pass_81 : decode cX0_pass 81 = .ok (.checkcast 31, 3) := by decide +kernel
theorem dX0_pass_84 : decode cX0_pass 84 = .ok (.invokevirtual 157, 3) := by decide +kernel
theorem dX0_pass_87 : decode cX0_pass 87 = .ok (.ifCond .eq 39, 3) := by decide +kernel
theorem dX0_pass_90 : decode cX0_pass 90 = .ok (.aload_n 0, 1) := by decide +kernel
theorem dX0_pass_91 : decode cX0_pass 91 = .ok (.getfield 33, 3) := by decide +kernel
theorem dX0_pass_94 : decode cX0_pass 94 = .ok (.iload_n 1, 1) := by decide +kernel
theorem dX0_pass_95 : decode cX0_pass 95 = .ok (.invokevirtual 48, 3) := by decide +kernel
theorem dX0_pass_98 : decode cX0_pass 98 = .ok (.checkcast 31, 3) := by decide +kernel
theorem dX0_pass_101 : decode cX0_pass 101 = .ok (.getfield 57, 3) := by decide +kernel
theorem dX0_pass_104 : decode cX0_pass 104 = .ok (.aload_n 0, 1) := by decide +kernel
theorem dX0_pass_105 : decode cX0_pass 105 = .ok (.getfield 19, 3) := by decide +kernel
theorem dX0_pass_108 : decode cX0_pass 108 = .ok (.if_icmp .ne 18, 3) := by decide +kernel
theorem dX0_pass_111 : decode cX0_pass 111 = .ok (.aload_n 0, 1) := by decide +kernel
theorem dX0_pass_112 : decode cX0_pass 112 = .ok (.aload_n 0, 1) := by decide +kernel
theorem dX0_pass_113 : decode cX0_pass 113 = .ok (.getfield 33, 3) := by decide +kernel
theorem dX0_pass_116 : decode cX0_pass 116 = .ok (.iload_n 1, 1) := by decide +kernel
theorem dX0_pass_117 : decode cX0_pass 117 = .ok (.invokevirtual 48, 3) := by decide +kernel
theorem dX0_pass_120 : decode cX0_pass 120 = .ok (.checkcast 31, 3) := by decide +kernel
theorem dX0_pass_123 : decode cX0_pass 123 = .ok (.invokevirtual 229, 3) := by decide +kernel
theorem dX0_pass_126 : decode cX0_pass 126 = .ok (.iinc 1 1, 3) := by decide +kernel
theorem dX0_pass_129 : decode cX0_pass 129 = .ok (.goto (-84), 3) := by decide +kernel
theorem dX0_pass_132 : decode cX0_pass 132 = .ok (.aload_n 0, 1) := by decide +kernel
theorem dX0_pass_133 : decode cX0_pass 133 = .ok (.iconst 3, 1) := by decide +kernel
theorem dX0_pass_134 : decode cX0_pass 134 = .ok (.invokevirtual 232, 3) := by decide +kernel
theorem dX0_pass_137 : decode cX0_pass 137 = .ok (.aload_n 0, 1) := by decide +kernel
theorem dX0_pass_138 : decode cX0_pass 138 = .ok (.iconst 5, 1) := by decide +kernel
theorem dX0_pass_139 : decode cX0_pass 139 = .ok (.invokevirtual 232, 3) := by decide +kernel
theorem dX0_pass_142 : decode cX0_pass 142 = .ok (.aload_n 0, 1) := by decide +kernel
theorem dX0_pass_143 : decode cX0_pass 143 = .ok (.iconst 4, 1) := by decide +kernel
theorem dX0_pass_144 : decode cX0_pass 144 = .ok (.invokevirtual 232, 3) := by decide +kernel
theorem dX0_pass_147 : decode cX0_pass 147 = .ok (.iconst 0, 1) := by decide +kernel
theorem dX0_pass_148 : decode cX0_pass 148 = .ok (.istore_n 2, 1) := by decide +kernel
theorem dX0_pass_149 : decode cX0_pass 149 = .ok (.iload_n 2, 1) := by decide +kernel
theorem dX0_pass_150 : decode cX0_pass 150 = .ok (.aload_n 0, 1) := by decide +kernel
theorem dX0_pass_151 : decode cX0_pass 151 = .ok (.getfield 223, 3) := by decide +kernel
theorem dX0_pass_154 : decode cX0_pass 154 = .ok (.invokevirtual 13, 3) := by decide +kernel
theorem dX0_pass_157 : decode cX0_pass 157 = .ok (.if_icmp .ge 34, 3) := by decide +kernel
theorem dX0_pass_160 : decode cX0_pass 160 = .ok (.aload_n 0, 1) := by decide +kernel
theorem dX0_pass_161 : decode cX0_pass 161 = .ok (.getfield 223, 3) := by decide +kernel
theorem dX0_pass_164 : decode cX0_pass 164 = .ok (.iload_n 2, 1) := by decide +kernel
theorem dX0_pass_165 : decode cX0_pass 165 = .ok (.invokevirtual 48, 3) := by decide +kernel
theorem dX0_pass_168 : decode cX0_pass 168 = .ok (.astore_n 3, 1) := by decide +kernel
theorem dX0_pass_169 : decode cX0_pass 169 = .ok (.aload_n 3, 1) := by decide +kernel
theorem dX0_pass_170 : decode cX0_pass 170 = .ok (.instanceof 236, 3) := by decide +kernel
theorem dX0_pass_173 : decode cX0_pass 173 = .ok (.ifCond .eq 12, 3) := by decide +kernel
theorem dX0_pass_176 : decode cX0_pass 176 = .ok (.aload_n 3, 1) := by decide +kernel
theorem dX0_pass_177 : decode cX0_pass 177 = .ok (.checkcast 236, 3) := by decide +kernel
theorem dX0_pass_180 : decode cX0_pass 180 = .ok (.astore_n 1, 1) := by decide +kernel
theorem dX0_pass_181 : decode cX0_pass 181 = .ok (.aload_n 1, 1) := by decide +kernel
theorem dX0_pass_182 : decode cX0_pass 182 = .ok (.invokevirtual 238, 3) := by decide +kernel
theorem dX0_pass_185 : decode cX0_pass 185 = .ok (.iinc 2 1, 3) := by decide +kernel
theorem dX0_pass_188 : decode cX0_pass 188 = .ok (.goto (-39), 3) := by decide +kernel
theorem dX0_pass_191 : decode cX0_pass 191 = .ok (.iconst 0, 1) := by decide +kernel
theorem dX0_pass_192 : decode cX0_pass 192 = .ok (.istore_n 1, 1) := by decide +kernel
theorem dX0_pass_193 : decode cX0_pass 193 = .ok (.iload_n 1, 1) := by decide +kernel
theorem dX0_pass_194 : decode cX0_pass 194 = .ok (.aload_n 0, 1) := by decide +kernel
theorem dX0_pass_195 : decode cX0_pass 195 = .ok (.getfield 241, 3) := by decide +kernel
theorem dX0_pass_198 : decode cX0_pass 198 = .ok (.invokevirtual 13, 3) := by decide +kernel
theorem dX0_pass_201 : decode cX0_pass 201 = .ok (.if_icmp .ge 23, 3) := by decide +kernel
theorem dX0_pass_204 : decode cX0_pass 204 = .ok (.aload_n 0, 1) := by decide +kernel
theorem dX0_pass_205 : decode cX0_pass 205 = .ok (.getfield 241, 3) := by decide +kernel
theorem dX0_pass_208 : decode cX0_pass 208 = .ok (.iload_n 1, 1) := by decide +kernel
theorem dX0_pass_209 : decode cX0_pass 209 = .ok (.invokevirtual 48, 3) := by decide +kernel
theorem dX0_pass_212 : decode cX0_pass 212 = .ok (.checkcast 244, 3) := by decide +kernel
theorem dX0_pass_215 : decode cX0_pass 215 = .ok (.invokevirtual 246, 3) := by decide +kernel
theorem dX0_pass_218 : decode cX0_pass 218 = .ok (.iinc 1 1, 3) := by decide +kernel
theorem dX0_pass_221 : decode cX0_pass 221 = .ok (.goto (-28), 3) := by decide +kernel
theorem dX0_pass_224 : decode cX0_pass 224 = .ok (.iconst 0, 1) := by decide +kernel
theorem dX0_pass_225 : decode cX0_pass 225 = .ok (.istore_n 1, 1) := by decide +kernel
theorem dX0_pass_226 : decode cX0_pass 226 = .ok (.iload_n 1, 1) := by decide +kernel
theorem dX0_pass_227 : decode cX0_pass 227 = .ok (.aload_n 0, 1) := by decide +kernel
theorem dX0_pass_228 : decode cX0_pass 228 = .ok (.getfield 249, 3) := by decide +kernel
theorem dX0_pass_231 : decode cX0_pass 231 = .ok (.invokevirtual 13, 3) := by decide +kernel
theorem dX0_pass_234 : decode cX0_pass 234 = .ok (.if_icmp .ge 23, 3) := by decide +kernel
theorem dX0_pass_237 : decode cX0_pass 237 = .ok (.aload_n 0, 1) := by decide +kernel
theorem dX0_pass_238 : decode cX0_pass 238 = .ok (.getfield 249, 3) := by decide +kernel
theorem dX0_pass_241 : decode cX0_pass 241 = .ok (.iload_n 1, 1) := by decide +kernel
theorem dX0_pass_242 : decode cX0_pass 242 = .ok (.invokevirtual 48, 3) := by decide +kernel
theorem dX0_pass_245 : decode cX0_pass 245 = .ok (.checkcast 252, 3) := by decide +kernel
theorem dX0_pass_248 : decode cX0_pass 248 = .ok (.invokevirtual 254, 3) := by decide +kernel
theorem dX0_pass_251 : decode cX0_pass 251 = .ok (.iinc 1 1, 3) := by decide +kernel
theorem dX0_pass_254 : decode cX0_pass 254 = .ok (.goto (-28), 3) := by decide +kernel
theorem dX0_pass_257 : decode cX0_pass 257 = .ok (.return_, 1) := by decide +kernel
theorem dX0_ends_0 : decode cX0_ends 0 = .ok (.aload_n 1, 1) := by decide +kernel
theorem dX0_ends_1 : decode cX0_ends 1 = .ok (.getfield 102, 3) := by decide +kernel
theorem dX0_ends_4 : decode cX0_ends 4 = .ok (.astore_n 2, 1) := by decide +kernel
theorem dX0_ends_5 : decode cX0_ends 5 = .ok (.aload_n 0, 1) := by decide +kernel
theorem dX0_ends_6 : decode cX0_ends 6 = .ok (.getfield 45, 3) := by decide +kernel
theorem dX0_ends_9 : decode cX0_ends 9 = .ok (.aload_n 1, 1) := by decide +kernel
theorem dX0_ends_10 : decode cX0_ends 10 = .ok (.getfield 168, 3) := by decide +kernel
theorem dX0_ends_13 : decode cX0_ends 13 = .ok (.invokevirtual 48, 3) := by decide +kernel
theorem dX0_ends_16 : decode cX0_ends 16 = .ok (.checkcast 52, 3) := by decide +kernel
theorem dX0_ends_19 : decode cX0_ends 19 = .ok (.astore_n 3, 1) := by decide +kernel
theorem dX0_ends_20 : decode cX0_ends 20 = .ok (.iconst 0, 1) := by decide +kernel
theorem dX0_ends_21 : decode cX0_ends 21 = .ok (.istore 4, 2) := by decide +kernel
theorem dX0_ends_23 : decode cX0_ends 23 = .ok (.iload 4, 2) := by decide +kernel
theorem dX0_ends_25 : decode cX0_ends 25 = .ok (.aload_n 0, 1) := by decide +kernel
theorem dX0_ends_26 : decode cX0_ends 26 = .ok (.getfield 169, 3) := by decide +kernel
theorem dX0_ends_29 : decode cX0_ends 29 = .ok (.invokevirtual 13, 3) := by decide +kernel
theorem dX0_ends_32 : decode cX0_ends 32 = .ok (.if_icmp .ge 72, 3) := by decide +kernel
theorem dX0_ends_35 : decode cX0_ends 35 = .ok (.aload_n 0, 1) := by decide +kernel
theorem dX0_ends_36 : decode cX0_ends 36 = .ok (.getfield 169, 3) := by decide +kernel
theorem dX0_ends_39 : decode cX0_ends 39 = .ok (.iload 4, 2) := by decide +kernel
theorem dX0_ends_41 : decode cX0_ends 41 = .ok (.invokevirtual 48, 3) := by decide +kernel
theorem dX0_ends_44 : decode cX0_ends 44 = .ok (.checkcast 63, 3) := by decide +kernel
theorem dX0_ends_47 : decode cX0_ends 47 = .ok (.aload_n 1, 1) := by decide +kernel
theorem dX0_ends_48 : decode cX0_ends 48 = .ok (.getfield 168, 3) := by decide +kernel
theorem dX0_ends_51 : decode cX0_ends 51 = .ok (.aload_n 2, 1) := by decide +kernel
theorem dX0_ends_52 : decode cX0_ends 52 = .ok (.getfield 65, 3) := by decide +kernel
theorem dX0_ends_55 : decode cX0_ends 55 = .ok (.aload_n 0, 1) := by decide +kernel
theorem dX0_ends_56 : decode cX0_ends 56 = .ok (.getfield 19, 3) := by decide +kernel
theorem dX0_ends_59 : decode cX0_ends 59 = .ok (.invokevirtual 70, 3) := by decide +kernel
theorem dX0_ends_62 : decode cX0_ends 62 = .ok (.ifCond .ne 6, 3) := by decide +kernel
theorem dX0_ends_65 : decode cX0_ends 65 = .ok (.goto 33, 3) := by decide +kernel
theorem dX0_ends_68 : decode cX0_ends 68 = .ok (.aload_n 0, 1) := by decide +kernel
theorem dX0_ends_69 : decode cX0_ends 69 = .ok (.aload_n 1, 1) := by decide +kernel
theorem dX0_ends_70 : decode cX0_ends 70 = .ok (.aload_n 0, 1) := by decide +kernel
theorem dX0_ends_71 : decode cX0_ends 71 = .ok (.aload_n 0, 1) := by decide +kernel
theorem dX0_ends_72 : decode cX0_ends 72 = .ok (.getfield 169, 3) := by decide +kernel
theorem dX0_ends_75 : decode cX0_ends 75 = .ok (.iload 4, 2) := by decide +kernel
theorem dX0_ends_77 : decode cX0_ends 77 = .ok (.invokevirtual 48, 3) := by decide +kernel
theorem dX0_ends_80 : decode cX0_ends 80 = .ok (.checkcast 63, 3) := by decide +kernel
theorem dX0_ends_83 : decode cX0_ends 83 = .ok (.getfield 74, 3) := by decide +kernel
theorem dX0_ends_86 : decode cX0_ends 86 = .ok (.iconst (-1), 1) := by decide +kernel
theorem dX0_ends_87 : decode cX0_ends 87 = .ok (.aload_n 1, 1) := by decide +kernel
theorem dX0_ends_88 : decode cX0_ends 88 = .ok (.getfield 168, 3) := by decide +kernel
theorem dX0_ends_91 : decode cX0_ends 91 = .ok (.invokevirtual 172, 3) := by decide +kernel
theorem dX0_ends_94 : decode cX0_ends 94 = .ok (.invokevirtual 134, 3) := by decide +kernel
theorem dX0_ends_97 : decode cX0_ends 97 = .ok (.return_, 1) := by decide +kernel
theorem dX0_ends_98 : decode cX0_ends 98 = .ok (.iinc 4 1, 3) := by decide +kernel
theorem dX0_ends_101 : decode cX0_ends 101 = .ok (.goto (-78), 3) := by decide +kernel
theorem dX0_ends_104 : decode cX0_ends 104 = .ok (.aload_n 2, 1) := by decide +kernel
theorem dX0_ends_105 : decode cX0_ends 105 = .ok (.getfield 65, 3) := by decide +kernel
theorem dX0_ends_108 : decode cX0_ends 108 = .ok (.ifCond .ne 7, 3) := by decide +kernel
theorem dX0_ends_111 : decode cX0_ends 111 = .ok (.aconst_null, 1) := by decide +kernel
theorem dX0_ends_112 : decode cX0_ends 112 = .ok (.goto 15, 3) := by decide +kernel
theorem dX0_ends_115 : decode cX0_ends 115 = .ok (.aload_n 0, 1) := by decide +kernel
theorem dX0_ends_116 : decode cX0_ends 116 = .ok (.aload_n 1, 1) := by decide +kernel
theorem dX0_ends_117 : decode cX0_ends 117 = .ok (.getfield 168, 3) := by decide +kernel
theorem dX0_ends_120 : decode cX0_ends 120 = .ok (.aload_n 2, 1) := by decide +kernel
theorem dX0_ends_121 : decode cX0_ends 121 = .ok (.getfield 176, 3) := by decide +kernel
theorem dX0_ends_124 : decode cX0_ends 124 = .ok (.invokevirtual 179, 3) := by decide +kernel
theorem dX0_ends_127 : decode cX0_ends 127 = .ok (.astore 4, 2) := by decide +kernel
theorem dX0_ends_129 : decode cX0_ends 129 = .ok (.aload_n 2, 1) := by decide +kernel
theorem dX0_ends_130 : decode cX0_ends 130 = .ok (.getfield 65, 3) := by decide +kernel
