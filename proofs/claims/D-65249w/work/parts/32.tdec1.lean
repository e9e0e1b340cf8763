set_option maxRecDepth 100000
theorem dX1_on_74 : decode cX1_on 74 = .ok (.getfield 159, 3) := by decide +kernel
theorem dX1_on_77 : decode cX1_on 77 = .ok (.bipush 50, 2) := by decide +kernel
theorem dX1_on_79 : decode cX1_on 79 = .ok (.aload_n 0, 1) := by decide +kernel
theorem dX1_on_80 : decode cX1_on 80 = .ok (.getfield 156, 3) := by decide +kernel
theorem dX1_on_83 : decode cX1_on 83 = .ok (.bipush 10, 2) := by decide +kernel
theorem dX1_on_85 : decode cX1_on 85 = .ok (.iaload, 1) := by decide +kernel
theorem dX1_on_86 : decode cX1_on 86 = .ok (.iadd, 1) := by decide +kernel
theorem dX1_on_87 : decode cX1_on 87 = .ok (.iload_n 1, 1) := by decide +kernel
theorem dX1_on_88 : decode cX1_on 88 = .ok (.iastore, 1) := by decide +kernel
theorem dX1_on_89 : decode cX1_on 89 = .ok (.aload_n 0, 1) := by decide +kernel
theorem dX1_on_90 : decode cX1_on 90 = .ok (.getfield 156, 3) := by decide +kernel
theorem dX1_on_93 : decode cX1_on 93 = .ok (.bipush 10, 2) := by decide +kernel
theorem dX1_on_95 : decode cX1_on 95 = .ok (.dup2, 1) := by decide +kernel
theorem dX1_on_96 : decode cX1_on 96 = .ok (.iaload, 1) := by decide +kernel
theorem dX1_on_97 : decode cX1_on 97 = .ok (.iconst 1, 1) := by decide +kernel
theorem dX1_on_98 : decode cX1_on 98 = .ok (.iadd, 1) := by decide +kernel
theorem dX1_on_99 : decode cX1_on 99 = .ok (.iastore, 1) := by decide +kernel
theorem dX1_on_100 : decode cX1_on 100 = .ok (.aload_n 0, 1) := by decide +kernel
theorem dX1_on_101 : decode cX1_on 101 = .ok (.getfield 156, 3) := by decide +kernel
theorem dX1_on_104 : decode cX1_on 104 = .ok (.bipush 10, 2) := by decide +kernel
theorem dX1_on_106 : decode cX1_on 106 = .ok (.iaload, 1) := by decide +kernel
theorem dX1_on_107 : decode cX1_on 107 = .ok (.ireturn, 1) := by decide +kernel
theorem dX1_tower_0 : decode cX1_tower 0 = .ok (.aload_n 0, 1) := by decide +kernel
theorem dX1_tower_1 : decode cX1_tower 1 = .ok (.getfield 153, 3) := by decide +kernel
theorem dX1_tower_4 : decode cX1_tower 4 = .ok (.bipush 10, 2) := by decide +kernel
theorem dX1_tower_6 : decode cX1_tower 6 = .ok (.if_icmp .ne 6, 3) := by decide +kernel
theorem dX1_tower_9 : decode cX1_tower 9 = .ok (.bipush (-3), 2) := by decide +kernel
theorem dX1_tower_11 : decode cX1_tower 11 = .ok (.ireturn, 1) := by decide +kernel
theorem dX1_tower_12 : decode cX1_tower 12 = .ok (.aload_n 0, 1) := by decide +kernel
theorem dX1_tower_13 : decode cX1_tower 13 = .ok (.getfield 156, 3) := by decide +kernel
theorem dX1_tower_16 : decode cX1_tower 16 = .ok (.aload_n 0, 1) := by decide +kernel
theorem dX1_tower_17 : decode cX1_tower 17 = .ok (.getfield 153, 3) := by decide +kernel
theorem dX1_tower_20 : decode cX1_tower 20 = .ok (.aload_n 0, 1) := by decide +kernel
theorem dX1_tower_21 : decode cX1_tower 21 = .ok (.getfield 156, 3) := by decide +kernel
theorem dX1_tower_24 : decode cX1_tower 24 = .ok (.bipush 10, 2) := by decide +kernel
theorem dX1_tower_26 : decode cX1_tower 26 = .ok (.iaload, 1) := by decide +kernel
theorem dX1_tower_27 : decode cX1_tower 27 = .ok (.iastore, 1) := by decide +kernel
theorem dX1_tower_28 : decode cX1_tower 28 = .ok (.iconst 0, 1) := by decide +kernel
theorem dX1_tower_29 : decode cX1_tower 29 = .ok (.istore_n 1, 1) := by decide +kernel
theorem dX1_tower_30 : decode cX1_tower 30 = .ok (.iload_n 1, 1) := by decide +kernel
theorem dX1_tower_31 : decode cX1_tower 31 = .ok (.aload_n 0, 1) := by decide +kernel
theorem dX1_tower_32 : decode cX1_tower 32 = .ok (.getfield 156, 3) := by decide +kernel
theorem dX1_tower_35 : decode cX1_tower 35 = .ok (.bipush 10, 2) := by decide +kernel
theorem dX1_tower_37 : decode cX1_tower 37 = .ok (.iaload, 1) := by decide +kernel
theorem dX1_tower_38 : decode cX1_tower 38 = .ok (.if_icmp .ge 31, 3) := by decide +kernel
theorem dX1_tower_41 : decode cX1_tower 41 = .ok (.aload_n 0, 1) := by decide +kernel
theorem dX1_tower_42 : decode cX1_tower 42 = .ok (.getfield 159, 3) := by decide +kernel
theorem dX1_tower_45 : decode cX1_tower 45 = .ok (.iconst 5, 1) := by decide +kernel
theorem dX1_tower_46 : decode cX1_tower 46 = .ok (.aload_n 0, 1) := by decide +kernel
theorem dX1_tower_47 : decode cX1_tower 47 = .ok (.getfield 153, 3) := by decide +kernel
theorem dX1_tower_50 : decode cX1_tower 50 = .ok (.imul, 1) := by decide +kernel
theorem dX1_tower_51 : decode cX1_tower 51 = .ok (.iload_n 1, 1) := by decide +kernel
theorem dX1_tower_52 : decode cX1_tower 52 = .ok (.iadd, 1) := by decide +kernel
theorem dX1_tower_53 : decode cX1_tower 53 = .ok (.aload_n 0, 1) := by decide +kernel
theorem dX1_tower_54 : decode cX1_tower 54 = .ok (.getfield 159, 3) := by decide +kernel
theorem dX1_tower_57 : decode cX1_tower 57 = .ok (.bipush 50, 2) := by decide +kernel
theorem dX1_tower_59 : decode cX1_tower 59 = .ok (.iload_n 1, 1) := by decide +kernel
theorem dX1_tower_60 : decode cX1_tower 60 = .ok (.iadd, 1) := by decide +kernel
theorem dX1_tower_61 : decode cX1_tower 61 = .ok (.iaload, 1) := by decide +kernel
theorem dX1_tower_62 : decode cX1_tower 62 = .ok (.iastore, 1) := by decide +kernel
theorem dX1_tower_63 : decode cX1_tower 63 = .ok (.iinc 1 1, 3) := by decide +kernel
theorem dX1_tower_66 : decode cX1_tower 66 = .ok (.goto (-36), 3) := by decide +kernel
theorem dX1_tower_69 : decode cX1_tower 69 = .ok (.aload_n 0, 1) := by decide +kernel
theorem dX1_tower_70 : decode cX1_tower 70 = .ok (.getfield 156, 3) := by decide +kernel
theorem dX1_tower_73 : decode cX1_tower 73 = .ok (.bipush 10, 2) := by decide +kernel
theorem dX1_tower_75 : decode cX1_tower 75 = .ok (.iconst 0, 1) := by decide +kernel
theorem dX1_tower_76 : decode cX1_tower 76 = .ok (.iastore, 1) := by decide +kernel
theorem dX1_tower_77 : decode cX1_tower 77 = .ok (.aload_n 0, 1) := by decide +kernel
theorem dX1_tower_78 : decode cX1_tower 78 = .ok (.dup, 1) := by decide +kernel
theorem dX1_tower_79 : decode cX1_tower 79 = .ok (.getfield 153, 3) := by decide +kernel
theorem dX1_tower_82 : decode cX1_tower 82 = .ok (.iconst 1, 1) := by decide +kernel
theorem dX1_tower_83 : decode cX1_tower 83 = .ok (.iadd, 1) := by decide +kernel
theorem dX1_tower_84 : decode cX1_tower 84 = .ok (.putfield 153, 3) := by decide +kernel
theorem dX1_tower_87 : decode cX1_tower 87 = .ok (.aload_n 0, 1) := by decide +kernel
theorem dX1_tower_88 : decode cX1_tower 88 = .ok (.getfield 153, 3) := by decide +kernel
theorem dX1_tower_91 : decode cX1_tower 91 = .ok (.iconst 1, 1) := by decide +kernel
theorem dX1_tower_92 : decode cX1_tower 92 = .ok (.isub, 1) := by decide +kernel
theorem dX1_tower_93 : decode cX1_tower 93 = .ok (.ireturn, 1) := by decide +kernel
theorem dX1_order_0 : decode cX1_order 0 = .ok (.aload_n 0, 1) := by decide +kernel
theorem dX1_order_1 : decode cX1_order 1 = .ok (.iload_n 1, 1) := by decide +kernel
theorem dX1_order_2 : decode cX1_order 2 = .ok (.invokevirtual 449, 3) := by decide +kernel
theorem dX1_order_5 : decode cX1_order 5 = .ok (.ifCond .eq 11, 3) := by decide +kernel
theorem dX1_order_8 : decode cX1_order 8 = .ok (.aload_n 0, 1) := by decide +kernel
theorem dX1_order_9 : decode cX1_order 9 = .ok (.iload_n 2, 1) := by decide +kernel
theorem dX1_order_10 : decode cX1_order 10 = .ok (.invokevirtual 343, 3) := by decide +kernel
theorem dX1_order_13 : decode cX1_order 13 = .ok (.ifCond .ne 5, 3) := by decide +kernel
theorem dX1_order_16 : decode cX1_order 16 = .ok (.iconst (-1), 1) := by decide +kernel
theorem dX1_order_17 : decode cX1_order 17 = .ok (.ireturn, 1) := by decide +kernel
theorem dX1_order_18 : decode cX1_order 18 = .ok (.aload_n 0, 1) := by decide +kernel
theorem dX1_order_19 : decode cX1_order 19 = .ok (.iload_n 3, 1) := by decide +kernel
theorem dX1_order_20 : decode cX1_order 20 = .ok (.invokevirtual 347, 3) := by decide +kernel
theorem dX1_order_23 : decode cX1_order 23 = .ok (.ifCond .eq 18, 3) := by decide +kernel
theorem dX1_order_26 : decode cX1_order 26 = .ok (.aload_n 0, 1) := by decide +kernel
theorem dX1_order_27 : decode cX1_order 27 = .ok (.iload_n 3, 1) := by decide +kernel
theorem dX1_order_28 : decode cX1_order 28 = .ok (.iload 4, 2) := by decide +kernel
theorem dX1_order_30 : decode cX1_order 30 = .ok (.invokevirtual 452, 3) := by decide +kernel
theorem dX1_order_33 : decode cX1_order 33 = .ok (.ifCond .eq 8, 3) := by decide +kernel
theorem dX1_order_36 : decode cX1_order 36 = .ok (.iload 5, 2) := by decide +kernel
theorem dX1_order_38 : decode cX1_order 38 = .ok (.ifCond .ge 6, 3) := by decide +kernel
theorem dX1_order_41 : decode cX1_order 41 = .ok (.bipush (-2), 2) := by decide +kernel
theorem dX1_order_43 : decode cX1_order 43 = .ok (.ireturn, 1) := by decide +kernel
theorem dX1_order_44 : decode cX1_order 44 = .ok (.aload_n 0, 1) := by decide +kernel
theorem dX1_order_45 : decode cX1_order 45 = .ok (.getfield 162, 3) := by decide +kernel
theorem dX1_order_48 : decode cX1_order 48 = .ok (.bipush 60, 2) := by decide +kernel
theorem dX1_order_50 : decode cX1_order 50 = .ok (.if_icmp .ne 6, 3) := by decide +kernel
theorem dX1_order_53 : decode cX1_order 53 = .ok (.bipush (-3), 2) := by decide +kernel
theorem dX1_order_55 : decode cX1_order 55 = .ok (.ireturn, 1) := by decide +kernel
theorem dX1_order_56 : decode cX1_order 56 = .ok (.aload_n 0, 1) := by decide +kernel
theorem dX1_order_57 : decode cX1_order 57 = .ok (.iload_n 1, 1) := by decide +kernel
theorem dX1_order_58 : decode cX1_order 58 = .ok (.iload_n 2, 1) := by decide +kernel
theorem dX1_order_59 : decode cX1_order 59 = .ok (.iload_n 3, 1) := by decide +kernel
theorem dX1_order_60 : decode cX1_order 60 = .ok (.iload 4, 2) := by decide +kernel
theorem dX1_order_62 : decode cX1_order 62 = .ok (.iload 5, 2) := by decide +kernel
theorem dX1_order_64 : decode cX1_order 64 = .ok (.invokevirtual 455, 3) := by decide +kernel
theorem dX1_order_67 : decode cX1_order 67 = .ok (.ireturn, 1) := by decide +kernel
theorem dX1_isTower_0 : decode cX1_isTower 0 = .ok (.iload_n 1, 1) := by decide +kernel
theorem dX1_isTower_1 : decode cX1_isTower 1 = .ok (.ifCond .lt 15, 3) := by decide +kernel
theorem dX1_isTower_4 : decode cX1_isTower 4 = .ok (.iload_n 1, 1) := by decide +kernel
theorem dX1_isTower_5 : decode cX1_isTower 5 = .ok (.aload_n 0, 1) := by decide +kernel
theorem dX1_isTower_6 : decode cX1_isTower 6 = .ok (.getfield 153, 3) := by decide +kernel
theorem dX1_isTower_9 : decode cX1_isTower 9 = .ok (.if_icmp .ge 7, 3) := by decide +kernel
theorem dX1_isTower_12 : decode cX1_isTower 12 = .ok (.iconst 1, 1) := by decide +kernel
theorem dX1_isTower_13 : decode cX1_isTower 13 = .ok (.goto 4, 3) := by decide +kernel
theorem dX1_isTower_16 : decode cX1_isTower 16 = .ok (.iconst 0, 1) := by decide +kernel
theorem dX1_isTower_17 : decode cX1_isTower 17 = .ok (.ireturn, 1) := by decide +kernel
theorem dX1_isAmount_0 : decode cX1_isAmount 0 = .ok (.iload_n 2, 1) := by decide +kernel
theorem dX1_isAmount_1 : decode cX1_isAmount 1 = .ok (.ifCond .lt 22, 3) := by decide +kernel
theorem dX1_isAmount_4 : decode cX1_isAmount 4 = .ok (.iload_n 2, 1) := by decide +kernel
theorem dX1_isAmount_5 : decode cX1_isAmount 5 = .ok (.iload_n 1, 1) := by decide +kernel
theorem dX1_isAmount_6 : decode cX1_isAmount 6 = .ok (.ifCond .ne 7, 3) := by decide +kernel
theorem dX1_isAmount_9 : decode cX1_isAmount 9 = .ok (.iconst 0, 1) := by decide +kernel
theorem dX1_isAmount_10 : decode cX1_isAmount 10 = .ok (.goto 6, 3) := by decide +kernel
theorem dX1_isAmount_13 : decode cX1_isAmount 13 = .ok (.ldc_w 342, 3) := by decide +kernel
theorem dX1_isAmount_16 : decode cX1_isAmount 16 = .ok (.if_icmp .gt 7, 3) := by decide +kernel
theorem dX1_isAmount_19 : decode cX1_isAmount 19 = .ok (.iconst 1, 1) := by decide +kernel
theorem dX1_isAmount_20 : decode cX1_isAmount 20 = .ok (.goto 4, 3) := by decide +kernel
theorem dX1_isAmount_23 : decode cX1_isAmount 23 = .ok (.iconst 0, 1) := by decide +kernel
theorem dX1_isAmount_24 : decode cX1_isAmount 24 = .ok (.ireturn, 1) := by decide +kernel
theorem dX1_made_0 : decode cX1_made 0 = .ok (.aload_n 0, 1) := by decide +kernel
theorem dX1_made_1 : decode cX1_made 1 = .ok (.getfield 162, 3) := by decide +kernel
theorem dX1_made_4 : decode cX1_made 4 = .ok (.istore 6, 2) := by decide +kernel
theorem dX1_made_6 : decode cX1_made 6 = .ok (.aload_n 0, 1) := by decide +kernel
theorem dX1_made_7 : decode cX1_made 7 = .ok (.getfield 165, 3) := by decide +kernel
theorem dX1_made_10 : decode cX1_made 10 = .ok (.iload 6, 2) := by decide +kernel
theorem dX1_made_12 : decode cX1_made 12 = .ok (.iload_n 1, 1) := by decide +kernel
theorem dX1_made_13 : decode cX1_made 13 = .ok (.iastore, 1) := by decide +kernel
theorem dX1_made_14 : decode cX1_made 14 = .ok (.aload_n 0, 1) := by decide +kernel
theorem dX1_made_15 : decode cX1_made 15 = .ok (.getfield 168, 3) := by decide +kernel
theorem dX1_made_18 : decode cX1_made 18 = .ok (.iload 6, 2) := by decide +kernel
theorem dX1_made_20 : decode cX1_made 20 = .ok (.iload_n 2, 1) := by decide +kernel
theorem dX1_made_21 : decode cX1_made 21 = .ok (.iastore, 1) := by decide +kernel
theorem dX1_made_22 : decode cX1_made 22 = .ok (.aload_n 0, 1) := by decide +kernel
theorem dX1_made_23 : decode cX1_made 23 = .ok (.getfield 171, 3) := by decide +kernel
theorem dX1_made_26 : decode cX1_made 26 = .ok (.iload 6, 2) := by decide +kernel
theorem dX1_made_28 : decode cX1_made 28 = .ok (.iload_n 3, 1) := by decide +kernel
theorem dX1_made_29 : decode cX1_made 29 = .ok (.iastore, 1) := by decide +kernel
theorem dX1_made_30 : decode cX1_made 30 = .ok (.aload_n 0, 1) := by decide +kernel
theorem dX1_made_31 : decode cX1_made 31 = .ok (.getfield 174, 3) := by decide +kernel
theorem dX1_made_34 : decode cX1_made 34 = .ok (.iload 6, 2) := by decide +kernel
theorem dX1_made_36 : decode cX1_made 36 = .ok (.iload 4, 2) := by decide +kernel
theorem dX1_made_38 : decode cX1_made 38 = .ok (.iastore, 1) := by decide +kernel
theorem dX1_made_39 : decode cX1_made 39 = .ok (.aload_n 0, 1) := by decide +kernel
theorem dX1_made_40 : decode cX1_made 40 = .ok (.getfield 177, 3) := by decide +kernel
theorem dX1_made_43 : decode cX1_made 43 = .ok (.iload 6, 2) := by decide +kernel
theorem dX1_made_45 : decode cX1_made 45 = .ok (.iload 5, 2) := by decide +kernel
theorem dX1_made_47 : decode cX1_made 47 = .ok (.iastore, 1) := by decide +kernel
theorem dX1_made_48 : decode cX1_made 48 = .ok (.aload_n 0, 1) := by decide +kernel
theorem dX1_made_49 : decode cX1_made 49 = .ok (.getfield 180, 3) := by decide +kernel
theorem dX1_made_52 : decode cX1_made 52 = .ok (.iload 6, 2) := by decide +kernel
theorem dX1_made_54 : decode cX1_made 54 = .ok (.aload_n 0, 1) := by decide +kernel
theorem dX1_made_55 : decode cX1_made 55 = .ok (.getfield 7, 3) := by decide +kernel
theorem dX1_made_58 : decode cX1_made 58 = .ok (.iastore, 1) := by decide +kernel
theorem dX1_made_59 : decode cX1_made 59 = .ok (.aload_n 0, 1) := by decide +kernel
theorem dX1_made_60 : decode cX1_made 60 = .ok (.getfield 183, 3) := by decide +kernel
theorem dX1_made_63 : decode cX1_made 63 = .ok (.iload 6, 2) := by decide +kernel
theorem dX1_made_65 : decode cX1_made 65 = .ok (.iconst (-1), 1) := by decide +kernel
theorem dX1_made_66 : decode cX1_made 66 = .ok (.iastore, 1) := by decide +kernel
theorem dX1_made_67 : decode cX1_made 67 = .ok (.aload_n 0, 1) := by decide +kernel
theorem dX1_made_68 : decode cX1_made 68 = .ok (.getfield 186, 3) := by decide +kernel
theorem dX1_made_71 : decode cX1_made 71 = .ok (.iload 6, 2) := by decide +kernel
theorem dX1_made_73 : decode cX1_made 73 = .ok (.iconst 0, 1) := by decide +kernel
theorem dX1_made_74 : decode cX1_made 74 = .ok (.iastore, 1) := by decide +kernel
theorem dX1_made_75 : decode cX1_made 75 = .ok (.aload_n 0, 1) := by decide +kernel
theorem dX1_made_76 : decode cX1_made 76 = .ok (.getfield 189, 3) := by decide +kernel
theorem dX1_made_79 : decode cX1_made 79 = .ok (.iload 6, 2) := by decide +kernel
theorem dX1_made_81 : decode cX1_made 81 = .ok (.iconst (-1), 1) := by decide +kernel
theorem dX1_made_82 : decode cX1_made 82 = .ok (.iastore, 1) := by decide +kernel
theorem dX1_made_83 : decode cX1_made 83 = .ok (.aload_n 0, 1) := by decide +kernel
theorem dX1_made_84 : decode cX1_made 84 = .ok (.dup, 1) := by decide +kernel
theorem dX1_made_85 : decode cX1_made 85 = .ok (.getfield 162, 3) := by decide +kernel
theorem dX1_made_88 : decode cX1_made 88 = .ok (.iconst 1, 1) := by decide +kernel
theorem dX1_made_89 : decode cX1_made 89 = .ok (.iadd, 1) := by decide +kernel
theorem dX1_made_90 : decode cX1_made 90 = .ok (.putfield 162, 3) := by decide +kernel
theorem dX1_made_93 : decode cX1_made 93 = .ok (.aload_n 0, 1) := by decide +kernel
theorem dX1_made_94 : decode cX1_made 94 = .ok (.iconst 0, 1) := by decide +kernel
theorem dX1_made_95 : decode cX1_made 95 = .ok (.iload 6, 2) := by decide +kernel
theorem dX1_made_97 : decode cX1_made 97 = .ok (.iconst 0, 1) := by decide +kernel
theorem dX1_made_98 : decode cX1_made 98 = .ok (.iconst (-1), 1) := by decide +kernel
theorem dX1_made_99 : decode cX1_made 99 = .ok (.iconst (-1), 1) := by decide +kernel
theorem dX1_made_100 : decode cX1_made 100 = .ok (.invokevirtual 397, 3) := by decide +kernel
theorem dX1_made_103 : decode cX1_made 103 = .ok (.aload_n 0, 1) := by decide +kernel
theorem dX1_made_104 : decode cX1_made 104 = .ok (.invokevirtual 446, 3) := by decide +kernel
theorem dX1_made_107 : decode cX1_made 107 = .ok (.iload 6, 2) := by decide +kernel
theorem dX1_made_109 : decode cX1_made 109 = .ok (.ireturn, 1) := by decide +kernel
theorem dX1_add_0 : decode cX1_add 0 = .ok (.aload_n 0, 1) := by decide +kernel
theorem dX1_add_1 : decode cX1_add 1 = .ok (.getfield 261, 3) := by decide +kernel
theorem dX1_add_4 : decode cX1_add 4 = .ok (.aload_n 0, 1) := by decide +kernel
theorem dX1_add_5 : decode cX1_add 5 = .ok (.getfield 276, 3) := by decide +kernel
theorem dX1_add_8 : decode cX1_add 8 = .ok (.iload_n 1, 1) := by decide +kernel
theorem dX1_add_9 : decode cX1_add 9 = .ok (.iastore, 1) := by decide +kernel
theorem dX1_add_10 : decode cX1_add 10 = .ok (.aload_n 0, 1) := by decide +kernel
theorem dX1_add_11 : decode cX1_add 11 = .ok (.getfield 264, 3) := by decide +kernel
theorem dX1_add_14 : decode cX1_add 14 = .ok (.aload_n 0, 1) := by decide +kernel
theorem dX1_add_15 : decode cX1_add 15 = .ok (.getfield 276, 3) := by decide +kernel
theorem dX1_add_18 : decode cX1_add 18 = .ok (.iload_n 2, 1) := by decide +kernel
theorem dX1_add_19 : decode cX1_add 19 = .ok (.iastore, 1) := by decide +kernel
theorem dX1_add_20 : decode cX1_add 20 = .ok (.aload_n 0, 1) := by decide +kernel
theorem dX1_add_21 : decode cX1_add 21 = .ok (.getfield 267, 3) := by decide +kernel
theorem dX1_add_24 : decode cX1_add 24 = .ok (.aload_n 0, 1) := by decide +kernel
theorem dX1_add_25 : decode cX1_add 25 = .ok (.getfield 276, 3) := by decide +kernel
theorem dX1_add_28 : decode cX1_add 28 = .ok (.iload_n 3, 1) := by decide +kernel
theorem dX1_add_29 : decode cX1_add 29 = .ok (.iastore, 1) := by decide +kernel
theorem dX1_add_30 : decode cX1_add 30 = .ok (.aload_n 0, 1) := by decide +kernel
theorem dX1_add_31 : decode cX1_add 31 = .ok (.getfield 270, 3) := by decide +kernel
theorem dX1_add_34 : decode cX1_add 34 = .ok (.aload_n 0, 1) := by decide +kernel
theorem dX1_add_35 : decode cX1_add 35 = .ok (.getfield 276, 3) := by decide +kernel
theorem dX1_add_38 : decode cX1_add 38 = .ok (.iload 4, 2) := by decide +kernel
theorem dX1_add_40 : decode cX1_add 40 = .ok (.iastore, 1) := by decide +kernel
theorem dX1_add_41 : decode cX1_add 41 = .ok (.aload_n 0, 1) := by decide +kernel
theorem dX1_add_42 : decode cX1_add 42 = .ok (.getfield 273, 3) := by decide +kernel
theorem dX1_add_45 : decode cX1_add 45 = .ok (.aload_n 0, 1) := by decide +kernel
theorem dX1_add_46 : decode cX1_add 46 = .ok (.getfield 276, 3) := by decide +kernel
theorem dX1_add_49 : decode cX1_add 49 = .ok (.iload 5, 2) := by decide +kernel
theorem dX1_add_51 : decode cX1_add 51 = .ok (.iastore, 1) := by decide +kernel
theorem dX1_add_52 : decode cX1_add 52 = .ok (.aload_n 0, 1) := by decide +kernel
theorem dX1_add_53 : decode cX1_add 53 = .ok (.dup, 1) := by decide +kernel
theorem dX1_add_54 : decode cX1_add 54 = .ok (.getfield 276, 3) := by decide +kernel
theorem dX1_add_57 : decode cX1_add 57 = .ok (.iconst 1, 1) := by decide +kernel
theorem dX1_add_58 : decode cX1_add 58 = .ok (.iadd, 1) := by decide +kernel
theorem dX1_add_59 : decode cX1_add 59 = .ok (.putfield 276, 3) := by decide +kernel
theorem dX1_add_62 : decode cX1_add 62 = .ok (.return_, 1) := by decide +kernel
theorem dX1_work_0 : decode cX1_work 0 = .ok (.aload_n 0, 1) := by decide +kernel
theorem dX1_work_1 : decode cX1_work 1 = .ok (.getfield 276, 3) := by decide +kernel
theorem dX1_work_4 : decode cX1_work 4 = .ok (.ifCond .le 206, 3) := by decide +kernel
theorem dX1_work_7 : decode cX1_work 7 = .ok (.aload_n 0, 1) := by decide +kernel
theorem dX1_work_8 : decode cX1_work 8 = .ok (.dup, 1) := by decide +kernel
theorem dX1_work_9 : decode cX1_work 9 = .ok (.getfield 276, 3) := by decide +kernel
theorem dX1_work_12 : decode cX1_work 12 = .ok (.iconst 1, 1) := by decide +kernel
theorem dX1_work_13 : decode cX1_work 13 = .ok (.isub, 1) := by decide +kernel
theorem dX1_work_14 : decode cX1_work 14 = .ok (.putfield 276, 3) := by decide +kernel
theorem dX1_work_17 : decode cX1_work 17 = .ok (.aload_n 0, 1) := by decide +kernel
theorem dX1_work_18 : decode cX1_work 18 = .ok (.getfield 276, 3) := by decide +kernel
theorem dX1_work_21 : decode cX1_work 21 = .ok (.istore_n 1, 1) := by decide +kernel
theorem dX1_work_22 : decode cX1_work 22 = .ok (.aload_n 0, 1) := by decide +kernel
theorem dX1_work_23 : decode cX1_work 23 = .ok (.getfield 261, 3) := by decide +kernel
theorem dX1_work_26 : decode cX1_work 26 = .ok (.iload_n 1, 1) := by decide +kernel
theorem dX1_work_27 : decode cX1_work 27 = .ok (.iaload, 1) := by decide +kernel
theorem dX1_work_28 : decode cX1_work 28 = .ok (.tableswitch 163 0 4 #[36, 67, 106, 125, 144], 36) := by decide +kernel
theorem dX1_work_64 : decode cX1_work 64 = .ok (.aload_n 0, 1) := by decide +kernel
theorem dX1_work_65 : decode cX1_work 65 = .ok (.aload_n 0, 1) := by decide +kernel
theorem dX1_work_66 : decode cX1_work 66 = .ok (.getfield 264, 3) := by decide +kernel
theorem dX1_work_69 : decode cX1_work 69 = .ok (.iload_n 1, 1) := by decide +kernel
theorem dX1_work_70 : decode cX1_work 70 = .ok (.iaload, 1) := by decide +kernel
theorem dX1_work_71 : decode cX1_work 71 = .ok (.aload_n 0, 1) := by decide +kernel
theorem dX1_work_72 : decode cX1_work 72 = .ok (.getfield 267, 3) := by decide +kernel
theorem dX1_work_75 : decode cX1_work 75 = .ok (.iload_n 1, 1) := by decide +kernel
theorem dX1_work_76 : decode cX1_work 76 = .ok (.iaload, 1) := by decide +kernel
theorem dX1_work_77 : decode cX1_work 77 = .ok (.aload_n 0, 1) := by decide +kernel
theorem dX1_work_78 : decode cX1_work 78 = .ok (.getfield 270, 3) := by decide +kernel
theorem dX1_work_81 : decode cX1_work 81 = .ok (.iload_n 1, 1) := by decide +kernel
theorem dX1_work_82 : decode cX1_work 82 = .ok (.iaload, 1) := by decide +kernel
theorem dX1_work_83 : decode cX1_work 83 = .ok (.aload_n 0, 1) := by decide +kernel
theorem dX1_work_84 : decode cX1_work 84 = .ok (.getfield 273, 3) := by decide +kernel
theorem dX1_work_87 : decode cX1_work 87 = .ok (.iload_n 1, 1) := by decide +kernel
theorem dX1_work_88 : decode cX1_work 88 = .ok (.iaload, 1) := by decide +kernel
theorem dX1_work_89 : decode cX1_work 89 = .ok (.invokevirtual 366, 3) := by decide +kernel
theorem dX1_work_92 : decode cX1_work 92 = .ok (.goto 115, 3) := by decide +kernel
theorem dX1_work_95 : decode cX1_work 95 = .ok (.aload_n 0, 1) := by decide +kernel
theorem dX1_work_96 : decode cX1_work 96 = .ok (.aload_n 0, 1) := by decide +kernel
theorem dX1_work_97 : decode cX1_work 97 = .ok (.getfield 264, 3) := by decide +kernel
theorem dX1_work_100 : decode cX1_work 100 = .ok (.iload_n 1, 1) := by decide +kernel
theorem dX1_work_101 : decode cX1_work 101 = .ok (.iaload, 1) := by decide +kernel
theorem dX1_work_102 : decode cX1_work 102 = .ok (.aload_n 0, 1) := by decide +kernel
theorem dX1_work_103 : decode cX1_work 103 = .ok (.getfield 267, 3) := by decide +kernel
theorem dX1_work_106 : decode cX1_work 106 = .ok (.iload_n 1, 1) := by decide +kernel
theorem dX1_work_107 : decode cX1_work 107 = .ok (.iaload, 1) := by decide +kernel
theorem dX1_work_108 : decode cX1_work 108 = .ok (.aload_n 0, 1) := by decide +kernel
theorem dX1_work_109 : decode cX1_work 109 = .ok (.getfield 270, 3) := by decide +kernel
theorem dX1_work_112 : decode cX1_work 112 = .ok (.iload_n 1, 1) := by decide +kernel
theorem dX1_work_113 : decode cX1_work 113 = .ok (.iaload, 1) := by decide +kernel
theorem dX1_work_114 : decode cX1_work 114 = .ok (.aload_n 0, 1) := by decide +kernel
theorem dX1_work_115 : decode cX1_work 115 = .ok (.getfield 273, 3) := by decide +kernel
theorem dX1_work_118 : decode cX1_work 118 = .ok (.iload_n 1, 1) := by decide +kernel
theorem dX1_work_119 : decode cX1_work 119 = .ok (.iaload, 1) := by decide +kernel
theorem dX1_work_120 : decode cX1_work 120 = .ok (.ifCond .le 7, 3) := by decide +kernel
theorem dX1_work_123 : decode cX1_work 123 = .ok (.iconst 1, 1) := by decide +kernel
theorem dX1_work_124 : decode cX1_work 124 = .ok (.goto 4, 3) := by decide +kernel
theorem dX1_work_127 : decode cX1_work 127 = .ok (.iconst 0, 1) := by decide +kernel
theorem dX1_work_128 : decode cX1_work 128 = .ok (.invokevirtual 370, 3) := by decide +kernel
theorem dX1_work_131 : decode cX1_work 131 = .ok (.goto 76, 3) := by decide +kernel
theorem dX1_work_134 : decode cX1_work 134 = .ok (.aload_n 0, 1) := by decide +kernel
theorem dX1_work_135 : decode cX1_work 135 = .ok (.aload_n 0, 1) := by decide +kernel
theorem dX1_work_136 : decode cX1_work 136 = .ok (.getfield 264, 3) := by decide +kernel
theorem dX1_work_139 : decode cX1_work 139 = .ok (.iload_n 1, 1) := by decide +kernel
theorem dX1_work_140 : decode cX1_work 140 = .ok (.iaload, 1) := by decide +kernel
theorem dX1_work_141 : decode cX1_work 141 = .ok (.aload_n 0, 1) := by decide +kernel
theorem dX1_work_142 : decode cX1_work 142 = .ok (.getfield 267, 3) := by decide +kernel
theorem dX1_work_145 : decode cX1_work 145 = .ok (.iload_n 1, 1) := by decide +kernel
theorem dX1_work_146 : decode cX1_work 146 = .ok (.iaload, 1) := by decide +kernel
theorem dX1_work_147 : decode cX1_work 147 = .ok (.invokevirtual 374, 3) := by decide +kernel
theorem dX1_work_150 : decode cX1_work 150 = .ok (.goto 57, 3) := by decide +kernel
theorem dX1_work_153 : decode cX1_work 153 = .ok (.aload_n 0, 1) := by decide +kernel
theorem dX1_work_154 : decode cX1_work 154 = .ok (.aload_n 0, 1) := by decide +kernel
theorem dX1_work_155 : decode cX1_work 155 = .ok (.getfield 264, 3) := by decide +kernel
theorem dX1_work_158 : decode cX1_work 158 = .ok (.iload_n 1, 1) := by decide +kernel
theorem dX1_work_159 : decode cX1_work 159 = .ok (.iaload, 1) := by decide +kernel
theorem dX1_work_160 : decode cX1_work 160 = .ok (.aload_n 0, 1) := by decide +kernel
theorem dX1_work_161 : decode cX1_work 161 = .ok (.getfield 267, 3) := by decide +kernel
theorem dX1_work_164 : decode cX1_work 164 = .ok (.iload_n 1, 1) := by decide +kernel
theorem dX1_work_165 : decode cX1_work 165 = .ok (.iaload, 1) := by decide +kernel
theorem dX1_work_166 : decode cX1_work 166 = .ok (.invokevirtual 378, 3) := by decide +kernel
theorem dX1_work_169 : decode cX1_work 169 = .ok (.goto 38, 3) := by decide +kernel
theorem dX1_work_172 : decode cX1_work 172 = .ok (.aload_n 0, 1) := by decide +kernel
theorem dX1_work_173 : decode cX1_work 173 = .ok (.aload_n 0, 1) := by decide +kernel
theorem dX1_work_174 : decode cX1_work 174 = .ok (.getfield 264, 3) := by decide +kernel
theorem dX1_work_177 : decode cX1_work 177 = .ok (.iload_n 1, 1) := by decide +kernel
theorem dX1_work_178 : decode cX1_work 178 = .ok (.iaload, 1) := by decide +kernel
theorem dX1_work_179 : decode cX1_work 179 = .ok (.aload_n 0, 1) := by decide +kernel
theorem dX1_work_180 : decode cX1_work 180 = .ok (.getfield 267, 3) := by decide +kernel
theorem dX1_work_183 : decode cX1_work 183 = .ok (.iload_n 1, 1) := by decide +kernel
theorem dX1_work_184 : decode cX1_work 184 = .ok (.iaload, 1) := by decide +kernel
theorem dX1_work_185 : decode cX1_work 185 = .ok (.invokevirtual 381, 3) := by decide +kernel
theorem dX1_work_188 : decode cX1_work 188 = .ok (.goto 19, 3) := by decide +kernel
theorem dX1_work_191 : decode cX1_work 191 = .ok (.aload_n 0, 1) := by decide +kernel
theorem dX1_work_192 : decode cX1_work 192 = .ok (.aload_n 0, 1) := by decide +kernel
theorem dX1_work_193 : decode cX1_work 193 = .ok (.getfield 264, 3) := by decide +kernel
theorem dX1_work_196 : decode cX1_work 196 = .ok (.iload_n 1, 1) := by decide +kernel
theorem dX1_work_197 : decode cX1_work 197 = .ok (.iaload, 1) := by decide +kernel
theorem dX1_work_198 : decode cX1_work 198 = .ok (.aload_n 0, 1) := by decide +kernel
theorem dX1_work_199 : decode cX1_work 199 = .ok (.getfield 267, 3) := by decide +kernel
theorem dX1_work_202 : decode cX1_work 202 = .ok (.iload_n 1, 1) := by decide +kernel
theorem dX1_work_203 : decode cX1_work 203 = .ok (.iaload, 1) := by decide +kernel
theorem dX1_work_204 : decode cX1_work 204 = .ok (.invokevirtual 384, 3) := by decide +kernel
theorem dX1_work_207 : decode cX1_work 207 = .ok (.goto (-207), 3) := by decide +kernel
theorem dX1_work_210 : decode cX1_work 210 = .ok (.return_, 1) := by decide +kernel
theorem dX1_begins_0 : decode cX1_begins 0 = .ok (.aload_n 0, 1) := by decide +kernel
theorem dX1_begins_1 : decode cX1_begins 1 = .ok (.getfield 195, 3) := by decide +kernel
theorem dX1_begins_4 : decode cX1_begins 4 = .ok (.istore 5, 2) := by decide +kernel
theorem dX1_begins_6 : decode cX1_begins 6 = .ok (.aload_n 0, 1) := by decide +kernel
theorem dX1_begins_7 : decode cX1_begins 7 = .ok (.dup, 1) := by decide +kernel
theorem dX1_begins_8 : decode cX1_begins 8 = .ok (.getfield 195, 3) := by decide +kernel
theorem dX1_begins_11 : decode cX1_begins 11 = .ok (.iconst 1, 1) := by decide +kernel
theorem dX1_begins_12 : decode cX1_begins 12 = .ok (.iadd, 1) := by decide +kernel
theorem dX1_begins_13 : decode cX1_begins 13 = .ok (.putfield 195, 3) := by decide +kernel
theorem dX1_begins_16 : decode cX1_begins 16 = .ok (.iload 4, 2) := by decide +kernel
theorem dX1_begins_18 : decode cX1_begins 18 = .ok (.ifCond .lt 7, 3) := by decide +kernel
theorem dX1_begins_21 : decode cX1_begins 21 = .ok (.iconst (-1), 1) := by decide +kernel
theorem dX1_begins_22 : decode cX1_begins 22 = .ok (.goto 9, 3) := by decide +kernel
theorem dX1_begins_25 : decode cX1_begins 25 = .ok (.aload_n 0, 1) := by decide +kernel
theorem dX1_begins_26 : decode cX1_begins 26 = .ok (.iload_n 1, 1) := by decide +kernel
theorem dX1_begins_27 : decode cX1_begins 27 = .ok (.iload_n 2, 1) := by decide +kernel
theorem dX1_begins_28 : decode cX1_begins 28 = .ok (.invokevirtual 387, 3) := by decide +kernel
theorem dX1_begins_31 : decode cX1_begins 31 = .ok (.istore 6, 2) := by decide +kernel
theorem dX1_begins_33 : decode cX1_begins 33 = .ok (.aload_n 0, 1) := by decide +kernel
theorem dX1_begins_34 : decode cX1_begins 34 = .ok (.getfield 198, 3) := by decide +kernel
theorem dX1_begins_37 : decode cX1_begins 37 = .ok (.iload 5, 2) := by decide +kernel
theorem dX1_begins_39 : decode cX1_begins 39 = .ok (.iload_n 1, 1) := by decide +kernel
theorem dX1_begins_40 : decode cX1_begins 40 = .ok (.iastore, 1) := by decide +kernel
theorem dX1_begins_41 : decode cX1_begins 41 = .ok (.aload_n 0, 1) := by decide +kernel
theorem dX1_begins_42 : decode cX1_begins 42 = .ok (.getfield 201, 3) := by decide +kernel
theorem dX1_begins_45 : decode cX1_begins 45 = .ok (.iload 5, 2) := by decide +kernel
theorem dX1_begins_47 : decode cX1_begins 47 = .ok (.iload_n 2, 1) := by decide +kernel
theorem dX1_begins_48 : decode cX1_begins 48 = .ok (.iastore, 1) := by decide +kernel
theorem dX1_begins_49 : decode cX1_begins 49 = .ok (.aload_n 0, 1) := by decide +kernel
theorem dX1_begins_50 : decode cX1_begins 50 = .ok (.getfield 204, 3) := by decide +kernel
theorem dX1_begins_53 : decode cX1_begins 53 = .ok (.iload 5, 2) := by decide +kernel
theorem dX1_begins_55 : decode cX1_begins 55 = .ok (.iload_n 3, 1) := by decide +kernel
theorem dX1_begins_56 : decode cX1_begins 56 = .ok (.iastore, 1) := by decide +kernel
theorem dX1_begins_57 : decode cX1_begins 57 = .ok (.aload_n 0, 1) := by decide +kernel
theorem dX1_begins_58 : decode cX1_begins 58 = .ok (.getfield 207, 3) := by decide +kernel
theorem dX1_begins_61 : decode cX1_begins 61 = .ok (.iload 5, 2) := by decide +kernel
theorem dX1_begins_63 : decode cX1_begins 63 = .ok (.iload 6, 2) := by decide +kernel
theorem dX1_begins_65 : decode cX1_begins 65 = .ok (.iastore, 1) := by decide +kernel
theorem dX1_begins_66 : decode cX1_begins 66 = .ok (.aload_n 0, 1) := by decide +kernel
theorem dX1_begins_67 : decode cX1_begins 67 = .ok (.getfield 210, 3) := by decide +kernel
theorem dX1_begins_70 : decode cX1_begins 70 = .ok (.iload 5, 2) := by decide +kernel
theorem dX1_begins_72 : decode cX1_begins 72 = .ok (.iload 6, 2) := by decide +kernel
theorem dX1_begins_74 : decode cX1_begins 74 = .ok (.ifCond .lt 7, 3) := by decide +kernel
theorem dX1_begins_77 : decode cX1_begins 77 = .ok (.iconst (-1), 1) := by decide +kernel
theorem dX1_begins_78 : decode cX1_begins 78 = .ok (.goto 19, 3) := by decide +kernel
theorem dX1_begins_81 : decode cX1_begins 81 = .ok (.iload 4, 2) := by decide +kernel
theorem dX1_begins_83 : decode cX1_begins 83 = .ok (.ifCond .lt 8, 3) := by decide +kernel
theorem dX1_begins_86 : decode cX1_begins 86 = .ok (.iload 4, 2) := by decide +kernel
theorem dX1_begins_88 : decode cX1_begins 88 = .ok (.goto 9, 3) := by decide +kernel
theorem dX1_begins_91 : decode cX1_begins 91 = .ok (.aload_n 0, 1) := by decide +kernel
theorem dX1_begins_92 : decode cX1_begins 92 = .ok (.getfield 168, 3) := by decide +kernel
theorem dX1_begins_95 : decode cX1_begins 95 = .ok (.iload_n 1, 1) := by decide +kernel
theorem dX1_begins_96 : decode cX1_begins 96 = .ok (.iaload, 1) := by decide +kernel
theorem dX1_begins_97 : decode cX1_begins 97 = .ok (.iastore, 1) := by decide +kernel
theorem dX1_begins_98 : decode cX1_begins 98 = .ok (.aload_n 0, 1) := by decide +kernel
theorem dX1_begins_99 : decode cX1_begins 99 = .ok (.getfield 213, 3) := by decide +kernel
theorem dX1_begins_102 : decode cX1_begins 102 = .ok (.iload 5, 2) := by decide +kernel
theorem dX1_begins_104 : decode cX1_begins 104 = .ok (.aload_n 0, 1) := by decide +kernel
theorem dX1_begins_105 : decode cX1_begins 105 = .ok (.getfield 7, 3) := by decide +kernel
theorem dX1_begins_108 : decode cX1_begins 108 = .ok (.iastore, 1) := by decide +kernel
theorem dX1_begins_109 : decode cX1_begins 109 = .ok (.aload_n 0, 1) := by decide +kernel
theorem dX1_begins_110 : decode cX1_begins 110 = .ok (.getfield 216, 3) := by decide +kernel
theorem dX1_begins_113 : decode cX1_begins 113 = .ok (.iload 5, 2) := by decide +kernel
theorem dX1_begins_115 : decode cX1_begins 115 = .ok (.iconst (-1), 1) := by decide +kernel
theorem dX1_begins_116 : decode cX1_begins 116 = .ok (.iastore, 1) := by decide +kernel
theorem dX1_begins_117 : decode cX1_begins 117 = .ok (.aload_n 0, 1) := by decide +kernel
theorem dX1_begins_118 : decode cX1_begins 118 = .ok (.getfield 219, 3) := by decide +kernel
theorem dX1_begins_121 : decode cX1_begins 121 = .ok (.iload 5, 2) := by decide +kernel
theorem dX1_begins_123 : decode cX1_begins 123 = .ok (.iconst 0, 1) := by decide +kernel
theorem dX1_begins_124 : decode cX1_begins 124 = .ok (.iastore, 1) := by decide +kernel
theorem dX1_begins_125 : decode cX1_begins 125 = .ok (.aload_n 0, 1) := by decide +kernel
theorem dX1_begins_126 : decode cX1_begins 126 = .ok (.getfield 222, 3) := by decide +kernel
theorem dX1_begins_129 : decode cX1_begins 129 = .ok (.iload 5, 2) := by decide +kernel
theorem dX1_begins_131 : decode cX1_begins 131 = .ok (.iconst (-1), 1) := by decide +kernel
theorem dX1_begins_132 : decode cX1_begins 132 = .ok (.iastore, 1) := by decide +kernel
theorem dX1_begins_133 : decode cX1_begins 133 = .ok (.aload_n 0, 1) := by decide +kernel
theorem dX1_begins_134 : decode cX1_begins 134 = .ok (.getfield 225, 3) := by decide +kernel
theorem dX1_begins_137 : decode cX1_begins 137 = .ok (.iload 5, 2) := by decide +kernel
theorem dX1_begins_139 : decode cX1_begins 139 = .ok (.iconst 0, 1) := by decide +kernel
theorem dX1_begins_140 : decode cX1_begins 140 = .ok (.bastore, 1) := by decide +kernel
theorem dX1_begins_141 : decode cX1_begins 141 = .ok (.aload_n 0, 1) := by decide +kernel
theorem dX1_begins_142 : decode cX1_begins 142 = .ok (.getfield 228, 3) := by decide +kernel
theorem dX1_begins_145 : decode cX1_begins 145 = .ok (.iload 5, 2) := by decide +kernel
theorem dX1_begins_147 : decode cX1_begins 147 = .ok (.iconst (-1), 1) := by decide +kernel
theorem dX1_begins_148 : decode cX1_begins 148 = .ok (.iastore, 1) := by decide +kernel
theorem dX1_begins_149 : decode cX1_begins 149 = .ok (.aload_n 0, 1) := by decide +kernel
theorem dX1_begins_150 : decode cX1_begins 150 = .ok (.getfield 231, 3) := by decide +kernel
theorem dX1_begins_153 : decode cX1_begins 153 = .ok (.iload 5, 2) := by decide +kernel
theorem dX1_begins_155 : decode cX1_begins 155 = .ok (.iconst 0, 1) := by decide +kernel
theorem dX1_begins_156 : decode cX1_begins 156 = .ok (.iastore, 1) := by decide +kernel
theorem dX1_begins_157 : decode cX1_begins 157 = .ok (.aload_n 0, 1) := by decide +kernel
theorem dX1_begins_158 : decode cX1_begins 158 = .ok (.getfield 234, 3) := by decide +kernel
theorem dX1_begins_161 : decode cX1_begins 161 = .ok (.iload 5, 2) := by decide +kernel
theorem dX1_begins_163 : decode cX1_begins 163 = .ok (.iconst (-1), 1) := by decide +kernel
theorem dX1_begins_164 : decode cX1_begins 164 = .ok (.iastore, 1) := by decide +kernel
theorem dX1_begins_165 : decode cX1_begins 165 = .ok (.aload_n 0, 1) := by decide +kernel
theorem dX1_begins_166 : decode cX1_begins 166 = .ok (.getfield 237, 3) := by decide +kernel
theorem dX1_begins_169 : decode cX1_begins 169 = .ok (.iload 5, 2) := by decide +kernel
theorem dX1_begins_171 : decode cX1_begins 171 = .ok (.iconst 0, 1) := by decide +kernel
theorem dX1_begins_172 : decode cX1_begins 172 = .ok (.bastore, 1) := by decide +kernel
theorem dX1_begins_173 : decode cX1_begins 173 = .ok (.aload_n 0, 1) := by decide +kernel
theorem dX1_begins_174 : decode cX1_begins 174 = .ok (.getfield 240, 3) := by decide +kernel
theorem dX1_begins_177 : decode cX1_begins 177 = .ok (.iload 5, 2) := by decide +kernel
theorem dX1_begins_179 : decode cX1_begins 179 = .ok (.iconst 0, 1) := by decide +kernel
theorem dX1_begins_180 : decode cX1_begins 180 = .ok (.bastore, 1) := by decide +kernel
theorem dX1_begins_181 : decode cX1_begins 181 = .ok (.aload_n 0, 1) := by decide +kernel
theorem dX1_begins_182 : decode cX1_begins 182 = .ok (.getfield 243, 3) := by decide +kernel
theorem dX1_begins_185 : decode cX1_begins 185 = .ok (.iload 5, 2) := by decide +kernel
theorem dX1_begins_187 : decode cX1_begins 187 = .ok (.iconst 0, 1) := by decide +kernel
theorem dX1_begins_188 : decode cX1_begins 188 = .ok (.bastore, 1) := by decide +kernel
theorem dX1_begins_189 : decode cX1_begins 189 = .ok (.aload_n 0, 1) := by decide +kernel
theorem dX1_begins_190 : decode cX1_begins 190 = .ok (.getfield 246, 3) := by decide +kernel
theorem dX1_begins_193 : decode cX1_begins 193 = .ok (.iload 5, 2) := by decide +kernel
theorem dX1_begins_195 : decode cX1_begins 195 = .ok (.iconst 0, 1) := by decide +kernel
theorem dX1_begins_196 : decode cX1_begins 196 = .ok (.bastore, 1) := by decide +kernel
theorem dX1_begins_197 : decode cX1_begins 197 = .ok (.aload_n 0, 1) := by decide +kernel
theorem dX1_begins_198 : decode cX1_begins 198 = .ok (.getfield 249, 3) := by decide +kernel
theorem dX1_begins_201 : decode cX1_begins 201 = .ok (.iload 5, 2) := by decide +kernel
theorem dX1_begins_203 : decode cX1_begins 203 = .ok (.iconst 0, 1) := by decide +kernel
theorem dX1_begins_204 : decode cX1_begins 204 = .ok (.bastore, 1) := by decide +kernel
theorem dX1_begins_205 : decode cX1_begins 205 = .ok (.iload_n 3, 1) := by decide +kernel
theorem dX1_begins_206 : decode cX1_begins 206 = .ok (.ifCond .lt 13, 3) := by decide +kernel
theorem dX1_begins_209 : decode cX1_begins 209 = .ok (.aload_n 0, 1) := by decide +kernel
theorem dX1_begins_210 : decode cX1_begins 210 = .ok (.getfield 231, 3) := by decide +kernel
theorem dX1_begins_213 : decode cX1_begins 213 = .ok (.iload_n 3, 1) := by decide +kernel
theorem dX1_begins_214 : decode cX1_begins 214 = .ok (.dup2, 1) := by decide +kernel
theorem dX1_begins_215 : decode cX1_begins 215 = .ok (.iaload, 1) := by decide +kernel
theorem dX1_begins_216 : decode cX1_begins 216 = .ok (.iconst 1, 1) := by decide +kernel
theorem dX1_begins_217 : decode cX1_begins 217 = .ok (.iadd, 1) := by decide +kernel
theorem dX1_begins_218 : decode cX1_begins 218 = .ok (.iastore, 1) := by decide +kernel
theorem dX1_begins_219 : decode cX1_begins 219 = .ok (.iload 6, 2) := by decide +kernel
theorem dX1_begins_221 : decode cX1_begins 221 = .ok (.ifCond .lt 14, 3) := by decide +kernel
theorem dX1_begins_224 : decode cX1_begins 224 = .ok (.aload_n 0, 1) := by decide +kernel
theorem dX1_begins_225 : decode cX1_begins 225 = .ok (.iload 5, 2) := by decide +kernel
theorem dX1_begins_227 : decode cX1_begins 227 = .ok (.iload 6, 2) := by decide +kernel
theorem dX1_begins_229 : decode cX1_begins 229 = .ok (.invokevirtual 391, 3) := by decide +kernel
theorem dX1_begins_232 : decode cX1_begins 232 = .ok (.goto 27, 3) := by decide +kernel
theorem dX1_begins_235 : decode cX1_begins 235 = .ok (.aload_n 0, 1) := by decide +kernel
theorem dX1_begins_236 : decode cX1_begins 236 = .ok (.getfield 228, 3) := by decide +kernel
theorem dX1_begins_239 : decode cX1_begins 239 = .ok (.iload 5, 2) := by decide +kernel
theorem dX1_begins_241 : decode cX1_begins 241 = .ok (.aload_n 0, 1) := by decide +kernel
theorem dX1_begins_242 : decode cX1_begins 242 = .ok (.aload_n 0, 1) := by decide +kernel
theorem dX1_begins_243 : decode cX1_begins 243 = .ok (.getfield 210, 3) := by decide +kernel
theorem dX1_begins_246 : decode cX1_begins 246 = .ok (.iload 5, 2) := by decide +kernel
theorem dX1_begins_248 : decode cX1_begins 248 = .ok (.iaload, 1) := by decide +kernel
theorem dX1_begins_249 : decode cX1_begins 249 = .ok (.aload_n 0, 1) := by decide +kernel
theorem dX1_begins_250 : decode cX1_begins 250 = .ok (.getfield 171, 3) := by decide +kernel
theorem dX1_begins_253 : decode cX1_begins 253 = .ok (.iload_n 1, 1) := by decide +kernel
theorem dX1_begins_254 : decode cX1_begins 254 = .ok (.iaload, 1) := by decide +kernel
theorem dX1_begins_255 : decode cX1_begins 255 = .ok (.invokevirtual 394, 3) := by decide +kernel
theorem dX1_begins_258 : decode cX1_begins 258 = .ok (.iastore, 1) := by decide +kernel
theorem dX1_begins_259 : decode cX1_begins 259 = .ok (.return_, 1) := by decide +kernel
theorem dX1_guardAt_0 : decode cX1_guardAt 0 = .ok (.iload_n 2, 1) := by decide +kernel
theorem dX1_guardAt_1 : decode cX1_guardAt 1 = .ok (.aload_n 0, 1) := by decide +kernel
theorem dX1_guardAt_2 : decode cX1_guardAt 2 = .ok (.getfield 156, 3) := by decide +kernel
theorem dX1_guardAt_5 : decode cX1_guardAt 5 = .ok (.aload_n 0, 1) := by decide +kernel
theorem dX1_guardAt_6 : decode cX1_guardAt 6 = .ok (.getfield 165, 3) := by decide +kernel
theorem dX1_guardAt_9 : decode cX1_guardAt 9 = .ok (.iload_n 1, 1) := by decide +kernel
theorem dX1_guardAt_10 : decode cX1_guardAt 10 = .ok (.iaload, 1) := by decide +kernel
theorem dX1_guardAt_11 : decode cX1_guardAt 11 = .ok (.iaload, 1) := by decide +kernel
theorem dX1_guardAt_12 : decode cX1_guardAt 12 = .ok (.if_icmp .ge 21, 3) := by decide +kernel
theorem dX1_guardAt_15 : decode cX1_guardAt 15 = .ok (.aload_n 0, 1) := by decide +kernel
theorem dX1_guardAt_16 : decode cX1_guardAt 16 = .ok (.getfield 159, 3) := by decide +kernel
theorem dX1_guardAt_19 : decode cX1_guardAt 19 = .ok (.iconst 5, 1) := by decide +kernel
theorem dX1_guardAt_20 : decode cX1_guardAt 20 = .ok (.aload_n 0, 1) := by decide +kernel
theorem dX1_guardAt_21 : decode cX1_guardAt 21 = .ok (.getfield 165, 3) := by decide +kernel
theorem dX1_guardAt_24 : decode cX1_guardAt 24 = .ok (.iload_n 1, 1) := by decide +kernel
theorem dX1_guardAt_25 : decode cX1_guardAt 25 = .ok (.iaload, 1) := by decide +kernel
theorem dX1_guardAt_26 : decode cX1_guardAt 26 = .ok (.imul, 1) := by decide +kernel
theorem dX1_guardAt_27 : decode cX1_guardAt 27 = .ok (.iload_n 2, 1) := by decide +kernel
theorem dX1_guardAt_28 : decode cX1_guardAt 28 = .ok (.iadd, 1) := by decide +kernel
theorem dX1_guardAt_29 : decode cX1_guardAt 29 = .ok (.iaload, 1) := by decide +kernel
theorem dX1_guardAt_30 : decode cX1_guardAt 30 = .ok (.goto 4, 3) := by decide +kernel
theorem dX1_guardAt_33 : decode cX1_guardAt 33 = .ok (.iconst (-1), 1) := by decide +kernel
theorem dX1_guardAt_34 : decode cX1_guardAt 34 = .ok (.ireturn, 1) := by decide +kernel
theorem dX1_entered_0 : decode cX1_entered 0 = .ok (.aload_n 0, 1) := by decide +kernel
theorem dX1_entered_1 : decode cX1_entered 1 = .ok (.getfield 198, 3) := by decide +kernel
theorem dX1_entered_4 : decode cX1_entered 4 = .ok (.iload_n 1, 1) := by decide +kernel
theorem dX1_entered_5 : decode cX1_entered 5 = .ok (.iaload, 1) := by decide +kernel
theorem dX1_entered_6 : decode cX1_entered 6 = .ok (.istore_n 3, 1) := by decide +kernel
theorem dX1_entered_7 : decode cX1_entered 7 = .ok (.aload_n 0, 1) := by decide +kernel
theorem dX1_entered_8 : decode cX1_entered 8 = .ok (.getfield 104, 3) := by decide +kernel
theorem dX1_entered_11 : decode cX1_entered 11 = .ok (.iload_n 2, 1) := by decide +kernel
theorem dX1_entered_12 : decode cX1_entered 12 = .ok (.iaload, 1) := by decide +kernel
theorem dX1_entered_13 : decode cX1_entered 13 = .ok (.tableswitch 514 0 8 #[51, 142, 250, 290, 514, 290, 514, 315, 408], 51) := by decide +kernel
theorem dX1_entered_64 : decode cX1_entered 64 = .ok (.aload_n 0, 1) := by decide +kernel
theorem dX1_entered_65 : decode cX1_entered 65 = .ok (.getfield 119, 3) := by decide +kernel
theorem dX1_entered_68 : decode cX1_entered 68 = .ok (.iload_n 2, 1) := by decide +kernel
theorem dX1_entered_69 : decode cX1_entered 69 = .ok (.iaload, 1) := by decide +kernel
theorem dX1_entered_70 : decode cX1_entered 70 = .ok (.iconst 2, 1) := by decide +kernel
theorem dX1_entered_71 : decode cX1_entered 71 = .ok (.if_icmp .eq 26, 3) := by decide +kernel
theorem dX1_entered_74 : decode cX1_entered 74 = .ok (.aload_n 0, 1) := by decide +kernel
theorem dX1_entered_75 : decode cX1_entered 75 = .ok (.getfield 119, 3) := by decide +kernel
theorem dX1_entered_78 : decode cX1_entered 78 = .ok (.iload_n 2, 1) := by decide +kernel
theorem dX1_entered_79 : decode cX1_entered 79 = .ok (.iaload, 1) := by decide +kernel
theorem dX1_entered_80 : decode cX1_entered 80 = .ok (.iconst 1, 1) := by decide +kernel
theorem dX1_entered_81 : decode cX1_entered 81 = .ok (.if_icmp .ne 29, 3) := by decide +kernel
theorem dX1_entered_84 : decode cX1_entered 84 = .ok (.aload_n 0, 1) := by decide +kernel
theorem dX1_entered_85 : decode cX1_entered 85 = .ok (.getfield 7, 3) := by decide +kernel
theorem dX1_entered_88 : decode cX1_entered 88 = .ok (.aload_n 0, 1) := by decide +kernel
theorem dX1_entered_89 : decode cX1_entered 89 = .ok (.getfield 125, 3) := by decide +kernel
theorem dX1_entered_92 : decode cX1_entered 92 = .ok (.iload_n 2, 1) := by decide +kernel
theorem dX1_entered_93 : decode cX1_entered 93 = .ok (.iaload, 1) := by decide +kernel
theorem dX1_entered_94 : decode cX1_entered 94 = .ok (.if_icmp .ge 16, 3) := by decide +kernel
theorem dX1_entered_97 : decode cX1_entered 97 = .ok (.aload_n 0, 1) := by decide +kernel
theorem dX1_entered_98 : decode cX1_entered 98 = .ok (.iconst 2, 1) := by decide +kernel
theorem dX1_entered_99 : decode cX1_entered 99 = .ok (.iload_n 1, 1) := by decide +kernel
theorem dX1_entered_100 : decode cX1_entered 100 = .ok (.bipush 9, 2) := by decide +kernel
theorem dX1_entered_102 : decode cX1_entered 102 = .ok (.iconst 0, 1) := by decide +kernel
theorem dX1_entered_103 : decode cX1_entered 103 = .ok (.iconst 0, 1) := by decide +kernel
theorem dX1_entered_104 : decode cX1_entered 104 = .ok (.invokevirtual 397, 3) := by decide +kernel
theorem dX1_entered_107 : decode cX1_entered 107 = .ok (.goto 425, 3) := by decide +kernel
theorem dX1_entered_110 : decode cX1_entered 110 = .ok (.aload_n 0, 1) := by decide +kernel
theorem dX1_entered_111 : decode cX1_entered 111 = .ok (.getfield 249, 3) := by decide +kernel
theorem dX1_entered_114 : decode cX1_entered 114 = .ok (.iload_n 1, 1) := by decide +kernel
theorem dX1_entered_115 : decode cX1_entered 115 = .ok (.aload_n 0, 1) := by decide +kernel
theorem dX1_entered_116 : decode cX1_entered 116 = .ok (.getfield 119, 3) := by decide +kernel
theorem dX1_entered_119 : decode cX1_entered 119 = .ok (.iload_n 2, 1) := by decide +kernel
theorem dX1_entered_120 : decode cX1_entered 120 = .ok (.iaload, 1) := by decide +kernel
theorem dX1_entered_121 : decode cX1_entered 121 = .ok (.iconst 1, 1) := by decide +kernel
theorem dX1_entered_122 : decode cX1_entered 122 = .ok (.if_icmp .ne 7, 3) := by decide +kernel
theorem dX1_entered_125 : decode cX1_entered 125 = .ok (.iconst 1, 1) := by decide +kernel
theorem dX1_entered_126 : decode cX1_entered 126 = .ok (.goto 4, 3) := by decide +kernel
theorem dX1_entered_129 : decode cX1_entered 129 = .ok (.iconst 0, 1) := by decide +kernel
theorem dX1_entered_130 : decode cX1_entered 130 = .ok (.bastore, 1) := by decide +kernel
theorem dX1_entered_131 : decode cX1_entered 131 = .ok (.aload_n 0, 1) := by decide +kernel
theorem dX1_entered_132 : decode cX1_entered 132 = .ok (.getfield 249, 3) := by decide +kernel
theorem dX1_entered_135 : decode cX1_entered 135 = .ok (.iload_n 1, 1) := by decide +kernel
theorem dX1_entered_136 : decode cX1_entered 136 = .ok (.baload, 1) := by decide +kernel
theorem dX1_entered_137 : decode cX1_entered 137 = .ok (.ifCond .eq 10, 3) := by decide +kernel
theorem dX1_entered_140 : decode cX1_entered 140 = .ok (.aload_n 0, 1) := by decide +kernel
theorem dX1_entered_141 : decode cX1_entered 141 = .ok (.getfield 119, 3) := by decide +kernel
theorem dX1_entered_144 : decode cX1_entered 144 = .ok (.iload_n 2, 1) := by decide +kernel
theorem dX1_entered_145 : decode cX1_entered 145 = .ok (.iconst 2, 1) := by decide +kernel
theorem dX1_entered_146 : decode cX1_entered 146 = .ok (.iastore, 1) := by decide +kernel
theorem dX1_entered_147 : decode cX1_entered 147 = .ok (.aload_n 0, 1) := by decide +kernel
theorem dX1_entered_148 : decode cX1_entered 148 = .ok (.iload_n 1, 1) := by decide +kernel
theorem dX1_entered_149 : decode cX1_entered 149 = .ok (.invokevirtual 401, 3) := by decide +kernel
theorem dX1_entered_152 : decode cX1_entered 152 = .ok (.goto 380, 3) := by decide +kernel
theorem dX1_entered_155 : decode cX1_entered 155 = .ok (.aload_n 0, 1) := by decide +kernel
theorem dX1_entered_156 : decode cX1_entered 156 = .ok (.getfield 128, 3) := by decide +kernel
theorem dX1_entered_159 : decode cX1_entered 159 = .ok (.iload_n 2, 1) := by decide +kernel
theorem dX1_entered_160 : decode cX1_entered 160 = .ok (.iaload, 1) := by decide +kernel
theorem dX1_entered_161 : decode cX1_entered 161 = .ok (.aload_n 0, 1) := by decide +kernel
theorem dX1_entered_162 : decode cX1_entered 162 = .ok (.getfield 107, 3) := by decide +kernel
theorem dX1_entered_165 : decode cX1_entered 165 = .ok (.iload_n 2, 1) := by decide +kernel
theorem dX1_entered_166 : decode cX1_entered 166 = .ok (.iaload, 1) := by decide +kernel
theorem dX1_entered_167 : decode cX1_entered 167 = .ok (.if_icmp .ge 21, 3) := by decide +kernel
theorem dX1_entered_170 : decode cX1_entered 170 = .ok (.aload_n 0, 1) := by decide +kernel
theorem dX1_entered_171 : decode cX1_entered 171 = .ok (.getfield 131, 3) := by decide +kernel
theorem dX1_entered_174 : decode cX1_entered 174 = .ok (.iload_n 2, 1) := by decide +kernel
theorem dX1_entered_175 : decode cX1_entered 175 = .ok (.iaload, 1) := by decide +kernel
theorem dX1_entered_176 : decode cX1_entered 176 = .ok (.ifCond .ne 12, 3) := by decide +kernel
theorem dX1_entered_179 : decode cX1_entered 179 = .ok (.aload_n 0, 1) := by decide +kernel
theorem dX1_entered_180 : decode cX1_entered 180 = .ok (.iload_n 1, 1) := by decide +kernel
theorem dX1_entered_181 : decode cX1_entered 181 = .ok (.iload_n 2, 1) := by decide +kernel
theorem dX1_entered_182 : decode cX1_entered 182 = .ok (.invokevirtual 405, 3) := by decide +kernel
theorem dX1_entered_185 : decode cX1_entered 185 = .ok (.goto 347, 3) := by decide +kernel
theorem dX1_entered_188 : decode cX1_entered 188 = .ok (.aload_n 0, 1) := by decide +kernel
theorem dX1_entered_189 : decode cX1_entered 189 = .ok (.getfield 131, 3) := by decide +kernel
theorem dX1_entered_192 : decode cX1_entered 192 = .ok (.iload_n 2, 1) := by decide +kernel
theorem dX1_entered_193 : decode cX1_entered 193 = .ok (.iaload, 1) := by decide +kernel
theorem dX1_entered_194 : decode cX1_entered 194 = .ok (.aload_n 0, 1) := by decide +kernel
theorem dX1_entered_195 : decode cX1_entered 195 = .ok (.getfield 110, 3) := by decide +kernel
theorem dX1_entered_198 : decode cX1_entered 198 = .ok (.iload_n 2, 1) := by decide +kernel
theorem dX1_entered_199 : decode cX1_entered 199 = .ok (.iaload, 1) := by decide +kernel
theorem dX1_entered_200 : decode cX1_entered 200 = .ok (.if_icmp .ge 40, 3) := by decide +kernel
theorem dX1_entered_203 : decode cX1_entered 203 = .ok (.aload_n 0, 1) := by decide +kernel
theorem dX1_entered_204 : decode cX1_entered 204 = .ok (.getfield 237, 3) := by decide +kernel
theorem dX1_entered_207 : decode cX1_entered 207 = .ok (.iload_n 1, 1) := by decide +kernel
theorem dX1_entered_208 : decode cX1_entered 208 = .ok (.iconst 1, 1) := by decide +kernel
theorem dX1_entered_209 : decode cX1_entered 209 = .ok (.bastore, 1) := by decide +kernel
theorem dX1_entered_210 : decode cX1_entered 210 = .ok (.aload_n 0, 1) := by decide +kernel
theorem dX1_entered_211 : decode cX1_entered 211 = .ok (.getfield 140, 3) := by decide +kernel
theorem dX1_entered_214 : decode cX1_entered 214 = .ok (.bipush 10, 2) := by decide +kernel
theorem dX1_entered_216 : decode cX1_entered 216 = .ok (.iload_n 2, 1) := by decide +kernel
theorem dX1_entered_217 : decode cX1_entered 217 = .ok (.imul, 1) := by decide +kernel
theorem dX1_entered_218 : decode cX1_entered 218 = .ok (.aload_n 0, 1) := by decide +kernel
theorem dX1_entered_219 : decode cX1_entered 219 = .ok (.getfield 131, 3) := by decide +kernel
theorem dX1_entered_222 : decode cX1_entered 222 = .ok (.iload_n 2, 1) := by decide +kernel
theorem dX1_entered_223 : decode cX1_entered 223 = .ok (.iaload, 1) := by decide +kernel
theorem dX1_entered_224 : decode cX1_entered 224 = .ok (.iadd, 1) := by decide +kernel
theorem dX1_entered_225 : decode cX1_entered 225 = .ok (.iload_n 1, 1) := by decide +kernel
theorem dX1_entered_226 : decode cX1_entered 226 = .ok (.iastore, 1) := by decide +kernel
theorem dX1_entered_227 : decode cX1_entered 227 = .ok (.aload_n 0, 1) := by decide +kernel
theorem dX1_entered_228 : decode cX1_entered 228 = .ok (.getfield 131, 3) := by decide +kernel
theorem dX1_entered_231 : decode cX1_entered 231 = .ok (.iload_n 2, 1) := by decide +kernel
theorem dX1_entered_232 : decode cX1_entered 232 = .ok (.dup2, 1) := by decide +kernel
theorem dX1_entered_233 : decode cX1_entered 233 = .ok (.iaload, 1) := by decide +kernel
theorem dX1_entered_234 : decode cX1_entered 234 = .ok (.iconst 1, 1) := by decide +kernel
theorem dX1_entered_235 : decode cX1_entered 235 = .ok (.iadd, 1) := by decide +kernel
theorem dX1_entered_236 : decode cX1_entered 236 = .ok (.iastore, 1) := by decide +kernel
theorem dX1_entered_237 : decode cX1_entered 237 = .ok (.goto 295, 3) := by decide +kernel
theorem dX1_entered_240 : decode cX1_entered 240 = .ok (.aload_n 0, 1) := by decide +kernel
theorem dX1_entered_241 : decode cX1_entered 241 = .ok (.getfield 134, 3) := by decide +kernel
theorem dX1_entered_244 : decode cX1_entered 244 = .ok (.iload_n 2, 1) := by decide +kernel
theorem dX1_entered_245 : decode cX1_entered 245 = .ok (.dup2, 1) := by decide +kernel
theorem dX1_entered_246 : decode cX1_entered 246 = .ok (.iaload, 1) := by decide +kernel
theorem dX1_entered_247 : decode cX1_entered 247 = .ok (.iconst 1, 1) := by decide +kernel
theorem dX1_entered_248 : decode cX1_entered 248 = .ok (.iadd, 1) := by decide +kernel
theorem dX1_entered_249 : decode cX1_entered 249 = .ok (.iastore, 1) := by decide +kernel
theorem dX1_entered_250 : decode cX1_entered 250 = .ok (.aload_n 0, 1) := by decide +kernel
theorem dX1_entered_251 : decode cX1_entered 251 = .ok (.iconst 2, 1) := by decide +kernel
theorem dX1_entered_252 : decode cX1_entered 252 = .ok (.iload_n 1, 1) := by decide +kernel
theorem dX1_entered_253 : decode cX1_entered 253 = .ok (.bipush 10, 2) := by decide +kernel
theorem dX1_entered_255 : decode cX1_entered 255 = .ok (.iconst 0, 1) := by decide +kernel
theorem dX1_entered_256 : decode cX1_entered 256 = .ok (.iconst 0, 1) := by decide +kernel
theorem dX1_entered_257 : decode cX1_entered 257 = .ok (.invokevirtual 397, 3) := by decide +kernel
theorem dX1_entered_260 : decode cX1_entered 260 = .ok (.goto 272, 3) := by decide +kernel
theorem dX1_entered_263 : decode cX1_entered 263 = .ok (.aload_n 0, 1) := by decide +kernel
theorem dX1_entered_264 : decode cX1_entered 264 = .ok (.getfield 137, 3) := by decide +kernel
theorem dX1_entered_267 : decode cX1_entered 267 = .ok (.iload_n 2, 1) := by decide +kernel
theorem dX1_entered_268 : decode cX1_entered 268 = .ok (.iaload, 1) := by decide +kernel
theorem dX1_entered_269 : decode cX1_entered 269 = .ok (.ifCond .ne 16, 3) := by decide +kernel
theorem dX1_entered_272 : decode cX1_entered 272 = .ok (.aload_n 0, 1) := by decide +kernel
theorem dX1_entered_273 : decode cX1_entered 273 = .ok (.iconst 2, 1) := by decide +kernel
theorem dX1_entered_274 : decode cX1_entered 274 = .ok (.iload_n 1, 1) := by decide +kernel
theorem dX1_entered_275 : decode cX1_entered 275 = .ok (.bipush 11, 2) := by decide +kernel
theorem dX1_entered_277 : decode cX1_entered 277 = .ok (.iconst 0, 1) := by decide +kernel
theorem dX1_entered_278 : decode cX1_entered 278 = .ok (.iconst 0, 1) := by decide +kernel
theorem dX1_entered_279 : decode cX1_entered 279 = .ok (.invokevirtual 397, 3) := by decide +kernel
theorem dX1_entered_282 : decode cX1_entered 282 = .ok (.goto 250, 3) := by decide +kernel
theorem dX1_entered_285 : decode cX1_entered 285 = .ok (.aload_n 0, 1) := by decide +kernel
theorem dX1_entered_286 : decode cX1_entered 286 = .ok (.getfield 137, 3) := by decide +kernel
theorem dX1_entered_289 : decode cX1_entered 289 = .ok (.iload_n 2, 1) := by decide +kernel
theorem dX1_entered_290 : decode cX1_entered 290 = .ok (.dup2, 1) := by decide +kernel
theorem dX1_entered_291 : decode cX1_entered 291 = .ok (.iaload, 1) := by decide +kernel
theorem dX1_entered_292 : decode cX1_entered 292 = .ok (.iconst 1, 1) := by decide +kernel
theorem dX1_entered_293 : decode cX1_entered 293 = .ok (.isub, 1) := by decide +kernel
theorem dX1_entered_294 : decode cX1_entered 294 = .ok (.iastore, 1) := by decide +kernel
theorem dX1_entered_295 : decode cX1_entered 295 = .ok (.aload_n 0, 1) := by decide +kernel
theorem dX1_entered_296 : decode cX1_entered 296 = .ok (.iload_n 1, 1) := by decide +kernel
theorem dX1_entered_297 : decode cX1_entered 297 = .ok (.invokevirtual 401, 3) := by decide +kernel
theorem dX1_entered_300 : decode cX1_entered 300 = .ok (.goto 232, 3) := by decide +kernel
theorem dX1_entered_303 : decode cX1_entered 303 = .ok (.aload_n 0, 1) := by decide +kernel
theorem dX1_entered_304 : decode cX1_entered 304 = .ok (.getfield 228, 3) := by decide +kernel
theorem dX1_entered_307 : decode cX1_entered 307 = .ok (.iload_n 1, 1) := by decide +kernel
theorem dX1_entered_308 : decode cX1_entered 308 = .ok (.aload_n 0, 1) := by decide +kernel
theorem dX1_entered_309 : decode cX1_entered 309 = .ok (.getfield 7, 3) := by decide +kernel
theorem dX1_entered_312 : decode cX1_entered 312 = .ok (.aload_n 0, 1) := by decide +kernel
theorem dX1_entered_313 : decode cX1_entered 313 = .ok (.getfield 107, 3) := by decide +kernel
theorem dX1_entered_316 : decode cX1_entered 316 = .ok (.iload_n 2, 1) := by decide +kernel
theorem dX1_entered_317 : decode cX1_entered 317 = .ok (.iaload, 1) := by decide +kernel
theorem dX1_entered_318 : decode cX1_entered 318 = .ok (.iadd, 1) := by decide +kernel
theorem dX1_entered_319 : decode cX1_entered 319 = .ok (.iastore, 1) := by decide +kernel
theorem dX1_entered_320 : decode cX1_entered 320 = .ok (.aload_n 0, 1) := by decide +kernel
theorem dX1_entered_321 : decode cX1_entered 321 = .ok (.iload_n 1, 1) := by decide +kernel
theorem dX1_entered_322 : decode cX1_entered 322 = .ok (.invokevirtual 401, 3) := by decide +kernel
theorem dX1_entered_325 : decode cX1_entered 325 = .ok (.goto 207, 3) := by decide +kernel
theorem dX1_entered_328 : decode cX1_entered 328 = .ok (.bipush 8, 2) := by decide +kernel
theorem dX1_entered_330 : decode cX1_entered 330 = .ok (.iload_n 2, 1) := by decide +kernel
theorem dX1_entered_331 : decode cX1_entered 331 = .ok (.imul, 1) := by decide +kernel
theorem dX1_entered_332 : decode cX1_entered 332 = .ok (.aload_n 0, 1) := by decide +kernel
theorem dX1_entered_333 : decode cX1_entered 333 = .ok (.getfield 168, 3) := by decide +kernel
theorem dX1_entered_336 : decode cX1_entered 336 = .ok (.iload_n 3, 1) := by decide +kernel
theorem dX1_entered_337 : decode cX1_entered 337 = .ok (.iaload, 1) := by decide +kernel
theorem dX1_entered_338 : decode cX1_entered 338 = .ok (.iadd, 1) := by decide +kernel
theorem dX1_entered_339 : decode cX1_entered 339 = .ok (.istore 4, 2) := by decide +kernel
theorem dX1_entered_341 : decode cX1_entered 341 = .ok (.aload_n 0, 1) := by decide +kernel
theorem dX1_entered_342 : decode cX1_entered 342 = .ok (.getfield 171, 3) := by decide +kernel
theorem dX1_entered_345 : decode cX1_entered 345 = .ok (.iload_n 3, 1) := by decide +kernel
theorem dX1_entered_346 : decode cX1_entered 346 = .ok (.iaload, 1) := by decide +kernel
theorem dX1_entered_347 : decode cX1_entered 347 = .ok (.ifCond .ne 66, 3) := by decide +kernel
theorem dX1_entered_350 : decode cX1_entered 350 = .ok (.aload_n 0, 1) := by decide +kernel
theorem dX1_entered_351 : decode cX1_entered 351 = .ok (.getfield 146, 3) := by decide +kernel
theorem dX1_entered_354 : decode cX1_entered 354 = .ok (.iload 4, 2) := by decide +kernel
theorem dX1_entered_356 : decode cX1_entered 356 = .ok (.iaload, 1) := by decide +kernel
theorem dX1_entered_357 : decode cX1_entered 357 = .ok (.ifCond .lt 56, 3) := by decide +kernel
theorem dX1_entered_360 : decode cX1_entered 360 = .ok (.aload_n 0, 1) := by decide +kernel
theorem dX1_entered_361 : decode cX1_entered 361 = .ok (.getfield 7, 3) := by decide +kernel
theorem dX1_entered_364 : decode cX1_entered 364 = .ok (.aload_n 0, 1) := by decide +kernel
theorem dX1_entered_365 : decode cX1_entered 365 = .ok (.getfield 146, 3) := by decide +kernel
theorem dX1_entered_368 : decode cX1_entered 368 = .ok (.iload 4, 2) := by decide +kernel
theorem dX1_entered_370 : decode cX1_entered 370 = .ok (.iaload, 1) := by decide +kernel
theorem dX1_entered_371 : decode cX1_entered 371 = .ok (.isub, 1) := by decide +kernel
theorem dX1_entered_372 : decode cX1_entered 372 = .ok (.aload_n 0, 1) := by decide +kernel
theorem dX1_entered_373 : decode cX1_entered 373 = .ok (.getfield 107, 3) := by decide +kernel
theorem dX1_entered_376 : decode cX1_entered 376 = .ok (.iload_n 2, 1) := by decide +kernel
theorem dX1_entered_377 : decode cX1_entered 377 = .ok (.iaload, 1) := by decide +kernel
theorem dX1_entered_378 : decode cX1_entered 378 = .ok (.if_icmp .gt 35, 3) := by decide +kernel
theorem dX1_entered_381 : decode cX1_entered 381 = .ok (.aload_n 0, 1) := by decide +kernel
theorem dX1_entered_382 : decode cX1_entered 382 = .ok (.iconst 1, 1) := by decide +kernel
theorem dX1_entered_383 : decode cX1_entered 383 = .ok (.iload_n 1, 1) := by decide +kernel
theorem dX1_entered_384 : decode cX1_entered 384 = .ok (.iconst 1, 1) := by decide +kernel
theorem dX1_entered_385 : decode cX1_entered 385 = .ok (.aload_n 0, 1) := by decide +kernel
theorem dX1_entered_386 : decode cX1_entered 386 = .ok (.getfield 143, 3) := by decide +kernel
theorem dX1_entered_389 : decode cX1_entered 389 = .ok (.iload 4, 2) := by decide +kernel
theorem dX1_entered_391 : decode cX1_entered 391 = .ok (.iaload, 1) := by decide +kernel
theorem dX1_entered_392 : decode cX1_entered 392 = .ok (.aload_n 0, 1) := by decide +kernel
theorem dX1_entered_393 : decode cX1_entered 393 = .ok (.getfield 149, 3) := by decide +kernel
theorem dX1_entered_396 : decode cX1_entered 396 = .ok (.iload 4, 2) := by decide +kernel
theorem dX1_entered_398 : decode cX1_entered 398 = .ok (.baload, 1) := by decide +kernel
theorem dX1_entered_399 : decode cX1_entered 399 = .ok (.ifCond .eq 7, 3) := by decide +kernel
theorem dX1_entered_402 : decode cX1_entered 402 = .ok (.iconst 1, 1) := by decide +kernel
theorem dX1_entered_403 : decode cX1_entered 403 = .ok (.goto 4, 3) := by decide +kernel
theorem dX1_entered_406 : decode cX1_entered 406 = .ok (.iconst 0, 1) := by decide +kernel
theorem dX1_entered_407 : decode cX1_entered 407 = .ok (.invokevirtual 397, 3) := by decide +kernel
theorem dX1_entered_410 : decode cX1_entered 410 = .ok (.goto 122, 3) := by decide +kernel
theorem dX1_entered_413 : decode cX1_entered 413 = .ok (.aload_n 0, 1) := by decide +kernel
theorem dX1_entered_414 : decode cX1_entered 414 = .ok (.iload_n 1, 1) := by decide +kernel
theorem dX1_entered_415 : decode cX1_entered 415 = .ok (.invokevirtual 401, 3) := by decide +kernel
theorem dX1_entered_418 : decode cX1_entered 418 = .ok (.goto 114, 3) := by decide +kernel
theorem dX1_entered_421 : decode cX1_entered 421 = .ok (.aload_n 0, 1) := by decide +kernel
theorem dX1_entered_422 : decode cX1_entered 422 = .ok (.getfield 195, 3) := by decide +kernel
theorem dX1_entered_425 : decode cX1_entered 425 = .ok (.iconst 1, 1) := by decide +kernel
theorem dX1_entered_426 : decode cX1_entered 426 = .ok (.isub, 1) := by decide +kernel
theorem dX1_entered_427 : decode cX1_entered 427 = .ok (.istore 4, 2) := by decide +kernel
theorem dX1_entered_429 : decode cX1_entered 429 = .ok (.iload 4, 2) := by decide +kernel
theorem dX1_entered_431 : decode cX1_entered 431 = .ok (.ifCond .lt 69, 3) := by decide +kernel
theorem dX1_entered_434 : decode cX1_entered 434 = .ok (.iload 4, 2) := by decide +kernel
theorem dX1_entered_436 : decode cX1_entered 436 = .ok (.iload_n 1, 1) := by decide +kernel
theorem dX1_entered_437 : decode cX1_entered 437 = .ok (.if_icmp .eq 57, 3) := by decide +kernel
theorem dX1_entered_440 : decode cX1_entered 440 = .ok (.aload_n 0, 1) := by decide +kernel
theorem dX1_entered_441 : decode cX1_entered 441 = .ok (.getfield 219, 3) := by decide +kernel
theorem dX1_entered_444 : decode cX1_entered 444 = .ok (.iload 4, 2) := by decide +kernel
theorem dX1_entered_446 : decode cX1_entered 446 = .ok (.iaload, 1) := by decide +kernel
theorem dX1_entered_447 : decode cX1_entered 447 = .ok (.ifCond .ne 47, 3) := by decide +kernel
theorem dX1_entered_450 : decode cX1_entered 450 = .ok (.aload_n 0, 1) := by decide +kernel
theorem dX1_entered_451 : decode cX1_entered 451 = .ok (.getfield 207, 3) := by decide +kernel
theorem dX1_entered_454 : decode cX1_entered 454 = .ok (.iload 4, 2) := by decide +kernel
theorem dX1_entered_456 : decode cX1_entered 456 = .ok (.iaload, 1) := by decide +kernel
theorem dX1_entered_457 : decode cX1_entered 457 = .ok (.iload_n 2, 1) := by decide +kernel
theorem dX1_entered_458 : decode cX1_entered 458 = .ok (.if_icmp .ne 36, 3) := by decide +kernel
theorem dX1_entered_461 : decode cX1_entered 461 = .ok (.aload_n 0, 1) := by decide +kernel
theorem dX1_entered_462 : decode cX1_entered 462 = .ok (.getfield 246, 3) := by decide +kernel
theorem dX1_entered_465 : decode cX1_entered 465 = .ok (.iload 4, 2) := by decide +kernel
theorem dX1_entered_467 : decode cX1_entered 467 = .ok (.baload, 1) := by decide +kernel
theorem dX1_entered_468 : decode cX1_entered 468 = .ok (.ifCond .eq 26, 3) := by decide +kernel
theorem dX1_entered_471 : decode cX1_entered 471 = .ok (.aload_n 0, 1) := by decide +kernel
theorem dX1_entered_472 : decode cX1_entered 472 = .ok (.aload_n 0, 1) := by decide +kernel
theorem dX1_entered_473 : decode cX1_entered 473 = .ok (.getfield 198, 3) := by decide +kernel
theorem dX1_entered_476 : decode cX1_entered 476 = .ok (.iload 4, 2) := by decide +kernel
theorem dX1_entered_478 : decode cX1_entered 478 = .ok (.iaload, 1) := by decide +kernel
theorem dX1_entered_479 : decode cX1_entered 479 = .ok (.iload_n 3, 1) := by decide +kernel
theorem dX1_entered_480 : decode cX1_entered 480 = .ok (.invokevirtual 408, 3) := by decide +kernel
theorem dX1_entered_483 : decode cX1_entered 483 = .ok (.ifCond .eq 11, 3) := by decide +kernel
theorem dX1_entered_486 : decode cX1_entered 486 = .ok (.aload_n 0, 1) := by decide +kernel
theorem dX1_entered_487 : decode cX1_entered 487 = .ok (.getfield 234, 3) := by decide +kernel
theorem dX1_entered_490 : decode cX1_entered 490 = .ok (.iload_n 1, 1) := by decide +kernel
theorem dX1_entered_491 : decode cX1_entered 491 = .ok (.iload 4, 2) := by decide +kernel
theorem dX1_entered_493 : decode cX1_entered 493 = .ok (.iastore, 1) := by decide +kernel
theorem dX1_entered_494 : decode cX1_entered 494 = .ok (.iinc 4 (-1), 3) := by decide +kernel
theorem dX1_entered_497 : decode cX1_entered 497 = .ok (.goto (-68), 3) := by decide +kernel
theorem dX1_entered_500 : decode cX1_entered 500 = .ok (.aload_n 0, 1) := by decide +kernel
theorem dX1_entered_501 : decode cX1_entered 501 = .ok (.getfield 234, 3) := by decide +kernel
theorem dX1_entered_504 : decode cX1_entered 504 = .ok (.iload_n 1, 1) := by decide +kernel
theorem dX1_entered_505 : decode cX1_entered 505 = .ok (.iaload, 1) := by decide +kernel
theorem dX1_entered_506 : decode cX1_entered 506 = .ok (.ifCond .lt 6, 3) := by decide +kernel
theorem dX1_entered_509 : decode cX1_entered 509 = .ok (.goto 23, 3) := by decide +kernel
theorem dX1_entered_512 : decode cX1_entered 512 = .ok (.aload_n 0, 1) := by decide +kernel
theorem dX1_entered_513 : decode cX1_entered 513 = .ok (.getfield 246, 3) := by decide +kernel
theorem dX1_entered_516 : decode cX1_entered 516 = .ok (.iload_n 1, 1) := by decide +kernel
theorem dX1_entered_517 : decode cX1_entered 517 = .ok (.iconst 1, 1) := by decide +kernel
theorem dX1_entered_518 : decode cX1_entered 518 = .ok (.bastore, 1) := by decide +kernel
theorem dX1_entered_519 : decode cX1_entered 519 = .ok (.aload_n 0, 1) := by decide +kernel
theorem dX1_entered_520 : decode cX1_entered 520 = .ok (.iload_n 1, 1) := by decide +kernel
theorem dX1_entered_521 : decode cX1_entered 521 = .ok (.invokevirtual 401, 3) := by decide +kernel
theorem dX1_entered_524 : decode cX1_entered 524 = .ok (.goto 8, 3) := by decide +kernel
theorem dX1_entered_527 : decode cX1_entered 527 = .ok (.aload_n 0, 1) := by decide +kernel
theorem dX1_entered_528 : decode cX1_entered 528 = .ok (.iload_n 1, 1) := by decide +kernel
theorem dX1_entered_529 : decode cX1_entered 529 = .ok (.invokevirtual 401, 3) := by decide +kernel
theorem dX1_entered_532 : decode cX1_entered 532 = .ok (.return_, 1) := by decide +kernel
theorem dX1_goesIn_0 : decode cX1_goesIn 0 = .ok (.aload_n 0, 1) := by decide +kernel
theorem dX1_goesIn_1 : decode cX1_goesIn 1 = .ok (.iconst 0, 1) := by decide +kernel
theorem dX1_goesIn_2 : decode cX1_goesIn 2 = .ok (.aload_n 0, 1) := by decide +kernel
theorem dX1_goesIn_3 : decode cX1_goesIn 3 = .ok (.getfield 198, 3) := by decide +kernel
theorem dX1_goesIn_6 : decode cX1_goesIn 6 = .ok (.iload_n 1, 1) := by decide +kernel
theorem dX1_goesIn_7 : decode cX1_goesIn 7 = .ok (.iaload, 1) := by decide +kernel
theorem dX1_goesIn_8 : decode cX1_goesIn 8 = .ok (.aload_n 0, 1) := by decide +kernel
theorem dX1_goesIn_9 : decode cX1_goesIn 9 = .ok (.getfield 201, 3) := by decide +kernel
theorem dX1_goesIn_12 : decode cX1_goesIn 12 = .ok (.iload_n 1, 1) := by decide +kernel
theorem dX1_goesIn_13 : decode cX1_goesIn 13 = .ok (.iaload, 1) := by decide +kernel
theorem dX1_goesIn_14 : decode cX1_goesIn 14 = .ok (.iconst 1, 1) := by decide +kernel
theorem dX1_goesIn_15 : decode cX1_goesIn 15 = .ok (.iadd, 1) := by decide +kernel
theorem dX1_goesIn_16 : decode cX1_goesIn 16 = .ok (.iload_n 1, 1) := by decide +kernel
theorem dX1_goesIn_17 : decode cX1_goesIn 17 = .ok (.iconst (-1), 1) := by decide +kernel
theorem dX1_goesIn_18 : decode cX1_goesIn 18 = .ok (.invokevirtual 397, 3) := by decide +kernel
theorem dX1_goesIn_21 : decode cX1_goesIn 21 = .ok (.return_, 1) := by decide +kernel
theorem dX1_setToWork_0 : decode cX1_setToWork 0 = .ok (.aload_n 0, 1) := by decide +kernel
theorem dX1_setToWork_1 : decode cX1_setToWork 1 = .ok (.getfield 243, 3) := by decide +kernel
theorem dX1_setToWork_4 : decode cX1_setToWork 4 = .ok (.iload_n 1, 1) := by decide +kernel
theorem dX1_setToWork_5 : decode cX1_setToWork 5 = .ok (.iconst 1, 1) := by decide +kernel
theorem dX1_setToWork_6 : decode cX1_setToWork 6 = .ok (.bastore, 1) := by decide +kernel
theorem dX1_setToWork_7 : decode cX1_setToWork 7 = .ok (.aload_n 0, 1) := by decide +kernel
theorem dX1_setToWork_8 : decode cX1_setToWork 8 = .ok (.getfield 128, 3) := by decide +kernel
theorem dX1_setToWork_11 : decode cX1_setToWork 11 = .ok (.iload_n 2, 1) := by decide +kernel
theorem dX1_setToWork_12 : decode cX1_setToWork 12 = .ok (.dup2, 1) := by decide +kernel
theorem dX1_setToWork_13 : decode cX1_setToWork 13 = .ok (.iaload, 1) := by decide +kernel
theorem dX1_setToWork_14 : decode cX1_setToWork 14 = .ok (.iconst 1, 1) := by decide +kernel
theorem dX1_setToWork_15 : decode cX1_setToWork 15 = .ok (.iadd, 1) := by decide +kernel
theorem dX1_setToWork_16 : decode cX1_setToWork 16 = .ok (.iastore, 1) := by decide +kernel
theorem dX1_setToWork_17 : decode cX1_setToWork 17 = .ok (.aload_n 0, 1) := by decide +kernel
theorem dX1_setToWork_18 : decode cX1_setToWork 18 = .ok (.iload_n 1, 1) := by decide +kernel
theorem dX1_setToWork_19 : decode cX1_setToWork 19 = .ok (.invokevirtual 401, 3) := by decide +kernel
theorem dX1_setToWork_22 : decode cX1_setToWork 22 = .ok (.return_, 1) := by decide +kernel
theorem dX1_isAlike_0 : decode cX1_isAlike 0 = .ok (.aload_n 0, 1) := by decide +kernel
theorem dX1_isAlike_1 : decode cX1_isAlike 1 = .ok (.getfield 168, 3) := by decide +kernel
theorem dX1_isAlike_4 : decode cX1_isAlike 4 = .ok (.iload_n 1, 1) := by decide +kernel
theorem dX1_isAlike_5 : decode cX1_isAlike 5 = .ok (.iaload, 1) := by decide +kernel
theorem dX1_isAlike_6 : decode cX1_isAlike 6 = .ok (.aload_n 0, 1) := by decide +kernel
theorem dX1_isAlike_7 : decode cX1_isAlike 7 = .ok (.getfield 168, 3) := by decide +kernel
theorem dX1_isAlike_10 : decode cX1_isAlike 10 = .ok (.iload_n 2, 1) := by decide +kernel
theorem dX1_isAlike_11 : decode cX1_isAlike 11 = .ok (.iaload, 1) := by decide +kernel
theorem dX1_isAlike_12 : decode cX1_isAlike 12 = .ok (.if_icmp .ne 37, 3) := by decide +kernel
theorem dX1_isAlike_15 : decode cX1_isAlike 15 = .ok (.aload_n 0, 1) := by decide +kernel
theorem dX1_isAlike_16 : decode cX1_isAlike 16 = .ok (.getfield 171, 3) := by decide +kernel
theorem dX1_isAlike_19 : decode cX1_isAlike 19 = .ok (.iload_n 1, 1) := by decide +kernel
theorem dX1_isAlike_20 : decode cX1_isAlike 20 = .ok (.iaload, 1) := by decide +kernel
theorem dX1_isAlike_21 : decode cX1_isAlike 21 = .ok (.aload_n 0, 1) := by decide +kernel
theorem dX1_isAlike_22 : decode cX1_isAlike 22 = .ok (.getfield 171, 3) := by decide +kernel
theorem dX1_isAlike_25 : decode cX1_isAlike 25 = .ok (.iload_n 2, 1) := by decide +kernel
theorem dX1_isAlike_26 : decode cX1_isAlike 26 = .ok (.iaload, 1) := by decide +kernel
theorem dX1_isAlike_27 : decode cX1_isAlike 27 = .ok (.if_icmp .ne 22, 3) := by decide +kernel
theorem dX1_isAlike_30 : decode cX1_isAlike 30 = .ok (.aload_n 0, 1) := by decide +kernel
theorem dX1_isAlike_31 : decode cX1_isAlike 31 = .ok (.getfield 174, 3) := by decide +kernel
theorem dX1_isAlike_34 : decode cX1_isAlike 34 = .ok (.iload_n 1, 1) := by decide +kernel
theorem dX1_isAlike_35 : decode cX1_isAlike 35 = .ok (.iaload, 1) := by decide +kernel
theorem dX1_isAlike_36 : decode cX1_isAlike 36 = .ok (.aload_n 0, 1) := by decide +kernel
theorem dX1_isAlike_37 : decode cX1_isAlike 37 = .ok (.getfield 174, 3) := by decide +kernel
theorem dX1_isAlike_40 : decode cX1_isAlike 40 = .ok (.iload_n 2, 1) := by decide +kernel
theorem dX1_isAlike_41 : decode cX1_isAlike 41 = .ok (.iaload, 1) := by decide +kernel
theorem dX1_isAlike_42 : decode cX1_isAlike 42 = .ok (.if_icmp .ne 7, 3) := by decide +kernel
theorem dX1_isAlike_45 : decode cX1_isAlike 45 = .ok (.iconst 1, 1) := by decide +kernel
theorem dX1_isAlike_46 : decode cX1_isAlike 46 = .ok (.goto 4, 3) := by decide +kernel
theorem dX1_isAlike_49 : decode cX1_isAlike 49 = .ok (.iconst 0, 1) := by decide +kernel
theorem dX1_isAlike_50 : decode cX1_isAlike 50 = .ok (.ireturn, 1) := by decide +kernel
theorem dX1_tryEnd_0 : decode cX1_tryEnd 0 = .ok (.aload_n 0, 1) := by decide +kernel
theorem dX1_tryEnd_1 : decode cX1_tryEnd 1 = .ok (.getfield 7, 3) := by decide +kernel
theorem dX1_tryEnd_4 : decode cX1_tryEnd 4 = .ok (.aload_n 0, 1) := by decide +kernel
theorem dX1_tryEnd_5 : decode cX1_tryEnd 5 = .ok (.getfield 23, 3) := by decide +kernel
theorem dX1_tryEnd_8 : decode cX1_tryEnd 8 = .ok (.iload_n 1, 1) := by decide +kernel
theorem dX1_tryEnd_9 : decode cX1_tryEnd 9 = .ok (.iaload, 1) := by decide +kernel
theorem dX1_tryEnd_10 : decode cX1_tryEnd 10 = .ok (.iadd, 1) := by decide +kernel
theorem dX1_tryEnd_11 : decode cX1_tryEnd 11 = .ok (.istore_n 3, 1) := by decide +kernel
theorem dX1_tryEnd_12 : decode cX1_tryEnd 12 = .ok (.iconst 0, 1) := by decide +kernel
theorem dX1_tryEnd_13 : decode cX1_tryEnd 13 = .ok (.istore 4, 2) := by decide +kernel
theorem dX1_tryEnd_15 : decode cX1_tryEnd 15 = .ok (.iload 4, 2) := by decide +kernel
theorem dX1_tryEnd_17 : decode cX1_tryEnd 17 = .ok (.aload_n 0, 1) := by decide +kernel
theorem dX1_tryEnd_18 : decode cX1_tryEnd 18 = .ok (.getfield 44, 3) := by decide +kernel
theorem dX1_tryEnd_21 : decode cX1_tryEnd 21 = .ok (.if_icmp .ge 69, 3) := by decide +kernel
theorem dX1_tryEnd_24 : decode cX1_tryEnd 24 = .ok (.aload_n 0, 1) := by decide +kernel
theorem dX1_tryEnd_25 : decode cX1_tryEnd 25 = .ok (.getfield 47, 3) := by decide +kernel
theorem dX1_tryEnd_28 : decode cX1_tryEnd 28 = .ok (.iload 4, 2) := by decide +kernel
theorem dX1_tryEnd_30 : decode cX1_tryEnd 30 = .ok (.iaload, 1) := by decide +kernel
theorem dX1_tryEnd_31 : decode cX1_tryEnd 31 = .ok (.iload_n 1, 1) := by decide +kernel
theorem dX1_tryEnd_32 : decode cX1_tryEnd 32 = .ok (.if_icmp .ne 52, 3) := by decide +kernel
theorem dX1_tryEnd_35 : decode cX1_tryEnd 35 = .ok (.aload_n 0, 1) := by decide +kernel
theorem dX1_tryEnd_36 : decode cX1_tryEnd 36 = .ok (.getfield 50, 3) := by decide +kernel
theorem dX1_tryEnd_39 : decode cX1_tryEnd 39 = .ok (.iload 4, 2) := by decide +kernel
theorem dX1_tryEnd_41 : decode cX1_tryEnd 41 = .ok (.iaload, 1) := by decide +kernel
theorem dX1_tryEnd_42 : decode cX1_tryEnd 42 = .ok (.iload_n 2, 1) := by decide +kernel
theorem dX1_tryEnd_43 : decode cX1_tryEnd 43 = .ok (.if_icmp .ne 41, 3) := by decide +kernel
theorem dX1_tryEnd_46 : decode cX1_tryEnd 46 = .ok (.aload_n 0, 1) := by decide +kernel
theorem dX1_tryEnd_47 : decode cX1_tryEnd 47 = .ok (.getfield 7, 3) := by decide +kernel
theorem dX1_tryEnd_50 : decode cX1_tryEnd 50 = .ok (.aload_n 0, 1) := by decide +kernel
theorem dX1_tryEnd_51 : decode cX1_tryEnd 51 = .ok (.getfield 53, 3) := by decide +kernel
theorem dX1_tryEnd_54 : decode cX1_tryEnd 54 = .ok (.iload 4, 2) := by decide +kernel
theorem dX1_tryEnd_56 : decode cX1_tryEnd 56 = .ok (.iaload, 1) := by decide +kernel
theorem dX1_tryEnd_57 : decode cX1_tryEnd 57 = .ok (.if_icmp .lt 27, 3) := by decide +kernel
theorem dX1_tryEnd_60 : decode cX1_tryEnd 60 = .ok (.aload_n 0, 1) := by decide +kernel
theorem dX1_tryEnd_61 : decode cX1_tryEnd 61 = .ok (.getfield 7, 3) := by decide +kernel
theorem dX1_tryEnd_64 : decode cX1_tryEnd 64 = .ok (.aload_n 0, 1) := by decide +kernel
theorem dX1_tryEnd_65 : decode cX1_tryEnd 65 = .ok (.getfield 56, 3) := by decide +kernel
theorem dX1_tryEnd_68 : decode cX1_tryEnd 68 = .ok (.iload 4, 2) := by decide +kernel
theorem dX1_tryEnd_70 : decode cX1_tryEnd 70 = .ok (.iaload, 1) := by decide +kernel
theorem dX1_tryEnd_71 : decode cX1_tryEnd 71 = .ok (.if_icmp .gt 13, 3) := by decide +kernel
theorem dX1_tryEnd_74 : decode cX1_tryEnd 74 = .ok (.iload_n 3, 1) := by decide +kernel
theorem dX1_tryEnd_75 : decode cX1_tryEnd 75 = .ok (.aload_n 0, 1) := by decide +kernel
theorem dX1_tryEnd_76 : decode cX1_tryEnd 76 = .ok (.getfield 59, 3) := by decide +kernel
theorem dX1_tryEnd_79 : decode cX1_tryEnd 79 = .ok (.iload 4, 2) := by decide +kernel
theorem dX1_tryEnd_81 : decode cX1_tryEnd 81 = .ok (.iaload, 1) := by decide +kernel
theorem dX1_tryEnd_82 : decode cX1_tryEnd 82 = .ok (.iadd, 1) := by decide +kernel
theorem dX1_tryEnd_83 : decode cX1_tryEnd 83 = .ok (.istore_n 3, 1) := by decide +kernel
theorem dX1_tryEnd_84 : decode cX1_tryEnd 84 = .ok (.iinc 4 1, 3) := by decide +kernel
theorem dX1_tryEnd_87 : decode cX1_tryEnd 87 = .ok (.goto (-72), 3) := by decide +kernel
theorem dX1_tryEnd_90 : decode cX1_tryEnd 90 = .ok (.iload_n 3, 1) := by decide +kernel
theorem dX1_tryEnd_91 : decode cX1_tryEnd 91 = .ok (.ireturn, 1) := by decide +kernel
theorem dX1_ends_0 : decode cX1_ends 0 = .ok (.aload_n 0, 1) := by decide +kernel
theorem dX1_ends_1 : decode cX1_ends 1 = .ok (.getfield 219, 3) := by decide +kernel
theorem dX1_ends_4 : decode cX1_ends 4 = .ok (.iload_n 1, 1) := by decide +kernel
theorem dX1_ends_5 : decode cX1_ends 5 = .ok (.iaload, 1) := by decide +kernel
theorem dX1_ends_6 : decode cX1_ends 6 = .ok (.ifCond .eq 4, 3) := by decide +kernel
theorem dX1_ends_9 : decode cX1_ends 9 = .ok (.return_, 1) := by decide +kernel
theorem dX1_ends_10 : decode cX1_ends 10 = .ok (.aload_n 0, 1) := by decide +kernel
theorem dX1_ends_11 : decode cX1_ends 11 = .ok (.getfield 219, 3) := by decide +kernel
theorem dX1_ends_14 : decode cX1_ends 14 = .ok (.iload_n 1, 1) := by decide +kernel
theorem dX1_ends_15 : decode cX1_ends 15 = .ok (.iload_n 2, 1) := by decide +kernel
theorem dX1_ends_16 : decode cX1_ends 16 = .ok (.iastore, 1) := by decide +kernel
theorem dX1_ends_17 : decode cX1_ends 17 = .ok (.aload_n 0, 1) := by decide +kernel
theorem dX1_ends_18 : decode cX1_ends 18 = .ok (.getfield 222, 3) := by decide +kernel
theorem dX1_ends_21 : decode cX1_ends 21 = .ok (.iload_n 1, 1) := by decide +kernel
theorem dX1_ends_22 : decode cX1_ends 22 = .ok (.iload_n 3, 1) := by decide +kernel
theorem dX1_ends_23 : decode cX1_ends 23 = .ok (.iastore, 1) := by decide +kernel
theorem dX1_ends_24 : decode cX1_ends 24 = .ok (.aload_n 0, 1) := by decide +kernel
theorem dX1_ends_25 : decode cX1_ends 25 = .ok (.getfield 225, 3) := by decide +kernel
theorem dX1_ends_28 : decode cX1_ends 28 = .ok (.iload_n 1, 1) := by decide +kernel
theorem dX1_ends_29 : decode cX1_ends 29 = .ok (.iload 4, 2) := by decide +kernel
theorem dX1_ends_31 : decode cX1_ends 31 = .ok (.ifCond .eq 12, 3) := by decide +kernel
theorem dX1_ends_34 : decode cX1_ends 34 = .ok (.iload_n 2, 1) := by decide +kernel
theorem dX1_ends_35 : decode cX1_ends 35 = .ok (.iconst 1, 1) := by decide +kernel
theorem dX1_ends_36 : decode cX1_ends 36 = .ok (.if_icmp .ne 7, 3) := by decide +kernel
theorem dX1_ends_39 : decode cX1_ends 39 = .ok (.iconst 1, 1) := by decide +kernel
theorem dX1_ends_40 : decode cX1_ends 40 = .ok (.goto 4, 3) := by decide +kernel
theorem dX1_ends_43 : decode cX1_ends 43 = .ok (.iconst 0, 1) := by decide +kernel
theorem dX1_ends_44 : decode cX1_ends 44 = .ok (.bastore, 1) := by decide +kernel
theorem dX1_ends_45 : decode cX1_ends 45 = .ok (.aload_n 0, 1) := by decide +kernel
theorem dX1_ends_46 : decode cX1_ends 46 = .ok (.getfield 216, 3) := by decide +kernel
theorem dX1_ends_49 : decode cX1_ends 49 = .ok (.iload_n 1, 1) := by decide +kernel
theorem dX1_ends_50 : decode cX1_ends 50 = .ok (.aload_n 0, 1) := by decide +kernel
theorem dX1_ends_51 : decode cX1_ends 51 = .ok (.getfield 7, 3) := by decide +kernel
theorem dX1_ends_54 : decode cX1_ends 54 = .ok (.iastore, 1) := by decide +kernel
theorem dX1_ends_55 : decode cX1_ends 55 = .ok (.aload_n 0, 1) := by decide +kernel
theorem dX1_ends_56 : decode cX1_ends 56 = .ok (.getfield 204, 3) := by decide +kernel
theorem dX1_ends_59 : decode cX1_ends 59 = .ok (.iload_n 1, 1) := by decide +kernel
theorem dX1_ends_60 : decode cX1_ends 60 = .ok (.iaload, 1) := by decide +kernel
theorem dX1_ends_61 : decode cX1_ends 61 = .ok (.istore 5, 2) := by decide +kernel
theorem dX1_ends_63 : decode cX1_ends 63 = .ok (.iload 5, 2) := by decide +kernel
theorem dX1_ends_65 : decode cX1_ends 65 = .ok (.ifCond .lt 11, 3) := by decide +kernel
theorem dX1_ends_68 : decode cX1_ends 68 = .ok (.aload_n 0, 1) := by decide +kernel
theorem dX1_ends_69 : decode cX1_ends 69 = .ok (.iload 5, 2) := by decide +kernel
theorem dX1_ends_71 : decode cX1_ends 71 = .ok (.iload_n 1, 1) := by decide +kernel
theorem dX1_ends_72 : decode cX1_ends 72 = .ok (.invokevirtual 415, 3) := by decide +kernel
theorem dX1_ends_75 : decode cX1_ends 75 = .ok (.return_, 1) := by decide +kernel
theorem dX1_ends_76 : decode cX1_ends 76 = .ok (.aload_n 0, 1) := by decide +kernel
theorem dX1_ends_77 : decode cX1_ends 77 = .ok (.getfield 198, 3) := by decide +kernel
theorem dX1_ends_80 : decode cX1_ends 80 = .ok (.iload_n 1, 1) := by decide +kernel
theorem dX1_ends_81 : decode cX1_ends 81 = .ok (.iaload, 1) := by decide +kernel
theorem dX1_ends_82 : decode cX1_ends 82 = .ok (.istore 6, 2) := by decide +kernel
theorem dX1_ends_84 : decode cX1_ends 84 = .ok (.aload_n 0, 1) := by decide +kernel
theorem dX1_ends_85 : decode cX1_ends 85 = .ok (.getfield 186, 3) := by decide +kernel
theorem dX1_ends_88 : decode cX1_ends 88 = .ok (.iload 6, 2) := by decide +kernel
theorem dX1_ends_90 : decode cX1_ends 90 = .ok (.iload_n 2, 1) := by decide +kernel
theorem dX1_ends_91 : decode cX1_ends 91 = .ok (.iconst 1, 1) := by decide +kernel
theorem dX1_ends_92 : decode cX1_ends 92 = .ok (.if_icmp .ne 16, 3) := by decide +kernel
theorem dX1_ends_95 : decode cX1_ends 95 = .ok (.iload 4, 2) := by decide +kernel
theorem dX1_ends_97 : decode cX1_ends 97 = .ok (.ifCond .eq 7, 3) := by decide +kernel
theorem dX1_ends_100 : decode cX1_ends 100 = .ok (.iconst 3, 1) := by decide +kernel
theorem dX1_ends_101 : decode cX1_ends 101 = .ok (.goto 8, 3) := by decide +kernel
theorem dX1_ends_104 : decode cX1_ends 104 = .ok (.iconst 1, 1) := by decide +kernel
theorem dX1_ends_105 : decode cX1_ends 105 = .ok (.goto 4, 3) := by decide +kernel
theorem dX1_ends_108 : decode cX1_ends 108 = .ok (.iconst 2, 1) := by decide +kernel
theorem dX1_ends_109 : decode cX1_ends 109 = .ok (.iastore, 1) := by decide +kernel
theorem dX1_ends_110 : decode cX1_ends 110 = .ok (.aload_n 0, 1) := by decide +kernel
theorem dX1_ends_111 : decode cX1_ends 111 = .ok (.getfield 189, 3) := by decide +kernel
theorem dX1_ends_114 : decode cX1_ends 114 = .ok (.iload 6, 2) := by decide +kernel
theorem dX1_ends_116 : decode cX1_ends 116 = .ok (.iload_n 3, 1) := by decide +kernel
theorem dX1_ends_117 : decode cX1_ends 117 = .ok (.iastore, 1) := by decide +kernel
theorem dX1_ends_118 : decode cX1_ends 118 = .ok (.aload_n 0, 1) := by decide +kernel
theorem dX1_ends_119 : decode cX1_ends 119 = .ok (.getfield 183, 3) := by decide +kernel
theorem dX1_ends_122 : decode cX1_ends 122 = .ok (.iload 6, 2) := by decide +kernel
theorem dX1_ends_124 : decode cX1_ends 124 = .ok (.aload_n 0, 1) := by decide +kernel
theorem dX1_ends_125 : decode cX1_ends 125 = .ok (.getfield 7, 3) := by decide +kernel
theorem dX1_ends_128 : decode cX1_ends 128 = .ok (.iastore, 1) := by decide +kernel
theorem dX1_ends_129 : decode cX1_ends 129 = .ok (.aload_n 0, 1) := by decide +kernel
theorem dX1_ends_130 : decode cX1_ends 130 = .ok (.dup, 1) := by decide +kernel
theorem dX1_ends_131 : decode cX1_ends 131 = .ok (.getfield 192, 3) := by decide +kernel
theorem dX1_ends_134 : decode cX1_ends 134 = .ok (.iconst 1, 1) := by decide +kernel
theorem dX1_ends_135 : decode cX1_ends 135 = .ok (.iadd, 1) := by decide +kernel
theorem dX1_ends_136 : decode cX1_ends 136 = .ok (.putfield 192, 3) := by decide +kernel
theorem dX1_ends_139 : decode cX1_ends 139 = .ok (.return_, 1) := by decide +kernel
theorem dX1_told_0 : decode cX1_told 0 = .ok (.aload_n 0, 1) := by decide +kernel
theorem dX1_told_1 : decode cX1_told 1 = .ok (.getfield 207, 3) := by decide +kernel
theorem dX1_told_4 : decode cX1_told 4 = .ok (.iload_n 1, 1) := by decide +kernel
theorem dX1_told_5 : decode cX1_told 5 = .ok (.iaload, 1) := by decide +kernel
theorem dX1_told_6 : decode cX1_told 6 = .ok (.istore_n 3, 1) := by decide +kernel
theorem dX1_told_7 : decode cX1_told 7 = .ok (.aload_n 0, 1) := by decide +kernel
theorem dX1_told_8 : decode cX1_told 8 = .ok (.getfield 104, 3) := by decide +kernel
theorem dX1_told_11 : decode cX1_told 11 = .ok (.iload_n 3, 1) := by decide +kernel
theorem dX1_told_12 : decode cX1_told 12 = .ok (.iaload, 1) := by decide +kernel
theorem dX1_told_13 : decode cX1_told 13 = .ok (.tableswitch 290 0 9 #[55, 71, 290, 290, 97, 107, 116, 126, 214, 232], 55) := by decide +kernel
theorem dX1_told_68 : decode cX1_told 68 = .ok (.aload_n 0, 1) := by decide +kernel
theorem dX1_told_69 : decode cX1_told 69 = .ok (.iload_n 1, 1) := by decide +kernel
theorem dX1_told_70 : decode cX1_told 70 = .ok (.iload_n 2, 1) := by decide +kernel
theorem dX1_told_71 : decode cX1_told 71 = .ok (.iload_n 3, 1) := by decide +kernel
theorem dX1_told_72 : decode cX1_told 72 = .ok (.invokevirtual 418, 3) := by decide +kernel
theorem dX1_told_75 : decode cX1_told 75 = .ok (.aload_n 0, 1) := by decide +kernel
theorem dX1_told_76 : decode cX1_told 76 = .ok (.iload_n 1, 1) := by decide +kernel
theorem dX1_told_77 : decode cX1_told 77 = .ok (.iload_n 2, 1) := by decide +kernel
theorem dX1_told_78 : decode cX1_told 78 = .ok (.invokevirtual 422, 3) := by decide +kernel
theorem dX1_told_81 : decode cX1_told 81 = .ok (.goto 228, 3) := by decide +kernel
theorem dX1_told_84 : decode cX1_told 84 = .ok (.aload_n 0, 1) := by decide +kernel
theorem dX1_told_85 : decode cX1_told 85 = .ok (.getfield 243, 3) := by decide +kernel
theorem dX1_told_88 : decode cX1_told 88 = .ok (.iload_n 1, 1) := by decide +kernel
theorem dX1_told_89 : decode cX1_told 89 = .ok (.iconst 0, 1) := by decide +kernel
theorem dX1_told_90 : decode cX1_told 90 = .ok (.bastore, 1) := by decide +kernel
theorem dX1_told_91 : decode cX1_told 91 = .ok (.aload_n 0, 1) := by decide +kernel
theorem dX1_told_92 : decode cX1_told 92 = .ok (.getfield 128, 3) := by decide +kernel
theorem dX1_told_95 : decode cX1_told 95 = .ok (.iload_n 3, 1) := by decide +kernel
theorem dX1_told_96 : decode cX1_told 96 = .ok (.dup2, 1) := by decide +kernel
theorem dX1_told_97 : decode cX1_told 97 = .ok (.iaload, 1) := by decide +kernel
theorem dX1_told_98 : decode cX1_told 98 = .ok (.iconst 1, 1) := by decide +kernel
theorem dX1_told_99 : decode cX1_told 99 = .ok (.isub, 1) := by decide +kernel
theorem dX1_told_100 : decode cX1_told 100 = .ok (.iastore, 1) := by decide +kernel
theorem dX1_told_101 : decode cX1_told 101 = .ok (.aload_n 0, 1) := by decide +kernel
theorem dX1_told_102 : decode cX1_told 102 = .ok (.iload_n 1, 1) := by decide +kernel
theorem dX1_told_103 : decode cX1_told 103 = .ok (.iload_n 2, 1) := by decide +kernel
theorem dX1_told_104 : decode cX1_told 104 = .ok (.invokevirtual 422, 3) := by decide +kernel
theorem dX1_told_107 : decode cX1_told 107 = .ok (.goto 202, 3) := by decide +kernel
theorem dX1_told_110 : decode cX1_told 110 = .ok (.aload_n 0, 1) := by decide +kernel
theorem dX1_told_111 : decode cX1_told 111 = .ok (.iload_n 1, 1) := by decide +kernel
theorem dX1_told_112 : decode cX1_told 112 = .ok (.iload_n 2, 1) := by decide +kernel
theorem dX1_told_113 : decode cX1_told 113 = .ok (.iload_n 3, 1) := by decide +kernel
theorem dX1_told_114 : decode cX1_told 114 = .ok (.invokevirtual 425, 3) := by decide +kernel
theorem dX1_told_117 : decode cX1_told 117 = .ok (.goto 192, 3) := by decide +kernel
theorem dX1_told_120 : decode cX1_told 120 = .ok (.aload_n 0, 1) := by decide +kernel
theorem dX1_told_121 : decode cX1_told 121 = .ok (.iload_n 1, 1) := by decide +kernel
theorem dX1_told_122 : decode cX1_told 122 = .ok (.iload_n 2, 1) := by decide +kernel
theorem dX1_told_123 : decode cX1_told 123 = .ok (.invokevirtual 428, 3) := by decide +kernel
theorem dX1_told_126 : decode cX1_told 126 = .ok (.goto 183, 3) := by decide +kernel
theorem dX1_told_129 : decode cX1_told 129 = .ok (.aload_n 0, 1) := by decide +kernel
theorem dX1_told_130 : decode cX1_told 130 = .ok (.iload_n 1, 1) := by decide +kernel
theorem dX1_told_131 : decode cX1_told 131 = .ok (.iload_n 2, 1) := by decide +kernel
theorem dX1_told_132 : decode cX1_told 132 = .ok (.iload_n 3, 1) := by decide +kernel
theorem dX1_told_133 : decode cX1_told 133 = .ok (.invokevirtual 431, 3) := by decide +kernel
theorem dX1_told_136 : decode cX1_told 136 = .ok (.goto 173, 3) := by decide +kernel
theorem dX1_told_139 : decode cX1_told 139 = .ok (.aload_n 0, 1) := by decide +kernel
theorem dX1_told_140 : decode cX1_told 140 = .ok (.getfield 219, 3) := by decide +kernel
theorem dX1_told_143 : decode cX1_told 143 = .ok (.iload_n 2, 1) := by decide +kernel
theorem dX1_told_144 : decode cX1_told 144 = .ok (.iaload, 1) := by decide +kernel
theorem dX1_told_145 : decode cX1_told 145 = .ok (.iconst 1, 1) := by decide +kernel
theorem dX1_told_146 : decode cX1_told 146 = .ok (.if_icmp .ne 72, 3) := by decide +kernel
theorem dX1_told_149 : decode cX1_told 149 = .ok (.aload_n 0, 1) := by decide +kernel
theorem dX1_told_150 : decode cX1_told 150 = .ok (.getfield 171, 3) := by decide +kernel
theorem dX1_told_153 : decode cX1_told 153 = .ok (.aload_n 0, 1) := by decide +kernel
theorem dX1_told_154 : decode cX1_told 154 = .ok (.getfield 198, 3) := by decide +kernel
theorem dX1_told_157 : decode cX1_told 157 = .ok (.iload_n 1, 1) := by decide +kernel
theorem dX1_told_158 : decode cX1_told 158 = .ok (.iaload, 1) := by decide +kernel
theorem dX1_told_159 : decode cX1_told 159 = .ok (.iaload, 1) := by decide +kernel
theorem dX1_told_160 : decode cX1_told 160 = .ok (.ifCond .ne 58, 3) := by decide +kernel
theorem dX1_told_163 : decode cX1_told 163 = .ok (.bipush 8, 2) := by decide +kernel
theorem dX1_told_165 : decode cX1_told 165 = .ok (.iload_n 3, 1) := by decide +kernel
theorem dX1_told_166 : decode cX1_told 166 = .ok (.imul, 1) := by decide +kernel
theorem dX1_told_167 : decode cX1_told 167 = .ok (.aload_n 0, 1) := by decide +kernel
theorem dX1_told_168 : decode cX1_told 168 = .ok (.getfield 168, 3) := by decide +kernel
theorem dX1_told_171 : decode cX1_told 171 = .ok (.aload_n 0, 1) := by decide +kernel
theorem dX1_told_172 : decode cX1_told 172 = .ok (.getfield 198, 3) := by decide +kernel
theorem dX1_told_175 : decode cX1_told 175 = .ok (.iload_n 1, 1) := by decide +kernel
theorem dX1_told_176 : decode cX1_told 176 = .ok (.iaload, 1) := by decide +kernel
theorem dX1_told_177 : decode cX1_told 177 = .ok (.iaload, 1) := by decide +kernel
theorem dX1_told_178 : decode cX1_told 178 = .ok (.iadd, 1) := by decide +kernel
theorem dX1_told_179 : decode cX1_told 179 = .ok (.istore 4, 2) := by decide +kernel
theorem dX1_told_181 : decode cX1_told 181 = .ok (.aload_n 0, 1) := by decide +kernel
theorem dX1_told_182 : decode cX1_told 182 = .ok (.getfield 143, 3) := by decide +kernel
theorem dX1_told_185 : decode cX1_told 185 = .ok (.iload 4, 2) := by decide +kernel
theorem dX1_told_187 : decode cX1_told 187 = .ok (.aload_n 0, 1) := by decide +kernel
theorem dX1_told_188 : decode cX1_told 188 = .ok (.getfield 222, 3) := by decide +kernel
theorem dX1_told_191 : decode cX1_told 191 = .ok (.iload_n 2, 1) := by decide +kernel
theorem dX1_told_192 : decode cX1_told 192 = .ok (.iaload, 1) := by decide +kernel
theorem dX1_told_193 : decode cX1_told 193 = .ok (.iastore, 1) := by decide +kernel
theorem dX1_told_194 : decode cX1_told 194 = .ok (.aload_n 0, 1) := by decide +kernel
theorem dX1_told_195 : decode cX1_told 195 = .ok (.getfield 146, 3) := by decide +kernel
theorem dX1_told_198 : decode cX1_told 198 = .ok (.iload 4, 2) := by decide +kernel
theorem dX1_told_200 : decode cX1_told 200 = .ok (.aload_n 0, 1) := by decide +kernel
theorem dX1_told_201 : decode cX1_told 201 = .ok (.getfield 7, 3) := by decide +kernel
theorem dX1_told_204 : decode cX1_told 204 = .ok (.iastore, 1) := by decide +kernel
