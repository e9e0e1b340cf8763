set_option maxRecDepth 100000
theorem dX1_bulkhead_11 : decode cX1_bulkhead 11 = .ok (.iload_n 2, 1) := by decide +kernel
theorem dX1_bulkhead_12 : decode cX1_bulkhead 12 = .ok (.tableswitch 49 0 2 #[28, 35, 42], 28) := by decide +kernel
theorem dX1_bulkhead_40 : decode cX1_bulkhead 40 = .ok (.aload_n 0, 1) := by decide +kernel
theorem dX1_bulkhead_41 : decode cX1_bulkhead 41 = .ok (.getfield 128, 3) := by decide +kernel
theorem dX1_bulkhead_44 : decode cX1_bulkhead 44 = .ok (.iload_n 1, 1) := by decide +kernel
theorem dX1_bulkhead_45 : decode cX1_bulkhead 45 = .ok (.iaload, 1) := by decide +kernel
theorem dX1_bulkhead_46 : decode cX1_bulkhead 46 = .ok (.ireturn, 1) := by decide +kernel
theorem dX1_bulkhead_47 : decode cX1_bulkhead 47 = .ok (.aload_n 0, 1) := by decide +kernel
theorem dX1_bulkhead_48 : decode cX1_bulkhead 48 = .ok (.getfield 131, 3) := by decide +kernel
theorem dX1_bulkhead_51 : decode cX1_bulkhead 51 = .ok (.iload_n 1, 1) := by decide +kernel
theorem dX1_bulkhead_52 : decode cX1_bulkhead 52 = .ok (.iaload, 1) := by decide +kernel
theorem dX1_bulkhead_53 : decode cX1_bulkhead 53 = .ok (.ireturn, 1) := by decide +kernel
theorem dX1_bulkhead_54 : decode cX1_bulkhead 54 = .ok (.aload_n 0, 1) := by decide +kernel
theorem dX1_bulkhead_55 : decode cX1_bulkhead 55 = .ok (.getfield 134, 3) := by decide +kernel
theorem dX1_bulkhead_58 : decode cX1_bulkhead 58 = .ok (.iload_n 1, 1) := by decide +kernel
theorem dX1_bulkhead_59 : decode cX1_bulkhead 59 = .ok (.iaload, 1) := by decide +kernel
theorem dX1_bulkhead_60 : decode cX1_bulkhead 60 = .ok (.ireturn, 1) := by decide +kernel
theorem dX1_bulkhead_61 : decode cX1_bulkhead 61 = .ok (.iconst (-1), 1) := by decide +kernel
theorem dX1_bulkhead_62 : decode cX1_bulkhead 62 = .ok (.ireturn, 1) := by decide +kernel
theorem dX1_waiting_0 : decode cX1_waiting 0 = .ok (.aload_n 0, 1) := by decide +kernel
theorem dX1_waiting_1 : decode cX1_waiting 1 = .ok (.iload_n 1, 1) := by decide +kernel
theorem dX1_waiting_2 : decode cX1_waiting 2 = .ok (.iconst 1, 1) := by decide +kernel
theorem dX1_waiting_3 : decode cX1_waiting 3 = .ok (.invokevirtual 459, 3) := by decide +kernel
theorem dX1_waiting_6 : decode cX1_waiting 6 = .ok (.ifCond .eq 17, 3) := by decide +kernel
theorem dX1_waiting_9 : decode cX1_waiting 9 = .ok (.iload_n 2, 1) := by decide +kernel
theorem dX1_waiting_10 : decode cX1_waiting 10 = .ok (.ifCond .lt 13, 3) := by decide +kernel
theorem dX1_waiting_13 : decode cX1_waiting 13 = .ok (.iload_n 2, 1) := by decide +kernel
theorem dX1_waiting_14 : decode cX1_waiting 14 = .ok (.aload_n 0, 1) := by decide +kernel
theorem dX1_waiting_15 : decode cX1_waiting 15 = .ok (.getfield 131, 3) := by decide +kernel
theorem dX1_waiting_18 : decode cX1_waiting 18 = .ok (.iload_n 1, 1) := by decide +kernel
theorem dX1_waiting_19 : decode cX1_waiting 19 = .ok (.iaload, 1) := by decide +kernel
theorem dX1_waiting_20 : decode cX1_waiting 20 = .ok (.if_icmp .lt 7, 3) := by decide +kernel
theorem dX1_waiting_23 : decode cX1_waiting 23 = .ok (.iconst (-1), 1) := by decide +kernel
theorem dX1_waiting_24 : decode cX1_waiting 24 = .ok (.goto 14, 3) := by decide +kernel
theorem dX1_waiting_27 : decode cX1_waiting 27 = .ok (.aload_n 0, 1) := by decide +kernel
theorem dX1_waiting_28 : decode cX1_waiting 28 = .ok (.getfield 140, 3) := by decide +kernel
theorem dX1_waiting_31 : decode cX1_waiting 31 = .ok (.bipush 10, 2) := by decide +kernel
theorem dX1_waiting_33 : decode cX1_waiting 33 = .ok (.iload_n 1, 1) := by decide +kernel
theorem dX1_waiting_34 : decode cX1_waiting 34 = .ok (.imul, 1) := by decide +kernel
theorem dX1_waiting_35 : decode cX1_waiting 35 = .ok (.iload_n 2, 1) := by decide +kernel
theorem dX1_waiting_36 : decode cX1_waiting 36 = .ok (.iadd, 1) := by decide +kernel
theorem dX1_waiting_37 : decode cX1_waiting 37 = .ok (.iaload, 1) := by decide +kernel
theorem dX1_waiting_38 : decode cX1_waiting 38 = .ok (.ireturn, 1) := by decide +kernel
theorem dX1_tokens_0 : decode cX1_tokens 0 = .ok (.aload_n 0, 1) := by decide +kernel
theorem dX1_tokens_1 : decode cX1_tokens 1 = .ok (.iload_n 1, 1) := by decide +kernel
theorem dX1_tokens_2 : decode cX1_tokens 2 = .ok (.iconst 2, 1) := by decide +kernel
theorem dX1_tokens_3 : decode cX1_tokens 3 = .ok (.invokevirtual 459, 3) := by decide +kernel
theorem dX1_tokens_6 : decode cX1_tokens 6 = .ok (.ifCond .eq 12, 3) := by decide +kernel
theorem dX1_tokens_9 : decode cX1_tokens 9 = .ok (.aload_n 0, 1) := by decide +kernel
theorem dX1_tokens_10 : decode cX1_tokens 10 = .ok (.getfield 137, 3) := by decide +kernel
theorem dX1_tokens_13 : decode cX1_tokens 13 = .ok (.iload_n 1, 1) := by decide +kernel
theorem dX1_tokens_14 : decode cX1_tokens 14 = .ok (.iaload, 1) := by decide +kernel
theorem dX1_tokens_15 : decode cX1_tokens 15 = .ok (.goto 4, 3) := by decide +kernel
theorem dX1_tokens_18 : decode cX1_tokens 18 = .ok (.iconst (-1), 1) := by decide +kernel
theorem dX1_tokens_19 : decode cX1_tokens 19 = .ok (.ireturn, 1) := by decide +kernel
theorem dX1_kept_0 : decode cX1_kept 0 = .ok (.aload_n 0, 1) := by decide +kernel
theorem dX1_kept_1 : decode cX1_kept 1 = .ok (.iload_n 1, 1) := by decide +kernel
theorem dX1_kept_2 : decode cX1_kept 2 = .ok (.bipush 7, 2) := by decide +kernel
theorem dX1_kept_4 : decode cX1_kept 4 = .ok (.invokevirtual 459, 3) := by decide +kernel
theorem dX1_kept_7 : decode cX1_kept 7 = .ok (.ifCond .eq 34, 3) := by decide +kernel
theorem dX1_kept_10 : decode cX1_kept 10 = .ok (.aload_n 0, 1) := by decide +kernel
theorem dX1_kept_11 : decode cX1_kept 11 = .ok (.iload_n 2, 1) := by decide +kernel
theorem dX1_kept_12 : decode cX1_kept 12 = .ok (.invokevirtual 343, 3) := by decide +kernel
theorem dX1_kept_15 : decode cX1_kept 15 = .ok (.ifCond .eq 26, 3) := by decide +kernel
theorem dX1_kept_18 : decode cX1_kept 18 = .ok (.iload_n 3, 1) := by decide +kernel
theorem dX1_kept_19 : decode cX1_kept 19 = .ok (.ifCond .lt 22, 3) := by decide +kernel
theorem dX1_kept_22 : decode cX1_kept 22 = .ok (.iload_n 3, 1) := by decide +kernel
theorem dX1_kept_23 : decode cX1_kept 23 = .ok (.iconst 1, 1) := by decide +kernel
theorem dX1_kept_24 : decode cX1_kept 24 = .ok (.if_icmp .gt 17, 3) := by decide +kernel
theorem dX1_kept_27 : decode cX1_kept 27 = .ok (.aload_n 0, 1) := by decide +kernel
theorem dX1_kept_28 : decode cX1_kept 28 = .ok (.getfield 146, 3) := by decide +kernel
theorem dX1_kept_31 : decode cX1_kept 31 = .ok (.bipush 8, 2) := by decide +kernel
theorem dX1_kept_33 : decode cX1_kept 33 = .ok (.iload_n 1, 1) := by decide +kernel
theorem dX1_kept_34 : decode cX1_kept 34 = .ok (.imul, 1) := by decide +kernel
theorem dX1_kept_35 : decode cX1_kept 35 = .ok (.iload_n 2, 1) := by decide +kernel
theorem dX1_kept_36 : decode cX1_kept 36 = .ok (.iadd, 1) := by decide +kernel
theorem dX1_kept_37 : decode cX1_kept 37 = .ok (.iaload, 1) := by decide +kernel
theorem dX1_kept_38 : decode cX1_kept 38 = .ok (.ifCond .ge 5, 3) := by decide +kernel
theorem dX1_kept_41 : decode cX1_kept 41 = .ok (.iconst (-1), 1) := by decide +kernel
theorem dX1_kept_42 : decode cX1_kept 42 = .ok (.ireturn, 1) := by decide +kernel
theorem dX1_kept_43 : decode cX1_kept 43 = .ok (.iload_n 3, 1) := by decide +kernel
theorem dX1_kept_44 : decode cX1_kept 44 = .ok (.ifCond .ne 17, 3) := by decide +kernel
theorem dX1_kept_47 : decode cX1_kept 47 = .ok (.aload_n 0, 1) := by decide +kernel
theorem dX1_kept_48 : decode cX1_kept 48 = .ok (.getfield 143, 3) := by decide +kernel
theorem dX1_kept_51 : decode cX1_kept 51 = .ok (.bipush 8, 2) := by decide +kernel
theorem dX1_kept_53 : decode cX1_kept 53 = .ok (.iload_n 1, 1) := by decide +kernel
theorem dX1_kept_54 : decode cX1_kept 54 = .ok (.imul, 1) := by decide +kernel
theorem dX1_kept_55 : decode cX1_kept 55 = .ok (.iload_n 2, 1) := by decide +kernel
theorem dX1_kept_56 : decode cX1_kept 56 = .ok (.iadd, 1) := by decide +kernel
theorem dX1_kept_57 : decode cX1_kept 57 = .ok (.iaload, 1) := by decide +kernel
theorem dX1_kept_58 : decode cX1_kept 58 = .ok (.goto 14, 3) := by decide +kernel
theorem dX1_kept_61 : decode cX1_kept 61 = .ok (.aload_n 0, 1) := by decide +kernel
theorem dX1_kept_62 : decode cX1_kept 62 = .ok (.getfield 146, 3) := by decide +kernel
theorem dX1_kept_65 : decode cX1_kept 65 = .ok (.bipush 8, 2) := by decide +kernel
theorem dX1_kept_67 : decode cX1_kept 67 = .ok (.iload_n 1, 1) := by decide +kernel
theorem dX1_kept_68 : decode cX1_kept 68 = .ok (.imul, 1) := by decide +kernel
theorem dX1_kept_69 : decode cX1_kept 69 = .ok (.iload_n 2, 1) := by decide +kernel
theorem dX1_kept_70 : decode cX1_kept 70 = .ok (.iadd, 1) := by decide +kernel
theorem dX1_kept_71 : decode cX1_kept 71 = .ok (.iaload, 1) := by decide +kernel
theorem dX1_kept_72 : decode cX1_kept 72 = .ok (.ireturn, 1) := by decide +kernel
theorem dX1_joined_0 : decode cX1_joined 0 = .ok (.iload_n 1, 1) := by decide +kernel
theorem dX1_joined_1 : decode cX1_joined 1 = .ok (.ifCond .lt 15, 3) := by decide +kernel
theorem dX1_joined_4 : decode cX1_joined 4 = .ok (.iload_n 1, 1) := by decide +kernel
theorem dX1_joined_5 : decode cX1_joined 5 = .ok (.aload_n 0, 1) := by decide +kernel
theorem dX1_joined_6 : decode cX1_joined 6 = .ok (.getfield 195, 3) := by decide +kernel
theorem dX1_joined_9 : decode cX1_joined 9 = .ok (.if_icmp .ge 7, 3) := by decide +kernel
theorem dX1_joined_12 : decode cX1_joined 12 = .ok (.iload_n 2, 1) := by decide +kernel
theorem dX1_joined_13 : decode cX1_joined 13 = .ok (.ifCond .ge 5, 3) := by decide +kernel
theorem dX1_joined_16 : decode cX1_joined 16 = .ok (.iconst (-1), 1) := by decide +kernel
theorem dX1_joined_17 : decode cX1_joined 17 = .ok (.ireturn, 1) := by decide +kernel
theorem dX1_joined_18 : decode cX1_joined 18 = .ok (.iload_n 2, 1) := by decide +kernel
theorem dX1_joined_19 : decode cX1_joined 19 = .ok (.istore_n 3, 1) := by decide +kernel
theorem dX1_joined_20 : decode cX1_joined 20 = .ok (.iconst 0, 1) := by decide +kernel
theorem dX1_joined_21 : decode cX1_joined 21 = .ok (.istore 4, 2) := by decide +kernel
theorem dX1_joined_23 : decode cX1_joined 23 = .ok (.iload 4, 2) := by decide +kernel
theorem dX1_joined_25 : decode cX1_joined 25 = .ok (.aload_n 0, 1) := by decide +kernel
theorem dX1_joined_26 : decode cX1_joined 26 = .ok (.getfield 195, 3) := by decide +kernel
theorem dX1_joined_29 : decode cX1_joined 29 = .ok (.if_icmp .ge 43, 3) := by decide +kernel
theorem dX1_joined_32 : decode cX1_joined 32 = .ok (.aload_n 0, 1) := by decide +kernel
theorem dX1_joined_33 : decode cX1_joined 33 = .ok (.getfield 234, 3) := by decide +kernel
theorem dX1_joined_36 : decode cX1_joined 36 = .ok (.iload 4, 2) := by decide +kernel
theorem dX1_joined_38 : decode cX1_joined 38 = .ok (.iaload, 1) := by decide +kernel
theorem dX1_joined_39 : decode cX1_joined 39 = .ok (.iload_n 1, 1) := by decide +kernel
theorem dX1_joined_40 : decode cX1_joined 40 = .ok (.if_icmp .ne 26, 3) := by decide +kernel
theorem dX1_joined_43 : decode cX1_joined 43 = .ok (.aload_n 0, 1) := by decide +kernel
theorem dX1_joined_44 : decode cX1_joined 44 = .ok (.getfield 219, 3) := by decide +kernel
theorem dX1_joined_47 : decode cX1_joined 47 = .ok (.iload 4, 2) := by decide +kernel
theorem dX1_joined_49 : decode cX1_joined 49 = .ok (.iaload, 1) := by decide +kernel
theorem dX1_joined_50 : decode cX1_joined 50 = .ok (.ifCond .eq 6, 3) := by decide +kernel
theorem dX1_joined_53 : decode cX1_joined 53 = .ok (.goto 13, 3) := by decide +kernel
theorem dX1_joined_56 : decode cX1_joined 56 = .ok (.iload_n 3, 1) := by decide +kernel
theorem dX1_joined_57 : decode cX1_joined 57 = .ok (.ifCond .ne 6, 3) := by decide +kernel
theorem dX1_joined_60 : decode cX1_joined 60 = .ok (.iload 4, 2) := by decide +kernel
theorem dX1_joined_62 : decode cX1_joined 62 = .ok (.ireturn, 1) := by decide +kernel
theorem dX1_joined_63 : decode cX1_joined 63 = .ok (.iinc 3 (-1), 3) := by decide +kernel
theorem dX1_joined_66 : decode cX1_joined 66 = .ok (.iinc 4 1, 3) := by decide +kernel
theorem dX1_joined_69 : decode cX1_joined 69 = .ok (.goto (-46), 3) := by decide +kernel
theorem dX1_joined_72 : decode cX1_joined 72 = .ok (.iconst (-1), 1) := by decide +kernel
theorem dX1_joined_73 : decode cX1_joined 73 = .ok (.ireturn, 1) := by decide +kernel
theorem dX1_level_0 : decode cX1_level 0 = .ok (.aload_n 0, 1) := by decide +kernel
theorem dX1_level_1 : decode cX1_level 1 = .ok (.iload_n 1, 1) := by decide +kernel
theorem dX1_level_2 : decode cX1_level 2 = .ok (.invokevirtual 343, 3) := by decide +kernel
theorem dX1_level_5 : decode cX1_level 5 = .ok (.ifCond .eq 12, 3) := by decide +kernel
theorem dX1_level_8 : decode cX1_level 8 = .ok (.aload_n 0, 1) := by decide +kernel
theorem dX1_level_9 : decode cX1_level 9 = .ok (.getfield 16, 3) := by decide +kernel
theorem dX1_level_12 : decode cX1_level 12 = .ok (.iload_n 1, 1) := by decide +kernel
theorem dX1_level_13 : decode cX1_level 13 = .ok (.iaload, 1) := by decide +kernel
theorem dX1_level_14 : decode cX1_level 14 = .ok (.goto 4, 3) := by decide +kernel
theorem dX1_level_17 : decode cX1_level 17 = .ok (.iconst (-1), 1) := by decide +kernel
theorem dX1_level_18 : decode cX1_level 18 = .ok (.ireturn, 1) := by decide +kernel
theorem dX1_effect_0 : decode cX1_effect 0 = .ok (.iload_n 1, 1) := by decide +kernel
theorem dX1_effect_1 : decode cX1_effect 1 = .ok (.ifCond .lt 11, 3) := by decide +kernel
theorem dX1_effect_4 : decode cX1_effect 4 = .ok (.iload_n 1, 1) := by decide +kernel
theorem dX1_effect_5 : decode cX1_effect 5 = .ok (.aload_n 0, 1) := by decide +kernel
theorem dX1_effect_6 : decode cX1_effect 6 = .ok (.getfield 62, 3) := by decide +kernel
theorem dX1_effect_9 : decode cX1_effect 9 = .ok (.if_icmp .lt 5, 3) := by decide +kernel
theorem dX1_effect_12 : decode cX1_effect 12 = .ok (.iconst (-1), 1) := by decide +kernel
theorem dX1_effect_13 : decode cX1_effect 13 = .ok (.ireturn, 1) := by decide +kernel
theorem dX1_effect_14 : decode cX1_effect 14 = .ok (.iload_n 2, 1) := by decide +kernel
theorem dX1_effect_15 : decode cX1_effect 15 = .ok (.tableswitch 68 0 4 #[33, 40, 47, 54, 61], 33) := by decide +kernel
theorem dX1_effect_48 : decode cX1_effect 48 = .ok (.aload_n 0, 1) := by decide +kernel
theorem dX1_effect_49 : decode cX1_effect 49 = .ok (.getfield 65, 3) := by decide +kernel
theorem dX1_effect_52 : decode cX1_effect 52 = .ok (.iload_n 1, 1) := by decide +kernel
theorem dX1_effect_53 : decode cX1_effect 53 = .ok (.iaload, 1) := by decide +kernel
theorem dX1_effect_54 : decode cX1_effect 54 = .ok (.ireturn, 1) := by decide +kernel
theorem dX1_effect_55 : decode cX1_effect 55 = .ok (.aload_n 0, 1) := by decide +kernel
theorem dX1_effect_56 : decode cX1_effect 56 = .ok (.getfield 68, 3) := by decide +kernel
theorem dX1_effect_59 : decode cX1_effect 59 = .ok (.iload_n 1, 1) := by decide +kernel
theorem dX1_effect_60 : decode cX1_effect 60 = .ok (.iaload, 1) := by decide +kernel
theorem dX1_effect_61 : decode cX1_effect 61 = .ok (.ireturn, 1) := by decide +kernel
theorem dX1_effect_62 : decode cX1_effect 62 = .ok (.aload_n 0, 1) := by decide +kernel
theorem dX1_effect_63 : decode cX1_effect 63 = .ok (.getfield 71, 3) := by decide +kernel
theorem dX1_effect_66 : decode cX1_effect 66 = .ok (.iload_n 1, 1) := by decide +kernel
theorem dX1_effect_67 : decode cX1_effect 67 = .ok (.iaload, 1) := by decide +kernel
theorem dX1_effect_68 : decode cX1_effect 68 = .ok (.ireturn, 1) := by decide +kernel
theorem dX1_effect_69 : decode cX1_effect 69 = .ok (.aload_n 0, 1) := by decide +kernel
theorem dX1_effect_70 : decode cX1_effect 70 = .ok (.getfield 74, 3) := by decide +kernel
theorem dX1_effect_73 : decode cX1_effect 73 = .ok (.iload_n 1, 1) := by decide +kernel
theorem dX1_effect_74 : decode cX1_effect 74 = .ok (.iaload, 1) := by decide +kernel
theorem dX1_effect_75 : decode cX1_effect 75 = .ok (.ireturn, 1) := by decide +kernel
theorem dX1_effect_76 : decode cX1_effect 76 = .ok (.aload_n 0, 1) := by decide +kernel
theorem dX1_effect_77 : decode cX1_effect 77 = .ok (.getfield 77, 3) := by decide +kernel
theorem dX1_effect_80 : decode cX1_effect 80 = .ok (.iload_n 1, 1) := by decide +kernel
theorem dX1_effect_81 : decode cX1_effect 81 = .ok (.iaload, 1) := by decide +kernel
theorem dX1_effect_82 : decode cX1_effect 82 = .ok (.ireturn, 1) := by decide +kernel
theorem dX1_effect_83 : decode cX1_effect 83 = .ok (.iconst (-1), 1) := by decide +kernel
theorem dX1_effect_84 : decode cX1_effect 84 = .ok (.ireturn, 1) := by decide +kernel
theorem dX1_count_0 : decode cX1_count 0 = .ok (.iconst 0, 1) := by decide +kernel
theorem dX1_count_1 : decode cX1_count 1 = .ok (.istore_n 2, 1) := by decide +kernel
theorem dX1_count_2 : decode cX1_count 2 = .ok (.iload_n 1, 1) := by decide +kernel
theorem dX1_count_3 : decode cX1_count 3 = .ok (.tableswitch 251 0 14 #[73, 78, 83, 88, 93, 98, 103, 108, 113, 118, 118, 168, 203, 211, 216], 73) := by decide +kernel
theorem dX1_count_76 : decode cX1_count 76 = .ok (.aload_n 0, 1) := by decide +kernel
theorem dX1_count_77 : decode cX1_count 77 = .ok (.getfield 13, 3) := by decide +kernel
theorem dX1_count_80 : decode cX1_count 80 = .ok (.ireturn, 1) := by decide +kernel
theorem dX1_count_81 : decode cX1_count 81 = .ok (.aload_n 0, 1) := by decide +kernel
theorem dX1_count_82 : decode cX1_count 82 = .ok (.getfield 26, 3) := by decide +kernel
theorem dX1_count_85 : decode cX1_count 85 = .ok (.ireturn, 1) := by decide +kernel
theorem dX1_count_86 : decode cX1_count 86 = .ok (.aload_n 0, 1) := by decide +kernel
theorem dX1_count_87 : decode cX1_count 87 = .ok (.getfield 44, 3) := by decide +kernel
theorem dX1_count_90 : decode cX1_count 90 = .ok (.ireturn, 1) := by decide +kernel
theorem dX1_count_91 : decode cX1_count 91 = .ok (.aload_n 0, 1) := by decide +kernel
theorem dX1_count_92 : decode cX1_count 92 = .ok (.getfield 101, 3) := by decide +kernel
theorem dX1_count_95 : decode cX1_count 95 = .ok (.ireturn, 1) := by decide +kernel
theorem dX1_count_96 : decode cX1_count 96 = .ok (.aload_n 0, 1) := by decide +kernel
theorem dX1_count_97 : decode cX1_count 97 = .ok (.getfield 153, 3) := by decide +kernel
theorem dX1_count_100 : decode cX1_count 100 = .ok (.ireturn, 1) := by decide +kernel
theorem dX1_count_101 : decode cX1_count 101 = .ok (.aload_n 0, 1) := by decide +kernel
theorem dX1_count_102 : decode cX1_count 102 = .ok (.getfield 162, 3) := by decide +kernel
theorem dX1_count_105 : decode cX1_count 105 = .ok (.ireturn, 1) := by decide +kernel
theorem dX1_count_106 : decode cX1_count 106 = .ok (.aload_n 0, 1) := by decide +kernel
theorem dX1_count_107 : decode cX1_count 107 = .ok (.getfield 195, 3) := by decide +kernel
theorem dX1_count_110 : decode cX1_count 110 = .ok (.ireturn, 1) := by decide +kernel
theorem dX1_count_111 : decode cX1_count 111 = .ok (.aload_n 0, 1) := by decide +kernel
theorem dX1_count_112 : decode cX1_count 112 = .ok (.getfield 80, 3) := by decide +kernel
theorem dX1_count_115 : decode cX1_count 115 = .ok (.ireturn, 1) := by decide +kernel
theorem dX1_count_116 : decode cX1_count 116 = .ok (.aload_n 0, 1) := by decide +kernel
theorem dX1_count_117 : decode cX1_count 117 = .ok (.getfield 62, 3) := by decide +kernel
theorem dX1_count_120 : decode cX1_count 120 = .ok (.ireturn, 1) := by decide +kernel
theorem dX1_count_121 : decode cX1_count 121 = .ok (.iconst 0, 1) := by decide +kernel
theorem dX1_count_122 : decode cX1_count 122 = .ok (.istore_n 3, 1) := by decide +kernel
theorem dX1_count_123 : decode cX1_count 123 = .ok (.iload_n 3, 1) := by decide +kernel
theorem dX1_count_124 : decode cX1_count 124 = .ok (.aload_n 0, 1) := by decide +kernel
theorem dX1_count_125 : decode cX1_count 125 = .ok (.getfield 195, 3) := by decide +kernel
theorem dX1_count_128 : decode cX1_count 128 = .ok (.if_icmp .ge 41, 3) := by decide +kernel
theorem dX1_count_131 : decode cX1_count 131 = .ok (.iload_n 2, 1) := by decide +kernel
theorem dX1_count_132 : decode cX1_count 132 = .ok (.aload_n 0, 1) := by decide +kernel
theorem dX1_count_133 : decode cX1_count 133 = .ok (.getfield 219, 3) := by decide +kernel
theorem dX1_count_136 : decode cX1_count 136 = .ok (.iload_n 3, 1) := by decide +kernel
theorem dX1_count_137 : decode cX1_count 137 = .ok (.iaload, 1) := by decide +kernel
theorem dX1_count_138 : decode cX1_count 138 = .ok (.ifCond .ne 22, 3) := by decide +kernel
theorem dX1_count_141 : decode cX1_count 141 = .ok (.iload_n 1, 1) := by decide +kernel
theorem dX1_count_142 : decode cX1_count 142 = .ok (.bipush 9, 2) := by decide +kernel
theorem dX1_count_144 : decode cX1_count 144 = .ok (.if_icmp .eq 12, 3) := by decide +kernel
theorem dX1_count_147 : decode cX1_count 147 = .ok (.aload_n 0, 1) := by decide +kernel
theorem dX1_count_148 : decode cX1_count 148 = .ok (.getfield 207, 3) := by decide +kernel
theorem dX1_count_151 : decode cX1_count 151 = .ok (.iload_n 3, 1) := by decide +kernel
theorem dX1_count_152 : decode cX1_count 152 = .ok (.iaload, 1) := by decide +kernel
theorem dX1_count_153 : decode cX1_count 153 = .ok (.ifCond .ge 7, 3) := by decide +kernel
theorem dX1_count_156 : decode cX1_count 156 = .ok (.iconst 1, 1) := by decide +kernel
theorem dX1_count_157 : decode cX1_count 157 = .ok (.goto 4, 3) := by decide +kernel
theorem dX1_count_160 : decode cX1_count 160 = .ok (.iconst 0, 1) := by decide +kernel
theorem dX1_count_161 : decode cX1_count 161 = .ok (.iadd, 1) := by decide +kernel
theorem dX1_count_162 : decode cX1_count 162 = .ok (.istore_n 2, 1) := by decide +kernel
theorem dX1_count_163 : decode cX1_count 163 = .ok (.iinc 3 1, 3) := by decide +kernel
theorem dX1_count_166 : decode cX1_count 166 = .ok (.goto (-43), 3) := by decide +kernel
theorem dX1_count_169 : decode cX1_count 169 = .ok (.iload_n 2, 1) := by decide +kernel
theorem dX1_count_170 : decode cX1_count 170 = .ok (.ireturn, 1) := by decide +kernel
theorem dX1_count_171 : decode cX1_count 171 = .ok (.iconst 0, 1) := by decide +kernel
theorem dX1_count_172 : decode cX1_count 172 = .ok (.istore_n 3, 1) := by decide +kernel
theorem dX1_count_173 : decode cX1_count 173 = .ok (.iload_n 3, 1) := by decide +kernel
theorem dX1_count_174 : decode cX1_count 174 = .ok (.aload_n 0, 1) := by decide +kernel
theorem dX1_count_175 : decode cX1_count 175 = .ok (.getfield 162, 3) := by decide +kernel
theorem dX1_count_178 : decode cX1_count 178 = .ok (.if_icmp .ge 26, 3) := by decide +kernel
theorem dX1_count_181 : decode cX1_count 181 = .ok (.iload_n 2, 1) := by decide +kernel
theorem dX1_count_182 : decode cX1_count 182 = .ok (.aload_n 0, 1) := by decide +kernel
theorem dX1_count_183 : decode cX1_count 183 = .ok (.getfield 186, 3) := by decide +kernel
theorem dX1_count_186 : decode cX1_count 186 = .ok (.iload_n 3, 1) := by decide +kernel
theorem dX1_count_187 : decode cX1_count 187 = .ok (.iaload, 1) := by decide +kernel
theorem dX1_count_188 : decode cX1_count 188 = .ok (.ifCond .ne 7, 3) := by decide +kernel
theorem dX1_count_191 : decode cX1_count 191 = .ok (.iconst 1, 1) := by decide +kernel
theorem dX1_count_192 : decode cX1_count 192 = .ok (.goto 4, 3) := by decide +kernel
theorem dX1_count_195 : decode cX1_count 195 = .ok (.iconst 0, 1) := by decide +kernel
theorem dX1_count_196 : decode cX1_count 196 = .ok (.iadd, 1) := by decide +kernel
theorem dX1_count_197 : decode cX1_count 197 = .ok (.istore_n 2, 1) := by decide +kernel
theorem dX1_count_198 : decode cX1_count 198 = .ok (.iinc 3 1, 3) := by decide +kernel
theorem dX1_count_201 : decode cX1_count 201 = .ok (.goto (-28), 3) := by decide +kernel
theorem dX1_count_204 : decode cX1_count 204 = .ok (.iload_n 2, 1) := by decide +kernel
theorem dX1_count_205 : decode cX1_count 205 = .ok (.ireturn, 1) := by decide +kernel
theorem dX1_count_206 : decode cX1_count 206 = .ok (.aload_n 0, 1) := by decide +kernel
theorem dX1_count_207 : decode cX1_count 207 = .ok (.getfield 156, 3) := by decide +kernel
theorem dX1_count_210 : decode cX1_count 210 = .ok (.bipush 10, 2) := by decide +kernel
theorem dX1_count_212 : decode cX1_count 212 = .ok (.iaload, 1) := by decide +kernel
theorem dX1_count_213 : decode cX1_count 213 = .ok (.ireturn, 1) := by decide +kernel
theorem dX1_count_214 : decode cX1_count 214 = .ok (.aload_n 0, 1) := by decide +kernel
theorem dX1_count_215 : decode cX1_count 215 = .ok (.getfield 279, 3) := by decide +kernel
theorem dX1_count_218 : decode cX1_count 218 = .ok (.ireturn, 1) := by decide +kernel
theorem dX1_count_219 : decode cX1_count 219 = .ok (.iconst 0, 1) := by decide +kernel
theorem dX1_count_220 : decode cX1_count 220 = .ok (.istore_n 3, 1) := by decide +kernel
theorem dX1_count_221 : decode cX1_count 221 = .ok (.iload_n 3, 1) := by decide +kernel
theorem dX1_count_222 : decode cX1_count 222 = .ok (.aload_n 0, 1) := by decide +kernel
theorem dX1_count_223 : decode cX1_count 223 = .ok (.getfield 321, 3) := by decide +kernel
theorem dX1_count_226 : decode cX1_count 226 = .ok (.if_icmp .ge 26, 3) := by decide +kernel
theorem dX1_count_229 : decode cX1_count 229 = .ok (.iload_n 2, 1) := by decide +kernel
theorem dX1_count_230 : decode cX1_count 230 = .ok (.aload_n 0, 1) := by decide +kernel
theorem dX1_count_231 : decode cX1_count 231 = .ok (.getfield 339, 3) := by decide +kernel
theorem dX1_count_234 : decode cX1_count 234 = .ok (.iload_n 3, 1) := by decide +kernel
theorem dX1_count_235 : decode cX1_count 235 = .ok (.baload, 1) := by decide +kernel
theorem dX1_count_236 : decode cX1_count 236 = .ok (.ifCond .eq 7, 3) := by decide +kernel
theorem dX1_count_239 : decode cX1_count 239 = .ok (.iconst 1, 1) := by decide +kernel
theorem dX1_count_240 : decode cX1_count 240 = .ok (.goto 4, 3) := by decide +kernel
theorem dX1_count_243 : decode cX1_count 243 = .ok (.iconst 0, 1) := by decide +kernel
theorem dX1_count_244 : decode cX1_count 244 = .ok (.iadd, 1) := by decide +kernel
theorem dX1_count_245 : decode cX1_count 245 = .ok (.istore_n 2, 1) := by decide +kernel
theorem dX1_count_246 : decode cX1_count 246 = .ok (.iinc 3 1, 3) := by decide +kernel
theorem dX1_count_249 : decode cX1_count 249 = .ok (.goto (-28), 3) := by decide +kernel
theorem dX1_count_252 : decode cX1_count 252 = .ok (.iload_n 2, 1) := by decide +kernel
theorem dX1_count_253 : decode cX1_count 253 = .ok (.ireturn, 1) := by decide +kernel
theorem dX1_count_254 : decode cX1_count 254 = .ok (.iconst (-1), 1) := by decide +kernel
theorem dX1_count_255 : decode cX1_count 255 = .ok (.ireturn, 1) := by decide +kernel
