set_option maxRecDepth 100000
theorem dX1_alarm_42 : decode cX1_alarm 42 = .ok (.iload_n 1, 1) := by decide +kernel
theorem dX1_alarm_43 : decode cX1_alarm 43 = .ok (.ifCond .ne 15, 3) := by decide +kernel
theorem dX1_alarm_46 : decode cX1_alarm 46 = .ok (.iload_n 3, 1) := by decide +kernel
theorem dX1_alarm_47 : decode cX1_alarm 47 = .ok (.ifCond .ne 7, 3) := by decide +kernel
theorem dX1_alarm_50 : decode cX1_alarm 50 = .ok (.iconst 1, 1) := by decide +kernel
theorem dX1_alarm_51 : decode cX1_alarm 51 = .ok (.goto 66, 3) := by decide +kernel
theorem dX1_alarm_54 : decode cX1_alarm 54 = .ok (.iconst 0, 1) := by decide +kernel
theorem dX1_alarm_55 : decode cX1_alarm 55 = .ok (.goto 62, 3) := by decide +kernel
theorem dX1_alarm_58 : decode cX1_alarm 58 = .ok (.iload_n 1, 1) := by decide +kernel
theorem dX1_alarm_59 : decode cX1_alarm 59 = .ok (.iconst 1, 1) := by decide +kernel
theorem dX1_alarm_60 : decode cX1_alarm 60 = .ok (.if_icmp .ne 15, 3) := by decide +kernel
theorem dX1_alarm_63 : decode cX1_alarm 63 = .ok (.aload_n 0, 1) := by decide +kernel
theorem dX1_alarm_64 : decode cX1_alarm 64 = .ok (.iload_n 3, 1) := by decide +kernel
theorem dX1_alarm_65 : decode cX1_alarm 65 = .ok (.iconst 0, 1) := by decide +kernel
theorem dX1_alarm_66 : decode cX1_alarm 66 = .ok (.ldc_w 342, 3) := by decide +kernel
theorem dX1_alarm_69 : decode cX1_alarm 69 = .ok (.invokevirtual 358, 3) := by decide +kernel
theorem dX1_alarm_72 : decode cX1_alarm 72 = .ok (.goto 45, 3) := by decide +kernel
theorem dX1_alarm_75 : decode cX1_alarm 75 = .ok (.iload_n 1, 1) := by decide +kernel
theorem dX1_alarm_76 : decode cX1_alarm 76 = .ok (.iconst 2, 1) := by decide +kernel
theorem dX1_alarm_77 : decode cX1_alarm 77 = .ok (.if_icmp .ne 14, 3) := by decide +kernel
theorem dX1_alarm_80 : decode cX1_alarm 80 = .ok (.aload_n 0, 1) := by decide +kernel
theorem dX1_alarm_81 : decode cX1_alarm 81 = .ok (.iload_n 3, 1) := by decide +kernel
theorem dX1_alarm_82 : decode cX1_alarm 82 = .ok (.iconst 1, 1) := by decide +kernel
theorem dX1_alarm_83 : decode cX1_alarm 83 = .ok (.bipush 10, 2) := by decide +kernel
theorem dX1_alarm_85 : decode cX1_alarm 85 = .ok (.invokevirtual 358, 3) := by decide +kernel
theorem dX1_alarm_88 : decode cX1_alarm 88 = .ok (.goto 29, 3) := by decide +kernel
theorem dX1_alarm_91 : decode cX1_alarm 91 = .ok (.iload_n 1, 1) := by decide +kernel
theorem dX1_alarm_92 : decode cX1_alarm 92 = .ok (.iconst 3, 1) := by decide +kernel
theorem dX1_alarm_93 : decode cX1_alarm 93 = .ok (.if_icmp .ne 23, 3) := by decide +kernel
theorem dX1_alarm_96 : decode cX1_alarm 96 = .ok (.iload_n 2, 1) := by decide +kernel
theorem dX1_alarm_97 : decode cX1_alarm 97 = .ok (.ifCond .ne 19, 3) := by decide +kernel
theorem dX1_alarm_100 : decode cX1_alarm 100 = .ok (.aload_n 0, 1) := by decide +kernel
theorem dX1_alarm_101 : decode cX1_alarm 101 = .ok (.iload_n 3, 1) := by decide +kernel
theorem dX1_alarm_102 : decode cX1_alarm 102 = .ok (.iconst 0, 1) := by decide +kernel
theorem dX1_alarm_103 : decode cX1_alarm 103 = .ok (.ldc_w 342, 3) := by decide +kernel
theorem dX1_alarm_106 : decode cX1_alarm 106 = .ok (.invokevirtual 358, 3) := by decide +kernel
theorem dX1_alarm_109 : decode cX1_alarm 109 = .ok (.ifCond .eq 7, 3) := by decide +kernel
theorem dX1_alarm_112 : decode cX1_alarm 112 = .ok (.iconst 1, 1) := by decide +kernel
theorem dX1_alarm_113 : decode cX1_alarm 113 = .ok (.goto 4, 3) := by decide +kernel
theorem dX1_alarm_116 : decode cX1_alarm 116 = .ok (.iconst 0, 1) := by decide +kernel
theorem dX1_alarm_117 : decode cX1_alarm 117 = .ok (.istore 4, 2) := by decide +kernel
theorem dX1_alarm_119 : decode cX1_alarm 119 = .ok (.iload 4, 2) := by decide +kernel
theorem dX1_alarm_121 : decode cX1_alarm 121 = .ok (.ifCond .ne 6, 3) := by decide +kernel
theorem dX1_alarm_124 : decode cX1_alarm 124 = .ok (.bipush (-2), 2) := by decide +kernel
theorem dX1_alarm_126 : decode cX1_alarm 126 = .ok (.ireturn, 1) := by decide +kernel
theorem dX1_alarm_127 : decode cX1_alarm 127 = .ok (.aload_n 0, 1) := by decide +kernel
theorem dX1_alarm_128 : decode cX1_alarm 128 = .ok (.getfield 321, 3) := by decide +kernel
theorem dX1_alarm_131 : decode cX1_alarm 131 = .ok (.bipush 10, 2) := by decide +kernel
theorem dX1_alarm_133 : decode cX1_alarm 133 = .ok (.if_icmp .ne 6, 3) := by decide +kernel
theorem dX1_alarm_136 : decode cX1_alarm 136 = .ok (.bipush (-3), 2) := by decide +kernel
theorem dX1_alarm_138 : decode cX1_alarm 138 = .ok (.ireturn, 1) := by decide +kernel
theorem dX1_alarm_139 : decode cX1_alarm 139 = .ok (.aload_n 0, 1) := by decide +kernel
theorem dX1_alarm_140 : decode cX1_alarm 140 = .ok (.getfield 324, 3) := by decide +kernel
theorem dX1_alarm_143 : decode cX1_alarm 143 = .ok (.aload_n 0, 1) := by decide +kernel
theorem dX1_alarm_144 : decode cX1_alarm 144 = .ok (.getfield 321, 3) := by decide +kernel
theorem dX1_alarm_147 : decode cX1_alarm 147 = .ok (.iload_n 1, 1) := by decide +kernel
theorem dX1_alarm_148 : decode cX1_alarm 148 = .ok (.iastore, 1) := by decide +kernel
theorem dX1_alarm_149 : decode cX1_alarm 149 = .ok (.aload_n 0, 1) := by decide +kernel
theorem dX1_alarm_150 : decode cX1_alarm 150 = .ok (.getfield 327, 3) := by decide +kernel
theorem dX1_alarm_153 : decode cX1_alarm 153 = .ok (.aload_n 0, 1) := by decide +kernel
theorem dX1_alarm_154 : decode cX1_alarm 154 = .ok (.getfield 321, 3) := by decide +kernel
theorem dX1_alarm_157 : decode cX1_alarm 157 = .ok (.iload_n 2, 1) := by decide +kernel
theorem dX1_alarm_158 : decode cX1_alarm 158 = .ok (.iastore, 1) := by decide +kernel
theorem dX1_alarm_159 : decode cX1_alarm 159 = .ok (.aload_n 0, 1) := by decide +kernel
theorem dX1_alarm_160 : decode cX1_alarm 160 = .ok (.getfield 330, 3) := by decide +kernel
theorem dX1_alarm_163 : decode cX1_alarm 163 = .ok (.aload_n 0, 1) := by decide +kernel
theorem dX1_alarm_164 : decode cX1_alarm 164 = .ok (.getfield 321, 3) := by decide +kernel
theorem dX1_alarm_167 : decode cX1_alarm 167 = .ok (.iload_n 3, 1) := by decide +kernel
theorem dX1_alarm_168 : decode cX1_alarm 168 = .ok (.iastore, 1) := by decide +kernel
theorem dX1_alarm_169 : decode cX1_alarm 169 = .ok (.aload_n 0, 1) := by decide +kernel
theorem dX1_alarm_170 : decode cX1_alarm 170 = .ok (.getfield 333, 3) := by decide +kernel
theorem dX1_alarm_173 : decode cX1_alarm 173 = .ok (.aload_n 0, 1) := by decide +kernel
theorem dX1_alarm_174 : decode cX1_alarm 174 = .ok (.getfield 321, 3) := by decide +kernel
theorem dX1_alarm_177 : decode cX1_alarm 177 = .ok (.iconst 0, 1) := by decide +kernel
theorem dX1_alarm_178 : decode cX1_alarm 178 = .ok (.iastore, 1) := by decide +kernel
theorem dX1_alarm_179 : decode cX1_alarm 179 = .ok (.aload_n 0, 1) := by decide +kernel
theorem dX1_alarm_180 : decode cX1_alarm 180 = .ok (.getfield 336, 3) := by decide +kernel
theorem dX1_alarm_183 : decode cX1_alarm 183 = .ok (.aload_n 0, 1) := by decide +kernel
theorem dX1_alarm_184 : decode cX1_alarm 184 = .ok (.getfield 321, 3) := by decide +kernel
theorem dX1_alarm_187 : decode cX1_alarm 187 = .ok (.iconst (-1), 1) := by decide +kernel
theorem dX1_alarm_188 : decode cX1_alarm 188 = .ok (.iastore, 1) := by decide +kernel
theorem dX1_alarm_189 : decode cX1_alarm 189 = .ok (.aload_n 0, 1) := by decide +kernel
theorem dX1_alarm_190 : decode cX1_alarm 190 = .ok (.getfield 339, 3) := by decide +kernel
theorem dX1_alarm_193 : decode cX1_alarm 193 = .ok (.aload_n 0, 1) := by decide +kernel
theorem dX1_alarm_194 : decode cX1_alarm 194 = .ok (.getfield 321, 3) := by decide +kernel
theorem dX1_alarm_197 : decode cX1_alarm 197 = .ok (.iconst 0, 1) := by decide +kernel
theorem dX1_alarm_198 : decode cX1_alarm 198 = .ok (.bastore, 1) := by decide +kernel
theorem dX1_alarm_199 : decode cX1_alarm 199 = .ok (.aload_n 0, 1) := by decide +kernel
theorem dX1_alarm_200 : decode cX1_alarm 200 = .ok (.dup, 1) := by decide +kernel
theorem dX1_alarm_201 : decode cX1_alarm 201 = .ok (.getfield 321, 3) := by decide +kernel
theorem dX1_alarm_204 : decode cX1_alarm 204 = .ok (.iconst 1, 1) := by decide +kernel
theorem dX1_alarm_205 : decode cX1_alarm 205 = .ok (.iadd, 1) := by decide +kernel
theorem dX1_alarm_206 : decode cX1_alarm 206 = .ok (.putfield 321, 3) := by decide +kernel
theorem dX1_alarm_209 : decode cX1_alarm 209 = .ok (.aload_n 0, 1) := by decide +kernel
theorem dX1_alarm_210 : decode cX1_alarm 210 = .ok (.getfield 321, 3) := by decide +kernel
theorem dX1_alarm_213 : decode cX1_alarm 213 = .ok (.iconst 1, 1) := by decide +kernel
theorem dX1_alarm_214 : decode cX1_alarm 214 = .ok (.isub, 1) := by decide +kernel
theorem dX1_alarm_215 : decode cX1_alarm 215 = .ok (.ireturn, 1) := by decide +kernel
theorem dX1_isGuard_0 : decode cX1_isGuard 0 = .ok (.iload_n 1, 1) := by decide +kernel
theorem dX1_isGuard_1 : decode cX1_isGuard 1 = .ok (.ifCond .lt 25, 3) := by decide +kernel
theorem dX1_isGuard_4 : decode cX1_isGuard 4 = .ok (.iload_n 1, 1) := by decide +kernel
theorem dX1_isGuard_5 : decode cX1_isGuard 5 = .ok (.aload_n 0, 1) := by decide +kernel
theorem dX1_isGuard_6 : decode cX1_isGuard 6 = .ok (.getfield 101, 3) := by decide +kernel
theorem dX1_isGuard_9 : decode cX1_isGuard 9 = .ok (.if_icmp .ge 17, 3) := by decide +kernel
theorem dX1_isGuard_12 : decode cX1_isGuard 12 = .ok (.aload_n 0, 1) := by decide +kernel
theorem dX1_isGuard_13 : decode cX1_isGuard 13 = .ok (.getfield 104, 3) := by decide +kernel
theorem dX1_isGuard_16 : decode cX1_isGuard 16 = .ok (.iload_n 1, 1) := by decide +kernel
theorem dX1_isGuard_17 : decode cX1_isGuard 17 = .ok (.iaload, 1) := by decide +kernel
theorem dX1_isGuard_18 : decode cX1_isGuard 18 = .ok (.iload_n 2, 1) := by decide +kernel
theorem dX1_isGuard_19 : decode cX1_isGuard 19 = .ok (.if_icmp .ne 7, 3) := by decide +kernel
theorem dX1_isGuard_22 : decode cX1_isGuard 22 = .ok (.iconst 1, 1) := by decide +kernel
theorem dX1_isGuard_23 : decode cX1_isGuard 23 = .ok (.goto 4, 3) := by decide +kernel
theorem dX1_isGuard_26 : decode cX1_isGuard 26 = .ok (.iconst 0, 1) := by decide +kernel
theorem dX1_isGuard_27 : decode cX1_isGuard 27 = .ok (.ireturn, 1) := by decide +kernel
theorem dX1_alarmed_0 : decode cX1_alarmed 0 = .ok (.iload_n 1, 1) := by decide +kernel
theorem dX1_alarmed_1 : decode cX1_alarmed 1 = .ok (.ifCond .lt 11, 3) := by decide +kernel
theorem dX1_alarmed_4 : decode cX1_alarmed 4 = .ok (.iload_n 1, 1) := by decide +kernel
theorem dX1_alarmed_5 : decode cX1_alarmed 5 = .ok (.aload_n 0, 1) := by decide +kernel
theorem dX1_alarmed_6 : decode cX1_alarmed 6 = .ok (.getfield 321, 3) := by decide +kernel
theorem dX1_alarmed_9 : decode cX1_alarmed 9 = .ok (.if_icmp .lt 5, 3) := by decide +kernel
theorem dX1_alarmed_12 : decode cX1_alarmed 12 = .ok (.iconst (-1), 1) := by decide +kernel
theorem dX1_alarmed_13 : decode cX1_alarmed 13 = .ok (.ireturn, 1) := by decide +kernel
theorem dX1_alarmed_14 : decode cX1_alarmed 14 = .ok (.iload_n 2, 1) := by decide +kernel
theorem dX1_alarmed_15 : decode cX1_alarmed 15 = .ok (.tableswitch 54 0 2 #[25, 40, 47], 25) := by decide +kernel
theorem dX1_alarmed_40 : decode cX1_alarmed 40 = .ok (.aload_n 0, 1) := by decide +kernel
theorem dX1_alarmed_41 : decode cX1_alarmed 41 = .ok (.getfield 339, 3) := by decide +kernel
theorem dX1_alarmed_44 : decode cX1_alarmed 44 = .ok (.iload_n 1, 1) := by decide +kernel
theorem dX1_alarmed_45 : decode cX1_alarmed 45 = .ok (.baload, 1) := by decide +kernel
theorem dX1_alarmed_46 : decode cX1_alarmed 46 = .ok (.ifCond .eq 7, 3) := by decide +kernel
theorem dX1_alarmed_49 : decode cX1_alarmed 49 = .ok (.iconst 1, 1) := by decide +kernel
theorem dX1_alarmed_50 : decode cX1_alarmed 50 = .ok (.goto 4, 3) := by decide +kernel
theorem dX1_alarmed_53 : decode cX1_alarmed 53 = .ok (.iconst 0, 1) := by decide +kernel
theorem dX1_alarmed_54 : decode cX1_alarmed 54 = .ok (.ireturn, 1) := by decide +kernel
theorem dX1_alarmed_55 : decode cX1_alarmed 55 = .ok (.aload_n 0, 1) := by decide +kernel
theorem dX1_alarmed_56 : decode cX1_alarmed 56 = .ok (.getfield 333, 3) := by decide +kernel
theorem dX1_alarmed_59 : decode cX1_alarmed 59 = .ok (.iload_n 1, 1) := by decide +kernel
theorem dX1_alarmed_60 : decode cX1_alarmed 60 = .ok (.iaload, 1) := by decide +kernel
theorem dX1_alarmed_61 : decode cX1_alarmed 61 = .ok (.ireturn, 1) := by decide +kernel
theorem dX1_alarmed_62 : decode cX1_alarmed 62 = .ok (.aload_n 0, 1) := by decide +kernel
theorem dX1_alarmed_63 : decode cX1_alarmed 63 = .ok (.getfield 336, 3) := by decide +kernel
theorem dX1_alarmed_66 : decode cX1_alarmed 66 = .ok (.iload_n 1, 1) := by decide +kernel
theorem dX1_alarmed_67 : decode cX1_alarmed 67 = .ok (.iaload, 1) := by decide +kernel
theorem dX1_alarmed_68 : decode cX1_alarmed 68 = .ok (.ireturn, 1) := by decide +kernel
theorem dX1_alarmed_69 : decode cX1_alarmed 69 = .ok (.iconst (-1), 1) := by decide +kernel
theorem dX1_alarmed_70 : decode cX1_alarmed 70 = .ok (.ireturn, 1) := by decide +kernel
theorem dX1_second_0 : decode cX1_second 0 = .ok (.iload_n 1, 1) := by decide +kernel
theorem dX1_second_1 : decode cX1_second 1 = .ok (.iconst 1, 1) := by decide +kernel
theorem dX1_second_2 : decode cX1_second 2 = .ok (.if_icmp .lt 9, 3) := by decide +kernel
theorem dX1_second_5 : decode cX1_second 5 = .ok (.iload_n 1, 1) := by decide +kernel
theorem dX1_second_6 : decode cX1_second 6 = .ok (.bipush 100, 2) := by decide +kernel
theorem dX1_second_8 : decode cX1_second 8 = .ok (.if_icmp .le 6, 3) := by decide +kernel
theorem dX1_second_11 : decode cX1_second 11 = .ok (.bipush (-2), 2) := by decide +kernel
theorem dX1_second_13 : decode cX1_second 13 = .ok (.ireturn, 1) := by decide +kernel
theorem dX1_second_14 : decode cX1_second 14 = .ok (.aload_n 0, 1) := by decide +kernel
theorem dX1_second_15 : decode cX1_second 15 = .ok (.iconst 0, 1) := by decide +kernel
theorem dX1_second_16 : decode cX1_second 16 = .ok (.putfield 192, 3) := by decide +kernel
theorem dX1_second_19 : decode cX1_second 19 = .ok (.iconst 0, 1) := by decide +kernel
theorem dX1_second_20 : decode cX1_second 20 = .ok (.istore_n 2, 1) := by decide +kernel
theorem dX1_second_21 : decode cX1_second 21 = .ok (.iload_n 2, 1) := by decide +kernel
theorem dX1_second_22 : decode cX1_second 22 = .ok (.iload_n 1, 1) := by decide +kernel
theorem dX1_second_23 : decode cX1_second 23 = .ok (.if_icmp .ge 13, 3) := by decide +kernel
theorem dX1_second_26 : decode cX1_second 26 = .ok (.aload_n 0, 1) := by decide +kernel
theorem dX1_second_27 : decode cX1_second 27 = .ok (.invokevirtual 462, 3) := by decide +kernel
theorem dX1_second_30 : decode cX1_second 30 = .ok (.iinc 2 1, 3) := by decide +kernel
theorem dX1_second_33 : decode cX1_second 33 = .ok (.goto (-12), 3) := by decide +kernel
theorem dX1_second_36 : decode cX1_second 36 = .ok (.aload_n 0, 1) := by decide +kernel
theorem dX1_second_37 : decode cX1_second 37 = .ok (.getfield 192, 3) := by decide +kernel
theorem dX1_second_40 : decode cX1_second 40 = .ok (.ireturn, 1) := by decide +kernel
theorem dX1_tick_0 : decode cX1_tick 0 = .ok (.aload_n 0, 1) := by decide +kernel
theorem dX1_tick_1 : decode cX1_tick 1 = .ok (.dup, 1) := by decide +kernel
theorem dX1_tick_2 : decode cX1_tick 2 = .ok (.getfield 7, 3) := by decide +kernel
theorem dX1_tick_5 : decode cX1_tick 5 = .ok (.iconst 1, 1) := by decide +kernel
theorem dX1_tick_6 : decode cX1_tick 6 = .ok (.iadd, 1) := by decide +kernel
theorem dX1_tick_7 : decode cX1_tick 7 = .ok (.putfield 7, 3) := by decide +kernel
theorem dX1_tick_10 : decode cX1_tick 10 = .ok (.iconst 0, 1) := by decide +kernel
theorem dX1_tick_11 : decode cX1_tick 11 = .ok (.istore_n 1, 1) := by decide +kernel
theorem dX1_tick_12 : decode cX1_tick 12 = .ok (.iload_n 1, 1) := by decide +kernel
theorem dX1_tick_13 : decode cX1_tick 13 = .ok (.aload_n 0, 1) := by decide +kernel
theorem dX1_tick_14 : decode cX1_tick 14 = .ok (.getfield 101, 3) := by decide +kernel
theorem dX1_tick_17 : decode cX1_tick 17 = .ok (.if_icmp .ge 69, 3) := by decide +kernel
theorem dX1_tick_20 : decode cX1_tick 20 = .ok (.aload_n 0, 1) := by decide +kernel
theorem dX1_tick_21 : decode cX1_tick 21 = .ok (.getfield 104, 3) := by decide +kernel
theorem dX1_tick_24 : decode cX1_tick 24 = .ok (.iload_n 1, 1) := by decide +kernel
theorem dX1_tick_25 : decode cX1_tick 25 = .ok (.iaload, 1) := by decide +kernel
theorem dX1_tick_26 : decode cX1_tick 26 = .ok (.iconst 2, 1) := by decide +kernel
theorem dX1_tick_27 : decode cX1_tick 27 = .ok (.if_icmp .ne 53, 3) := by decide +kernel
theorem dX1_tick_30 : decode cX1_tick 30 = .ok (.aload_n 0, 1) := by decide +kernel
theorem dX1_tick_31 : decode cX1_tick 31 = .ok (.getfield 137, 3) := by decide +kernel
theorem dX1_tick_34 : decode cX1_tick 34 = .ok (.iload_n 1, 1) := by decide +kernel
theorem dX1_tick_35 : decode cX1_tick 35 = .ok (.aload_n 0, 1) := by decide +kernel
theorem dX1_tick_36 : decode cX1_tick 36 = .ok (.getfield 137, 3) := by decide +kernel
theorem dX1_tick_39 : decode cX1_tick 39 = .ok (.iload_n 1, 1) := by decide +kernel
theorem dX1_tick_40 : decode cX1_tick 40 = .ok (.iaload, 1) := by decide +kernel
theorem dX1_tick_41 : decode cX1_tick 41 = .ok (.aload_n 0, 1) := by decide +kernel
theorem dX1_tick_42 : decode cX1_tick 42 = .ok (.getfield 110, 3) := by decide +kernel
theorem dX1_tick_45 : decode cX1_tick 45 = .ok (.iload_n 1, 1) := by decide +kernel
theorem dX1_tick_46 : decode cX1_tick 46 = .ok (.iaload, 1) := by decide +kernel
theorem dX1_tick_47 : decode cX1_tick 47 = .ok (.iadd, 1) := by decide +kernel
theorem dX1_tick_48 : decode cX1_tick 48 = .ok (.aload_n 0, 1) := by decide +kernel
theorem dX1_tick_49 : decode cX1_tick 49 = .ok (.getfield 107, 3) := by decide +kernel
theorem dX1_tick_52 : decode cX1_tick 52 = .ok (.iload_n 1, 1) := by decide +kernel
theorem dX1_tick_53 : decode cX1_tick 53 = .ok (.iaload, 1) := by decide +kernel
theorem dX1_tick_54 : decode cX1_tick 54 = .ok (.if_icmp .ge 19, 3) := by decide +kernel
theorem dX1_tick_57 : decode cX1_tick 57 = .ok (.aload_n 0, 1) := by decide +kernel
theorem dX1_tick_58 : decode cX1_tick 58 = .ok (.getfield 137, 3) := by decide +kernel
theorem dX1_tick_61 : decode cX1_tick 61 = .ok (.iload_n 1, 1) := by decide +kernel
theorem dX1_tick_62 : decode cX1_tick 62 = .ok (.iaload, 1) := by decide +kernel
theorem dX1_tick_63 : decode cX1_tick 63 = .ok (.aload_n 0, 1) := by decide +kernel
theorem dX1_tick_64 : decode cX1_tick 64 = .ok (.getfield 110, 3) := by decide +kernel
theorem dX1_tick_67 : decode cX1_tick 67 = .ok (.iload_n 1, 1) := by decide +kernel
theorem dX1_tick_68 : decode cX1_tick 68 = .ok (.iaload, 1) := by decide +kernel
theorem dX1_tick_69 : decode cX1_tick 69 = .ok (.iadd, 1) := by decide +kernel
theorem dX1_tick_70 : decode cX1_tick 70 = .ok (.goto 9, 3) := by decide +kernel
theorem dX1_tick_73 : decode cX1_tick 73 = .ok (.aload_n 0, 1) := by decide +kernel
theorem dX1_tick_74 : decode cX1_tick 74 = .ok (.getfield 107, 3) := by decide +kernel
theorem dX1_tick_77 : decode cX1_tick 77 = .ok (.iload_n 1, 1) := by decide +kernel
theorem dX1_tick_78 : decode cX1_tick 78 = .ok (.iaload, 1) := by decide +kernel
theorem dX1_tick_79 : decode cX1_tick 79 = .ok (.iastore, 1) := by decide +kernel
theorem dX1_tick_80 : decode cX1_tick 80 = .ok (.iinc 1 1, 3) := by decide +kernel
theorem dX1_tick_83 : decode cX1_tick 83 = .ok (.goto (-71), 3) := by decide +kernel
theorem dX1_tick_86 : decode cX1_tick 86 = .ok (.iconst 0, 1) := by decide +kernel
theorem dX1_tick_87 : decode cX1_tick 87 = .ok (.istore_n 1, 1) := by decide +kernel
theorem dX1_tick_88 : decode cX1_tick 88 = .ok (.iload_n 1, 1) := by decide +kernel
theorem dX1_tick_89 : decode cX1_tick 89 = .ok (.iconst 4, 1) := by decide +kernel
theorem dX1_tick_90 : decode cX1_tick 90 = .ok (.if_icmp .ge 164, 3) := by decide +kernel
theorem dX1_tick_93 : decode cX1_tick 93 = .ok (.iconst 0, 1) := by decide +kernel
theorem dX1_tick_94 : decode cX1_tick 94 = .ok (.istore_n 2, 1) := by decide +kernel
theorem dX1_tick_95 : decode cX1_tick 95 = .ok (.iload_n 2, 1) := by decide +kernel
theorem dX1_tick_96 : decode cX1_tick 96 = .ok (.aload_n 0, 1) := by decide +kernel
theorem dX1_tick_97 : decode cX1_tick 97 = .ok (.getfield 195, 3) := by decide +kernel
theorem dX1_tick_100 : decode cX1_tick 100 = .ok (.if_icmp .ge 148, 3) := by decide +kernel
theorem dX1_tick_103 : decode cX1_tick 103 = .ok (.aload_n 0, 1) := by decide +kernel
theorem dX1_tick_104 : decode cX1_tick 104 = .ok (.getfield 219, 3) := by decide +kernel
theorem dX1_tick_107 : decode cX1_tick 107 = .ok (.iload_n 2, 1) := by decide +kernel
theorem dX1_tick_108 : decode cX1_tick 108 = .ok (.iaload, 1) := by decide +kernel
theorem dX1_tick_109 : decode cX1_tick 109 = .ok (.ifCond .ne 133, 3) := by decide +kernel
theorem dX1_tick_112 : decode cX1_tick 112 = .ok (.aload_n 0, 1) := by decide +kernel
theorem dX1_tick_113 : decode cX1_tick 113 = .ok (.getfield 228, 3) := by decide +kernel
theorem dX1_tick_116 : decode cX1_tick 116 = .ok (.iload_n 2, 1) := by decide +kernel
theorem dX1_tick_117 : decode cX1_tick 117 = .ok (.iaload, 1) := by decide +kernel
theorem dX1_tick_118 : decode cX1_tick 118 = .ok (.aload_n 0, 1) := by decide +kernel
theorem dX1_tick_119 : decode cX1_tick 119 = .ok (.getfield 7, 3) := by decide +kernel
theorem dX1_tick_122 : decode cX1_tick 122 = .ok (.if_icmp .eq 6, 3) := by decide +kernel
theorem dX1_tick_125 : decode cX1_tick 125 = .ok (.goto 117, 3) := by decide +kernel
theorem dX1_tick_128 : decode cX1_tick 128 = .ok (.aload_n 0, 1) := by decide +kernel
theorem dX1_tick_129 : decode cX1_tick 129 = .ok (.getfield 207, 3) := by decide +kernel
theorem dX1_tick_132 : decode cX1_tick 132 = .ok (.iload_n 2, 1) := by decide +kernel
theorem dX1_tick_133 : decode cX1_tick 133 = .ok (.iaload, 1) := by decide +kernel
theorem dX1_tick_134 : decode cX1_tick 134 = .ok (.ifCond .ge 7, 3) := by decide +kernel
theorem dX1_tick_137 : decode cX1_tick 137 = .ok (.iconst (-1), 1) := by decide +kernel
theorem dX1_tick_138 : decode cX1_tick 138 = .ok (.goto 14, 3) := by decide +kernel
theorem dX1_tick_141 : decode cX1_tick 141 = .ok (.aload_n 0, 1) := by decide +kernel
theorem dX1_tick_142 : decode cX1_tick 142 = .ok (.getfield 104, 3) := by decide +kernel
theorem dX1_tick_145 : decode cX1_tick 145 = .ok (.aload_n 0, 1) := by decide +kernel
theorem dX1_tick_146 : decode cX1_tick 146 = .ok (.getfield 207, 3) := by decide +kernel
theorem dX1_tick_149 : decode cX1_tick 149 = .ok (.iload_n 2, 1) := by decide +kernel
theorem dX1_tick_150 : decode cX1_tick 150 = .ok (.iaload, 1) := by decide +kernel
theorem dX1_tick_151 : decode cX1_tick 151 = .ok (.iaload, 1) := by decide +kernel
theorem dX1_tick_152 : decode cX1_tick 152 = .ok (.istore_n 3, 1) := by decide +kernel
theorem dX1_tick_153 : decode cX1_tick 153 = .ok (.iload_n 1, 1) := by decide +kernel
theorem dX1_tick_154 : decode cX1_tick 154 = .ok (.ifCond .ne 13, 3) := by decide +kernel
theorem dX1_tick_157 : decode cX1_tick 157 = .ok (.iload_n 3, 1) := by decide +kernel
theorem dX1_tick_158 : decode cX1_tick 158 = .ok (.iconst (-1), 1) := by decide +kernel
theorem dX1_tick_159 : decode cX1_tick 159 = .ok (.if_icmp .ne 8, 3) := by decide +kernel
theorem dX1_tick_162 : decode cX1_tick 162 = .ok (.aload_n 0, 1) := by decide +kernel
theorem dX1_tick_163 : decode cX1_tick 163 = .ok (.iload_n 2, 1) := by decide +kernel
theorem dX1_tick_164 : decode cX1_tick 164 = .ok (.invokevirtual 465, 3) := by decide +kernel
theorem dX1_tick_167 : decode cX1_tick 167 = .ok (.iload_n 1, 1) := by decide +kernel
theorem dX1_tick_168 : decode cX1_tick 168 = .ok (.iconst 1, 1) := by decide +kernel
theorem dX1_tick_169 : decode cX1_tick 169 = .ok (.if_icmp .ne 13, 3) := by decide +kernel
theorem dX1_tick_172 : decode cX1_tick 172 = .ok (.iload_n 3, 1) := by decide +kernel
theorem dX1_tick_173 : decode cX1_tick 173 = .ok (.iconst 3, 1) := by decide +kernel
theorem dX1_tick_174 : decode cX1_tick 174 = .ok (.if_icmp .ne 8, 3) := by decide +kernel
theorem dX1_tick_177 : decode cX1_tick 177 = .ok (.aload_n 0, 1) := by decide +kernel
theorem dX1_tick_178 : decode cX1_tick 178 = .ok (.iload_n 2, 1) := by decide +kernel
theorem dX1_tick_179 : decode cX1_tick 179 = .ok (.invokevirtual 468, 3) := by decide +kernel
theorem dX1_tick_182 : decode cX1_tick 182 = .ok (.iload_n 1, 1) := by decide +kernel
theorem dX1_tick_183 : decode cX1_tick 183 = .ok (.iconst 2, 1) := by decide +kernel
theorem dX1_tick_184 : decode cX1_tick 184 = .ok (.if_icmp .ne 23, 3) := by decide +kernel
theorem dX1_tick_187 : decode cX1_tick 187 = .ok (.iload_n 3, 1) := by decide +kernel
theorem dX1_tick_188 : decode cX1_tick 188 = .ok (.iconst 5, 1) := by decide +kernel
theorem dX1_tick_189 : decode cX1_tick 189 = .ok (.if_icmp .ne 18, 3) := by decide +kernel
theorem dX1_tick_192 : decode cX1_tick 192 = .ok (.aload_n 0, 1) := by decide +kernel
theorem dX1_tick_193 : decode cX1_tick 193 = .ok (.getfield 231, 3) := by decide +kernel
theorem dX1_tick_196 : decode cX1_tick 196 = .ok (.iload_n 2, 1) := by decide +kernel
theorem dX1_tick_197 : decode cX1_tick 197 = .ok (.iaload, 1) := by decide +kernel
theorem dX1_tick_198 : decode cX1_tick 198 = .ok (.iconst 1, 1) := by decide +kernel
theorem dX1_tick_199 : decode cX1_tick 199 = .ok (.if_icmp .ne 8, 3) := by decide +kernel
theorem dX1_tick_202 : decode cX1_tick 202 = .ok (.aload_n 0, 1) := by decide +kernel
theorem dX1_tick_203 : decode cX1_tick 203 = .ok (.iload_n 2, 1) := by decide +kernel
theorem dX1_tick_204 : decode cX1_tick 204 = .ok (.invokevirtual 401, 3) := by decide +kernel
theorem dX1_tick_207 : decode cX1_tick 207 = .ok (.iload_n 1, 1) := by decide +kernel
theorem dX1_tick_208 : decode cX1_tick 208 = .ok (.iconst 3, 1) := by decide +kernel
theorem dX1_tick_209 : decode cX1_tick 209 = .ok (.if_icmp .ne 29, 3) := by decide +kernel
theorem dX1_tick_212 : decode cX1_tick 212 = .ok (.iload_n 3, 1) := by decide +kernel
theorem dX1_tick_213 : decode cX1_tick 213 = .ok (.iconst 4, 1) := by decide +kernel
theorem dX1_tick_214 : decode cX1_tick 214 = .ok (.if_icmp .ne 24, 3) := by decide +kernel
theorem dX1_tick_217 : decode cX1_tick 217 = .ok (.aload_n 0, 1) := by decide +kernel
theorem dX1_tick_218 : decode cX1_tick 218 = .ok (.getfield 240, 3) := by decide +kernel
theorem dX1_tick_221 : decode cX1_tick 221 = .ok (.iload_n 2, 1) := by decide +kernel
theorem dX1_tick_222 : decode cX1_tick 222 = .ok (.baload, 1) := by decide +kernel
theorem dX1_tick_223 : decode cX1_tick 223 = .ok (.ifCond .eq 15, 3) := by decide +kernel
theorem dX1_tick_226 : decode cX1_tick 226 = .ok (.aload_n 0, 1) := by decide +kernel
theorem dX1_tick_227 : decode cX1_tick 227 = .ok (.getfield 240, 3) := by decide +kernel
theorem dX1_tick_230 : decode cX1_tick 230 = .ok (.iload_n 2, 1) := by decide +kernel
theorem dX1_tick_231 : decode cX1_tick 231 = .ok (.iconst 0, 1) := by decide +kernel
theorem dX1_tick_232 : decode cX1_tick 232 = .ok (.bastore, 1) := by decide +kernel
theorem dX1_tick_233 : decode cX1_tick 233 = .ok (.aload_n 0, 1) := by decide +kernel
theorem dX1_tick_234 : decode cX1_tick 234 = .ok (.iload_n 2, 1) := by decide +kernel
theorem dX1_tick_235 : decode cX1_tick 235 = .ok (.invokevirtual 401, 3) := by decide +kernel
theorem dX1_tick_238 : decode cX1_tick 238 = .ok (.aload_n 0, 1) := by decide +kernel
theorem dX1_tick_239 : decode cX1_tick 239 = .ok (.invokevirtual 446, 3) := by decide +kernel
theorem dX1_tick_242 : decode cX1_tick 242 = .ok (.iinc 2 1, 3) := by decide +kernel
theorem dX1_tick_245 : decode cX1_tick 245 = .ok (.goto (-150), 3) := by decide +kernel
theorem dX1_tick_248 : decode cX1_tick 248 = .ok (.iinc 1 1, 3) := by decide +kernel
theorem dX1_tick_251 : decode cX1_tick 251 = .ok (.goto (-163), 3) := by decide +kernel
theorem dX1_tick_254 : decode cX1_tick 254 = .ok (.iconst 0, 1) := by decide +kernel
theorem dX1_tick_255 : decode cX1_tick 255 = .ok (.istore_n 1, 1) := by decide +kernel
theorem dX1_tick_256 : decode cX1_tick 256 = .ok (.iload_n 1, 1) := by decide +kernel
theorem dX1_tick_257 : decode cX1_tick 257 = .ok (.aload_n 0, 1) := by decide +kernel
theorem dX1_tick_258 : decode cX1_tick 258 = .ok (.getfield 101, 3) := by decide +kernel
theorem dX1_tick_261 : decode cX1_tick 261 = .ok (.if_icmp .ge 125, 3) := by decide +kernel
theorem dX1_tick_264 : decode cX1_tick 264 = .ok (.aload_n 0, 1) := by decide +kernel
theorem dX1_tick_265 : decode cX1_tick 265 = .ok (.getfield 104, 3) := by decide +kernel
theorem dX1_tick_268 : decode cX1_tick 268 = .ok (.iload_n 1, 1) := by decide +kernel
theorem dX1_tick_269 : decode cX1_tick 269 = .ok (.iaload, 1) := by decide +kernel
theorem dX1_tick_270 : decode cX1_tick 270 = .ok (.iconst 1, 1) := by decide +kernel
theorem dX1_tick_271 : decode cX1_tick 271 = .ok (.if_icmp .ne 109, 3) := by decide +kernel
theorem dX1_tick_274 : decode cX1_tick 274 = .ok (.aload_n 0, 1) := by decide +kernel
theorem dX1_tick_275 : decode cX1_tick 275 = .ok (.getfield 128, 3) := by decide +kernel
theorem dX1_tick_278 : decode cX1_tick 278 = .ok (.iload_n 1, 1) := by decide +kernel
theorem dX1_tick_279 : decode cX1_tick 279 = .ok (.iaload, 1) := by decide +kernel
theorem dX1_tick_280 : decode cX1_tick 280 = .ok (.aload_n 0, 1) := by decide +kernel
theorem dX1_tick_281 : decode cX1_tick 281 = .ok (.getfield 107, 3) := by decide +kernel
theorem dX1_tick_284 : decode cX1_tick 284 = .ok (.iload_n 1, 1) := by decide +kernel
theorem dX1_tick_285 : decode cX1_tick 285 = .ok (.iaload, 1) := by decide +kernel
theorem dX1_tick_286 : decode cX1_tick 286 = .ok (.if_icmp .ge 94, 3) := by decide +kernel
theorem dX1_tick_289 : decode cX1_tick 289 = .ok (.aload_n 0, 1) := by decide +kernel
theorem dX1_tick_290 : decode cX1_tick 290 = .ok (.getfield 131, 3) := by decide +kernel
theorem dX1_tick_293 : decode cX1_tick 293 = .ok (.iload_n 1, 1) := by decide +kernel
theorem dX1_tick_294 : decode cX1_tick 294 = .ok (.iaload, 1) := by decide +kernel
theorem dX1_tick_295 : decode cX1_tick 295 = .ok (.ifCond .le 85, 3) := by decide +kernel
theorem dX1_tick_298 : decode cX1_tick 298 = .ok (.aload_n 0, 1) := by decide +kernel
theorem dX1_tick_299 : decode cX1_tick 299 = .ok (.getfield 140, 3) := by decide +kernel
theorem dX1_tick_302 : decode cX1_tick 302 = .ok (.bipush 10, 2) := by decide +kernel
theorem dX1_tick_304 : decode cX1_tick 304 = .ok (.iload_n 1, 1) := by decide +kernel
theorem dX1_tick_305 : decode cX1_tick 305 = .ok (.imul, 1) := by decide +kernel
theorem dX1_tick_306 : decode cX1_tick 306 = .ok (.iaload, 1) := by decide +kernel
theorem dX1_tick_307 : decode cX1_tick 307 = .ok (.istore_n 2, 1) := by decide +kernel
theorem dX1_tick_308 : decode cX1_tick 308 = .ok (.aload_n 0, 1) := by decide +kernel
theorem dX1_tick_309 : decode cX1_tick 309 = .ok (.getfield 131, 3) := by decide +kernel
theorem dX1_tick_312 : decode cX1_tick 312 = .ok (.iload_n 1, 1) := by decide +kernel
theorem dX1_tick_313 : decode cX1_tick 313 = .ok (.dup2, 1) := by decide +kernel
theorem dX1_tick_314 : decode cX1_tick 314 = .ok (.iaload, 1) := by decide +kernel
theorem dX1_tick_315 : decode cX1_tick 315 = .ok (.iconst 1, 1) := by decide +kernel
theorem dX1_tick_316 : decode cX1_tick 316 = .ok (.isub, 1) := by decide +kernel
theorem dX1_tick_317 : decode cX1_tick 317 = .ok (.iastore, 1) := by decide +kernel
theorem dX1_tick_318 : decode cX1_tick 318 = .ok (.iconst 0, 1) := by decide +kernel
theorem dX1_tick_319 : decode cX1_tick 319 = .ok (.istore_n 3, 1) := by decide +kernel
theorem dX1_tick_320 : decode cX1_tick 320 = .ok (.iload_n 3, 1) := by decide +kernel
theorem dX1_tick_321 : decode cX1_tick 321 = .ok (.aload_n 0, 1) := by decide +kernel
theorem dX1_tick_322 : decode cX1_tick 322 = .ok (.getfield 131, 3) := by decide +kernel
theorem dX1_tick_325 : decode cX1_tick 325 = .ok (.iload_n 1, 1) := by decide +kernel
theorem dX1_tick_326 : decode cX1_tick 326 = .ok (.iaload, 1) := by decide +kernel
theorem dX1_tick_327 : decode cX1_tick 327 = .ok (.if_icmp .ge 33, 3) := by decide +kernel
theorem dX1_tick_330 : decode cX1_tick 330 = .ok (.aload_n 0, 1) := by decide +kernel
theorem dX1_tick_331 : decode cX1_tick 331 = .ok (.getfield 140, 3) := by decide +kernel
theorem dX1_tick_334 : decode cX1_tick 334 = .ok (.bipush 10, 2) := by decide +kernel
theorem dX1_tick_336 : decode cX1_tick 336 = .ok (.iload_n 1, 1) := by decide +kernel
theorem dX1_tick_337 : decode cX1_tick 337 = .ok (.imul, 1) := by decide +kernel
theorem dX1_tick_338 : decode cX1_tick 338 = .ok (.iload_n 3, 1) := by decide +kernel
theorem dX1_tick_339 : decode cX1_tick 339 = .ok (.iadd, 1) := by decide +kernel
theorem dX1_tick_340 : decode cX1_tick 340 = .ok (.aload_n 0, 1) := by decide +kernel
theorem dX1_tick_341 : decode cX1_tick 341 = .ok (.getfield 140, 3) := by decide +kernel
theorem dX1_tick_344 : decode cX1_tick 344 = .ok (.bipush 10, 2) := by decide +kernel
theorem dX1_tick_346 : decode cX1_tick 346 = .ok (.iload_n 1, 1) := by decide +kernel
theorem dX1_tick_347 : decode cX1_tick 347 = .ok (.imul, 1) := by decide +kernel
theorem dX1_tick_348 : decode cX1_tick 348 = .ok (.iload_n 3, 1) := by decide +kernel
theorem dX1_tick_349 : decode cX1_tick 349 = .ok (.iadd, 1) := by decide +kernel
theorem dX1_tick_350 : decode cX1_tick 350 = .ok (.iconst 1, 1) := by decide +kernel
theorem dX1_tick_351 : decode cX1_tick 351 = .ok (.iadd, 1) := by decide +kernel
theorem dX1_tick_352 : decode cX1_tick 352 = .ok (.iaload, 1) := by decide +kernel
theorem dX1_tick_353 : decode cX1_tick 353 = .ok (.iastore, 1) := by decide +kernel
theorem dX1_tick_354 : decode cX1_tick 354 = .ok (.iinc 3 1, 3) := by decide +kernel
theorem dX1_tick_357 : decode cX1_tick 357 = .ok (.goto (-37), 3) := by decide +kernel
theorem dX1_tick_360 : decode cX1_tick 360 = .ok (.aload_n 0, 1) := by decide +kernel
theorem dX1_tick_361 : decode cX1_tick 361 = .ok (.getfield 237, 3) := by decide +kernel
theorem dX1_tick_364 : decode cX1_tick 364 = .ok (.iload_n 2, 1) := by decide +kernel
theorem dX1_tick_365 : decode cX1_tick 365 = .ok (.iconst 0, 1) := by decide +kernel
theorem dX1_tick_366 : decode cX1_tick 366 = .ok (.bastore, 1) := by decide +kernel
theorem dX1_tick_367 : decode cX1_tick 367 = .ok (.aload_n 0, 1) := by decide +kernel
theorem dX1_tick_368 : decode cX1_tick 368 = .ok (.iload_n 2, 1) := by decide +kernel
theorem dX1_tick_369 : decode cX1_tick 369 = .ok (.iload_n 1, 1) := by decide +kernel
theorem dX1_tick_370 : decode cX1_tick 370 = .ok (.invokevirtual 405, 3) := by decide +kernel
theorem dX1_tick_373 : decode cX1_tick 373 = .ok (.aload_n 0, 1) := by decide +kernel
theorem dX1_tick_374 : decode cX1_tick 374 = .ok (.invokevirtual 446, 3) := by decide +kernel
theorem dX1_tick_377 : decode cX1_tick 377 = .ok (.goto (-113), 3) := by decide +kernel
theorem dX1_tick_380 : decode cX1_tick 380 = .ok (.iinc 1 1, 3) := by decide +kernel
theorem dX1_tick_383 : decode cX1_tick 383 = .ok (.goto (-127), 3) := by decide +kernel
theorem dX1_tick_386 : decode cX1_tick 386 = .ok (.iconst 0, 1) := by decide +kernel
theorem dX1_tick_387 : decode cX1_tick 387 = .ok (.istore_n 1, 1) := by decide +kernel
theorem dX1_tick_388 : decode cX1_tick 388 = .ok (.iload_n 1, 1) := by decide +kernel
theorem dX1_tick_389 : decode cX1_tick 389 = .ok (.aload_n 0, 1) := by decide +kernel
theorem dX1_tick_390 : decode cX1_tick 390 = .ok (.getfield 279, 3) := by decide +kernel
theorem dX1_tick_393 : decode cX1_tick 393 = .ok (.if_icmp .ge 14, 3) := by decide +kernel
theorem dX1_tick_396 : decode cX1_tick 396 = .ok (.aload_n 0, 1) := by decide +kernel
theorem dX1_tick_397 : decode cX1_tick 397 = .ok (.iload_n 1, 1) := by decide +kernel
theorem dX1_tick_398 : decode cX1_tick 398 = .ok (.invokevirtual 471, 3) := by decide +kernel
theorem dX1_tick_401 : decode cX1_tick 401 = .ok (.iinc 1 1, 3) := by decide +kernel
theorem dX1_tick_404 : decode cX1_tick 404 = .ok (.goto (-16), 3) := by decide +kernel
theorem dX1_tick_407 : decode cX1_tick 407 = .ok (.iconst 0, 1) := by decide +kernel
theorem dX1_tick_408 : decode cX1_tick 408 = .ok (.istore_n 1, 1) := by decide +kernel
theorem dX1_tick_409 : decode cX1_tick 409 = .ok (.iload_n 1, 1) := by decide +kernel
theorem dX1_tick_410 : decode cX1_tick 410 = .ok (.aload_n 0, 1) := by decide +kernel
theorem dX1_tick_411 : decode cX1_tick 411 = .ok (.getfield 321, 3) := by decide +kernel
theorem dX1_tick_414 : decode cX1_tick 414 = .ok (.if_icmp .ge 55, 3) := by decide +kernel
theorem dX1_tick_417 : decode cX1_tick 417 = .ok (.aload_n 0, 1) := by decide +kernel
theorem dX1_tick_418 : decode cX1_tick 418 = .ok (.iload_n 1, 1) := by decide +kernel
theorem dX1_tick_419 : decode cX1_tick 419 = .ok (.invokevirtual 474, 3) := by decide +kernel
theorem dX1_tick_422 : decode cX1_tick 422 = .ok (.istore_n 2, 1) := by decide +kernel
theorem dX1_tick_423 : decode cX1_tick 423 = .ok (.iload_n 2, 1) := by decide +kernel
theorem dX1_tick_424 : decode cX1_tick 424 = .ok (.ifCond .eq 32, 3) := by decide +kernel
theorem dX1_tick_427 : decode cX1_tick 427 = .ok (.aload_n 0, 1) := by decide +kernel
theorem dX1_tick_428 : decode cX1_tick 428 = .ok (.getfield 339, 3) := by decide +kernel
theorem dX1_tick_431 : decode cX1_tick 431 = .ok (.iload_n 1, 1) := by decide +kernel
theorem dX1_tick_432 : decode cX1_tick 432 = .ok (.baload, 1) := by decide +kernel
theorem dX1_tick_433 : decode cX1_tick 433 = .ok (.ifCond .ne 23, 3) := by decide +kernel
theorem dX1_tick_436 : decode cX1_tick 436 = .ok (.aload_n 0, 1) := by decide +kernel
theorem dX1_tick_437 : decode cX1_tick 437 = .ok (.getfield 333, 3) := by decide +kernel
theorem dX1_tick_440 : decode cX1_tick 440 = .ok (.iload_n 1, 1) := by decide +kernel
theorem dX1_tick_441 : decode cX1_tick 441 = .ok (.dup2, 1) := by decide +kernel
theorem dX1_tick_442 : decode cX1_tick 442 = .ok (.iaload, 1) := by decide +kernel
theorem dX1_tick_443 : decode cX1_tick 443 = .ok (.iconst 1, 1) := by decide +kernel
theorem dX1_tick_444 : decode cX1_tick 444 = .ok (.iadd, 1) := by decide +kernel
theorem dX1_tick_445 : decode cX1_tick 445 = .ok (.iastore, 1) := by decide +kernel
theorem dX1_tick_446 : decode cX1_tick 446 = .ok (.aload_n 0, 1) := by decide +kernel
theorem dX1_tick_447 : decode cX1_tick 447 = .ok (.getfield 336, 3) := by decide +kernel
theorem dX1_tick_450 : decode cX1_tick 450 = .ok (.iload_n 1, 1) := by decide +kernel
theorem dX1_tick_451 : decode cX1_tick 451 = .ok (.aload_n 0, 1) := by decide +kernel
theorem dX1_tick_452 : decode cX1_tick 452 = .ok (.getfield 7, 3) := by decide +kernel
theorem dX1_tick_455 : decode cX1_tick 455 = .ok (.iastore, 1) := by decide +kernel
theorem dX1_tick_456 : decode cX1_tick 456 = .ok (.aload_n 0, 1) := by decide +kernel
theorem dX1_tick_457 : decode cX1_tick 457 = .ok (.getfield 339, 3) := by decide +kernel
theorem dX1_tick_460 : decode cX1_tick 460 = .ok (.iload_n 1, 1) := by decide +kernel
theorem dX1_tick_461 : decode cX1_tick 461 = .ok (.iload_n 2, 1) := by decide +kernel
theorem dX1_tick_462 : decode cX1_tick 462 = .ok (.bastore, 1) := by decide +kernel
theorem dX1_tick_463 : decode cX1_tick 463 = .ok (.iinc 1 1, 3) := by decide +kernel
theorem dX1_tick_466 : decode cX1_tick 466 = .ok (.goto (-57), 3) := by decide +kernel
theorem dX1_tick_469 : decode cX1_tick 469 = .ok (.return_, 1) := by decide +kernel
theorem dX1_tryEnds_0 : decode cX1_tryEnds 0 = .ok (.aload_n 0, 1) := by decide +kernel
theorem dX1_tryEnds_1 : decode cX1_tryEnds 1 = .ok (.getfield 210, 3) := by decide +kernel
theorem dX1_tryEnds_4 : decode cX1_tryEnds 4 = .ok (.iload_n 1, 1) := by decide +kernel
theorem dX1_tryEnds_5 : decode cX1_tryEnds 5 = .ok (.iaload, 1) := by decide +kernel
theorem dX1_tryEnds_6 : decode cX1_tryEnds 6 = .ok (.istore_n 2, 1) := by decide +kernel
theorem dX1_tryEnds_7 : decode cX1_tryEnds 7 = .ok (.aload_n 0, 1) := by decide +kernel
theorem dX1_tryEnds_8 : decode cX1_tryEnds 8 = .ok (.getfield 198, 3) := by decide +kernel
theorem dX1_tryEnds_11 : decode cX1_tryEnds 11 = .ok (.iload_n 1, 1) := by decide +kernel
theorem dX1_tryEnds_12 : decode cX1_tryEnds 12 = .ok (.iaload, 1) := by decide +kernel
theorem dX1_tryEnds_13 : decode cX1_tryEnds 13 = .ok (.istore_n 3, 1) := by decide +kernel
theorem dX1_tryEnds_14 : decode cX1_tryEnds 14 = .ok (.aload_n 0, 1) := by decide +kernel
theorem dX1_tryEnds_15 : decode cX1_tryEnds 15 = .ok (.getfield 171, 3) := by decide +kernel
theorem dX1_tryEnds_18 : decode cX1_tryEnds 18 = .ok (.iload_n 3, 1) := by decide +kernel
theorem dX1_tryEnds_19 : decode cX1_tryEnds 19 = .ok (.iaload, 1) := by decide +kernel
theorem dX1_tryEnds_20 : decode cX1_tryEnds 20 = .ok (.istore 4, 2) := by decide +kernel
theorem dX1_tryEnds_22 : decode cX1_tryEnds 22 = .ok (.iconst 0, 1) := by decide +kernel
theorem dX1_tryEnds_23 : decode cX1_tryEnds 23 = .ok (.istore 5, 2) := by decide +kernel
theorem dX1_tryEnds_25 : decode cX1_tryEnds 25 = .ok (.iload 5, 2) := by decide +kernel
theorem dX1_tryEnds_27 : decode cX1_tryEnds 27 = .ok (.aload_n 0, 1) := by decide +kernel
theorem dX1_tryEnds_28 : decode cX1_tryEnds 28 = .ok (.getfield 26, 3) := by decide +kernel
theorem dX1_tryEnds_31 : decode cX1_tryEnds 31 = .ok (.if_icmp .ge 85, 3) := by decide +kernel
theorem dX1_tryEnds_34 : decode cX1_tryEnds 34 = .ok (.aload_n 0, 1) := by decide +kernel
theorem dX1_tryEnds_35 : decode cX1_tryEnds 35 = .ok (.getfield 29, 3) := by decide +kernel
theorem dX1_tryEnds_38 : decode cX1_tryEnds 38 = .ok (.iload 5, 2) := by decide +kernel
theorem dX1_tryEnds_40 : decode cX1_tryEnds 40 = .ok (.iaload, 1) := by decide +kernel
theorem dX1_tryEnds_41 : decode cX1_tryEnds 41 = .ok (.iload_n 2, 1) := by decide +kernel
theorem dX1_tryEnds_42 : decode cX1_tryEnds 42 = .ok (.if_icmp .ne 68, 3) := by decide +kernel
theorem dX1_tryEnds_45 : decode cX1_tryEnds 45 = .ok (.aload_n 0, 1) := by decide +kernel
theorem dX1_tryEnds_46 : decode cX1_tryEnds 46 = .ok (.getfield 32, 3) := by decide +kernel
theorem dX1_tryEnds_49 : decode cX1_tryEnds 49 = .ok (.iload 5, 2) := by decide +kernel
theorem dX1_tryEnds_51 : decode cX1_tryEnds 51 = .ok (.iaload, 1) := by decide +kernel
theorem dX1_tryEnds_52 : decode cX1_tryEnds 52 = .ok (.iload 4, 2) := by decide +kernel
theorem dX1_tryEnds_54 : decode cX1_tryEnds 54 = .ok (.if_icmp .ne 56, 3) := by decide +kernel
theorem dX1_tryEnds_57 : decode cX1_tryEnds 57 = .ok (.aload_n 0, 1) := by decide +kernel
theorem dX1_tryEnds_58 : decode cX1_tryEnds 58 = .ok (.getfield 7, 3) := by decide +kernel
theorem dX1_tryEnds_61 : decode cX1_tryEnds 61 = .ok (.aload_n 0, 1) := by decide +kernel
theorem dX1_tryEnds_62 : decode cX1_tryEnds 62 = .ok (.getfield 35, 3) := by decide +kernel
theorem dX1_tryEnds_65 : decode cX1_tryEnds 65 = .ok (.iload 5, 2) := by decide +kernel
theorem dX1_tryEnds_67 : decode cX1_tryEnds 67 = .ok (.iaload, 1) := by decide +kernel
theorem dX1_tryEnds_68 : decode cX1_tryEnds 68 = .ok (.if_icmp .lt 42, 3) := by decide +kernel
theorem dX1_tryEnds_71 : decode cX1_tryEnds 71 = .ok (.aload_n 0, 1) := by decide +kernel
theorem dX1_tryEnds_72 : decode cX1_tryEnds 72 = .ok (.getfield 7, 3) := by decide +kernel
theorem dX1_tryEnds_75 : decode cX1_tryEnds 75 = .ok (.aload_n 0, 1) := by decide +kernel
theorem dX1_tryEnds_76 : decode cX1_tryEnds 76 = .ok (.getfield 38, 3) := by decide +kernel
theorem dX1_tryEnds_79 : decode cX1_tryEnds 79 = .ok (.iload 5, 2) := by decide +kernel
theorem dX1_tryEnds_81 : decode cX1_tryEnds 81 = .ok (.iaload, 1) := by decide +kernel
theorem dX1_tryEnds_82 : decode cX1_tryEnds 82 = .ok (.if_icmp .le 6, 3) := by decide +kernel
theorem dX1_tryEnds_85 : decode cX1_tryEnds 85 = .ok (.goto 25, 3) := by decide +kernel
theorem dX1_tryEnds_88 : decode cX1_tryEnds 88 = .ok (.aload_n 0, 1) := by decide +kernel
theorem dX1_tryEnds_89 : decode cX1_tryEnds 89 = .ok (.iconst 1, 1) := by decide +kernel
theorem dX1_tryEnds_90 : decode cX1_tryEnds 90 = .ok (.iload_n 1, 1) := by decide +kernel
theorem dX1_tryEnds_91 : decode cX1_tryEnds 91 = .ok (.iconst 2, 1) := by decide +kernel
theorem dX1_tryEnds_92 : decode cX1_tryEnds 92 = .ok (.aload_n 0, 1) := by decide +kernel
theorem dX1_tryEnds_93 : decode cX1_tryEnds 93 = .ok (.aload_n 0, 1) := by decide +kernel
theorem dX1_tryEnds_94 : decode cX1_tryEnds 94 = .ok (.getfield 41, 3) := by decide +kernel
theorem dX1_tryEnds_97 : decode cX1_tryEnds 97 = .ok (.iload 5, 2) := by decide +kernel
theorem dX1_tryEnds_99 : decode cX1_tryEnds 99 = .ok (.iaload, 1) := by decide +kernel
theorem dX1_tryEnds_100 : decode cX1_tryEnds 100 = .ok (.iconst (-1), 1) := by decide +kernel
theorem dX1_tryEnds_101 : decode cX1_tryEnds 101 = .ok (.iload_n 2, 1) := by decide +kernel
theorem dX1_tryEnds_102 : decode cX1_tryEnds 102 = .ok (.invokevirtual 411, 3) := by decide +kernel
theorem dX1_tryEnds_105 : decode cX1_tryEnds 105 = .ok (.iconst 0, 1) := by decide +kernel
theorem dX1_tryEnds_106 : decode cX1_tryEnds 106 = .ok (.invokevirtual 397, 3) := by decide +kernel
theorem dX1_tryEnds_109 : decode cX1_tryEnds 109 = .ok (.return_, 1) := by decide +kernel
theorem dX1_tryEnds_110 : decode cX1_tryEnds 110 = .ok (.iinc 5 1, 3) := by decide +kernel
theorem dX1_tryEnds_113 : decode cX1_tryEnds 113 = .ok (.goto (-88), 3) := by decide +kernel
theorem dX1_tryEnds_116 : decode cX1_tryEnds 116 = .ok (.iload 4, 2) := by decide +kernel
theorem dX1_tryEnds_118 : decode cX1_tryEnds 118 = .ok (.ifCond .ne 18, 3) := by decide +kernel
theorem dX1_tryEnds_121 : decode cX1_tryEnds 121 = .ok (.aload_n 0, 1) := by decide +kernel
theorem dX1_tryEnds_122 : decode cX1_tryEnds 122 = .ok (.iconst 1, 1) := by decide +kernel
theorem dX1_tryEnds_123 : decode cX1_tryEnds 123 = .ok (.iload_n 1, 1) := by decide +kernel
theorem dX1_tryEnds_124 : decode cX1_tryEnds 124 = .ok (.iconst 1, 1) := by decide +kernel
theorem dX1_tryEnds_125 : decode cX1_tryEnds 125 = .ok (.aload_n 0, 1) := by decide +kernel
theorem dX1_tryEnds_126 : decode cX1_tryEnds 126 = .ok (.getfield 16, 3) := by decide +kernel
theorem dX1_tryEnds_129 : decode cX1_tryEnds 129 = .ok (.iload_n 2, 1) := by decide +kernel
theorem dX1_tryEnds_130 : decode cX1_tryEnds 130 = .ok (.iaload, 1) := by decide +kernel
theorem dX1_tryEnds_131 : decode cX1_tryEnds 131 = .ok (.iconst 0, 1) := by decide +kernel
theorem dX1_tryEnds_132 : decode cX1_tryEnds 132 = .ok (.invokevirtual 397, 3) := by decide +kernel
theorem dX1_tryEnds_135 : decode cX1_tryEnds 135 = .ok (.return_, 1) := by decide +kernel
theorem dX1_tryEnds_136 : decode cX1_tryEnds 136 = .ok (.aload_n 0, 1) := by decide +kernel
theorem dX1_tryEnds_137 : decode cX1_tryEnds 137 = .ok (.getfield 177, 3) := by decide +kernel
theorem dX1_tryEnds_140 : decode cX1_tryEnds 140 = .ok (.iload_n 3, 1) := by decide +kernel
theorem dX1_tryEnds_141 : decode cX1_tryEnds 141 = .ok (.iaload, 1) := by decide +kernel
theorem dX1_tryEnds_142 : decode cX1_tryEnds 142 = .ok (.istore 5, 2) := by decide +kernel
theorem dX1_tryEnds_144 : decode cX1_tryEnds 144 = .ok (.iconst 0, 1) := by decide +kernel
theorem dX1_tryEnds_145 : decode cX1_tryEnds 145 = .ok (.istore 6, 2) := by decide +kernel
theorem dX1_tryEnds_147 : decode cX1_tryEnds 147 = .ok (.iload 6, 2) := by decide +kernel
theorem dX1_tryEnds_149 : decode cX1_tryEnds 149 = .ok (.aload_n 0, 1) := by decide +kernel
theorem dX1_tryEnds_150 : decode cX1_tryEnds 150 = .ok (.getfield 62, 3) := by decide +kernel
theorem dX1_tryEnds_153 : decode cX1_tryEnds 153 = .ok (.if_icmp .ge 77, 3) := by decide +kernel
theorem dX1_tryEnds_156 : decode cX1_tryEnds 156 = .ok (.iload 5, 2) := by decide +kernel
theorem dX1_tryEnds_158 : decode cX1_tryEnds 158 = .ok (.ifCond .eq 66, 3) := by decide +kernel
theorem dX1_tryEnds_161 : decode cX1_tryEnds 161 = .ok (.aload_n 0, 1) := by decide +kernel
theorem dX1_tryEnds_162 : decode cX1_tryEnds 162 = .ok (.getfield 71, 3) := by decide +kernel
theorem dX1_tryEnds_165 : decode cX1_tryEnds 165 = .ok (.iload 6, 2) := by decide +kernel
theorem dX1_tryEnds_167 : decode cX1_tryEnds 167 = .ok (.iaload, 1) := by decide +kernel
theorem dX1_tryEnds_168 : decode cX1_tryEnds 168 = .ok (.iload 5, 2) := by decide +kernel
theorem dX1_tryEnds_170 : decode cX1_tryEnds 170 = .ok (.if_icmp .ne 54, 3) := by decide +kernel
theorem dX1_tryEnds_173 : decode cX1_tryEnds 173 = .ok (.aload_n 0, 1) := by decide +kernel
theorem dX1_tryEnds_174 : decode cX1_tryEnds 174 = .ok (.getfield 65, 3) := by decide +kernel
theorem dX1_tryEnds_177 : decode cX1_tryEnds 177 = .ok (.iload 6, 2) := by decide +kernel
theorem dX1_tryEnds_179 : decode cX1_tryEnds 179 = .ok (.iaload, 1) := by decide +kernel
theorem dX1_tryEnds_180 : decode cX1_tryEnds 180 = .ok (.iload_n 2, 1) := by decide +kernel
theorem dX1_tryEnds_181 : decode cX1_tryEnds 181 = .ok (.if_icmp .eq 6, 3) := by decide +kernel
theorem dX1_tryEnds_184 : decode cX1_tryEnds 184 = .ok (.goto 40, 3) := by decide +kernel
theorem dX1_tryEnds_187 : decode cX1_tryEnds 187 = .ok (.aload_n 0, 1) := by decide +kernel
theorem dX1_tryEnds_188 : decode cX1_tryEnds 188 = .ok (.iconst 1, 1) := by decide +kernel
theorem dX1_tryEnds_189 : decode cX1_tryEnds 189 = .ok (.iload_n 1, 1) := by decide +kernel
theorem dX1_tryEnds_190 : decode cX1_tryEnds 190 = .ok (.iconst 1, 1) := by decide +kernel
theorem dX1_tryEnds_191 : decode cX1_tryEnds 191 = .ok (.aload_n 0, 1) := by decide +kernel
theorem dX1_tryEnds_192 : decode cX1_tryEnds 192 = .ok (.getfield 74, 3) := by decide +kernel
theorem dX1_tryEnds_195 : decode cX1_tryEnds 195 = .ok (.iload 6, 2) := by decide +kernel
theorem dX1_tryEnds_197 : decode cX1_tryEnds 197 = .ok (.iaload, 1) := by decide +kernel
theorem dX1_tryEnds_198 : decode cX1_tryEnds 198 = .ok (.ifCond .ge 14, 3) := by decide +kernel
theorem dX1_tryEnds_201 : decode cX1_tryEnds 201 = .ok (.aload_n 0, 1) := by decide +kernel
theorem dX1_tryEnds_202 : decode cX1_tryEnds 202 = .ok (.getfield 74, 3) := by decide +kernel
theorem dX1_tryEnds_205 : decode cX1_tryEnds 205 = .ok (.iload 6, 2) := by decide +kernel
theorem dX1_tryEnds_207 : decode cX1_tryEnds 207 = .ok (.iaload, 1) := by decide +kernel
theorem dX1_tryEnds_208 : decode cX1_tryEnds 208 = .ok (.ineg, 1) := by decide +kernel
theorem dX1_tryEnds_209 : decode cX1_tryEnds 209 = .ok (.goto 10, 3) := by decide +kernel
theorem dX1_tryEnds_212 : decode cX1_tryEnds 212 = .ok (.aload_n 0, 1) := by decide +kernel
theorem dX1_tryEnds_213 : decode cX1_tryEnds 213 = .ok (.getfield 74, 3) := by decide +kernel
theorem dX1_tryEnds_216 : decode cX1_tryEnds 216 = .ok (.iload 6, 2) := by decide +kernel
theorem dX1_tryEnds_218 : decode cX1_tryEnds 218 = .ok (.iaload, 1) := by decide +kernel
theorem dX1_tryEnds_219 : decode cX1_tryEnds 219 = .ok (.iconst 0, 1) := by decide +kernel
theorem dX1_tryEnds_220 : decode cX1_tryEnds 220 = .ok (.invokevirtual 397, 3) := by decide +kernel
theorem dX1_tryEnds_223 : decode cX1_tryEnds 223 = .ok (.return_, 1) := by decide +kernel
theorem dX1_tryEnds_224 : decode cX1_tryEnds 224 = .ok (.iinc 6 1, 3) := by decide +kernel
theorem dX1_tryEnds_227 : decode cX1_tryEnds 227 = .ok (.goto (-80), 3) := by decide +kernel
theorem dX1_tryEnds_230 : decode cX1_tryEnds 230 = .ok (.aload_n 0, 1) := by decide +kernel
theorem dX1_tryEnds_231 : decode cX1_tryEnds 231 = .ok (.getfield 174, 3) := by decide +kernel
theorem dX1_tryEnds_234 : decode cX1_tryEnds 234 = .ok (.iload_n 3, 1) := by decide +kernel
theorem dX1_tryEnds_235 : decode cX1_tryEnds 235 = .ok (.iaload, 1) := by decide +kernel
theorem dX1_tryEnds_236 : decode cX1_tryEnds 236 = .ok (.istore 6, 2) := by decide +kernel
theorem dX1_tryEnds_238 : decode cX1_tryEnds 238 = .ok (.iload 4, 2) := by decide +kernel
theorem dX1_tryEnds_240 : decode cX1_tryEnds 240 = .ok (.iconst 1, 1) := by decide +kernel
theorem dX1_tryEnds_241 : decode cX1_tryEnds 241 = .ok (.if_icmp .ne 17, 3) := by decide +kernel
theorem dX1_tryEnds_244 : decode cX1_tryEnds 244 = .ok (.aload_n 0, 1) := by decide +kernel
theorem dX1_tryEnds_245 : decode cX1_tryEnds 245 = .ok (.getfield 16, 3) := by decide +kernel
theorem dX1_tryEnds_248 : decode cX1_tryEnds 248 = .ok (.iload_n 2, 1) := by decide +kernel
theorem dX1_tryEnds_249 : decode cX1_tryEnds 249 = .ok (.iaload, 1) := by decide +kernel
theorem dX1_tryEnds_250 : decode cX1_tryEnds 250 = .ok (.iload 6, 2) := by decide +kernel
theorem dX1_tryEnds_252 : decode cX1_tryEnds 252 = .ok (.if_icmp .ge 51, 3) := by decide +kernel
theorem dX1_tryEnds_255 : decode cX1_tryEnds 255 = .ok (.goto 21, 3) := by decide +kernel
theorem dX1_tryEnds_258 : decode cX1_tryEnds 258 = .ok (.aload_n 0, 1) := by decide +kernel
theorem dX1_tryEnds_259 : decode cX1_tryEnds 259 = .ok (.getfield 16, 3) := by decide +kernel
theorem dX1_tryEnds_262 : decode cX1_tryEnds 262 = .ok (.iload_n 2, 1) := by decide +kernel
theorem dX1_tryEnds_263 : decode cX1_tryEnds 263 = .ok (.iaload, 1) := by decide +kernel
theorem dX1_tryEnds_264 : decode cX1_tryEnds 264 = .ok (.iload 6, 2) := by decide +kernel
theorem dX1_tryEnds_266 : decode cX1_tryEnds 266 = .ok (.iadd, 1) := by decide +kernel
theorem dX1_tryEnds_267 : decode cX1_tryEnds 267 = .ok (.aload_n 0, 1) := by decide +kernel
theorem dX1_tryEnds_268 : decode cX1_tryEnds 268 = .ok (.getfield 20, 3) := by decide +kernel
theorem dX1_tryEnds_271 : decode cX1_tryEnds 271 = .ok (.iload_n 2, 1) := by decide +kernel
theorem dX1_tryEnds_272 : decode cX1_tryEnds 272 = .ok (.iaload, 1) := by decide +kernel
theorem dX1_tryEnds_273 : decode cX1_tryEnds 273 = .ok (.if_icmp .le 30, 3) := by decide +kernel
theorem dX1_tryEnds_276 : decode cX1_tryEnds 276 = .ok (.aload_n 0, 1) := by decide +kernel
theorem dX1_tryEnds_277 : decode cX1_tryEnds 277 = .ok (.iconst 1, 1) := by decide +kernel
theorem dX1_tryEnds_278 : decode cX1_tryEnds 278 = .ok (.iload_n 1, 1) := by decide +kernel
theorem dX1_tryEnds_279 : decode cX1_tryEnds 279 = .ok (.iconst 2, 1) := by decide +kernel
theorem dX1_tryEnds_280 : decode cX1_tryEnds 280 = .ok (.aload_n 0, 1) := by decide +kernel
theorem dX1_tryEnds_281 : decode cX1_tryEnds 281 = .ok (.iload 4, 2) := by decide +kernel
theorem dX1_tryEnds_283 : decode cX1_tryEnds 283 = .ok (.iconst 1, 1) := by decide +kernel
theorem dX1_tryEnds_284 : decode cX1_tryEnds 284 = .ok (.if_icmp .ne 7, 3) := by decide +kernel
theorem dX1_tryEnds_287 : decode cX1_tryEnds 287 = .ok (.iconst 5, 1) := by decide +kernel
theorem dX1_tryEnds_288 : decode cX1_tryEnds 288 = .ok (.goto 5, 3) := by decide +kernel
theorem dX1_tryEnds_291 : decode cX1_tryEnds 291 = .ok (.bipush 6, 2) := by decide +kernel
theorem dX1_tryEnds_293 : decode cX1_tryEnds 293 = .ok (.iconst (-1), 1) := by decide +kernel
theorem dX1_tryEnds_294 : decode cX1_tryEnds 294 = .ok (.iload_n 2, 1) := by decide +kernel
theorem dX1_tryEnds_295 : decode cX1_tryEnds 295 = .ok (.invokevirtual 411, 3) := by decide +kernel
theorem dX1_tryEnds_298 : decode cX1_tryEnds 298 = .ok (.iconst 0, 1) := by decide +kernel
theorem dX1_tryEnds_299 : decode cX1_tryEnds 299 = .ok (.invokevirtual 397, 3) := by decide +kernel
theorem dX1_tryEnds_302 : decode cX1_tryEnds 302 = .ok (.return_, 1) := by decide +kernel
theorem dX1_tryEnds_303 : decode cX1_tryEnds 303 = .ok (.iload 4, 2) := by decide +kernel
theorem dX1_tryEnds_305 : decode cX1_tryEnds 305 = .ok (.iconst 1, 1) := by decide +kernel
theorem dX1_tryEnds_306 : decode cX1_tryEnds 306 = .ok (.if_icmp .ne 9, 3) := by decide +kernel
theorem dX1_tryEnds_309 : decode cX1_tryEnds 309 = .ok (.iload 6, 2) := by decide +kernel
theorem dX1_tryEnds_311 : decode cX1_tryEnds 311 = .ok (.ineg, 1) := by decide +kernel
theorem dX1_tryEnds_312 : decode cX1_tryEnds 312 = .ok (.goto 5, 3) := by decide +kernel
theorem dX1_tryEnds_315 : decode cX1_tryEnds 315 = .ok (.iload 6, 2) := by decide +kernel
theorem dX1_tryEnds_317 : decode cX1_tryEnds 317 = .ok (.istore 7, 2) := by decide +kernel
theorem dX1_tryEnds_319 : decode cX1_tryEnds 319 = .ok (.aload_n 0, 1) := by decide +kernel
theorem dX1_tryEnds_320 : decode cX1_tryEnds 320 = .ok (.getfield 16, 3) := by decide +kernel
theorem dX1_tryEnds_323 : decode cX1_tryEnds 323 = .ok (.iload_n 2, 1) := by decide +kernel
theorem dX1_tryEnds_324 : decode cX1_tryEnds 324 = .ok (.dup2, 1) := by decide +kernel
theorem dX1_tryEnds_325 : decode cX1_tryEnds 325 = .ok (.iaload, 1) := by decide +kernel
theorem dX1_tryEnds_326 : decode cX1_tryEnds 326 = .ok (.iload 7, 2) := by decide +kernel
theorem dX1_tryEnds_328 : decode cX1_tryEnds 328 = .ok (.iadd, 1) := by decide +kernel
theorem dX1_tryEnds_329 : decode cX1_tryEnds 329 = .ok (.iastore, 1) := by decide +kernel
theorem dX1_tryEnds_330 : decode cX1_tryEnds 330 = .ok (.aload_n 0, 1) := by decide +kernel
theorem dX1_tryEnds_331 : decode cX1_tryEnds 331 = .ok (.getfield 65, 3) := by decide +kernel
theorem dX1_tryEnds_334 : decode cX1_tryEnds 334 = .ok (.aload_n 0, 1) := by decide +kernel
theorem dX1_tryEnds_335 : decode cX1_tryEnds 335 = .ok (.getfield 62, 3) := by decide +kernel
theorem dX1_tryEnds_338 : decode cX1_tryEnds 338 = .ok (.iload_n 2, 1) := by decide +kernel
theorem dX1_tryEnds_339 : decode cX1_tryEnds 339 = .ok (.iastore, 1) := by decide +kernel
theorem dX1_tryEnds_340 : decode cX1_tryEnds 340 = .ok (.aload_n 0, 1) := by decide +kernel
theorem dX1_tryEnds_341 : decode cX1_tryEnds 341 = .ok (.getfield 68, 3) := by decide +kernel
theorem dX1_tryEnds_344 : decode cX1_tryEnds 344 = .ok (.aload_n 0, 1) := by decide +kernel
theorem dX1_tryEnds_345 : decode cX1_tryEnds 345 = .ok (.getfield 62, 3) := by decide +kernel
theorem dX1_tryEnds_348 : decode cX1_tryEnds 348 = .ok (.iload_n 3, 1) := by decide +kernel
theorem dX1_tryEnds_349 : decode cX1_tryEnds 349 = .ok (.iastore, 1) := by decide +kernel
theorem dX1_tryEnds_350 : decode cX1_tryEnds 350 = .ok (.aload_n 0, 1) := by decide +kernel
theorem dX1_tryEnds_351 : decode cX1_tryEnds 351 = .ok (.getfield 71, 3) := by decide +kernel
theorem dX1_tryEnds_354 : decode cX1_tryEnds 354 = .ok (.aload_n 0, 1) := by decide +kernel
theorem dX1_tryEnds_355 : decode cX1_tryEnds 355 = .ok (.getfield 62, 3) := by decide +kernel
theorem dX1_tryEnds_358 : decode cX1_tryEnds 358 = .ok (.iload 5, 2) := by decide +kernel
theorem dX1_tryEnds_360 : decode cX1_tryEnds 360 = .ok (.iastore, 1) := by decide +kernel
theorem dX1_tryEnds_361 : decode cX1_tryEnds 361 = .ok (.aload_n 0, 1) := by decide +kernel
theorem dX1_tryEnds_362 : decode cX1_tryEnds 362 = .ok (.getfield 74, 3) := by decide +kernel
theorem dX1_tryEnds_365 : decode cX1_tryEnds 365 = .ok (.aload_n 0, 1) := by decide +kernel
theorem dX1_tryEnds_366 : decode cX1_tryEnds 366 = .ok (.getfield 62, 3) := by decide +kernel
theorem dX1_tryEnds_369 : decode cX1_tryEnds 369 = .ok (.iload 7, 2) := by decide +kernel
theorem dX1_tryEnds_371 : decode cX1_tryEnds 371 = .ok (.iastore, 1) := by decide +kernel
theorem dX1_tryEnds_372 : decode cX1_tryEnds 372 = .ok (.aload_n 0, 1) := by decide +kernel
theorem dX1_tryEnds_373 : decode cX1_tryEnds 373 = .ok (.getfield 77, 3) := by decide +kernel
theorem dX1_tryEnds_376 : decode cX1_tryEnds 376 = .ok (.aload_n 0, 1) := by decide +kernel
theorem dX1_tryEnds_377 : decode cX1_tryEnds 377 = .ok (.getfield 62, 3) := by decide +kernel
theorem dX1_tryEnds_380 : decode cX1_tryEnds 380 = .ok (.aload_n 0, 1) := by decide +kernel
theorem dX1_tryEnds_381 : decode cX1_tryEnds 381 = .ok (.getfield 7, 3) := by decide +kernel
theorem dX1_tryEnds_384 : decode cX1_tryEnds 384 = .ok (.iastore, 1) := by decide +kernel
theorem dX1_tryEnds_385 : decode cX1_tryEnds 385 = .ok (.aload_n 0, 1) := by decide +kernel
theorem dX1_tryEnds_386 : decode cX1_tryEnds 386 = .ok (.dup, 1) := by decide +kernel
theorem dX1_tryEnds_387 : decode cX1_tryEnds 387 = .ok (.getfield 62, 3) := by decide +kernel
theorem dX1_tryEnds_390 : decode cX1_tryEnds 390 = .ok (.iconst 1, 1) := by decide +kernel
theorem dX1_tryEnds_391 : decode cX1_tryEnds 391 = .ok (.iadd, 1) := by decide +kernel
theorem dX1_tryEnds_392 : decode cX1_tryEnds 392 = .ok (.putfield 62, 3) := by decide +kernel
theorem dX1_tryEnds_395 : decode cX1_tryEnds 395 = .ok (.aload_n 0, 1) := by decide +kernel
theorem dX1_tryEnds_396 : decode cX1_tryEnds 396 = .ok (.iconst 1, 1) := by decide +kernel
theorem dX1_tryEnds_397 : decode cX1_tryEnds 397 = .ok (.iload_n 1, 1) := by decide +kernel
theorem dX1_tryEnds_398 : decode cX1_tryEnds 398 = .ok (.iconst 1, 1) := by decide +kernel
theorem dX1_tryEnds_399 : decode cX1_tryEnds 399 = .ok (.iload 6, 2) := by decide +kernel
theorem dX1_tryEnds_401 : decode cX1_tryEnds 401 = .ok (.iconst 0, 1) := by decide +kernel
theorem dX1_tryEnds_402 : decode cX1_tryEnds 402 = .ok (.invokevirtual 397, 3) := by decide +kernel
theorem dX1_tryEnds_405 : decode cX1_tryEnds 405 = .ok (.return_, 1) := by decide +kernel
theorem dX1_late_0 : decode cX1_late 0 = .ok (.aload_n 0, 1) := by decide +kernel
theorem dX1_late_1 : decode cX1_late 1 = .ok (.iconst 2, 1) := by decide +kernel
theorem dX1_late_2 : decode cX1_late 2 = .ok (.iload_n 1, 1) := by decide +kernel
theorem dX1_late_3 : decode cX1_late 3 = .ok (.bipush 12, 2) := by decide +kernel
theorem dX1_late_5 : decode cX1_late 5 = .ok (.iconst 0, 1) := by decide +kernel
theorem dX1_late_6 : decode cX1_late 6 = .ok (.iconst 0, 1) := by decide +kernel
theorem dX1_late_7 : decode cX1_late 7 = .ok (.invokevirtual 397, 3) := by decide +kernel
theorem dX1_late_10 : decode cX1_late 10 = .ok (.iconst 0, 1) := by decide +kernel
theorem dX1_late_11 : decode cX1_late 11 = .ok (.istore_n 2, 1) := by decide +kernel
theorem dX1_late_12 : decode cX1_late 12 = .ok (.iload_n 2, 1) := by decide +kernel
theorem dX1_late_13 : decode cX1_late 13 = .ok (.aload_n 0, 1) := by decide +kernel
theorem dX1_late_14 : decode cX1_late 14 = .ok (.getfield 195, 3) := by decide +kernel
theorem dX1_late_17 : decode cX1_late 17 = .ok (.if_icmp .ge 39, 3) := by decide +kernel
theorem dX1_late_20 : decode cX1_late 20 = .ok (.aload_n 0, 1) := by decide +kernel
theorem dX1_late_21 : decode cX1_late 21 = .ok (.getfield 204, 3) := by decide +kernel
theorem dX1_late_24 : decode cX1_late 24 = .ok (.iload_n 2, 1) := by decide +kernel
theorem dX1_late_25 : decode cX1_late 25 = .ok (.iaload, 1) := by decide +kernel
theorem dX1_late_26 : decode cX1_late 26 = .ok (.iload_n 1, 1) := by decide +kernel
theorem dX1_late_27 : decode cX1_late 27 = .ok (.if_icmp .ne 23, 3) := by decide +kernel
theorem dX1_late_30 : decode cX1_late 30 = .ok (.aload_n 0, 1) := by decide +kernel
theorem dX1_late_31 : decode cX1_late 31 = .ok (.getfield 219, 3) := by decide +kernel
theorem dX1_late_34 : decode cX1_late 34 = .ok (.iload_n 2, 1) := by decide +kernel
theorem dX1_late_35 : decode cX1_late 35 = .ok (.iaload, 1) := by decide +kernel
theorem dX1_late_36 : decode cX1_late 36 = .ok (.ifCond .eq 6, 3) := by decide +kernel
theorem dX1_late_39 : decode cX1_late 39 = .ok (.goto 11, 3) := by decide +kernel
theorem dX1_late_42 : decode cX1_late 42 = .ok (.aload_n 0, 1) := by decide +kernel
theorem dX1_late_43 : decode cX1_late 43 = .ok (.iload_n 2, 1) := by decide +kernel
theorem dX1_late_44 : decode cX1_late 44 = .ok (.iconst (-1), 1) := by decide +kernel
theorem dX1_late_45 : decode cX1_late 45 = .ok (.invokevirtual 443, 3) := by decide +kernel
theorem dX1_late_48 : decode cX1_late 48 = .ok (.istore_n 3, 1) := by decide +kernel
theorem dX1_late_49 : decode cX1_late 49 = .ok (.return_, 1) := by decide +kernel
theorem dX1_late_50 : decode cX1_late 50 = .ok (.iinc 2 1, 3) := by decide +kernel
theorem dX1_late_53 : decode cX1_late 53 = .ok (.goto (-41), 3) := by decide +kernel
theorem dX1_late_56 : decode cX1_late 56 = .ok (.return_, 1) := by decide +kernel
theorem dX1_planDue_0 : decode cX1_planDue 0 = .ok (.aload_n 0, 1) := by decide +kernel
theorem dX1_planDue_1 : decode cX1_planDue 1 = .ok (.getfield 318, 3) := by decide +kernel
theorem dX1_planDue_4 : decode cX1_planDue 4 = .ok (.iload_n 1, 1) := by decide +kernel
theorem dX1_planDue_5 : decode cX1_planDue 5 = .ok (.baload, 1) := by decide +kernel
theorem dX1_planDue_6 : decode cX1_planDue 6 = .ok (.ifCond .ne 24, 3) := by decide +kernel
theorem dX1_planDue_9 : decode cX1_planDue 9 = .ok (.aload_n 0, 1) := by decide +kernel
theorem dX1_planDue_10 : decode cX1_planDue 10 = .ok (.getfield 7, 3) := by decide +kernel
theorem dX1_planDue_13 : decode cX1_planDue 13 = .ok (.aload_n 0, 1) := by decide +kernel
theorem dX1_planDue_14 : decode cX1_planDue 14 = .ok (.getfield 303, 3) := by decide +kernel
theorem dX1_planDue_17 : decode cX1_planDue 17 = .ok (.iload_n 1, 1) := by decide +kernel
theorem dX1_planDue_18 : decode cX1_planDue 18 = .ok (.iaload, 1) := by decide +kernel
theorem dX1_planDue_19 : decode cX1_planDue 19 = .ok (.isub, 1) := by decide +kernel
theorem dX1_planDue_20 : decode cX1_planDue 20 = .ok (.aload_n 0, 1) := by decide +kernel
theorem dX1_planDue_21 : decode cX1_planDue 21 = .ok (.getfield 294, 3) := by decide +kernel
theorem dX1_planDue_24 : decode cX1_planDue 24 = .ok (.iload_n 1, 1) := by decide +kernel
theorem dX1_planDue_25 : decode cX1_planDue 25 = .ok (.iaload, 1) := by decide +kernel
theorem dX1_planDue_26 : decode cX1_planDue 26 = .ok (.irem, 1) := by decide +kernel
theorem dX1_planDue_27 : decode cX1_planDue 27 = .ok (.ifCond .eq 4, 3) := by decide +kernel
theorem dX1_planDue_30 : decode cX1_planDue 30 = .ok (.return_, 1) := by decide +kernel
theorem dX1_planDue_31 : decode cX1_planDue 31 = .ok (.aload_n 0, 1) := by decide +kernel
theorem dX1_planDue_32 : decode cX1_planDue 32 = .ok (.getfield 16, 3) := by decide +kernel
theorem dX1_planDue_35 : decode cX1_planDue 35 = .ok (.aload_n 0, 1) := by decide +kernel
theorem dX1_planDue_36 : decode cX1_planDue 36 = .ok (.getfield 285, 3) := by decide +kernel
theorem dX1_planDue_39 : decode cX1_planDue 39 = .ok (.iload_n 1, 1) := by decide +kernel
theorem dX1_planDue_40 : decode cX1_planDue 40 = .ok (.iaload, 1) := by decide +kernel
theorem dX1_planDue_41 : decode cX1_planDue 41 = .ok (.iaload, 1) := by decide +kernel
theorem dX1_planDue_42 : decode cX1_planDue 42 = .ok (.istore_n 2, 1) := by decide +kernel
theorem dX1_planDue_43 : decode cX1_planDue 43 = .ok (.iload_n 2, 1) := by decide +kernel
theorem dX1_planDue_44 : decode cX1_planDue 44 = .ok (.aload_n 0, 1) := by decide +kernel
theorem dX1_planDue_45 : decode cX1_planDue 45 = .ok (.getfield 297, 3) := by decide +kernel
theorem dX1_planDue_48 : decode cX1_planDue 48 = .ok (.iload_n 1, 1) := by decide +kernel
theorem dX1_planDue_49 : decode cX1_planDue 49 = .ok (.iaload, 1) := by decide +kernel
theorem dX1_planDue_50 : decode cX1_planDue 50 = .ok (.if_icmp .lt 13, 3) := by decide +kernel
theorem dX1_planDue_53 : decode cX1_planDue 53 = .ok (.iload_n 2, 1) := by decide +kernel
theorem dX1_planDue_54 : decode cX1_planDue 54 = .ok (.aload_n 0, 1) := by decide +kernel
theorem dX1_planDue_55 : decode cX1_planDue 55 = .ok (.getfield 300, 3) := by decide +kernel
theorem dX1_planDue_58 : decode cX1_planDue 58 = .ok (.iload_n 1, 1) := by decide +kernel
theorem dX1_planDue_59 : decode cX1_planDue 59 = .ok (.iaload, 1) := by decide +kernel
theorem dX1_planDue_60 : decode cX1_planDue 60 = .ok (.if_icmp .le 16, 3) := by decide +kernel
theorem dX1_planDue_63 : decode cX1_planDue 63 = .ok (.aload_n 0, 1) := by decide +kernel
theorem dX1_planDue_64 : decode cX1_planDue 64 = .ok (.getfield 315, 3) := by decide +kernel
theorem dX1_planDue_67 : decode cX1_planDue 67 = .ok (.iload_n 1, 1) := by decide +kernel
theorem dX1_planDue_68 : decode cX1_planDue 68 = .ok (.dup2, 1) := by decide +kernel
theorem dX1_planDue_69 : decode cX1_planDue 69 = .ok (.iaload, 1) := by decide +kernel
theorem dX1_planDue_70 : decode cX1_planDue 70 = .ok (.iconst 1, 1) := by decide +kernel
theorem dX1_planDue_71 : decode cX1_planDue 71 = .ok (.iadd, 1) := by decide +kernel
theorem dX1_planDue_72 : decode cX1_planDue 72 = .ok (.iastore, 1) := by decide +kernel
theorem dX1_planDue_73 : decode cX1_planDue 73 = .ok (.goto 70, 3) := by decide +kernel
theorem dX1_planDue_76 : decode cX1_planDue 76 = .ok (.aload_n 0, 1) := by decide +kernel
theorem dX1_planDue_77 : decode cX1_planDue 77 = .ok (.getfield 162, 3) := by decide +kernel
theorem dX1_planDue_80 : decode cX1_planDue 80 = .ok (.bipush 60, 2) := by decide +kernel
theorem dX1_planDue_82 : decode cX1_planDue 82 = .ok (.if_icmp .ne 16, 3) := by decide +kernel
theorem dX1_planDue_85 : decode cX1_planDue 85 = .ok (.aload_n 0, 1) := by decide +kernel
theorem dX1_planDue_86 : decode cX1_planDue 86 = .ok (.getfield 312, 3) := by decide +kernel
theorem dX1_planDue_89 : decode cX1_planDue 89 = .ok (.iload_n 1, 1) := by decide +kernel
theorem dX1_planDue_90 : decode cX1_planDue 90 = .ok (.dup2, 1) := by decide +kernel
theorem dX1_planDue_91 : decode cX1_planDue 91 = .ok (.iaload, 1) := by decide +kernel
theorem dX1_planDue_92 : decode cX1_planDue 92 = .ok (.iconst 1, 1) := by decide +kernel
theorem dX1_planDue_93 : decode cX1_planDue 93 = .ok (.iadd, 1) := by decide +kernel
theorem dX1_planDue_94 : decode cX1_planDue 94 = .ok (.iastore, 1) := by decide +kernel
theorem dX1_planDue_95 : decode cX1_planDue 95 = .ok (.goto 48, 3) := by decide +kernel
theorem dX1_planDue_98 : decode cX1_planDue 98 = .ok (.aload_n 0, 1) := by decide +kernel
theorem dX1_planDue_99 : decode cX1_planDue 99 = .ok (.getfield 309, 3) := by decide +kernel
theorem dX1_planDue_102 : decode cX1_planDue 102 = .ok (.iload_n 1, 1) := by decide +kernel
theorem dX1_planDue_103 : decode cX1_planDue 103 = .ok (.aload_n 0, 1) := by decide +kernel
theorem dX1_planDue_104 : decode cX1_planDue 104 = .ok (.aload_n 0, 1) := by decide +kernel
theorem dX1_planDue_105 : decode cX1_planDue 105 = .ok (.getfield 282, 3) := by decide +kernel
theorem dX1_planDue_108 : decode cX1_planDue 108 = .ok (.iload_n 1, 1) := by decide +kernel
theorem dX1_planDue_109 : decode cX1_planDue 109 = .ok (.iaload, 1) := by decide +kernel
theorem dX1_planDue_110 : decode cX1_planDue 110 = .ok (.aload_n 0, 1) := by decide +kernel
theorem dX1_planDue_111 : decode cX1_planDue 111 = .ok (.getfield 285, 3) := by decide +kernel
theorem dX1_planDue_114 : decode cX1_planDue 114 = .ok (.iload_n 1, 1) := by decide +kernel
theorem dX1_planDue_115 : decode cX1_planDue 115 = .ok (.iaload, 1) := by decide +kernel
theorem dX1_planDue_116 : decode cX1_planDue 116 = .ok (.aload_n 0, 1) := by decide +kernel
theorem dX1_planDue_117 : decode cX1_planDue 117 = .ok (.getfield 288, 3) := by decide +kernel
theorem dX1_planDue_120 : decode cX1_planDue 120 = .ok (.iload_n 1, 1) := by decide +kernel
theorem dX1_planDue_121 : decode cX1_planDue 121 = .ok (.iaload, 1) := by decide +kernel
theorem dX1_planDue_122 : decode cX1_planDue 122 = .ok (.aload_n 0, 1) := by decide +kernel
theorem dX1_planDue_123 : decode cX1_planDue 123 = .ok (.getfield 291, 3) := by decide +kernel
theorem dX1_planDue_126 : decode cX1_planDue 126 = .ok (.iload_n 1, 1) := by decide +kernel
theorem dX1_planDue_127 : decode cX1_planDue 127 = .ok (.iaload, 1) := by decide +kernel
theorem dX1_planDue_128 : decode cX1_planDue 128 = .ok (.iconst 0, 1) := by decide +kernel
theorem dX1_planDue_129 : decode cX1_planDue 129 = .ok (.invokevirtual 455, 3) := by decide +kernel
theorem dX1_planDue_132 : decode cX1_planDue 132 = .ok (.iastore, 1) := by decide +kernel
theorem dX1_planDue_133 : decode cX1_planDue 133 = .ok (.aload_n 0, 1) := by decide +kernel
theorem dX1_planDue_134 : decode cX1_planDue 134 = .ok (.getfield 306, 3) := by decide +kernel
theorem dX1_planDue_137 : decode cX1_planDue 137 = .ok (.iload_n 1, 1) := by decide +kernel
theorem dX1_planDue_138 : decode cX1_planDue 138 = .ok (.dup2, 1) := by decide +kernel
theorem dX1_planDue_139 : decode cX1_planDue 139 = .ok (.iaload, 1) := by decide +kernel
theorem dX1_planDue_140 : decode cX1_planDue 140 = .ok (.iconst 1, 1) := by decide +kernel
theorem dX1_planDue_141 : decode cX1_planDue 141 = .ok (.iadd, 1) := by decide +kernel
theorem dX1_planDue_142 : decode cX1_planDue 142 = .ok (.iastore, 1) := by decide +kernel
theorem dX1_planDue_143 : decode cX1_planDue 143 = .ok (.return_, 1) := by decide +kernel
theorem dX1_isSo_0 : decode cX1_isSo 0 = .ok (.aload_n 0, 1) := by decide +kernel
theorem dX1_isSo_1 : decode cX1_isSo 1 = .ok (.getfield 327, 3) := by decide +kernel
theorem dX1_isSo_4 : decode cX1_isSo 4 = .ok (.iload_n 1, 1) := by decide +kernel
theorem dX1_isSo_5 : decode cX1_isSo 5 = .ok (.iaload, 1) := by decide +kernel
theorem dX1_isSo_6 : decode cX1_isSo 6 = .ok (.istore_n 2, 1) := by decide +kernel
theorem dX1_isSo_7 : decode cX1_isSo 7 = .ok (.aload_n 0, 1) := by decide +kernel
theorem dX1_isSo_8 : decode cX1_isSo 8 = .ok (.getfield 324, 3) := by decide +kernel
theorem dX1_isSo_11 : decode cX1_isSo 11 = .ok (.iload_n 1, 1) := by decide +kernel
theorem dX1_isSo_12 : decode cX1_isSo 12 = .ok (.iaload, 1) := by decide +kernel
theorem dX1_isSo_13 : decode cX1_isSo 13 = .ok (.tableswitch 85 0 2 #[27, 43, 64], 27) := by decide +kernel
theorem dX1_isSo_40 : decode cX1_isSo 40 = .ok (.aload_n 0, 1) := by decide +kernel
theorem dX1_isSo_41 : decode cX1_isSo 41 = .ok (.getfield 119, 3) := by decide +kernel
theorem dX1_isSo_44 : decode cX1_isSo 44 = .ok (.iload_n 2, 1) := by decide +kernel
theorem dX1_isSo_45 : decode cX1_isSo 45 = .ok (.iaload, 1) := by decide +kernel
theorem dX1_isSo_46 : decode cX1_isSo 46 = .ok (.iconst 1, 1) := by decide +kernel
theorem dX1_isSo_47 : decode cX1_isSo 47 = .ok (.if_icmp .ne 7, 3) := by decide +kernel
theorem dX1_isSo_50 : decode cX1_isSo 50 = .ok (.iconst 1, 1) := by decide +kernel
theorem dX1_isSo_51 : decode cX1_isSo 51 = .ok (.goto 4, 3) := by decide +kernel
theorem dX1_isSo_54 : decode cX1_isSo 54 = .ok (.iconst 0, 1) := by decide +kernel
theorem dX1_isSo_55 : decode cX1_isSo 55 = .ok (.ireturn, 1) := by decide +kernel
theorem dX1_isSo_56 : decode cX1_isSo 56 = .ok (.aload_n 0, 1) := by decide +kernel
theorem dX1_isSo_57 : decode cX1_isSo 57 = .ok (.getfield 16, 3) := by decide +kernel
theorem dX1_isSo_60 : decode cX1_isSo 60 = .ok (.iload_n 2, 1) := by decide +kernel
theorem dX1_isSo_61 : decode cX1_isSo 61 = .ok (.iaload, 1) := by decide +kernel
theorem dX1_isSo_62 : decode cX1_isSo 62 = .ok (.aload_n 0, 1) := by decide +kernel
theorem dX1_isSo_63 : decode cX1_isSo 63 = .ok (.getfield 330, 3) := by decide +kernel
theorem dX1_isSo_66 : decode cX1_isSo 66 = .ok (.iload_n 1, 1) := by decide +kernel
theorem dX1_isSo_67 : decode cX1_isSo 67 = .ok (.iaload, 1) := by decide +kernel
theorem dX1_isSo_68 : decode cX1_isSo 68 = .ok (.if_icmp .ge 7, 3) := by decide +kernel
theorem dX1_isSo_71 : decode cX1_isSo 71 = .ok (.iconst 1, 1) := by decide +kernel
theorem dX1_isSo_72 : decode cX1_isSo 72 = .ok (.goto 4, 3) := by decide +kernel
theorem dX1_isSo_75 : decode cX1_isSo 75 = .ok (.iconst 0, 1) := by decide +kernel
theorem dX1_isSo_76 : decode cX1_isSo 76 = .ok (.ireturn, 1) := by decide +kernel
theorem dX1_isSo_77 : decode cX1_isSo 77 = .ok (.aload_n 0, 1) := by decide +kernel
theorem dX1_isSo_78 : decode cX1_isSo 78 = .ok (.getfield 131, 3) := by decide +kernel
theorem dX1_isSo_81 : decode cX1_isSo 81 = .ok (.iload_n 2, 1) := by decide +kernel
theorem dX1_isSo_82 : decode cX1_isSo 82 = .ok (.iaload, 1) := by decide +kernel
theorem dX1_isSo_83 : decode cX1_isSo 83 = .ok (.aload_n 0, 1) := by decide +kernel
theorem dX1_isSo_84 : decode cX1_isSo 84 = .ok (.getfield 330, 3) := by decide +kernel
theorem dX1_isSo_87 : decode cX1_isSo 87 = .ok (.iload_n 1, 1) := by decide +kernel
theorem dX1_isSo_88 : decode cX1_isSo 88 = .ok (.iaload, 1) := by decide +kernel
theorem dX1_isSo_89 : decode cX1_isSo 89 = .ok (.if_icmp .lt 7, 3) := by decide +kernel
theorem dX1_isSo_92 : decode cX1_isSo 92 = .ok (.iconst 1, 1) := by decide +kernel
theorem dX1_isSo_93 : decode cX1_isSo 93 = .ok (.goto 4, 3) := by decide +kernel
theorem dX1_isSo_96 : decode cX1_isSo 96 = .ok (.iconst 0, 1) := by decide +kernel
theorem dX1_isSo_97 : decode cX1_isSo 97 = .ok (.ireturn, 1) := by decide +kernel
theorem dX1_isSo_98 : decode cX1_isSo 98 = .ok (.iconst 0, 1) := by decide +kernel
theorem dX1_isSo_99 : decode cX1_isSo 99 = .ok (.istore_n 3, 1) := by decide +kernel
theorem dX1_isSo_100 : decode cX1_isSo 100 = .ok (.iconst 0, 1) := by decide +kernel
theorem dX1_isSo_101 : decode cX1_isSo 101 = .ok (.istore 4, 2) := by decide +kernel
theorem dX1_isSo_103 : decode cX1_isSo 103 = .ok (.iload 4, 2) := by decide +kernel
theorem dX1_isSo_105 : decode cX1_isSo 105 = .ok (.aload_n 0, 1) := by decide +kernel
theorem dX1_isSo_106 : decode cX1_isSo 106 = .ok (.getfield 162, 3) := by decide +kernel
theorem dX1_isSo_109 : decode cX1_isSo 109 = .ok (.if_icmp .ge 48, 3) := by decide +kernel
theorem dX1_isSo_112 : decode cX1_isSo 112 = .ok (.iload_n 3, 1) := by decide +kernel
theorem dX1_isSo_113 : decode cX1_isSo 113 = .ok (.aload_n 0, 1) := by decide +kernel
theorem dX1_isSo_114 : decode cX1_isSo 114 = .ok (.getfield 186, 3) := by decide +kernel
theorem dX1_isSo_117 : decode cX1_isSo 117 = .ok (.iload 4, 2) := by decide +kernel
theorem dX1_isSo_119 : decode cX1_isSo 119 = .ok (.iaload, 1) := by decide +kernel
theorem dX1_isSo_120 : decode cX1_isSo 120 = .ok (.ifCond .ne 28, 3) := by decide +kernel
theorem dX1_isSo_123 : decode cX1_isSo 123 = .ok (.aload_n 0, 1) := by decide +kernel
theorem dX1_isSo_124 : decode cX1_isSo 124 = .ok (.getfield 7, 3) := by decide +kernel
theorem dX1_isSo_127 : decode cX1_isSo 127 = .ok (.aload_n 0, 1) := by decide +kernel
theorem dX1_isSo_128 : decode cX1_isSo 128 = .ok (.getfield 180, 3) := by decide +kernel
theorem dX1_isSo_131 : decode cX1_isSo 131 = .ok (.iload 4, 2) := by decide +kernel
theorem dX1_isSo_133 : decode cX1_isSo 133 = .ok (.iaload, 1) := by decide +kernel
theorem dX1_isSo_134 : decode cX1_isSo 134 = .ok (.isub, 1) := by decide +kernel
theorem dX1_isSo_135 : decode cX1_isSo 135 = .ok (.aload_n 0, 1) := by decide +kernel
theorem dX1_isSo_136 : decode cX1_isSo 136 = .ok (.getfield 330, 3) := by decide +kernel
theorem dX1_isSo_139 : decode cX1_isSo 139 = .ok (.iload_n 1, 1) := by decide +kernel
theorem dX1_isSo_140 : decode cX1_isSo 140 = .ok (.iaload, 1) := by decide +kernel
theorem dX1_isSo_141 : decode cX1_isSo 141 = .ok (.if_icmp .le 7, 3) := by decide +kernel
theorem dX1_isSo_144 : decode cX1_isSo 144 = .ok (.iconst 1, 1) := by decide +kernel
theorem dX1_isSo_145 : decode cX1_isSo 145 = .ok (.goto 4, 3) := by decide +kernel
theorem dX1_isSo_148 : decode cX1_isSo 148 = .ok (.iconst 0, 1) := by decide +kernel
theorem dX1_isSo_149 : decode cX1_isSo 149 = .ok (.ior, 1) := by decide +kernel
theorem dX1_isSo_150 : decode cX1_isSo 150 = .ok (.istore_n 3, 1) := by decide +kernel
theorem dX1_isSo_151 : decode cX1_isSo 151 = .ok (.iinc 4 1, 3) := by decide +kernel
theorem dX1_isSo_154 : decode cX1_isSo 154 = .ok (.goto (-51), 3) := by decide +kernel
theorem dX1_isSo_157 : decode cX1_isSo 157 = .ok (.iload_n 3, 1) := by decide +kernel
theorem dX1_isSo_158 : decode cX1_isSo 158 = .ok (.ireturn, 1) := by decide +kernel
theorem dX1_now_0 : decode cX1_now 0 = .ok (.aload_n 0, 1) := by decide +kernel
theorem dX1_now_1 : decode cX1_now 1 = .ok (.getfield 7, 3) := by decide +kernel
theorem dX1_now_4 : decode cX1_now 4 = .ok (.ireturn, 1) := by decide +kernel
theorem dX1_outcome_0 : decode cX1_outcome 0 = .ok (.iload_n 1, 1) := by decide +kernel
theorem dX1_outcome_1 : decode cX1_outcome 1 = .ok (.ifCond .lt 11, 3) := by decide +kernel
theorem dX1_outcome_4 : decode cX1_outcome 4 = .ok (.iload_n 1, 1) := by decide +kernel
theorem dX1_outcome_5 : decode cX1_outcome 5 = .ok (.aload_n 0, 1) := by decide +kernel
theorem dX1_outcome_6 : decode cX1_outcome 6 = .ok (.getfield 162, 3) := by decide +kernel
theorem dX1_outcome_9 : decode cX1_outcome 9 = .ok (.if_icmp .lt 7, 3) := by decide +kernel
theorem dX1_outcome_12 : decode cX1_outcome 12 = .ok (.iconst (-1), 1) := by decide +kernel
theorem dX1_outcome_13 : decode cX1_outcome 13 = .ok (.goto 9, 3) := by decide +kernel
theorem dX1_outcome_16 : decode cX1_outcome 16 = .ok (.aload_n 0, 1) := by decide +kernel
theorem dX1_outcome_17 : decode cX1_outcome 17 = .ok (.getfield 186, 3) := by decide +kernel
theorem dX1_outcome_20 : decode cX1_outcome 20 = .ok (.iload_n 1, 1) := by decide +kernel
theorem dX1_outcome_21 : decode cX1_outcome 21 = .ok (.iaload, 1) := by decide +kernel
theorem dX1_outcome_22 : decode cX1_outcome 22 = .ok (.ireturn, 1) := by decide +kernel
theorem dX1_of_0 : decode cX1_of 0 = .ok (.iload_n 1, 1) := by decide +kernel
theorem dX1_of_1 : decode cX1_of 1 = .ok (.ifCond .lt 11, 3) := by decide +kernel
theorem dX1_of_4 : decode cX1_of 4 = .ok (.iload_n 1, 1) := by decide +kernel
theorem dX1_of_5 : decode cX1_of 5 = .ok (.aload_n 0, 1) := by decide +kernel
theorem dX1_of_6 : decode cX1_of 6 = .ok (.getfield 162, 3) := by decide +kernel
theorem dX1_of_9 : decode cX1_of 9 = .ok (.if_icmp .lt 5, 3) := by decide +kernel
theorem dX1_of_12 : decode cX1_of 12 = .ok (.iconst (-1), 1) := by decide +kernel
theorem dX1_of_13 : decode cX1_of 13 = .ok (.ireturn, 1) := by decide +kernel
theorem dX1_of_14 : decode cX1_of 14 = .ok (.iload_n 2, 1) := by decide +kernel
theorem dX1_of_15 : decode cX1_of 15 = .ok (.tableswitch 95 0 3 #[29, 60, 81, 88], 29) := by decide +kernel
theorem dX1_of_44 : decode cX1_of 44 = .ok (.aload_n 0, 1) := by decide +kernel
theorem dX1_of_45 : decode cX1_of 45 = .ok (.getfield 186, 3) := by decide +kernel
theorem dX1_of_48 : decode cX1_of 48 = .ok (.iload_n 1, 1) := by decide +kernel
theorem dX1_of_49 : decode cX1_of 49 = .ok (.iaload, 1) := by decide +kernel
theorem dX1_of_50 : decode cX1_of 50 = .ok (.iconst 1, 1) := by decide +kernel
theorem dX1_of_51 : decode cX1_of 51 = .ok (.if_icmp .eq 13, 3) := by decide +kernel
theorem dX1_of_54 : decode cX1_of 54 = .ok (.aload_n 0, 1) := by decide +kernel
theorem dX1_of_55 : decode cX1_of 55 = .ok (.getfield 186, 3) := by decide +kernel
theorem dX1_of_58 : decode cX1_of 58 = .ok (.iload_n 1, 1) := by decide +kernel
theorem dX1_of_59 : decode cX1_of 59 = .ok (.iaload, 1) := by decide +kernel
theorem dX1_of_60 : decode cX1_of 60 = .ok (.iconst 3, 1) := by decide +kernel
theorem dX1_of_61 : decode cX1_of 61 = .ok (.if_icmp .ne 12, 3) := by decide +kernel
theorem dX1_of_64 : decode cX1_of 64 = .ok (.aload_n 0, 1) := by decide +kernel
theorem dX1_of_65 : decode cX1_of 65 = .ok (.getfield 189, 3) := by decide +kernel
theorem dX1_of_68 : decode cX1_of 68 = .ok (.iload_n 1, 1) := by decide +kernel
theorem dX1_of_69 : decode cX1_of 69 = .ok (.iaload, 1) := by decide +kernel
theorem dX1_of_70 : decode cX1_of 70 = .ok (.goto 4, 3) := by decide +kernel
theorem dX1_of_73 : decode cX1_of 73 = .ok (.iconst (-1), 1) := by decide +kernel
theorem dX1_of_74 : decode cX1_of 74 = .ok (.ireturn, 1) := by decide +kernel
theorem dX1_of_75 : decode cX1_of 75 = .ok (.aload_n 0, 1) := by decide +kernel
theorem dX1_of_76 : decode cX1_of 76 = .ok (.getfield 186, 3) := by decide +kernel
theorem dX1_of_79 : decode cX1_of 79 = .ok (.iload_n 1, 1) := by decide +kernel
theorem dX1_of_80 : decode cX1_of 80 = .ok (.iaload, 1) := by decide +kernel
theorem dX1_of_81 : decode cX1_of 81 = .ok (.iconst 2, 1) := by decide +kernel
theorem dX1_of_82 : decode cX1_of 82 = .ok (.if_icmp .ne 12, 3) := by decide +kernel
theorem dX1_of_85 : decode cX1_of 85 = .ok (.aload_n 0, 1) := by decide +kernel
theorem dX1_of_86 : decode cX1_of 86 = .ok (.getfield 189, 3) := by decide +kernel
theorem dX1_of_89 : decode cX1_of 89 = .ok (.iload_n 1, 1) := by decide +kernel
theorem dX1_of_90 : decode cX1_of 90 = .ok (.iaload, 1) := by decide +kernel
theorem dX1_of_91 : decode cX1_of 91 = .ok (.goto 4, 3) := by decide +kernel
theorem dX1_of_94 : decode cX1_of 94 = .ok (.iconst (-1), 1) := by decide +kernel
theorem dX1_of_95 : decode cX1_of 95 = .ok (.ireturn, 1) := by decide +kernel
theorem dX1_of_96 : decode cX1_of 96 = .ok (.aload_n 0, 1) := by decide +kernel
theorem dX1_of_97 : decode cX1_of 97 = .ok (.getfield 180, 3) := by decide +kernel
theorem dX1_of_100 : decode cX1_of 100 = .ok (.iload_n 1, 1) := by decide +kernel
theorem dX1_of_101 : decode cX1_of 101 = .ok (.iaload, 1) := by decide +kernel
theorem dX1_of_102 : decode cX1_of 102 = .ok (.ireturn, 1) := by decide +kernel
theorem dX1_of_103 : decode cX1_of 103 = .ok (.aload_n 0, 1) := by decide +kernel
theorem dX1_of_104 : decode cX1_of 104 = .ok (.getfield 183, 3) := by decide +kernel
theorem dX1_of_107 : decode cX1_of 107 = .ok (.iload_n 1, 1) := by decide +kernel
theorem dX1_of_108 : decode cX1_of 108 = .ok (.iaload, 1) := by decide +kernel
theorem dX1_of_109 : decode cX1_of 109 = .ok (.ireturn, 1) := by decide +kernel
theorem dX1_of_110 : decode cX1_of 110 = .ok (.iconst (-1), 1) := by decide +kernel
theorem dX1_of_111 : decode cX1_of 111 = .ok (.ireturn, 1) := by decide +kernel
theorem dX1_call_0 : decode cX1_call 0 = .ok (.iload_n 1, 1) := by decide +kernel
theorem dX1_call_1 : decode cX1_call 1 = .ok (.ifCond .lt 11, 3) := by decide +kernel
theorem dX1_call_4 : decode cX1_call 4 = .ok (.iload_n 1, 1) := by decide +kernel
theorem dX1_call_5 : decode cX1_call 5 = .ok (.aload_n 0, 1) := by decide +kernel
theorem dX1_call_6 : decode cX1_call 6 = .ok (.getfield 195, 3) := by decide +kernel
theorem dX1_call_9 : decode cX1_call 9 = .ok (.if_icmp .lt 5, 3) := by decide +kernel
theorem dX1_call_12 : decode cX1_call 12 = .ok (.iconst (-1), 1) := by decide +kernel
theorem dX1_call_13 : decode cX1_call 13 = .ok (.ireturn, 1) := by decide +kernel
theorem dX1_call_14 : decode cX1_call 14 = .ok (.iload_n 2, 1) := by decide +kernel
theorem dX1_call_15 : decode cX1_call 15 = .ok (.tableswitch 209 0 10 #[57, 64, 71, 78, 85, 92, 99, 106, 113, 134, 155], 57) := by decide +kernel
theorem dX1_call_72 : decode cX1_call 72 = .ok (.aload_n 0, 1) := by decide +kernel
theorem dX1_call_73 : decode cX1_call 73 = .ok (.getfield 198, 3) := by decide +kernel
theorem dX1_call_76 : decode cX1_call 76 = .ok (.iload_n 1, 1) := by decide +kernel
theorem dX1_call_77 : decode cX1_call 77 = .ok (.iaload, 1) := by decide +kernel
theorem dX1_call_78 : decode cX1_call 78 = .ok (.ireturn, 1) := by decide +kernel
theorem dX1_call_79 : decode cX1_call 79 = .ok (.aload_n 0, 1) := by decide +kernel
theorem dX1_call_80 : decode cX1_call 80 = .ok (.getfield 201, 3) := by decide +kernel
theorem dX1_call_83 : decode cX1_call 83 = .ok (.iload_n 1, 1) := by decide +kernel
theorem dX1_call_84 : decode cX1_call 84 = .ok (.iaload, 1) := by decide +kernel
theorem dX1_call_85 : decode cX1_call 85 = .ok (.ireturn, 1) := by decide +kernel
theorem dX1_call_86 : decode cX1_call 86 = .ok (.aload_n 0, 1) := by decide +kernel
theorem dX1_call_87 : decode cX1_call 87 = .ok (.getfield 204, 3) := by decide +kernel
theorem dX1_call_90 : decode cX1_call 90 = .ok (.iload_n 1, 1) := by decide +kernel
theorem dX1_call_91 : decode cX1_call 91 = .ok (.iaload, 1) := by decide +kernel
theorem dX1_call_92 : decode cX1_call 92 = .ok (.ireturn, 1) := by decide +kernel
theorem dX1_call_93 : decode cX1_call 93 = .ok (.aload_n 0, 1) := by decide +kernel
theorem dX1_call_94 : decode cX1_call 94 = .ok (.getfield 207, 3) := by decide +kernel
theorem dX1_call_97 : decode cX1_call 97 = .ok (.iload_n 1, 1) := by decide +kernel
theorem dX1_call_98 : decode cX1_call 98 = .ok (.iaload, 1) := by decide +kernel
theorem dX1_call_99 : decode cX1_call 99 = .ok (.ireturn, 1) := by decide +kernel
theorem dX1_call_100 : decode cX1_call 100 = .ok (.aload_n 0, 1) := by decide +kernel
theorem dX1_call_101 : decode cX1_call 101 = .ok (.getfield 210, 3) := by decide +kernel
theorem dX1_call_104 : decode cX1_call 104 = .ok (.iload_n 1, 1) := by decide +kernel
theorem dX1_call_105 : decode cX1_call 105 = .ok (.iaload, 1) := by decide +kernel
theorem dX1_call_106 : decode cX1_call 106 = .ok (.ireturn, 1) := by decide +kernel
theorem dX1_call_107 : decode cX1_call 107 = .ok (.aload_n 0, 1) := by decide +kernel
theorem dX1_call_108 : decode cX1_call 108 = .ok (.getfield 213, 3) := by decide +kernel
theorem dX1_call_111 : decode cX1_call 111 = .ok (.iload_n 1, 1) := by decide +kernel
theorem dX1_call_112 : decode cX1_call 112 = .ok (.iaload, 1) := by decide +kernel
theorem dX1_call_113 : decode cX1_call 113 = .ok (.ireturn, 1) := by decide +kernel
theorem dX1_call_114 : decode cX1_call 114 = .ok (.aload_n 0, 1) := by decide +kernel
theorem dX1_call_115 : decode cX1_call 115 = .ok (.getfield 216, 3) := by decide +kernel
theorem dX1_call_118 : decode cX1_call 118 = .ok (.iload_n 1, 1) := by decide +kernel
theorem dX1_call_119 : decode cX1_call 119 = .ok (.iaload, 1) := by decide +kernel
theorem dX1_call_120 : decode cX1_call 120 = .ok (.ireturn, 1) := by decide +kernel
theorem dX1_call_121 : decode cX1_call 121 = .ok (.aload_n 0, 1) := by decide +kernel
theorem dX1_call_122 : decode cX1_call 122 = .ok (.getfield 219, 3) := by decide +kernel
theorem dX1_call_125 : decode cX1_call 125 = .ok (.iload_n 1, 1) := by decide +kernel
theorem dX1_call_126 : decode cX1_call 126 = .ok (.iaload, 1) := by decide +kernel
theorem dX1_call_127 : decode cX1_call 127 = .ok (.ireturn, 1) := by decide +kernel
theorem dX1_call_128 : decode cX1_call 128 = .ok (.aload_n 0, 1) := by decide +kernel
theorem dX1_call_129 : decode cX1_call 129 = .ok (.getfield 219, 3) := by decide +kernel
theorem dX1_call_132 : decode cX1_call 132 = .ok (.iload_n 1, 1) := by decide +kernel
theorem dX1_call_133 : decode cX1_call 133 = .ok (.iaload, 1) := by decide +kernel
theorem dX1_call_134 : decode cX1_call 134 = .ok (.iconst 1, 1) := by decide +kernel
theorem dX1_call_135 : decode cX1_call 135 = .ok (.if_icmp .ne 12, 3) := by decide +kernel
theorem dX1_call_138 : decode cX1_call 138 = .ok (.aload_n 0, 1) := by decide +kernel
theorem dX1_call_139 : decode cX1_call 139 = .ok (.getfield 222, 3) := by decide +kernel
theorem dX1_call_142 : decode cX1_call 142 = .ok (.iload_n 1, 1) := by decide +kernel
theorem dX1_call_143 : decode cX1_call 143 = .ok (.iaload, 1) := by decide +kernel
theorem dX1_call_144 : decode cX1_call 144 = .ok (.goto 4, 3) := by decide +kernel
theorem dX1_call_147 : decode cX1_call 147 = .ok (.iconst (-1), 1) := by decide +kernel
theorem dX1_call_148 : decode cX1_call 148 = .ok (.ireturn, 1) := by decide +kernel
theorem dX1_call_149 : decode cX1_call 149 = .ok (.aload_n 0, 1) := by decide +kernel
theorem dX1_call_150 : decode cX1_call 150 = .ok (.getfield 219, 3) := by decide +kernel
theorem dX1_call_153 : decode cX1_call 153 = .ok (.iload_n 1, 1) := by decide +kernel
theorem dX1_call_154 : decode cX1_call 154 = .ok (.iaload, 1) := by decide +kernel
theorem dX1_call_155 : decode cX1_call 155 = .ok (.iconst 2, 1) := by decide +kernel
theorem dX1_call_156 : decode cX1_call 156 = .ok (.if_icmp .ne 12, 3) := by decide +kernel
theorem dX1_call_159 : decode cX1_call 159 = .ok (.aload_n 0, 1) := by decide +kernel
theorem dX1_call_160 : decode cX1_call 160 = .ok (.getfield 222, 3) := by decide +kernel
theorem dX1_call_163 : decode cX1_call 163 = .ok (.iload_n 1, 1) := by decide +kernel
theorem dX1_call_164 : decode cX1_call 164 = .ok (.iaload, 1) := by decide +kernel
theorem dX1_call_165 : decode cX1_call 165 = .ok (.goto 4, 3) := by decide +kernel
theorem dX1_call_168 : decode cX1_call 168 = .ok (.iconst (-1), 1) := by decide +kernel
theorem dX1_call_169 : decode cX1_call 169 = .ok (.ireturn, 1) := by decide +kernel
theorem dX1_call_170 : decode cX1_call 170 = .ok (.aload_n 0, 1) := by decide +kernel
theorem dX1_call_171 : decode cX1_call 171 = .ok (.getfield 219, 3) := by decide +kernel
theorem dX1_call_174 : decode cX1_call 174 = .ok (.iload_n 1, 1) := by decide +kernel
theorem dX1_call_175 : decode cX1_call 175 = .ok (.iaload, 1) := by decide +kernel
theorem dX1_call_176 : decode cX1_call 176 = .ok (.ifCond .eq 7, 3) := by decide +kernel
theorem dX1_call_179 : decode cX1_call 179 = .ok (.iconst 0, 1) := by decide +kernel
theorem dX1_call_180 : decode cX1_call 180 = .ok (.goto 43, 3) := by decide +kernel
theorem dX1_call_183 : decode cX1_call 183 = .ok (.aload_n 0, 1) := by decide +kernel
theorem dX1_call_184 : decode cX1_call 184 = .ok (.getfield 237, 3) := by decide +kernel
theorem dX1_call_187 : decode cX1_call 187 = .ok (.iload_n 1, 1) := by decide +kernel
theorem dX1_call_188 : decode cX1_call 188 = .ok (.baload, 1) := by decide +kernel
theorem dX1_call_189 : decode cX1_call 189 = .ok (.ifCond .eq 7, 3) := by decide +kernel
theorem dX1_call_192 : decode cX1_call 192 = .ok (.iconst 1, 1) := by decide +kernel
theorem dX1_call_193 : decode cX1_call 193 = .ok (.goto 30, 3) := by decide +kernel
theorem dX1_call_196 : decode cX1_call 196 = .ok (.aload_n 0, 1) := by decide +kernel
theorem dX1_call_197 : decode cX1_call 197 = .ok (.getfield 240, 3) := by decide +kernel
theorem dX1_call_200 : decode cX1_call 200 = .ok (.iload_n 1, 1) := by decide +kernel
theorem dX1_call_201 : decode cX1_call 201 = .ok (.baload, 1) := by decide +kernel
theorem dX1_call_202 : decode cX1_call 202 = .ok (.ifCond .eq 7, 3) := by decide +kernel
theorem dX1_call_205 : decode cX1_call 205 = .ok (.iconst 2, 1) := by decide +kernel
theorem dX1_call_206 : decode cX1_call 206 = .ok (.goto 17, 3) := by decide +kernel
theorem dX1_call_209 : decode cX1_call 209 = .ok (.aload_n 0, 1) := by decide +kernel
theorem dX1_call_210 : decode cX1_call 210 = .ok (.getfield 234, 3) := by decide +kernel
theorem dX1_call_213 : decode cX1_call 213 = .ok (.iload_n 1, 1) := by decide +kernel
theorem dX1_call_214 : decode cX1_call 214 = .ok (.iaload, 1) := by decide +kernel
theorem dX1_call_215 : decode cX1_call 215 = .ok (.ifCond .lt 7, 3) := by decide +kernel
theorem dX1_call_218 : decode cX1_call 218 = .ok (.iconst 3, 1) := by decide +kernel
theorem dX1_call_219 : decode cX1_call 219 = .ok (.goto 4, 3) := by decide +kernel
theorem dX1_call_222 : decode cX1_call 222 = .ok (.iconst 0, 1) := by decide +kernel
theorem dX1_call_223 : decode cX1_call 223 = .ok (.ireturn, 1) := by decide +kernel
theorem dX1_call_224 : decode cX1_call 224 = .ok (.iconst (-1), 1) := by decide +kernel
theorem dX1_call_225 : decode cX1_call 225 = .ok (.ireturn, 1) := by decide +kernel
theorem dX1_fuse_0 : decode cX1_fuse 0 = .ok (.aload_n 0, 1) := by decide +kernel
theorem dX1_fuse_1 : decode cX1_fuse 1 = .ok (.iload_n 1, 1) := by decide +kernel
theorem dX1_fuse_2 : decode cX1_fuse 2 = .ok (.iconst 0, 1) := by decide +kernel
theorem dX1_fuse_3 : decode cX1_fuse 3 = .ok (.invokevirtual 459, 3) := by decide +kernel
theorem dX1_fuse_6 : decode cX1_fuse 6 = .ok (.ifCond .ne 5, 3) := by decide +kernel
theorem dX1_fuse_9 : decode cX1_fuse 9 = .ok (.iconst (-1), 1) := by decide +kernel
theorem dX1_fuse_10 : decode cX1_fuse 10 = .ok (.ireturn, 1) := by decide +kernel
theorem dX1_fuse_11 : decode cX1_fuse 11 = .ok (.iload_n 2, 1) := by decide +kernel
theorem dX1_fuse_12 : decode cX1_fuse 12 = .ok (.tableswitch 49 0 2 #[28, 35, 42], 28) := by decide +kernel
theorem dX1_fuse_40 : decode cX1_fuse 40 = .ok (.aload_n 0, 1) := by decide +kernel
theorem dX1_fuse_41 : decode cX1_fuse 41 = .ok (.getfield 119, 3) := by decide +kernel
theorem dX1_fuse_44 : decode cX1_fuse 44 = .ok (.iload_n 1, 1) := by decide +kernel
theorem dX1_fuse_45 : decode cX1_fuse 45 = .ok (.iaload, 1) := by decide +kernel
theorem dX1_fuse_46 : decode cX1_fuse 46 = .ok (.ireturn, 1) := by decide +kernel
theorem dX1_fuse_47 : decode cX1_fuse 47 = .ok (.aload_n 0, 1) := by decide +kernel
theorem dX1_fuse_48 : decode cX1_fuse 48 = .ok (.getfield 122, 3) := by decide +kernel
theorem dX1_fuse_51 : decode cX1_fuse 51 = .ok (.iload_n 1, 1) := by decide +kernel
theorem dX1_fuse_52 : decode cX1_fuse 52 = .ok (.iaload, 1) := by decide +kernel
theorem dX1_fuse_53 : decode cX1_fuse 53 = .ok (.ireturn, 1) := by decide +kernel
theorem dX1_fuse_54 : decode cX1_fuse 54 = .ok (.aload_n 0, 1) := by decide +kernel
theorem dX1_fuse_55 : decode cX1_fuse 55 = .ok (.getfield 125, 3) := by decide +kernel
theorem dX1_fuse_58 : decode cX1_fuse 58 = .ok (.iload_n 1, 1) := by decide +kernel
theorem dX1_fuse_59 : decode cX1_fuse 59 = .ok (.iaload, 1) := by decide +kernel
theorem dX1_fuse_60 : decode cX1_fuse 60 = .ok (.ireturn, 1) := by decide +kernel
theorem dX1_fuse_61 : decode cX1_fuse 61 = .ok (.iconst (-1), 1) := by decide +kernel
theorem dX1_fuse_62 : decode cX1_fuse 62 = .ok (.ireturn, 1) := by decide +kernel
theorem dX1_bulkhead_0 : decode cX1_bulkhead 0 = .ok (.aload_n 0, 1) := by decide +kernel
theorem dX1_bulkhead_1 : decode cX1_bulkhead 1 = .ok (.iload_n 1, 1) := by decide +kernel
theorem dX1_bulkhead_2 : decode cX1_bulkhead 2 = .ok (.iconst 1, 1) := by decide +kernel
theorem dX1_bulkhead_3 : decode cX1_bulkhead 3 = .ok (.invokevirtual 459, 3) := by decide +kernel
theorem dX1_bulkhead_6 : decode cX1_bulkhead 6 = .ok (.ifCond .ne 5, 3) := by decide +kernel
theorem dX1_bulkhead_9 : decode cX1_bulkhead 9 = .ok (.iconst (-1), 1) := by decide +kernel
theorem dX1_bulkhead_10 : decode cX1_bulkhead 10 = .ok (.ireturn, 1) := by decide +kernel
