set_option maxRecDepth 100000
theorem dX0_ends_133 : decode cX0_ends 133 = .ok (.ifCond .ne 16, 3) := by decide +kernel
theorem dX0_ends_136 : decode cX0_ends 136 = .ok (.aload_n 0, 1) := by decide +kernel
theorem dX0_ends_137 : decode cX0_ends 137 = .ok (.aload_n 1, 1) := by decide +kernel
theorem dX0_ends_138 : decode cX0_ends 138 = .ok (.aload_n 3, 1) := by decide +kernel
theorem dX0_ends_139 : decode cX0_ends 139 = .ok (.getfield 183, 3) := by decide +kernel
theorem dX0_ends_142 : decode cX0_ends 142 = .ok (.iconst 0, 1) := by decide +kernel
theorem dX0_ends_143 : decode cX0_ends 143 = .ok (.invokevirtual 130, 3) := by decide +kernel
theorem dX0_ends_146 : decode cX0_ends 146 = .ok (.goto 131, 3) := by decide +kernel
theorem dX0_ends_149 : decode cX0_ends 149 = .ok (.aload 4, 2) := by decide +kernel
theorem dX0_ends_151 : decode cX0_ends 151 = .ok (.ifnull 20, 3) := by decide +kernel
theorem dX0_ends_154 : decode cX0_ends 154 = .ok (.aload_n 0, 1) := by decide +kernel
theorem dX0_ends_155 : decode cX0_ends 155 = .ok (.aload_n 1, 1) := by decide +kernel
theorem dX0_ends_156 : decode cX0_ends 156 = .ok (.aload 4, 2) := by decide +kernel
theorem dX0_ends_158 : decode cX0_ends 158 = .ok (.getfield 186, 3) := by decide +kernel
theorem dX0_ends_161 : decode cX0_ends 161 = .ok (.invokestatic 191, 3) := by decide +kernel
theorem dX0_ends_164 : decode cX0_ends 164 = .ok (.iconst 0, 1) := by decide +kernel
theorem dX0_ends_165 : decode cX0_ends 165 = .ok (.invokevirtual 130, 3) := by decide +kernel
theorem dX0_ends_168 : decode cX0_ends 168 = .ok (.goto 109, 3) := by decide +kernel
theorem dX0_ends_171 : decode cX0_ends 171 = .ok (.aload_n 2, 1) := by decide +kernel
theorem dX0_ends_172 : decode cX0_ends 172 = .ok (.getfield 65, 3) := by decide +kernel
theorem dX0_ends_175 : decode cX0_ends 175 = .ok (.iconst 1, 1) := by decide +kernel
theorem dX0_ends_176 : decode cX0_ends 176 = .ok (.if_icmp .ne 32, 3) := by decide +kernel
theorem dX0_ends_179 : decode cX0_ends 179 = .ok (.aload_n 3, 1) := by decide +kernel
theorem dX0_ends_180 : decode cX0_ends 180 = .ok (.getfield 183, 3) := by decide +kernel
theorem dX0_ends_183 : decode cX0_ends 183 = .ok (.aload_n 2, 1) := by decide +kernel
theorem dX0_ends_184 : decode cX0_ends 184 = .ok (.getfield 197, 3) := by decide +kernel
theorem dX0_ends_187 : decode cX0_ends 187 = .ok (.if_icmp .ge 21, 3) := by decide +kernel
theorem dX0_ends_190 : decode cX0_ends 190 = .ok (.aload_n 0, 1) := by decide +kernel
theorem dX0_ends_191 : decode cX0_ends 191 = .ok (.aload_n 1, 1) := by decide +kernel
theorem dX0_ends_192 : decode cX0_ends 192 = .ok (.aload_n 0, 1) := by decide +kernel
theorem dX0_ends_193 : decode cX0_ends 193 = .ok (.iconst 5, 1) := by decide +kernel
theorem dX0_ends_194 : decode cX0_ends 194 = .ok (.iconst (-1), 1) := by decide +kernel
theorem dX0_ends_195 : decode cX0_ends 195 = .ok (.aload_n 1, 1) := by decide +kernel
theorem dX0_ends_196 : decode cX0_ends 196 = .ok (.getfield 168, 3) := by decide +kernel
theorem dX0_ends_199 : decode cX0_ends 199 = .ok (.invokevirtual 172, 3) := by decide +kernel
theorem dX0_ends_202 : decode cX0_ends 202 = .ok (.invokevirtual 134, 3) := by decide +kernel
theorem dX0_ends_205 : decode cX0_ends 205 = .ok (.goto 72, 3) := by decide +kernel
theorem dX0_ends_208 : decode cX0_ends 208 = .ok (.aload_n 2, 1) := by decide +kernel
theorem dX0_ends_209 : decode cX0_ends 209 = .ok (.getfield 65, 3) := by decide +kernel
theorem dX0_ends_212 : decode cX0_ends 212 = .ok (.iconst 2, 1) := by decide +kernel
theorem dX0_ends_213 : decode cX0_ends 213 = .ok (.if_icmp .ne 38, 3) := by decide +kernel
theorem dX0_ends_216 : decode cX0_ends 216 = .ok (.aload_n 3, 1) := by decide +kernel
theorem dX0_ends_217 : decode cX0_ends 217 = .ok (.getfield 183, 3) := by decide +kernel
theorem dX0_ends_220 : decode cX0_ends 220 = .ok (.aload_n 2, 1) := by decide +kernel
theorem dX0_ends_221 : decode cX0_ends 221 = .ok (.getfield 197, 3) := by decide +kernel
theorem dX0_ends_224 : decode cX0_ends 224 = .ok (.iadd, 1) := by decide +kernel
theorem dX0_ends_225 : decode cX0_ends 225 = .ok (.aload_n 3, 1) := by decide +kernel
theorem dX0_ends_226 : decode cX0_ends 226 = .ok (.getfield 200, 3) := by decide +kernel
theorem dX0_ends_229 : decode cX0_ends 229 = .ok (.if_icmp .le 22, 3) := by decide +kernel
theorem dX0_ends_232 : decode cX0_ends 232 = .ok (.aload_n 0, 1) := by decide +kernel
theorem dX0_ends_233 : decode cX0_ends 233 = .ok (.aload_n 1, 1) := by decide +kernel
theorem dX0_ends_234 : decode cX0_ends 234 = .ok (.aload_n 0, 1) := by decide +kernel
theorem dX0_ends_235 : decode cX0_ends 235 = .ok (.bipush 6, 2) := by decide +kernel
theorem dX0_ends_237 : decode cX0_ends 237 = .ok (.iconst (-1), 1) := by decide +kernel
theorem dX0_ends_238 : decode cX0_ends 238 = .ok (.aload_n 1, 1) := by decide +kernel
theorem dX0_ends_239 : decode cX0_ends 239 = .ok (.getfield 168, 3) := by decide +kernel
theorem dX0_ends_242 : decode cX0_ends 242 = .ok (.invokevirtual 172, 3) := by decide +kernel
theorem dX0_ends_245 : decode cX0_ends 245 = .ok (.invokevirtual 134, 3) := by decide +kernel
theorem dX0_ends_248 : decode cX0_ends 248 = .ok (.goto 29, 3) := by decide +kernel
theorem dX0_ends_251 : decode cX0_ends 251 = .ok (.aload_n 0, 1) := by decide +kernel
theorem dX0_ends_252 : decode cX0_ends 252 = .ok (.aload_n 1, 1) := by decide +kernel
theorem dX0_ends_253 : decode cX0_ends 253 = .ok (.aload_n 3, 1) := by decide +kernel
theorem dX0_ends_254 : decode cX0_ends 254 = .ok (.aload_n 2, 1) := by decide +kernel
theorem dX0_ends_255 : decode cX0_ends 255 = .ok (.getfield 65, 3) := by decide +kernel
theorem dX0_ends_258 : decode cX0_ends 258 = .ok (.iconst 1, 1) := by decide +kernel
theorem dX0_ends_259 : decode cX0_ends 259 = .ok (.if_icmp .ne 11, 3) := by decide +kernel
theorem dX0_ends_262 : decode cX0_ends 262 = .ok (.aload_n 2, 1) := by decide +kernel
theorem dX0_ends_263 : decode cX0_ends 263 = .ok (.getfield 197, 3) := by decide +kernel
theorem dX0_ends_266 : decode cX0_ends 266 = .ok (.ineg, 1) := by decide +kernel
theorem dX0_ends_267 : decode cX0_ends 267 = .ok (.goto 7, 3) := by decide +kernel
theorem dX0_ends_270 : decode cX0_ends 270 = .ok (.aload_n 2, 1) := by decide +kernel
theorem dX0_ends_271 : decode cX0_ends 271 = .ok (.getfield 197, 3) := by decide +kernel
theorem dX0_ends_274 : decode cX0_ends 274 = .ok (.invokevirtual 203, 3) := by decide +kernel
theorem dX0_ends_277 : decode cX0_ends 277 = .ok (.return_, 1) := by decide +kernel
theorem dX0_keyed_0 : decode cX0_keyed 0 = .ok (.iconst 0, 1) := by decide +kernel
theorem dX0_keyed_1 : decode cX0_keyed 1 = .ok (.istore_n 3, 1) := by decide +kernel
theorem dX0_keyed_2 : decode cX0_keyed 2 = .ok (.iload_n 3, 1) := by decide +kernel
theorem dX0_keyed_3 : decode cX0_keyed 3 = .ok (.aload_n 0, 1) := by decide +kernel
theorem dX0_keyed_4 : decode cX0_keyed 4 = .ok (.getfield 207, 3) := by decide +kernel
theorem dX0_keyed_7 : decode cX0_keyed 7 = .ok (.invokevirtual 13, 3) := by decide +kernel
theorem dX0_keyed_10 : decode cX0_keyed 10 = .ok (.if_icmp .ge 61, 3) := by decide +kernel
theorem dX0_keyed_13 : decode cX0_keyed 13 = .ok (.iload_n 2, 1) := by decide +kernel
theorem dX0_keyed_14 : decode cX0_keyed 14 = .ok (.ifCond .le 57, 3) := by decide +kernel
theorem dX0_keyed_17 : decode cX0_keyed 17 = .ok (.aload_n 0, 1) := by decide +kernel
theorem dX0_keyed_18 : decode cX0_keyed 18 = .ok (.getfield 207, 3) := by decide +kernel
theorem dX0_keyed_21 : decode cX0_keyed 21 = .ok (.iload_n 3, 1) := by decide +kernel
theorem dX0_keyed_22 : decode cX0_keyed 22 = .ok (.invokevirtual 48, 3) := by decide +kernel
theorem dX0_keyed_25 : decode cX0_keyed 25 = .ok (.checkcast 187, 3) := by decide +kernel
theorem dX0_keyed_28 : decode cX0_keyed 28 = .ok (.getfield 210, 3) := by decide +kernel
theorem dX0_keyed_31 : decode cX0_keyed 31 = .ok (.iload_n 1, 1) := by decide +kernel
theorem dX0_keyed_32 : decode cX0_keyed 32 = .ok (.if_icmp .ne 33, 3) := by decide +kernel
theorem dX0_keyed_35 : decode cX0_keyed 35 = .ok (.aload_n 0, 1) := by decide +kernel
theorem dX0_keyed_36 : decode cX0_keyed 36 = .ok (.getfield 207, 3) := by decide +kernel
theorem dX0_keyed_39 : decode cX0_keyed 39 = .ok (.iload_n 3, 1) := by decide +kernel
theorem dX0_keyed_40 : decode cX0_keyed 40 = .ok (.invokevirtual 48, 3) := by decide +kernel
theorem dX0_keyed_43 : decode cX0_keyed 43 = .ok (.checkcast 187, 3) := by decide +kernel
theorem dX0_keyed_46 : decode cX0_keyed 46 = .ok (.getfield 211, 3) := by decide +kernel
theorem dX0_keyed_49 : decode cX0_keyed 49 = .ok (.iload_n 2, 1) := by decide +kernel
theorem dX0_keyed_50 : decode cX0_keyed 50 = .ok (.if_icmp .ne 15, 3) := by decide +kernel
theorem dX0_keyed_53 : decode cX0_keyed 53 = .ok (.aload_n 0, 1) := by decide +kernel
theorem dX0_keyed_54 : decode cX0_keyed 54 = .ok (.getfield 207, 3) := by decide +kernel
theorem dX0_keyed_57 : decode cX0_keyed 57 = .ok (.iload_n 3, 1) := by decide +kernel
theorem dX0_keyed_58 : decode cX0_keyed 58 = .ok (.invokevirtual 48, 3) := by decide +kernel
theorem dX0_keyed_61 : decode cX0_keyed 61 = .ok (.checkcast 187, 3) := by decide +kernel
theorem dX0_keyed_64 : decode cX0_keyed 64 = .ok (.areturn, 1) := by decide +kernel
theorem dX0_keyed_65 : decode cX0_keyed 65 = .ok (.iinc 3 1, 3) := by decide +kernel
theorem dX0_keyed_68 : decode cX0_keyed 68 = .ok (.goto (-66), 3) := by decide +kernel
theorem dX0_keyed_71 : decode cX0_keyed 71 = .ok (.aconst_null, 1) := by decide +kernel
theorem dX0_keyed_72 : decode cX0_keyed 72 = .ok (.areturn, 1) := by decide +kernel
theorem dX0_moves_0 : decode cX0_moves 0 = .ok (.aload_n 2, 1) := by decide +kernel
theorem dX0_moves_1 : decode cX0_moves 1 = .ok (.dup, 1) := by decide +kernel
theorem dX0_moves_2 : decode cX0_moves 2 = .ok (.getfield 183, 3) := by decide +kernel
theorem dX0_moves_5 : decode cX0_moves 5 = .ok (.iload_n 3, 1) := by decide +kernel
theorem dX0_moves_6 : decode cX0_moves 6 = .ok (.iadd, 1) := by decide +kernel
theorem dX0_moves_7 : decode cX0_moves 7 = .ok (.putfield 183, 3) := by decide +kernel
theorem dX0_moves_10 : decode cX0_moves 10 = .ok (.aload_n 0, 1) := by decide +kernel
theorem dX0_moves_11 : decode cX0_moves 11 = .ok (.getfield 207, 3) := by decide +kernel
theorem dX0_moves_14 : decode cX0_moves 14 = .ok (.new 187, 3) := by decide +kernel
theorem dX0_moves_17 : decode cX0_moves 17 = .ok (.dup, 1) := by decide +kernel
theorem dX0_moves_18 : decode cX0_moves 18 = .ok (.aload_n 1, 1) := by decide +kernel
theorem dX0_moves_19 : decode cX0_moves 19 = .ok (.getfield 168, 3) := by decide +kernel
theorem dX0_moves_22 : decode cX0_moves 22 = .ok (.aload_n 1, 1) := by decide +kernel
theorem dX0_moves_23 : decode cX0_moves 23 = .ok (.getfield 102, 3) := by decide +kernel
theorem dX0_moves_26 : decode cX0_moves 26 = .ok (.iload_n 3, 1) := by decide +kernel
theorem dX0_moves_27 : decode cX0_moves 27 = .ok (.aload_n 0, 1) := by decide +kernel
theorem dX0_moves_28 : decode cX0_moves 28 = .ok (.getfield 19, 3) := by decide +kernel
theorem dX0_moves_31 : decode cX0_moves 31 = .ok (.invokespecial 212, 3) := by decide +kernel
theorem dX0_moves_34 : decode cX0_moves 34 = .ok (.invokevirtual 27, 3) := by decide +kernel
theorem dX0_moves_37 : decode cX0_moves 37 = .ok (.pop, 1) := by decide +kernel
theorem dX0_moves_38 : decode cX0_moves 38 = .ok (.aload_n 0, 1) := by decide +kernel
theorem dX0_moves_39 : decode cX0_moves 39 = .ok (.aload_n 1, 1) := by decide +kernel
theorem dX0_moves_40 : decode cX0_moves 40 = .ok (.aload_n 1, 1) := by decide +kernel
theorem dX0_moves_41 : decode cX0_moves 41 = .ok (.getfield 102, 3) := by decide +kernel
theorem dX0_moves_44 : decode cX0_moves 44 = .ok (.getfield 197, 3) := by decide +kernel
theorem dX0_moves_47 : decode cX0_moves 47 = .ok (.iconst 0, 1) := by decide +kernel
theorem dX0_moves_48 : decode cX0_moves 48 = .ok (.invokevirtual 130, 3) := by decide +kernel
theorem dX0_moves_51 : decode cX0_moves 51 = .ok (.return_, 1) := by decide +kernel
theorem dX0_dueOf_0 : decode cX0_dueOf 0 = .ok (.iconst 0, 1) := by decide +kernel
theorem dX0_dueOf_1 : decode cX0_dueOf 1 = .ok (.istore_n 2, 1) := by decide +kernel
theorem dX0_dueOf_2 : decode cX0_dueOf 2 = .ok (.iload_n 2, 1) := by decide +kernel
theorem dX0_dueOf_3 : decode cX0_dueOf 3 = .ok (.aload_n 0, 1) := by decide +kernel
theorem dX0_dueOf_4 : decode cX0_dueOf 4 = .ok (.getfield 33, 3) := by decide +kernel
theorem dX0_dueOf_7 : decode cX0_dueOf 7 = .ok (.invokevirtual 13, 3) := by decide +kernel
theorem dX0_dueOf_10 : decode cX0_dueOf 10 = .ok (.if_icmp .ge 81, 3) := by decide +kernel
theorem dX0_dueOf_13 : decode cX0_dueOf 13 = .ok (.aload_n 0, 1) := by decide +kernel
theorem dX0_dueOf_14 : decode cX0_dueOf 14 = .ok (.getfield 33, 3) := by decide +kernel
theorem dX0_dueOf_17 : decode cX0_dueOf 17 = .ok (.iload_n 2, 1) := by decide +kernel
theorem dX0_dueOf_18 : decode cX0_dueOf 18 = .ok (.invokevirtual 48, 3) := by decide +kernel
theorem dX0_dueOf_21 : decode cX0_dueOf 21 = .ok (.checkcast 31, 3) := by decide +kernel
theorem dX0_dueOf_24 : decode cX0_dueOf 24 = .ok (.astore_n 3, 1) := by decide +kernel
theorem dX0_dueOf_25 : decode cX0_dueOf 25 = .ok (.aload_n 3, 1) := by decide +kernel
theorem dX0_dueOf_26 : decode cX0_dueOf 26 = .ok (.invokevirtual 157, 3) := by decide +kernel
theorem dX0_dueOf_29 : decode cX0_dueOf 29 = .ok (.ifCond .eq 56, 3) := by decide +kernel
theorem dX0_dueOf_32 : decode cX0_dueOf 32 = .ok (.aload_n 3, 1) := by decide +kernel
theorem dX0_dueOf_33 : decode cX0_dueOf 33 = .ok (.getfield 57, 3) := by decide +kernel
theorem dX0_dueOf_36 : decode cX0_dueOf 36 = .ok (.aload_n 0, 1) := by decide +kernel
theorem dX0_dueOf_37 : decode cX0_dueOf 37 = .ok (.getfield 19, 3) := by decide +kernel
theorem dX0_dueOf_40 : decode cX0_dueOf 40 = .ok (.if_icmp .ne 45, 3) := by decide +kernel
theorem dX0_dueOf_43 : decode cX0_dueOf 43 = .ok (.aload_n 3, 1) := by decide +kernel
theorem dX0_dueOf_44 : decode cX0_dueOf 44 = .ok (.getfield 92, 3) := by decide +kernel
theorem dX0_dueOf_47 : decode cX0_dueOf 47 = .ok (.ifnull 38, 3) := by decide +kernel
theorem dX0_dueOf_50 : decode cX0_dueOf 50 = .ok (.aload_n 3, 1) := by decide +kernel
theorem dX0_dueOf_51 : decode cX0_dueOf 51 = .ok (.getfield 92, 3) := by decide +kernel
theorem dX0_dueOf_54 : decode cX0_dueOf 54 = .ok (.getfield 215, 3) := by decide +kernel
theorem dX0_dueOf_57 : decode cX0_dueOf 57 = .ok (.iload_n 1, 1) := by decide +kernel
theorem dX0_dueOf_58 : decode cX0_dueOf 58 = .ok (.if_icmp .eq 6, 3) := by decide +kernel
theorem dX0_dueOf_61 : decode cX0_dueOf 61 = .ok (.goto 24, 3) := by decide +kernel
theorem dX0_dueOf_64 : decode cX0_dueOf 64 = .ok (.iload_n 1, 1) := by decide +kernel
theorem dX0_dueOf_65 : decode cX0_dueOf 65 = .ok (.iconst 4, 1) := by decide +kernel
theorem dX0_dueOf_66 : decode cX0_dueOf 66 = .ok (.if_icmp .ne 11, 3) := by decide +kernel
theorem dX0_dueOf_69 : decode cX0_dueOf 69 = .ok (.aload_n 3, 1) := by decide +kernel
theorem dX0_dueOf_70 : decode cX0_dueOf 70 = .ok (.getfield 218, 3) := by decide +kernel
theorem dX0_dueOf_73 : decode cX0_dueOf 73 = .ok (.iconst 2, 1) := by decide +kernel
theorem dX0_dueOf_74 : decode cX0_dueOf 74 = .ok (.if_icmp .ne 11, 3) := by decide +kernel
theorem dX0_dueOf_77 : decode cX0_dueOf 77 = .ok (.aload_n 3, 1) := by decide +kernel
theorem dX0_dueOf_78 : decode cX0_dueOf 78 = .ok (.getfield 92, 3) := by decide +kernel
theorem dX0_dueOf_81 : decode cX0_dueOf 81 = .ok (.aload_n 3, 1) := by decide +kernel
theorem dX0_dueOf_82 : decode cX0_dueOf 82 = .ok (.invokevirtual 221, 3) := by decide +kernel
theorem dX0_dueOf_85 : decode cX0_dueOf 85 = .ok (.iinc 2 1, 3) := by decide +kernel
theorem dX0_dueOf_88 : decode cX0_dueOf 88 = .ok (.goto (-86), 3) := by decide +kernel
theorem dX0_dueOf_91 : decode cX0_dueOf 91 = .ok (.return_, 1) := by decide +kernel
theorem dX0_plan_2_0 : decode cX0_plan_2 0 = .ok (.aload_n 0, 1) := by decide +kernel
theorem dX0_plan_2_1 : decode cX0_plan_2 1 = .ok (.getfield 263, 3) := by decide +kernel
theorem dX0_plan_2_4 : decode cX0_plan_2 4 = .ok (.iload_n 1, 1) := by decide +kernel
theorem dX0_plan_2_5 : decode cX0_plan_2 5 = .ok (.invokestatic 277, 3) := by decide +kernel
theorem dX0_plan_2_8 : decode cX0_plan_2 8 = .ok (.ifCond .eq 14, 3) := by decide +kernel
theorem dX0_plan_2_11 : decode cX0_plan_2 11 = .ok (.aload_n 0, 1) := by decide +kernel
theorem dX0_plan_2_12 : decode cX0_plan_2 12 = .ok (.getfield 45, 3) := by decide +kernel
theorem dX0_plan_2_15 : decode cX0_plan_2 15 = .ok (.iload_n 2, 1) := by decide +kernel
theorem dX0_plan_2_16 : decode cX0_plan_2 16 = .ok (.invokestatic 277, 3) := by decide +kernel
theorem dX0_plan_2_19 : decode cX0_plan_2 19 = .ok (.ifCond .ne 5, 3) := by decide +kernel
theorem dX0_plan_2_22 : decode cX0_plan_2 22 = .ok (.iconst (-1), 1) := by decide +kernel
theorem dX0_plan_2_23 : decode cX0_plan_2 23 = .ok (.ireturn, 1) := by decide +kernel
theorem dX0_plan_2_24 : decode cX0_plan_2 24 = .ok (.iload_n 3, 1) := by decide +kernel
theorem dX0_plan_2_25 : decode cX0_plan_2 25 = .ok (.iconst 0, 1) := by decide +kernel
theorem dX0_plan_2_26 : decode cX0_plan_2 26 = .ok (.iconst 2, 1) := by decide +kernel
theorem dX0_plan_2_27 : decode cX0_plan_2 27 = .ok (.invokestatic 270, 3) := by decide +kernel
theorem dX0_plan_2_30 : decode cX0_plan_2 30 = .ok (.ifCond .eq 47, 3) := by decide +kernel
theorem dX0_plan_2_33 : decode cX0_plan_2 33 = .ok (.iload 4, 2) := by decide +kernel
theorem dX0_plan_2_35 : decode cX0_plan_2 35 = .ok (.iconst 0, 1) := by decide +kernel
theorem dX0_plan_2_36 : decode cX0_plan_2 36 = .ok (.iload_n 3, 1) := by decide +kernel
theorem dX0_plan_2_37 : decode cX0_plan_2 37 = .ok (.ifCond .ne 7, 3) := by decide +kernel
theorem dX0_plan_2_40 : decode cX0_plan_2 40 = .ok (.iconst 0, 1) := by decide +kernel
theorem dX0_plan_2_41 : decode cX0_plan_2 41 = .ok (.goto 6, 3) := by decide +kernel
theorem dX0_plan_2_44 : decode cX0_plan_2 44 = .ok (.ldc_w 269, 3) := by decide +kernel
theorem dX0_plan_2_47 : decode cX0_plan_2 47 = .ok (.invokestatic 270, 3) := by decide +kernel
theorem dX0_plan_2_50 : decode cX0_plan_2 50 = .ok (.ifCond .eq 27, 3) := by decide +kernel
theorem dX0_plan_2_53 : decode cX0_plan_2 53 = .ok (.iload 5, 2) := by decide +kernel
theorem dX0_plan_2_55 : decode cX0_plan_2 55 = .ok (.iconst 1, 1) := by decide +kernel
theorem dX0_plan_2_56 : decode cX0_plan_2 56 = .ok (.sipush 1000, 3) := by decide +kernel
theorem dX0_plan_2_59 : decode cX0_plan_2 59 = .ok (.invokestatic 270, 3) := by decide +kernel
theorem dX0_plan_2_62 : decode cX0_plan_2 62 = .ok (.ifCond .eq 15, 3) := by decide +kernel
theorem dX0_plan_2_65 : decode cX0_plan_2 65 = .ok (.iload 6, 2) := by decide +kernel
theorem dX0_plan_2_67 : decode cX0_plan_2 67 = .ok (.ifCond .lt 10, 3) := by decide +kernel
theorem dX0_plan_2_70 : decode cX0_plan_2 70 = .ok (.iload 7, 2) := by decide +kernel
theorem dX0_plan_2_72 : decode cX0_plan_2 72 = .ok (.iload 6, 2) := by decide +kernel
theorem dX0_plan_2_74 : decode cX0_plan_2 74 = .ok (.if_icmp .ge 6, 3) := by decide +kernel
theorem dX0_plan_2_77 : decode cX0_plan_2 77 = .ok (.bipush (-2), 2) := by decide +kernel
theorem dX0_plan_2_79 : decode cX0_plan_2 79 = .ok (.ireturn, 1) := by decide +kernel
theorem dX0_plan_2_80 : decode cX0_plan_2 80 = .ok (.aload_n 0, 1) := by decide +kernel
theorem dX0_plan_2_81 : decode cX0_plan_2 81 = .ok (.getfield 241, 3) := by decide +kernel
theorem dX0_plan_2_84 : decode cX0_plan_2 84 = .ok (.invokevirtual 13, 3) := by decide +kernel
theorem dX0_plan_2_87 : decode cX0_plan_2 87 = .ok (.bipush 12, 2) := by decide +kernel
theorem dX0_plan_2_89 : decode cX0_plan_2 89 = .ok (.if_icmp .ne 6, 3) := by decide +kernel
theorem dX0_plan_2_92 : decode cX0_plan_2 92 = .ok (.bipush (-3), 2) := by decide +kernel
theorem dX0_plan_2_94 : decode cX0_plan_2 94 = .ok (.ireturn, 1) := by decide +kernel
theorem dX0_plan_2_95 : decode cX0_plan_2 95 = .ok (.aload_n 0, 1) := by decide +kernel
theorem dX0_plan_2_96 : decode cX0_plan_2 96 = .ok (.getfield 241, 3) := by decide +kernel
theorem dX0_plan_2_99 : decode cX0_plan_2 99 = .ok (.new 244, 3) := by decide +kernel
theorem dX0_plan_2_102 : decode cX0_plan_2 102 = .ok (.dup, 1) := by decide +kernel
theorem dX0_plan_2_103 : decode cX0_plan_2 103 = .ok (.aload_n 0, 1) := by decide +kernel
theorem dX0_plan_2_104 : decode cX0_plan_2 104 = .ok (.iload_n 1, 1) := by decide +kernel
theorem dX0_plan_2_105 : decode cX0_plan_2 105 = .ok (.iload_n 2, 1) := by decide +kernel
theorem dX0_plan_2_106 : decode cX0_plan_2 106 = .ok (.iload_n 3, 1) := by decide +kernel
theorem dX0_plan_2_107 : decode cX0_plan_2 107 = .ok (.iload 4, 2) := by decide +kernel
theorem dX0_plan_2_109 : decode cX0_plan_2 109 = .ok (.iload 5, 2) := by decide +kernel
theorem dX0_plan_2_111 : decode cX0_plan_2 111 = .ok (.iload 6, 2) := by decide +kernel
theorem dX0_plan_2_113 : decode cX0_plan_2 113 = .ok (.iload 7, 2) := by decide +kernel
theorem dX0_plan_2_115 : decode cX0_plan_2 115 = .ok (.invokespecial 356, 3) := by decide +kernel
theorem dX0_plan_2_118 : decode cX0_plan_2 118 = .ok (.invokevirtual 27, 3) := by decide +kernel
theorem dX0_plan_2_121 : decode cX0_plan_2 121 = .ok (.pop, 1) := by decide +kernel
theorem dX0_plan_2_122 : decode cX0_plan_2 122 = .ok (.aload_n 0, 1) := by decide +kernel
theorem dX0_plan_2_123 : decode cX0_plan_2 123 = .ok (.getfield 241, 3) := by decide +kernel
theorem dX0_plan_2_126 : decode cX0_plan_2 126 = .ok (.invokevirtual 13, 3) := by decide +kernel
theorem dX0_plan_2_129 : decode cX0_plan_2 129 = .ok (.iconst 1, 1) := by decide +kernel
theorem dX0_plan_2_130 : decode cX0_plan_2 130 = .ok (.isub, 1) := by decide +kernel
theorem dX0_plan_2_131 : decode cX0_plan_2 131 = .ok (.ireturn, 1) := by decide +kernel
theorem dX0_stop_0 : decode cX0_stop 0 = .ok (.aload_n 0, 1) := by decide +kernel
theorem dX0_stop_1 : decode cX0_stop 1 = .ok (.getfield 241, 3) := by decide +kernel
theorem dX0_stop_4 : decode cX0_stop 4 = .ok (.iload_n 1, 1) := by decide +kernel
theorem dX0_stop_5 : decode cX0_stop 5 = .ok (.invokestatic 277, 3) := by decide +kernel
theorem dX0_stop_8 : decode cX0_stop 8 = .ok (.ifCond .ne 5, 3) := by decide +kernel
theorem dX0_stop_11 : decode cX0_stop 11 = .ok (.iconst (-1), 1) := by decide +kernel
theorem dX0_stop_12 : decode cX0_stop 12 = .ok (.ireturn, 1) := by decide +kernel
theorem dX0_stop_13 : decode cX0_stop 13 = .ok (.aload_n 0, 1) := by decide +kernel
theorem dX0_stop_14 : decode cX0_stop 14 = .ok (.getfield 241, 3) := by decide +kernel
theorem dX0_stop_17 : decode cX0_stop 17 = .ok (.iload_n 1, 1) := by decide +kernel
theorem dX0_stop_18 : decode cX0_stop 18 = .ok (.invokevirtual 48, 3) := by decide +kernel
theorem dX0_stop_21 : decode cX0_stop 21 = .ok (.checkcast 244, 3) := by decide +kernel
theorem dX0_stop_24 : decode cX0_stop 24 = .ok (.astore_n 2, 1) := by decide +kernel
theorem dX0_stop_25 : decode cX0_stop 25 = .ok (.aload_n 2, 1) := by decide +kernel
theorem dX0_stop_26 : decode cX0_stop 26 = .ok (.getfield 359, 3) := by decide +kernel
theorem dX0_stop_29 : decode cX0_stop 29 = .ok (.ifCond .eq 6, 3) := by decide +kernel
theorem dX0_stop_32 : decode cX0_stop 32 = .ok (.bipush (-4), 2) := by decide +kernel
theorem dX0_stop_34 : decode cX0_stop 34 = .ok (.ireturn, 1) := by decide +kernel
theorem dX0_stop_35 : decode cX0_stop 35 = .ok (.aload_n 2, 1) := by decide +kernel
theorem dX0_stop_36 : decode cX0_stop 36 = .ok (.iconst 1, 1) := by decide +kernel
theorem dX0_stop_37 : decode cX0_stop 37 = .ok (.putfield 359, 3) := by decide +kernel
theorem dX0_stop_40 : decode cX0_stop 40 = .ok (.aload_n 2, 1) := by decide +kernel
theorem dX0_stop_41 : decode cX0_stop 41 = .ok (.getfield 362, 3) := by decide +kernel
theorem dX0_stop_44 : decode cX0_stop 44 = .ok (.ireturn, 1) := by decide +kernel
theorem dX0_planned_0 : decode cX0_planned 0 = .ok (.aload_n 0, 1) := by decide +kernel
theorem dX0_planned_1 : decode cX0_planned 1 = .ok (.getfield 241, 3) := by decide +kernel
theorem dX0_planned_4 : decode cX0_planned 4 = .ok (.iload_n 1, 1) := by decide +kernel
theorem dX0_planned_5 : decode cX0_planned 5 = .ok (.invokestatic 277, 3) := by decide +kernel
theorem dX0_planned_8 : decode cX0_planned 8 = .ok (.ifCond .ne 5, 3) := by decide +kernel
theorem dX0_planned_11 : decode cX0_planned 11 = .ok (.iconst (-1), 1) := by decide +kernel
theorem dX0_planned_12 : decode cX0_planned 12 = .ok (.ireturn, 1) := by decide +kernel
theorem dX0_planned_13 : decode cX0_planned 13 = .ok (.aload_n 0, 1) := by decide +kernel
theorem dX0_planned_14 : decode cX0_planned 14 = .ok (.getfield 241, 3) := by decide +kernel
theorem dX0_planned_17 : decode cX0_planned 17 = .ok (.iload_n 1, 1) := by decide +kernel
theorem dX0_planned_18 : decode cX0_planned 18 = .ok (.invokevirtual 48, 3) := by decide +kernel
theorem dX0_planned_21 : decode cX0_planned 21 = .ok (.checkcast 244, 3) := by decide +kernel
theorem dX0_planned_24 : decode cX0_planned 24 = .ok (.astore_n 3, 1) := by decide +kernel
theorem dX0_planned_25 : decode cX0_planned 25 = .ok (.iload_n 2, 1) := by decide +kernel
theorem dX0_planned_26 : decode cX0_planned 26 = .ok (.tableswitch 67 0 4 #[34, 39, 44, 49, 54], 34) := by decide +kernel
theorem dX0_planned_60 : decode cX0_planned 60 = .ok (.aload_n 3, 1) := by decide +kernel
theorem dX0_planned_61 : decode cX0_planned 61 = .ok (.getfield 362, 3) := by decide +kernel
theorem dX0_planned_64 : decode cX0_planned 64 = .ok (.ireturn, 1) := by decide +kernel
theorem dX0_planned_65 : decode cX0_planned 65 = .ok (.aload_n 3, 1) := by decide +kernel
theorem dX0_planned_66 : decode cX0_planned 66 = .ok (.getfield 364, 3) := by decide +kernel
theorem dX0_planned_69 : decode cX0_planned 69 = .ok (.ireturn, 1) := by decide +kernel
theorem dX0_planned_70 : decode cX0_planned 70 = .ok (.aload_n 3, 1) := by decide +kernel
theorem dX0_planned_71 : decode cX0_planned 71 = .ok (.getfield 367, 3) := by decide +kernel
theorem dX0_planned_74 : decode cX0_planned 74 = .ok (.ireturn, 1) := by decide +kernel
theorem dX0_planned_75 : decode cX0_planned 75 = .ok (.aload_n 3, 1) := by decide +kernel
theorem dX0_planned_76 : decode cX0_planned 76 = .ok (.getfield 370, 3) := by decide +kernel
theorem dX0_planned_79 : decode cX0_planned 79 = .ok (.ireturn, 1) := by decide +kernel
theorem dX0_planned_80 : decode cX0_planned 80 = .ok (.aload_n 3, 1) := by decide +kernel
theorem dX0_planned_81 : decode cX0_planned 81 = .ok (.getfield 359, 3) := by decide +kernel
theorem dX0_planned_84 : decode cX0_planned 84 = .ok (.ifCond .eq 7, 3) := by decide +kernel
theorem dX0_planned_87 : decode cX0_planned 87 = .ok (.iconst 0, 1) := by decide +kernel
theorem dX0_planned_88 : decode cX0_planned 88 = .ok (.goto 4, 3) := by decide +kernel
theorem dX0_planned_91 : decode cX0_planned 91 = .ok (.iconst 1, 1) := by decide +kernel
theorem dX0_planned_92 : decode cX0_planned 92 = .ok (.ireturn, 1) := by decide +kernel
theorem dX0_planned_93 : decode cX0_planned 93 = .ok (.iconst (-1), 1) := by decide +kernel
theorem dX0_planned_94 : decode cX0_planned 94 = .ok (.ireturn, 1) := by decide +kernel
theorem dX0_alarm_0 : decode cX0_alarm 0 = .ok (.iload_n 1, 1) := by decide +kernel
theorem dX0_alarm_1 : decode cX0_alarm 1 = .ok (.ifCond .ne 11, 3) := by decide +kernel
theorem dX0_alarm_4 : decode cX0_alarm 4 = .ok (.aload_n 0, 1) := by decide +kernel
theorem dX0_alarm_5 : decode cX0_alarm 5 = .ok (.iload_n 2, 1) := by decide +kernel
theorem dX0_alarm_6 : decode cX0_alarm 6 = .ok (.invokevirtual 373, 3) := by decide +kernel
theorem dX0_alarm_9 : decode cX0_alarm 9 = .ok (.ifnull 32, 3) := by decide +kernel
theorem dX0_alarm_12 : decode cX0_alarm 12 = .ok (.iload_n 1, 1) := by decide +kernel
theorem dX0_alarm_13 : decode cX0_alarm 13 = .ok (.iconst 1, 1) := by decide +kernel
theorem dX0_alarm_14 : decode cX0_alarm 14 = .ok (.if_icmp .ne 14, 3) := by decide +kernel
theorem dX0_alarm_17 : decode cX0_alarm 17 = .ok (.aload_n 0, 1) := by decide +kernel
theorem dX0_alarm_18 : decode cX0_alarm 18 = .ok (.getfield 45, 3) := by decide +kernel
theorem dX0_alarm_21 : decode cX0_alarm 21 = .ok (.iload_n 2, 1) := by decide +kernel
theorem dX0_alarm_22 : decode cX0_alarm 22 = .ok (.invokestatic 277, 3) := by decide +kernel
theorem dX0_alarm_25 : decode cX0_alarm 25 = .ok (.ifCond .eq 16, 3) := by decide +kernel
theorem dX0_alarm_28 : decode cX0_alarm 28 = .ok (.iload_n 1, 1) := by decide +kernel
theorem dX0_alarm_29 : decode cX0_alarm 29 = .ok (.iconst 2, 1) := by decide +kernel
theorem dX0_alarm_30 : decode cX0_alarm 30 = .ok (.if_icmp .ne 13, 3) := by decide +kernel
theorem dX0_alarm_33 : decode cX0_alarm 33 = .ok (.aload_n 0, 1) := by decide +kernel
theorem dX0_alarm_34 : decode cX0_alarm 34 = .ok (.iload_n 2, 1) := by decide +kernel
theorem dX0_alarm_35 : decode cX0_alarm 35 = .ok (.invokevirtual 377, 3) := by decide +kernel
theorem dX0_alarm_38 : decode cX0_alarm 38 = .ok (.ifnonnull 5, 3) := by decide +kernel
theorem dX0_alarm_41 : decode cX0_alarm 41 = .ok (.iconst (-1), 1) := by decide +kernel
theorem dX0_alarm_42 : decode cX0_alarm 42 = .ok (.ireturn, 1) := by decide +kernel
theorem dX0_alarm_43 : decode cX0_alarm 43 = .ok (.iload_n 1, 1) := by decide +kernel
theorem dX0_alarm_44 : decode cX0_alarm 44 = .ok (.iconst 0, 1) := by decide +kernel
theorem dX0_alarm_45 : decode cX0_alarm 45 = .ok (.iconst 3, 1) := by decide +kernel
theorem dX0_alarm_46 : decode cX0_alarm 46 = .ok (.invokestatic 270, 3) := by decide +kernel
theorem dX0_alarm_49 : decode cX0_alarm 49 = .ok (.ifCond .eq 50, 3) := by decide +kernel
theorem dX0_alarm_52 : decode cX0_alarm 52 = .ok (.iload_n 3, 1) := by decide +kernel
theorem dX0_alarm_53 : decode cX0_alarm 53 = .ok (.iload_n 1, 1) := by decide +kernel
theorem dX0_alarm_54 : decode cX0_alarm 54 = .ok (.iconst 2, 1) := by decide +kernel
theorem dX0_alarm_55 : decode cX0_alarm 55 = .ok (.if_icmp .ne 7, 3) := by decide +kernel
theorem dX0_alarm_58 : decode cX0_alarm 58 = .ok (.iconst 1, 1) := by decide +kernel
theorem dX0_alarm_59 : decode cX0_alarm 59 = .ok (.goto 4, 3) := by decide +kernel
theorem dX0_alarm_62 : decode cX0_alarm 62 = .ok (.iconst 0, 1) := by decide +kernel
theorem dX0_alarm_63 : decode cX0_alarm 63 = .ok (.iload_n 1, 1) := by decide +kernel
theorem dX0_alarm_64 : decode cX0_alarm 64 = .ok (.ifCond .ne 7, 3) := by decide +kernel
theorem dX0_alarm_67 : decode cX0_alarm 67 = .ok (.iconst 0, 1) := by decide +kernel
theorem dX0_alarm_68 : decode cX0_alarm 68 = .ok (.goto 16, 3) := by decide +kernel
theorem dX0_alarm_71 : decode cX0_alarm 71 = .ok (.iload_n 1, 1) := by decide +kernel
theorem dX0_alarm_72 : decode cX0_alarm 72 = .ok (.iconst 2, 1) := by decide +kernel
theorem dX0_alarm_73 : decode cX0_alarm 73 = .ok (.if_icmp .ne 8, 3) := by decide +kernel
theorem dX0_alarm_76 : decode cX0_alarm 76 = .ok (.bipush 10, 2) := by decide +kernel
theorem dX0_alarm_78 : decode cX0_alarm 78 = .ok (.goto 6, 3) := by decide +kernel
theorem dX0_alarm_81 : decode cX0_alarm 81 = .ok (.ldc_w 269, 3) := by decide +kernel
theorem dX0_alarm_84 : decode cX0_alarm 84 = .ok (.invokestatic 270, 3) := by decide +kernel
theorem dX0_alarm_87 : decode cX0_alarm 87 = .ok (.ifCond .eq 12, 3) := by decide +kernel
theorem dX0_alarm_90 : decode cX0_alarm 90 = .ok (.iload_n 1, 1) := by decide +kernel
theorem dX0_alarm_91 : decode cX0_alarm 91 = .ok (.iconst 3, 1) := by decide +kernel
theorem dX0_alarm_92 : decode cX0_alarm 92 = .ok (.if_icmp .ne 10, 3) := by decide +kernel
theorem dX0_alarm_95 : decode cX0_alarm 95 = .ok (.iload_n 2, 1) := by decide +kernel
theorem dX0_alarm_96 : decode cX0_alarm 96 = .ok (.ifCond .eq 6, 3) := by decide +kernel
theorem dX0_alarm_99 : decode cX0_alarm 99 = .ok (.bipush (-2), 2) := by decide +kernel
theorem dX0_alarm_101 : decode cX0_alarm 101 = .ok (.ireturn, 1) := by decide +kernel
theorem dX0_alarm_102 : decode cX0_alarm 102 = .ok (.aload_n 0, 1) := by decide +kernel
theorem dX0_alarm_103 : decode cX0_alarm 103 = .ok (.getfield 249, 3) := by decide +kernel
theorem dX0_alarm_106 : decode cX0_alarm 106 = .ok (.invokevirtual 13, 3) := by decide +kernel
theorem dX0_alarm_109 : decode cX0_alarm 109 = .ok (.bipush 10, 2) := by decide +kernel
theorem dX0_alarm_111 : decode cX0_alarm 111 = .ok (.if_icmp .ne 6, 3) := by decide +kernel
theorem dX0_alarm_114 : decode cX0_alarm 114 = .ok (.bipush (-3), 2) := by decide +kernel
theorem dX0_alarm_116 : decode cX0_alarm 116 = .ok (.ireturn, 1) := by decide +kernel
theorem dX0_alarm_117 : decode cX0_alarm 117 = .ok (.iload_n 1, 1) := by decide +kernel
theorem dX0_alarm_118 : decode cX0_alarm 118 = .ok (.ifCond .ne 27, 3) := by decide +kernel
theorem dX0_alarm_121 : decode cX0_alarm 121 = .ok (.aload_n 0, 1) := by decide +kernel
theorem dX0_alarm_122 : decode cX0_alarm 122 = .ok (.getfield 249, 3) := by decide +kernel
theorem dX0_alarm_125 : decode cX0_alarm 125 = .ok (.new 381, 3) := by decide +kernel
theorem dX0_alarm_128 : decode cX0_alarm 128 = .ok (.dup, 1) := by decide +kernel
theorem dX0_alarm_129 : decode cX0_alarm 129 = .ok (.aload_n 0, 1) := by decide +kernel
theorem dX0_alarm_130 : decode cX0_alarm 130 = .ok (.aload_n 0, 1) := by decide +kernel
theorem dX0_alarm_131 : decode cX0_alarm 131 = .ok (.iload_n 2, 1) := by decide +kernel
theorem dX0_alarm_132 : decode cX0_alarm 132 = .ok (.invokevirtual 373, 3) := by decide +kernel
theorem dX0_alarm_135 : decode cX0_alarm 135 = .ok (.invokespecial 383, 3) := by decide +kernel
theorem dX0_alarm_138 : decode cX0_alarm 138 = .ok (.invokevirtual 27, 3) := by decide +kernel
theorem dX0_alarm_141 : decode cX0_alarm 141 = .ok (.pop, 1) := by decide +kernel
theorem dX0_alarm_142 : decode cX0_alarm 142 = .ok (.goto 86, 3) := by decide +kernel
theorem dX0_alarm_145 : decode cX0_alarm 145 = .ok (.iload_n 1, 1) := by decide +kernel
theorem dX0_alarm_146 : decode cX0_alarm 146 = .ok (.iconst 1, 1) := by decide +kernel
theorem dX0_alarm_147 : decode cX0_alarm 147 = .ok (.if_icmp .ne 34, 3) := by decide +kernel
theorem dX0_alarm_150 : decode cX0_alarm 150 = .ok (.aload_n 0, 1) := by decide +kernel
theorem dX0_alarm_151 : decode cX0_alarm 151 = .ok (.getfield 249, 3) := by decide +kernel
theorem dX0_alarm_154 : decode cX0_alarm 154 = .ok (.new 386, 3) := by decide +kernel
theorem dX0_alarm_157 : decode cX0_alarm 157 = .ok (.dup, 1) := by decide +kernel
theorem dX0_alarm_158 : decode cX0_alarm 158 = .ok (.aload_n 0, 1) := by decide +kernel
theorem dX0_alarm_159 : decode cX0_alarm 159 = .ok (.aload_n 0, 1) := by decide +kernel
theorem dX0_alarm_160 : decode cX0_alarm 160 = .ok (.getfield 45, 3) := by decide +kernel
theorem dX0_alarm_163 : decode cX0_alarm 163 = .ok (.iload_n 2, 1) := by decide +kernel
theorem dX0_alarm_164 : decode cX0_alarm 164 = .ok (.invokevirtual 48, 3) := by decide +kernel
theorem dX0_alarm_167 : decode cX0_alarm 167 = .ok (.checkcast 52, 3) := by decide +kernel
theorem dX0_alarm_170 : decode cX0_alarm 170 = .ok (.iload_n 3, 1) := by decide +kernel
theorem dX0_alarm_171 : decode cX0_alarm 171 = .ok (.invokespecial 388, 3) := by decide +kernel
theorem dX0_alarm_174 : decode cX0_alarm 174 = .ok (.invokevirtual 27, 3) := by decide +kernel
theorem dX0_alarm_177 : decode cX0_alarm 177 = .ok (.pop, 1) := by decide +kernel
theorem dX0_alarm_178 : decode cX0_alarm 178 = .ok (.goto 50, 3) := by decide +kernel
theorem dX0_alarm_181 : decode cX0_alarm 181 = .ok (.iload_n 1, 1) := by decide +kernel
theorem dX0_alarm_182 : decode cX0_alarm 182 = .ok (.iconst 2, 1) := by decide +kernel
theorem dX0_alarm_183 : decode cX0_alarm 183 = .ok (.if_icmp .ne 28, 3) := by decide +kernel
theorem dX0_alarm_186 : decode cX0_alarm 186 = .ok (.aload_n 0, 1) := by decide +kernel
theorem dX0_alarm_187 : decode cX0_alarm 187 = .ok (.getfield 249, 3) := by decide +kernel
theorem dX0_alarm_190 : decode cX0_alarm 190 = .ok (.new 391, 3) := by decide +kernel
theorem dX0_alarm_193 : decode cX0_alarm 193 = .ok (.dup, 1) := by decide +kernel
theorem dX0_alarm_194 : decode cX0_alarm 194 = .ok (.aload_n 0, 1) := by decide +kernel
theorem dX0_alarm_195 : decode cX0_alarm 195 = .ok (.aload_n 0, 1) := by decide +kernel
theorem dX0_alarm_196 : decode cX0_alarm 196 = .ok (.iload_n 2, 1) := by decide +kernel
theorem dX0_alarm_197 : decode cX0_alarm 197 = .ok (.invokevirtual 377, 3) := by decide +kernel
theorem dX0_alarm_200 : decode cX0_alarm 200 = .ok (.iload_n 3, 1) := by decide +kernel
theorem dX0_alarm_201 : decode cX0_alarm 201 = .ok (.invokespecial 393, 3) := by decide +kernel
theorem dX0_alarm_204 : decode cX0_alarm 204 = .ok (.invokevirtual 27, 3) := by decide +kernel
theorem dX0_alarm_207 : decode cX0_alarm 207 = .ok (.pop, 1) := by decide +kernel
theorem dX0_alarm_208 : decode cX0_alarm 208 = .ok (.goto 20, 3) := by decide +kernel
theorem dX0_alarm_211 : decode cX0_alarm 211 = .ok (.aload_n 0, 1) := by decide +kernel
theorem dX0_alarm_212 : decode cX0_alarm 212 = .ok (.getfield 249, 3) := by decide +kernel
theorem dX0_alarm_215 : decode cX0_alarm 215 = .ok (.new 396, 3) := by decide +kernel
theorem dX0_alarm_218 : decode cX0_alarm 218 = .ok (.dup, 1) := by decide +kernel
theorem dX0_alarm_219 : decode cX0_alarm 219 = .ok (.aload_n 0, 1) := by decide +kernel
theorem dX0_alarm_220 : decode cX0_alarm 220 = .ok (.iload_n 3, 1) := by decide +kernel
theorem dX0_alarm_221 : decode cX0_alarm 221 = .ok (.invokespecial 398, 3) := by decide +kernel
theorem dX0_alarm_224 : decode cX0_alarm 224 = .ok (.invokevirtual 27, 3) := by decide +kernel
theorem dX0_alarm_227 : decode cX0_alarm 227 = .ok (.pop, 1) := by decide +kernel
theorem dX0_alarm_228 : decode cX0_alarm 228 = .ok (.aload_n 0, 1) := by decide +kernel
theorem dX0_alarm_229 : decode cX0_alarm 229 = .ok (.getfield 249, 3) := by decide +kernel
theorem dX0_alarm_232 : decode cX0_alarm 232 = .ok (.invokevirtual 13, 3) := by decide +kernel
theorem dX0_alarm_235 : decode cX0_alarm 235 = .ok (.iconst 1, 1) := by decide +kernel
theorem dX0_alarm_236 : decode cX0_alarm 236 = .ok (.isub, 1) := by decide +kernel
theorem dX0_alarm_237 : decode cX0_alarm 237 = .ok (.ireturn, 1) := by decide +kernel
theorem dX0_fuseOf_0 : decode cX0_fuseOf 0 = .ok (.aload_n 0, 1) := by decide +kernel
theorem dX0_fuseOf_1 : decode cX0_fuseOf 1 = .ok (.getfield 223, 3) := by decide +kernel
theorem dX0_fuseOf_4 : decode cX0_fuseOf 4 = .ok (.iload_n 1, 1) := by decide +kernel
theorem dX0_fuseOf_5 : decode cX0_fuseOf 5 = .ok (.invokestatic 277, 3) := by decide +kernel
theorem dX0_fuseOf_8 : decode cX0_fuseOf 8 = .ok (.ifCond .eq 28, 3) := by decide +kernel
theorem dX0_fuseOf_11 : decode cX0_fuseOf 11 = .ok (.aload_n 0, 1) := by decide +kernel
theorem dX0_fuseOf_12 : decode cX0_fuseOf 12 = .ok (.getfield 223, 3) := by decide +kernel
theorem dX0_fuseOf_15 : decode cX0_fuseOf 15 = .ok (.iload_n 1, 1) := by decide +kernel
theorem dX0_fuseOf_16 : decode cX0_fuseOf 16 = .ok (.invokevirtual 48, 3) := by decide +kernel
theorem dX0_fuseOf_19 : decode cX0_fuseOf 19 = .ok (.astore_n 3, 1) := by decide +kernel
theorem dX0_fuseOf_20 : decode cX0_fuseOf 20 = .ok (.aload_n 3, 1) := by decide +kernel
theorem dX0_fuseOf_21 : decode cX0_fuseOf 21 = .ok (.instanceof 293, 3) := by decide +kernel
theorem dX0_fuseOf_24 : decode cX0_fuseOf 24 = .ok (.ifCond .eq 12, 3) := by decide +kernel
theorem dX0_fuseOf_27 : decode cX0_fuseOf 27 = .ok (.aload_n 3, 1) := by decide +kernel
theorem dX0_fuseOf_28 : decode cX0_fuseOf 28 = .ok (.checkcast 293, 3) := by decide +kernel
theorem dX0_fuseOf_31 : decode cX0_fuseOf 31 = .ok (.astore_n 2, 1) := by decide +kernel
theorem dX0_fuseOf_32 : decode cX0_fuseOf 32 = .ok (.aload_n 2, 1) := by decide +kernel
theorem dX0_fuseOf_33 : decode cX0_fuseOf 33 = .ok (.goto 4, 3) := by decide +kernel
theorem dX0_fuseOf_36 : decode cX0_fuseOf 36 = .ok (.aconst_null, 1) := by decide +kernel
theorem dX0_fuseOf_37 : decode cX0_fuseOf 37 = .ok (.areturn, 1) := by decide +kernel
theorem dX0_bulkheadOf_0 : decode cX0_bulkheadOf 0 = .ok (.aload_n 0, 1) := by decide +kernel
theorem dX0_bulkheadOf_1 : decode cX0_bulkheadOf 1 = .ok (.getfield 223, 3) := by decide +kernel
theorem dX0_bulkheadOf_4 : decode cX0_bulkheadOf 4 = .ok (.iload_n 1, 1) := by decide +kernel
theorem dX0_bulkheadOf_5 : decode cX0_bulkheadOf 5 = .ok (.invokestatic 277, 3) := by decide +kernel
theorem dX0_bulkheadOf_8 : decode cX0_bulkheadOf 8 = .ok (.ifCond .eq 28, 3) := by decide +kernel
theorem dX0_bulkheadOf_11 : decode cX0_bulkheadOf 11 = .ok (.aload_n 0, 1) := by decide +kernel
theorem dX0_bulkheadOf_12 : decode cX0_bulkheadOf 12 = .ok (.getfield 223, 3) := by decide +kernel
theorem dX0_bulkheadOf_15 : decode cX0_bulkheadOf 15 = .ok (.iload_n 1, 1) := by decide +kernel
theorem dX0_bulkheadOf_16 : decode cX0_bulkheadOf 16 = .ok (.invokevirtual 48, 3) := by decide +kernel
theorem dX0_bulkheadOf_19 : decode cX0_bulkheadOf 19 = .ok (.astore_n 3, 1) := by decide +kernel
theorem dX0_bulkheadOf_20 : decode cX0_bulkheadOf 20 = .ok (.aload_n 3, 1) := by decide +kernel
theorem dX0_bulkheadOf_21 : decode cX0_bulkheadOf 21 = .ok (.instanceof 236, 3) := by decide +kernel
theorem dX0_bulkheadOf_24 : decode cX0_bulkheadOf 24 = .ok (.ifCond .eq 12, 3) := by decide +kernel
theorem dX0_bulkheadOf_27 : decode cX0_bulkheadOf 27 = .ok (.aload_n 3, 1) := by decide +kernel
theorem dX0_bulkheadOf_28 : decode cX0_bulkheadOf 28 = .ok (.checkcast 236, 3) := by decide +kernel
theorem dX0_bulkheadOf_31 : decode cX0_bulkheadOf 31 = .ok (.astore_n 2, 1) := by decide +kernel
theorem dX0_bulkheadOf_32 : decode cX0_bulkheadOf 32 = .ok (.aload_n 2, 1) := by decide +kernel
theorem dX0_bulkheadOf_33 : decode cX0_bulkheadOf 33 = .ok (.goto 4, 3) := by decide +kernel
theorem dX0_bulkheadOf_36 : decode cX0_bulkheadOf 36 = .ok (.aconst_null, 1) := by decide +kernel
theorem dX0_bulkheadOf_37 : decode cX0_bulkheadOf 37 = .ok (.areturn, 1) := by decide +kernel
theorem dX0_alarmed_0 : decode cX0_alarmed 0 = .ok (.aload_n 0, 1) := by decide +kernel
theorem dX0_alarmed_1 : decode cX0_alarmed 1 = .ok (.getfield 249, 3) := by decide +kernel
theorem dX0_alarmed_4 : decode cX0_alarmed 4 = .ok (.iload_n 1, 1) := by decide +kernel
theorem dX0_alarmed_5 : decode cX0_alarmed 5 = .ok (.invokestatic 277, 3) := by decide +kernel
theorem dX0_alarmed_8 : decode cX0_alarmed 8 = .ok (.ifCond .ne 5, 3) := by decide +kernel
theorem dX0_alarmed_11 : decode cX0_alarmed 11 = .ok (.iconst (-1), 1) := by decide +kernel
theorem dX0_alarmed_12 : decode cX0_alarmed 12 = .ok (.ireturn, 1) := by decide +kernel
theorem dX0_alarmed_13 : decode cX0_alarmed 13 = .ok (.aload_n 0, 1) := by decide +kernel
theorem dX0_alarmed_14 : decode cX0_alarmed 14 = .ok (.getfield 249, 3) := by decide +kernel
theorem dX0_alarmed_17 : decode cX0_alarmed 17 = .ok (.iload_n 1, 1) := by decide +kernel
theorem dX0_alarmed_18 : decode cX0_alarmed 18 = .ok (.invokevirtual 48, 3) := by decide +kernel
theorem dX0_alarmed_21 : decode cX0_alarmed 21 = .ok (.checkcast 252, 3) := by decide +kernel
theorem dX0_alarmed_24 : decode cX0_alarmed 24 = .ok (.astore_n 3, 1) := by decide +kernel
theorem dX0_alarmed_25 : decode cX0_alarmed 25 = .ok (.iload_n 2, 1) := by decide +kernel
theorem dX0_alarmed_26 : decode cX0_alarmed 26 = .ok (.ifCond .ne 18, 3) := by decide +kernel
theorem dX0_alarmed_29 : decode cX0_alarmed 29 = .ok (.aload_n 3, 1) := by decide +kernel
theorem dX0_alarmed_30 : decode cX0_alarmed 30 = .ok (.getfield 401, 3) := by decide +kernel
theorem dX0_alarmed_33 : decode cX0_alarmed 33 = .ok (.ifCond .eq 7, 3) := by decide +kernel
theorem dX0_alarmed_36 : decode cX0_alarmed 36 = .ok (.iconst 1, 1) := by decide +kernel
theorem dX0_alarmed_37 : decode cX0_alarmed 37 = .ok (.goto 32, 3) := by decide +kernel
theorem dX0_alarmed_40 : decode cX0_alarmed 40 = .ok (.iconst 0, 1) := by decide +kernel
theorem dX0_alarmed_41 : decode cX0_alarmed 41 = .ok (.goto 28, 3) := by decide +kernel
theorem dX0_alarmed_44 : decode cX0_alarmed 44 = .ok (.iload_n 2, 1) := by decide +kernel
theorem dX0_alarmed_45 : decode cX0_alarmed 45 = .ok (.iconst 1, 1) := by decide +kernel
theorem dX0_alarmed_46 : decode cX0_alarmed 46 = .ok (.if_icmp .ne 10, 3) := by decide +kernel
theorem dX0_alarmed_49 : decode cX0_alarmed 49 = .ok (.aload_n 3, 1) := by decide +kernel
theorem dX0_alarmed_50 : decode cX0_alarmed 50 = .ok (.getfield 404, 3) := by decide +kernel
theorem dX0_alarmed_53 : decode cX0_alarmed 53 = .ok (.goto 16, 3) := by decide +kernel
theorem dX0_alarmed_56 : decode cX0_alarmed 56 = .ok (.iload_n 2, 1) := by decide +kernel
theorem dX0_alarmed_57 : decode cX0_alarmed 57 = .ok (.iconst 2, 1) := by decide +kernel
theorem dX0_alarmed_58 : decode cX0_alarmed 58 = .ok (.if_icmp .ne 10, 3) := by decide +kernel
theorem dX0_alarmed_61 : decode cX0_alarmed 61 = .ok (.aload_n 3, 1) := by decide +kernel
theorem dX0_alarmed_62 : decode cX0_alarmed 62 = .ok (.getfield 407, 3) := by decide +kernel
theorem dX0_alarmed_65 : decode cX0_alarmed 65 = .ok (.goto 4, 3) := by decide +kernel
theorem dX0_alarmed_68 : decode cX0_alarmed 68 = .ok (.iconst (-1), 1) := by decide +kernel
theorem dX0_alarmed_69 : decode cX0_alarmed 69 = .ok (.ireturn, 1) := by decide +kernel
theorem dX0_now_0 : decode cX0_now 0 = .ok (.aload_n 0, 1) := by decide +kernel
theorem dX0_now_1 : decode cX0_now 1 = .ok (.getfield 19, 3) := by decide +kernel
theorem dX0_now_4 : decode cX0_now 4 = .ok (.ireturn, 1) := by decide +kernel
theorem dX0_outcome_0 : decode cX0_outcome 0 = .ok (.aload_n 0, 1) := by decide +kernel
theorem dX0_outcome_1 : decode cX0_outcome 1 = .ok (.getfield 266, 3) := by decide +kernel
theorem dX0_outcome_4 : decode cX0_outcome 4 = .ok (.iload_n 1, 1) := by decide +kernel
theorem dX0_outcome_5 : decode cX0_outcome 5 = .ok (.invokestatic 277, 3) := by decide +kernel
theorem dX0_outcome_8 : decode cX0_outcome 8 = .ok (.ifCond .eq 20, 3) := by decide +kernel
theorem dX0_outcome_11 : decode cX0_outcome 11 = .ok (.aload_n 0, 1) := by decide +kernel
theorem dX0_outcome_12 : decode cX0_outcome 12 = .ok (.getfield 266, 3) := by decide +kernel
theorem dX0_outcome_15 : decode cX0_outcome 15 = .ok (.iload_n 1, 1) := by decide +kernel
theorem dX0_outcome_16 : decode cX0_outcome 16 = .ok (.invokevirtual 48, 3) := by decide +kernel
theorem dX0_outcome_19 : decode cX0_outcome 19 = .ok (.checkcast 66, 3) := by decide +kernel
theorem dX0_outcome_22 : decode cX0_outcome 22 = .ok (.invokevirtual 345, 3) := by decide +kernel
theorem dX0_outcome_25 : decode cX0_outcome 25 = .ok (.goto 4, 3) := by decide +kernel
theorem dX0_outcome_28 : decode cX0_outcome 28 = .ok (.iconst (-1), 1) := by decide +kernel
theorem dX0_outcome_29 : decode cX0_outcome 29 = .ok (.ireturn, 1) := by decide +kernel
theorem dX0_of_0 : decode cX0_of 0 = .ok (.aload_n 0, 1) := by decide +kernel
theorem dX0_of_1 : decode cX0_of 1 = .ok (.getfield 266, 3) := by decide +kernel
theorem dX0_of_4 : decode cX0_of 4 = .ok (.iload_n 1, 1) := by decide +kernel
theorem dX0_of_5 : decode cX0_of 5 = .ok (.invokestatic 277, 3) := by decide +kernel
theorem dX0_of_8 : decode cX0_of 8 = .ok (.ifCond .ne 5, 3) := by decide +kernel
theorem dX0_of_11 : decode cX0_of 11 = .ok (.iconst (-1), 1) := by decide +kernel
theorem dX0_of_12 : decode cX0_of 12 = .ok (.ireturn, 1) := by decide +kernel
theorem dX0_of_13 : decode cX0_of 13 = .ok (.aload_n 0, 1) := by decide +kernel
theorem dX0_of_14 : decode cX0_of 14 = .ok (.getfield 266, 3) := by decide +kernel
theorem dX0_of_17 : decode cX0_of 17 = .ok (.iload_n 1, 1) := by decide +kernel
theorem dX0_of_18 : decode cX0_of 18 = .ok (.invokevirtual 48, 3) := by decide +kernel
theorem dX0_of_21 : decode cX0_of 21 = .ok (.checkcast 66, 3) := by decide +kernel
theorem dX0_of_24 : decode cX0_of 24 = .ok (.astore_n 3, 1) := by decide +kernel
theorem dX0_of_25 : decode cX0_of 25 = .ok (.iload_n 2, 1) := by decide +kernel
theorem dX0_of_26 : decode cX0_of 26 = .ok (.tableswitch 81 0 3 #[30, 49, 71, 76], 30) := by decide +kernel
theorem dX0_of_56 : decode cX0_of 56 = .ok (.aload_n 3, 1) := by decide +kernel
theorem dX0_of_57 : decode cX0_of 57 = .ok (.getfield 348, 3) := by decide +kernel
theorem dX0_of_60 : decode cX0_of 60 = .ok (.ifCond .eq 7, 3) := by decide +kernel
theorem dX0_of_63 : decode cX0_of 63 = .ok (.iconst (-1), 1) := by decide +kernel
theorem dX0_of_64 : decode cX0_of 64 = .ok (.goto 10, 3) := by decide +kernel
theorem dX0_of_67 : decode cX0_of 67 = .ok (.aload_n 3, 1) := by decide +kernel
theorem dX0_of_68 : decode cX0_of 68 = .ok (.getfield 77, 3) := by decide +kernel
theorem dX0_of_71 : decode cX0_of 71 = .ok (.getfield 116, 3) := by decide +kernel
theorem dX0_of_74 : decode cX0_of 74 = .ok (.ireturn, 1) := by decide +kernel
theorem dX0_of_75 : decode cX0_of 75 = .ok (.aload_n 3, 1) := by decide +kernel
theorem dX0_of_76 : decode cX0_of 76 = .ok (.getfield 348, 3) := by decide +kernel
theorem dX0_of_79 : decode cX0_of 79 = .ok (.ifCond .eq 7, 3) := by decide +kernel
theorem dX0_of_82 : decode cX0_of 82 = .ok (.iconst (-1), 1) := by decide +kernel
theorem dX0_of_83 : decode cX0_of 83 = .ok (.goto 13, 3) := by decide +kernel
theorem dX0_of_86 : decode cX0_of 86 = .ok (.aload_n 3, 1) := by decide +kernel
theorem dX0_of_87 : decode cX0_of 87 = .ok (.getfield 77, 3) := by decide +kernel
theorem dX0_of_90 : decode cX0_of 90 = .ok (.getfield 126, 3) := by decide +kernel
theorem dX0_of_93 : decode cX0_of 93 = .ok (.invokestatic 408, 3) := by decide +kernel
theorem dX0_of_96 : decode cX0_of 96 = .ok (.ireturn, 1) := by decide +kernel
theorem dX0_of_97 : decode cX0_of 97 = .ok (.aload_n 3, 1) := by decide +kernel
theorem dX0_of_98 : decode cX0_of 98 = .ok (.getfield 412, 3) := by decide +kernel
theorem dX0_of_101 : decode cX0_of 101 = .ok (.ireturn, 1) := by decide +kernel
theorem dX0_of_102 : decode cX0_of 102 = .ok (.aload_n 3, 1) := by decide +kernel
theorem dX0_of_103 : decode cX0_of 103 = .ok (.getfield 147, 3) := by decide +kernel
theorem dX0_of_106 : decode cX0_of 106 = .ok (.ireturn, 1) := by decide +kernel
theorem dX0_of_107 : decode cX0_of 107 = .ok (.iconst (-1), 1) := by decide +kernel
theorem dX0_of_108 : decode cX0_of 108 = .ok (.ireturn, 1) := by decide +kernel
theorem dX0_failure_0 : decode cX0_failure 0 = .ok (.aload_n 0, 1) := by decide +kernel
theorem dX0_failure_1 : decode cX0_failure 1 = .ok (.getfield 9, 3) := by decide +kernel
theorem dX0_failure_4 : decode cX0_failure 4 = .ok (.iload_n 1, 1) := by decide +kernel
theorem dX0_failure_5 : decode cX0_failure 5 = .ok (.invokestatic 277, 3) := by decide +kernel
theorem dX0_failure_8 : decode cX0_failure 8 = .ok (.ifCond .ne 5, 3) := by decide +kernel
theorem dX0_failure_11 : decode cX0_failure 11 = .ok (.iconst (-1), 1) := by decide +kernel
theorem dX0_failure_12 : decode cX0_failure 12 = .ok (.ireturn, 1) := by decide +kernel
theorem dX0_failure_13 : decode cX0_failure 13 = .ok (.aload_n 0, 1) := by decide +kernel
theorem dX0_failure_14 : decode cX0_failure 14 = .ok (.getfield 9, 3) := by decide +kernel
theorem dX0_failure_17 : decode cX0_failure 17 = .ok (.iload_n 1, 1) := by decide +kernel
theorem dX0_failure_18 : decode cX0_failure 18 = .ok (.invokevirtual 48, 3) := by decide +kernel
theorem dX0_failure_21 : decode cX0_failure 21 = .ok (.checkcast 7, 3) := by decide +kernel
theorem dX0_failure_24 : decode cX0_failure 24 = .ok (.astore_n 3, 1) := by decide +kernel
theorem dX0_failure_25 : decode cX0_failure 25 = .ok (.iload_n 2, 1) := by decide +kernel
theorem dX0_failure_26 : decode cX0_failure 26 = .ok (.tableswitch 74 0 5 #[38, 43, 48, 53, 58, 66], 38) := by decide +kernel
theorem dX0_failure_64 : decode cX0_failure 64 = .ok (.aload_n 3, 1) := by decide +kernel
theorem dX0_failure_65 : decode cX0_failure 65 = .ok (.getfield 415, 3) := by decide +kernel
theorem dX0_failure_68 : decode cX0_failure 68 = .ok (.ireturn, 1) := by decide +kernel
theorem dX0_failure_69 : decode cX0_failure 69 = .ok (.aload_n 3, 1) := by decide +kernel
theorem dX0_failure_70 : decode cX0_failure 70 = .ok (.getfield 418, 3) := by decide +kernel
theorem dX0_failure_73 : decode cX0_failure 73 = .ok (.ireturn, 1) := by decide +kernel
theorem dX0_failure_74 : decode cX0_failure 74 = .ok (.aload_n 3, 1) := by decide +kernel
theorem dX0_failure_75 : decode cX0_failure 75 = .ok (.getfield 421, 3) := by decide +kernel
theorem dX0_failure_78 : decode cX0_failure 78 = .ok (.ireturn, 1) := by decide +kernel
theorem dX0_failure_79 : decode cX0_failure 79 = .ok (.aload_n 3, 1) := by decide +kernel
theorem dX0_failure_80 : decode cX0_failure 80 = .ok (.getfield 423, 3) := by decide +kernel
theorem dX0_failure_83 : decode cX0_failure 83 = .ok (.ireturn, 1) := by decide +kernel
theorem dX0_failure_84 : decode cX0_failure 84 = .ok (.aload_n 3, 1) := by decide +kernel
theorem dX0_failure_85 : decode cX0_failure 85 = .ok (.getfield 424, 3) := by decide +kernel
theorem dX0_failure_88 : decode cX0_failure 88 = .ok (.invokestatic 408, 3) := by decide +kernel
theorem dX0_failure_91 : decode cX0_failure 91 = .ok (.ireturn, 1) := by decide +kernel
theorem dX0_failure_92 : decode cX0_failure 92 = .ok (.aload_n 3, 1) := by decide +kernel
theorem dX0_failure_93 : decode cX0_failure 93 = .ok (.getfield 427, 3) := by decide +kernel
theorem dX0_failure_96 : decode cX0_failure 96 = .ok (.invokestatic 408, 3) := by decide +kernel
theorem dX0_failure_99 : decode cX0_failure 99 = .ok (.ireturn, 1) := by decide +kernel
theorem dX0_failure_100 : decode cX0_failure 100 = .ok (.iconst (-1), 1) := by decide +kernel
theorem dX0_failure_101 : decode cX0_failure 101 = .ok (.ireturn, 1) := by decide +kernel
theorem dX0_call_0 : decode cX0_call 0 = .ok (.aload_n 0, 1) := by decide +kernel
theorem dX0_call_1 : decode cX0_call 1 = .ok (.getfield 33, 3) := by decide +kernel
theorem dX0_call_4 : decode cX0_call 4 = .ok (.iload_n 1, 1) := by decide +kernel
theorem dX0_call_5 : decode cX0_call 5 = .ok (.invokestatic 277, 3) := by decide +kernel
theorem dX0_call_8 : decode cX0_call 8 = .ok (.ifCond .ne 5, 3) := by decide +kernel
theorem dX0_call_11 : decode cX0_call 11 = .ok (.iconst (-1), 1) := by decide +kernel
theorem dX0_call_12 : decode cX0_call 12 = .ok (.ireturn, 1) := by decide +kernel
theorem dX0_call_13 : decode cX0_call 13 = .ok (.aload_n 0, 1) := by decide +kernel
theorem dX0_call_14 : decode cX0_call 14 = .ok (.getfield 33, 3) := by decide +kernel
theorem dX0_call_17 : decode cX0_call 17 = .ok (.iload_n 1, 1) := by decide +kernel
theorem dX0_call_18 : decode cX0_call 18 = .ok (.invokevirtual 48, 3) := by decide +kernel
theorem dX0_call_21 : decode cX0_call 21 = .ok (.checkcast 31, 3) := by decide +kernel
theorem dX0_call_24 : decode cX0_call 24 = .ok (.astore_n 3, 1) := by decide +kernel
theorem dX0_call_25 : decode cX0_call 25 = .ok (.iload_n 2, 1) := by decide +kernel
theorem dX0_call_26 : decode cX0_call 26 = .ok (.tableswitch 158 0 10 #[58, 66, 71, 90, 109, 114, 119, 124, 129, 134, 142], 58) := by decide +kernel
theorem dX0_call_84 : decode cX0_call 84 = .ok (.aload_n 3, 1) := by decide +kernel
theorem dX0_call_85 : decode cX0_call 85 = .ok (.getfield 102, 3) := by decide +kernel
theorem dX0_call_88 : decode cX0_call 88 = .ok (.getfield 344, 3) := by decide +kernel
theorem dX0_call_91 : decode cX0_call 91 = .ok (.ireturn, 1) := by decide +kernel
theorem dX0_call_92 : decode cX0_call 92 = .ok (.aload_n 3, 1) := by decide +kernel
theorem dX0_call_93 : decode cX0_call 93 = .ok (.getfield 106, 3) := by decide +kernel
theorem dX0_call_96 : decode cX0_call 96 = .ok (.ireturn, 1) := by decide +kernel
theorem dX0_call_97 : decode cX0_call 97 = .ok (.aload_n 3, 1) := by decide +kernel
theorem dX0_call_98 : decode cX0_call 98 = .ok (.getfield 140, 3) := by decide +kernel
theorem dX0_call_101 : decode cX0_call 101 = .ok (.ifnonnull 7, 3) := by decide +kernel
theorem dX0_call_104 : decode cX0_call 104 = .ok (.iconst (-1), 1) := by decide +kernel
theorem dX0_call_105 : decode cX0_call 105 = .ok (.goto 10, 3) := by decide +kernel
theorem dX0_call_108 : decode cX0_call 108 = .ok (.aload_n 3, 1) := by decide +kernel
theorem dX0_call_109 : decode cX0_call 109 = .ok (.getfield 140, 3) := by decide +kernel
theorem dX0_call_112 : decode cX0_call 112 = .ok (.getfield 154, 3) := by decide +kernel
theorem dX0_call_115 : decode cX0_call 115 = .ok (.ireturn, 1) := by decide +kernel
theorem dX0_call_116 : decode cX0_call 116 = .ok (.aload_n 3, 1) := by decide +kernel
theorem dX0_call_117 : decode cX0_call 117 = .ok (.getfield 92, 3) := by decide +kernel
theorem dX0_call_120 : decode cX0_call 120 = .ok (.ifnonnull 7, 3) := by decide +kernel
theorem dX0_call_123 : decode cX0_call 123 = .ok (.iconst (-1), 1) := by decide +kernel
theorem dX0_call_124 : decode cX0_call 124 = .ok (.goto 10, 3) := by decide +kernel
theorem dX0_call_127 : decode cX0_call 127 = .ok (.aload_n 3, 1) := by decide +kernel
theorem dX0_call_128 : decode cX0_call 128 = .ok (.getfield 92, 3) := by decide +kernel
theorem dX0_call_131 : decode cX0_call 131 = .ok (.getfield 430, 3) := by decide +kernel
theorem dX0_call_134 : decode cX0_call 134 = .ok (.ireturn, 1) := by decide +kernel
theorem dX0_call_135 : decode cX0_call 135 = .ok (.aload_n 3, 1) := by decide +kernel
theorem dX0_call_136 : decode cX0_call 136 = .ok (.getfield 168, 3) := by decide +kernel
theorem dX0_call_139 : decode cX0_call 139 = .ok (.ireturn, 1) := by decide +kernel
theorem dX0_call_140 : decode cX0_call 140 = .ok (.aload_n 3, 1) := by decide +kernel
theorem dX0_call_141 : decode cX0_call 141 = .ok (.getfield 431, 3) := by decide +kernel
theorem dX0_call_144 : decode cX0_call 144 = .ok (.ireturn, 1) := by decide +kernel
theorem dX0_call_145 : decode cX0_call 145 = .ok (.aload_n 3, 1) := by decide +kernel
theorem dX0_call_146 : decode cX0_call 146 = .ok (.getfield 138, 3) := by decide +kernel
theorem dX0_call_149 : decode cX0_call 149 = .ok (.ireturn, 1) := by decide +kernel
theorem dX0_call_150 : decode cX0_call 150 = .ok (.aload_n 3, 1) := by decide +kernel
theorem dX0_call_151 : decode cX0_call 151 = .ok (.getfield 113, 3) := by decide +kernel
theorem dX0_call_154 : decode cX0_call 154 = .ok (.ireturn, 1) := by decide +kernel
theorem dX0_call_155 : decode cX0_call 155 = .ok (.aload_n 3, 1) := by decide +kernel
theorem dX0_call_156 : decode cX0_call 156 = .ok (.getfield 116, 3) := by decide +kernel
theorem dX0_call_159 : decode cX0_call 159 = .ok (.ireturn, 1) := by decide +kernel
theorem dX0_call_160 : decode cX0_call 160 = .ok (.aload_n 3, 1) := by decide +kernel
theorem dX0_call_161 : decode cX0_call 161 = .ok (.getfield 126, 3) := by decide +kernel
theorem dX0_call_164 : decode cX0_call 164 = .ok (.invokestatic 408, 3) := by decide +kernel
theorem dX0_call_167 : decode cX0_call 167 = .ok (.ireturn, 1) := by decide +kernel
theorem dX0_call_168 : decode cX0_call 168 = .ok (.aload_n 3, 1) := by decide +kernel
theorem dX0_call_169 : decode cX0_call 169 = .ok (.invokevirtual 157, 3) := by decide +kernel
theorem dX0_call_172 : decode cX0_call 172 = .ok (.ifCond .eq 10, 3) := by decide +kernel
theorem dX0_call_175 : decode cX0_call 175 = .ok (.aload_n 3, 1) := by decide +kernel
theorem dX0_call_176 : decode cX0_call 176 = .ok (.getfield 218, 3) := by decide +kernel
theorem dX0_call_179 : decode cX0_call 179 = .ok (.goto 4, 3) := by decide +kernel
theorem dX0_call_182 : decode cX0_call 182 = .ok (.iconst 0, 1) := by decide +kernel
theorem dX0_call_183 : decode cX0_call 183 = .ok (.ireturn, 1) := by decide +kernel
theorem dX0_call_184 : decode cX0_call 184 = .ok (.iconst (-1), 1) := by decide +kernel
theorem dX0_call_185 : decode cX0_call 185 = .ok (.ireturn, 1) := by decide +kernel
theorem dX0_fuse_0 : decode cX0_fuse 0 = .ok (.aload_n 0, 1) := by decide +kernel
theorem dX0_fuse_1 : decode cX0_fuse 1 = .ok (.iload_n 1, 1) := by decide +kernel
theorem dX0_fuse_2 : decode cX0_fuse 2 = .ok (.invokevirtual 373, 3) := by decide +kernel
theorem dX0_fuse_5 : decode cX0_fuse 5 = .ok (.astore_n 3, 1) := by decide +kernel
theorem dX0_fuse_6 : decode cX0_fuse 6 = .ok (.aload_n 3, 1) := by decide +kernel
theorem dX0_fuse_7 : decode cX0_fuse 7 = .ok (.ifnonnull 5, 3) := by decide +kernel
theorem dX0_fuse_10 : decode cX0_fuse 10 = .ok (.iconst (-1), 1) := by decide +kernel
theorem dX0_fuse_11 : decode cX0_fuse 11 = .ok (.ireturn, 1) := by decide +kernel
theorem dX0_fuse_12 : decode cX0_fuse 12 = .ok (.iload_n 2, 1) := by decide +kernel
theorem dX0_fuse_13 : decode cX0_fuse 13 = .ok (.ifCond .ne 10, 3) := by decide +kernel
theorem dX0_fuse_16 : decode cX0_fuse 16 = .ok (.aload_n 3, 1) := by decide +kernel
theorem dX0_fuse_17 : decode cX0_fuse 17 = .ok (.getfield 432, 3) := by decide +kernel
theorem dX0_fuse_20 : decode cX0_fuse 20 = .ok (.goto 28, 3) := by decide +kernel
theorem dX0_fuse_23 : decode cX0_fuse 23 = .ok (.iload_n 2, 1) := by decide +kernel
theorem dX0_fuse_24 : decode cX0_fuse 24 = .ok (.iconst 1, 1) := by decide +kernel
theorem dX0_fuse_25 : decode cX0_fuse 25 = .ok (.if_icmp .ne 10, 3) := by decide +kernel
theorem dX0_fuse_28 : decode cX0_fuse 28 = .ok (.aload_n 3, 1) := by decide +kernel
theorem dX0_fuse_29 : decode cX0_fuse 29 = .ok (.getfield 433, 3) := by decide +kernel
theorem dX0_fuse_32 : decode cX0_fuse 32 = .ok (.goto 16, 3) := by decide +kernel
theorem dX0_fuse_35 : decode cX0_fuse 35 = .ok (.iload_n 2, 1) := by decide +kernel
theorem dX0_fuse_36 : decode cX0_fuse 36 = .ok (.iconst 2, 1) := by decide +kernel
theorem dX0_fuse_37 : decode cX0_fuse 37 = .ok (.if_icmp .ne 10, 3) := by decide +kernel
theorem dX0_fuse_40 : decode cX0_fuse 40 = .ok (.aload_n 3, 1) := by decide +kernel
theorem dX0_fuse_41 : decode cX0_fuse 41 = .ok (.getfield 436, 3) := by decide +kernel
theorem dX0_fuse_44 : decode cX0_fuse 44 = .ok (.goto 4, 3) := by decide +kernel
theorem dX0_fuse_47 : decode cX0_fuse 47 = .ok (.iconst (-1), 1) := by decide +kernel
theorem dX0_fuse_48 : decode cX0_fuse 48 = .ok (.ireturn, 1) := by decide +kernel
theorem dX0_bulkhead_0 : decode cX0_bulkhead 0 = .ok (.aload_n 0, 1) := by decide +kernel
theorem dX0_bulkhead_1 : decode cX0_bulkhead 1 = .ok (.iload_n 1, 1) := by decide +kernel
theorem dX0_bulkhead_2 : decode cX0_bulkhead 2 = .ok (.invokevirtual 377, 3) := by decide +kernel
theorem dX0_bulkhead_5 : decode cX0_bulkhead 5 = .ok (.astore_n 3, 1) := by decide +kernel
theorem dX0_bulkhead_6 : decode cX0_bulkhead 6 = .ok (.aload_n 3, 1) := by decide +kernel
theorem dX0_bulkhead_7 : decode cX0_bulkhead 7 = .ok (.ifnonnull 5, 3) := by decide +kernel
theorem dX0_bulkhead_10 : decode cX0_bulkhead 10 = .ok (.iconst (-1), 1) := by decide +kernel
theorem dX0_bulkhead_11 : decode cX0_bulkhead 11 = .ok (.ireturn, 1) := by decide +kernel
theorem dX0_bulkhead_12 : decode cX0_bulkhead 12 = .ok (.iload_n 2, 1) := by decide +kernel
theorem dX0_bulkhead_13 : decode cX0_bulkhead 13 = .ok (.ifCond .ne 10, 3) := by decide +kernel
theorem dX0_bulkhead_16 : decode cX0_bulkhead 16 = .ok (.aload_n 3, 1) := by decide +kernel
theorem dX0_bulkhead_17 : decode cX0_bulkhead 17 = .ok (.getfield 439, 3) := by decide +kernel
theorem dX0_bulkhead_20 : decode cX0_bulkhead 20 = .ok (.goto 31, 3) := by decide +kernel
theorem dX0_bulkhead_23 : decode cX0_bulkhead 23 = .ok (.iload_n 2, 1) := by decide +kernel
theorem dX0_bulkhead_24 : decode cX0_bulkhead 24 = .ok (.iconst 1, 1) := by decide +kernel
theorem dX0_bulkhead_25 : decode cX0_bulkhead 25 = .ok (.if_icmp .ne 13, 3) := by decide +kernel
theorem dX0_bulkhead_28 : decode cX0_bulkhead 28 = .ok (.aload_n 3, 1) := by decide +kernel
theorem dX0_bulkhead_29 : decode cX0_bulkhead 29 = .ok (.getfield 442, 3) := by decide +kernel
theorem dX0_bulkhead_32 : decode cX0_bulkhead 32 = .ok (.invokevirtual 13, 3) := by decide +kernel
theorem dX0_bulkhead_35 : decode cX0_bulkhead 35 = .ok (.goto 16, 3) := by decide +kernel
theorem dX0_bulkhead_38 : decode cX0_bulkhead 38 = .ok (.iload_n 2, 1) := by decide +kernel
theorem dX0_bulkhead_39 : decode cX0_bulkhead 39 = .ok (.iconst 2, 1) := by decide +kernel
theorem dX0_bulkhead_40 : decode cX0_bulkhead 40 = .ok (.if_icmp .ne 10, 3) := by decide +kernel
theorem dX0_bulkhead_43 : decode cX0_bulkhead 43 = .ok (.aload_n 3, 1) := by decide +kernel
theorem dX0_bulkhead_44 : decode cX0_bulkhead 44 = .ok (.getfield 445, 3) := by decide +kernel
theorem dX0_bulkhead_47 : decode cX0_bulkhead 47 = .ok (.goto 4, 3) := by decide +kernel
theorem dX0_bulkhead_50 : decode cX0_bulkhead 50 = .ok (.iconst (-1), 1) := by decide +kernel
theorem dX0_bulkhead_51 : decode cX0_bulkhead 51 = .ok (.ireturn, 1) := by decide +kernel
theorem dX0_waiting_0 : decode cX0_waiting 0 = .ok (.aload_n 0, 1) := by decide +kernel
theorem dX0_waiting_1 : decode cX0_waiting 1 = .ok (.iload_n 1, 1) := by decide +kernel
theorem dX0_waiting_2 : decode cX0_waiting 2 = .ok (.invokevirtual 377, 3) := by decide +kernel
theorem dX0_waiting_5 : decode cX0_waiting 5 = .ok (.astore_n 3, 1) := by decide +kernel
theorem dX0_waiting_6 : decode cX0_waiting 6 = .ok (.aload_n 3, 1) := by decide +kernel
theorem dX0_waiting_7 : decode cX0_waiting 7 = .ok (.ifnonnull 5, 3) := by decide +kernel
theorem dX0_waiting_10 : decode cX0_waiting 10 = .ok (.iconst (-1), 1) := by decide +kernel
theorem dX0_waiting_11 : decode cX0_waiting 11 = .ok (.ireturn, 1) := by decide +kernel
theorem dX0_waiting_12 : decode cX0_waiting 12 = .ok (.aload_n 3, 1) := by decide +kernel
theorem dX0_waiting_13 : decode cX0_waiting 13 = .ok (.getfield 442, 3) := by decide +kernel
theorem dX0_waiting_16 : decode cX0_waiting 16 = .ok (.iload_n 2, 1) := by decide +kernel
theorem dX0_waiting_17 : decode cX0_waiting 17 = .ok (.invokestatic 277, 3) := by decide +kernel
theorem dX0_waiting_20 : decode cX0_waiting 20 = .ok (.ifCond .eq 20, 3) := by decide +kernel
theorem dX0_waiting_23 : decode cX0_waiting 23 = .ok (.aload_n 3, 1) := by decide +kernel
theorem dX0_waiting_24 : decode cX0_waiting 24 = .ok (.getfield 442, 3) := by decide +kernel
theorem dX0_waiting_27 : decode cX0_waiting 27 = .ok (.iload_n 2, 1) := by decide +kernel
theorem dX0_waiting_28 : decode cX0_waiting 28 = .ok (.invokevirtual 48, 3) := by decide +kernel
theorem dX0_waiting_31 : decode cX0_waiting 31 = .ok (.checkcast 31, 3) := by decide +kernel
theorem dX0_waiting_34 : decode cX0_waiting 34 = .ok (.getfield 154, 3) := by decide +kernel
theorem dX0_waiting_37 : decode cX0_waiting 37 = .ok (.goto 4, 3) := by decide +kernel
theorem dX0_waiting_40 : decode cX0_waiting 40 = .ok (.iconst (-1), 1) := by decide +kernel
theorem dX0_waiting_41 : decode cX0_waiting 41 = .ok (.ireturn, 1) := by decide +kernel
theorem dX0_tokens_0 : decode cX0_tokens 0 = .ok (.aload_n 0, 1) := by decide +kernel
theorem dX0_tokens_1 : decode cX0_tokens 1 = .ok (.getfield 223, 3) := by decide +kernel
theorem dX0_tokens_4 : decode cX0_tokens 4 = .ok (.iload_n 1, 1) := by decide +kernel
theorem dX0_tokens_5 : decode cX0_tokens 5 = .ok (.invokestatic 277, 3) := by decide +kernel
theorem dX0_tokens_8 : decode cX0_tokens 8 = .ok (.ifCond .eq 31, 3) := by decide +kernel
theorem dX0_tokens_11 : decode cX0_tokens 11 = .ok (.aload_n 0, 1) := by decide +kernel
theorem dX0_tokens_12 : decode cX0_tokens 12 = .ok (.getfield 223, 3) := by decide +kernel
theorem dX0_tokens_15 : decode cX0_tokens 15 = .ok (.iload_n 1, 1) := by decide +kernel
theorem dX0_tokens_16 : decode cX0_tokens 16 = .ok (.invokevirtual 48, 3) := by decide +kernel
theorem dX0_tokens_19 : decode cX0_tokens 19 = .ok (.astore_n 3, 1) := by decide +kernel
theorem dX0_tokens_20 : decode cX0_tokens 20 = .ok (.aload_n 3, 1) := by decide +kernel
theorem dX0_tokens_21 : decode cX0_tokens 21 = .ok (.instanceof 301, 3) := by decide +kernel
theorem dX0_tokens_24 : decode cX0_tokens 24 = .ok (.ifCond .eq 15, 3) := by decide +kernel
theorem dX0_tokens_27 : decode cX0_tokens 27 = .ok (.aload_n 3, 1) := by decide +kernel
theorem dX0_tokens_28 : decode cX0_tokens 28 = .ok (.checkcast 301, 3) := by decide +kernel
theorem dX0_tokens_31 : decode cX0_tokens 31 = .ok (.astore_n 2, 1) := by decide +kernel
theorem dX0_tokens_32 : decode cX0_tokens 32 = .ok (.aload_n 2, 1) := by decide +kernel
theorem dX0_tokens_33 : decode cX0_tokens 33 = .ok (.getfield 448, 3) := by decide +kernel
theorem dX0_tokens_36 : decode cX0_tokens 36 = .ok (.goto 4, 3) := by decide +kernel
theorem dX0_tokens_39 : decode cX0_tokens 39 = .ok (.iconst (-1), 1) := by decide +kernel
theorem dX0_tokens_40 : decode cX0_tokens 40 = .ok (.ireturn, 1) := by decide +kernel
theorem dX0_kept_0 : decode cX0_kept 0 = .ok (.aload_n 0, 1) := by decide +kernel
theorem dX0_kept_1 : decode cX0_kept 1 = .ok (.getfield 223, 3) := by decide +kernel
theorem dX0_kept_4 : decode cX0_kept 4 = .ok (.iload_n 1, 1) := by decide +kernel
theorem dX0_kept_5 : decode cX0_kept 5 = .ok (.invokestatic 277, 3) := by decide +kernel
theorem dX0_kept_8 : decode cX0_kept 8 = .ok (.ifCond .eq 39, 3) := by decide +kernel
theorem dX0_kept_11 : decode cX0_kept 11 = .ok (.aload_n 0, 1) := by decide +kernel
theorem dX0_kept_12 : decode cX0_kept 12 = .ok (.getfield 223, 3) := by decide +kernel
theorem dX0_kept_15 : decode cX0_kept 15 = .ok (.iload_n 1, 1) := by decide +kernel
theorem dX0_kept_16 : decode cX0_kept 16 = .ok (.invokevirtual 48, 3) := by decide +kernel
theorem dX0_kept_19 : decode cX0_kept 19 = .ok (.astore 5, 2) := by decide +kernel
theorem dX0_kept_21 : decode cX0_kept 21 = .ok (.aload 5, 2) := by decide +kernel
theorem dX0_kept_23 : decode cX0_kept 23 = .ok (.instanceof 316, 3) := by decide +kernel
theorem dX0_kept_26 : decode cX0_kept 26 = .ok (.ifCond .eq 21, 3) := by decide +kernel
theorem dX0_kept_29 : decode cX0_kept 29 = .ok (.aload 5, 2) := by decide +kernel
theorem dX0_kept_31 : decode cX0_kept 31 = .ok (.checkcast 316, 3) := by decide +kernel
theorem dX0_kept_34 : decode cX0_kept 34 = .ok (.astore 4, 2) := by decide +kernel
theorem dX0_kept_36 : decode cX0_kept 36 = .ok (.aload_n 0, 1) := by decide +kernel
theorem dX0_kept_37 : decode cX0_kept 37 = .ok (.getfield 45, 3) := by decide +kernel
theorem dX0_kept_40 : decode cX0_kept 40 = .ok (.iload_n 2, 1) := by decide +kernel
theorem dX0_kept_41 : decode cX0_kept 41 = .ok (.invokestatic 277, 3) := by decide +kernel
theorem dX0_kept_44 : decode cX0_kept 44 = .ok (.ifCond .ne 5, 3) := by decide +kernel
theorem dX0_kept_47 : decode cX0_kept 47 = .ok (.iconst (-1), 1) := by decide +kernel
theorem dX0_kept_48 : decode cX0_kept 48 = .ok (.ireturn, 1) := by decide +kernel
theorem dX0_kept_49 : decode cX0_kept 49 = .ok (.iload_n 3, 1) := by decide +kernel
theorem dX0_kept_50 : decode cX0_kept 50 = .ok (.ifCond .ne 13, 3) := by decide +kernel
theorem dX0_kept_53 : decode cX0_kept 53 = .ok (.aload 4, 2) := by decide +kernel
theorem dX0_kept_55 : decode cX0_kept 55 = .ok (.getfield 451, 3) := by decide +kernel
theorem dX0_kept_58 : decode cX0_kept 58 = .ok (.iload_n 2, 1) := by decide +kernel
theorem dX0_kept_59 : decode cX0_kept 59 = .ok (.iaload, 1) := by decide +kernel
theorem dX0_kept_60 : decode cX0_kept 60 = .ok (.goto 19, 3) := by decide +kernel
theorem dX0_kept_63 : decode cX0_kept 63 = .ok (.iload_n 3, 1) := by decide +kernel
theorem dX0_kept_64 : decode cX0_kept 64 = .ok (.iconst 1, 1) := by decide +kernel
theorem dX0_kept_65 : decode cX0_kept 65 = .ok (.if_icmp .ne 13, 3) := by decide +kernel
theorem dX0_kept_68 : decode cX0_kept 68 = .ok (.aload 4, 2) := by decide +kernel
theorem dX0_kept_70 : decode cX0_kept 70 = .ok (.getfield 454, 3) := by decide +kernel
theorem dX0_kept_73 : decode cX0_kept 73 = .ok (.iload_n 2, 1) := by decide +kernel
theorem dX0_kept_74 : decode cX0_kept 74 = .ok (.iaload, 1) := by decide +kernel
theorem dX0_kept_75 : decode cX0_kept 75 = .ok (.goto 4, 3) := by decide +kernel
theorem dX0_kept_78 : decode cX0_kept 78 = .ok (.iconst (-1), 1) := by decide +kernel
theorem dX0_kept_79 : decode cX0_kept 79 = .ok (.ireturn, 1) := by decide +kernel
theorem dX0_joined_0 : decode cX0_joined 0 = .ok (.aload_n 0, 1) := by decide +kernel
theorem dX0_joined_1 : decode cX0_joined 1 = .ok (.getfield 33, 3) := by decide +kernel
theorem dX0_joined_4 : decode cX0_joined 4 = .ok (.iload_n 1, 1) := by decide +kernel
theorem dX0_joined_5 : decode cX0_joined 5 = .ok (.invokestatic 277, 3) := by decide +kernel
theorem dX0_joined_8 : decode cX0_joined 8 = .ok (.ifCond .eq 7, 3) := by decide +kernel
theorem dX0_joined_11 : decode cX0_joined 11 = .ok (.iload_n 2, 1) := by decide +kernel
theorem dX0_joined_12 : decode cX0_joined 12 = .ok (.ifCond .ge 5, 3) := by decide +kernel
theorem dX0_joined_15 : decode cX0_joined 15 = .ok (.iconst (-1), 1) := by decide +kernel
theorem dX0_joined_16 : decode cX0_joined 16 = .ok (.ireturn, 1) := by decide +kernel
theorem dX0_joined_17 : decode cX0_joined 17 = .ok (.iconst 0, 1) := by decide +kernel
theorem dX0_joined_18 : decode cX0_joined 18 = .ok (.istore_n 3, 1) := by decide +kernel
theorem dX0_joined_19 : decode cX0_joined 19 = .ok (.iconst 0, 1) := by decide +kernel
theorem dX0_joined_20 : decode cX0_joined 20 = .ok (.istore 4, 2) := by decide +kernel
theorem dX0_joined_22 : decode cX0_joined 22 = .ok (.iload 4, 2) := by decide +kernel
theorem dX0_joined_24 : decode cX0_joined 24 = .ok (.aload_n 0, 1) := by decide +kernel
theorem dX0_joined_25 : decode cX0_joined 25 = .ok (.getfield 33, 3) := by decide +kernel
theorem dX0_joined_28 : decode cX0_joined 28 = .ok (.invokevirtual 13, 3) := by decide +kernel
theorem dX0_joined_31 : decode cX0_joined 31 = .ok (.if_icmp .ge 67, 3) := by decide +kernel
theorem dX0_joined_34 : decode cX0_joined 34 = .ok (.aload_n 0, 1) := by decide +kernel
theorem dX0_joined_35 : decode cX0_joined 35 = .ok (.getfield 33, 3) := by decide +kernel
theorem dX0_joined_38 : decode cX0_joined 38 = .ok (.iload 4, 2) := by decide +kernel
theorem dX0_joined_40 : decode cX0_joined 40 = .ok (.invokevirtual 48, 3) := by decide +kernel
theorem dX0_joined_43 : decode cX0_joined 43 = .ok (.checkcast 31, 3) := by decide +kernel
theorem dX0_joined_46 : decode cX0_joined 46 = .ok (.getfield 457, 3) := by decide +kernel
theorem dX0_joined_49 : decode cX0_joined 49 = .ok (.aload_n 0, 1) := by decide +kernel
theorem dX0_joined_50 : decode cX0_joined 50 = .ok (.getfield 33, 3) := by decide +kernel
theorem dX0_joined_53 : decode cX0_joined 53 = .ok (.iload_n 1, 1) := by decide +kernel
theorem dX0_joined_54 : decode cX0_joined 54 = .ok (.invokevirtual 48, 3) := by decide +kernel
theorem dX0_joined_57 : decode cX0_joined 57 = .ok (.if_acmp .ne 35, 3) := by decide +kernel
theorem dX0_joined_60 : decode cX0_joined 60 = .ok (.aload_n 0, 1) := by decide +kernel
theorem dX0_joined_61 : decode cX0_joined 61 = .ok (.getfield 33, 3) := by decide +kernel
theorem dX0_joined_64 : decode cX0_joined 64 = .ok (.iload 4, 2) := by decide +kernel
theorem dX0_joined_66 : decode cX0_joined 66 = .ok (.invokevirtual 48, 3) := by decide +kernel
theorem dX0_joined_69 : decode cX0_joined 69 = .ok (.checkcast 31, 3) := by decide +kernel
theorem dX0_joined_72 : decode cX0_joined 72 = .ok (.invokevirtual 157, 3) := by decide +kernel
theorem dX0_joined_75 : decode cX0_joined 75 = .ok (.ifCond .ne 6, 3) := by decide +kernel
theorem dX0_joined_78 : decode cX0_joined 78 = .ok (.goto 14, 3) := by decide +kernel
theorem dX0_joined_81 : decode cX0_joined 81 = .ok (.iload_n 3, 1) := by decide +kernel
theorem dX0_joined_82 : decode cX0_joined 82 = .ok (.iload_n 2, 1) := by decide +kernel
theorem dX0_joined_83 : decode cX0_joined 83 = .ok (.if_icmp .ne 6, 3) := by decide +kernel
theorem dX0_joined_86 : decode cX0_joined 86 = .ok (.iload 4, 2) := by decide +kernel
theorem dX0_joined_88 : decode cX0_joined 88 = .ok (.ireturn, 1) := by decide +kernel
theorem dX0_joined_89 : decode cX0_joined 89 = .ok (.iinc 3 1, 3) := by decide +kernel
theorem dX0_joined_92 : decode cX0_joined 92 = .ok (.iinc 4 1, 3) := by decide +kernel
theorem dX0_joined_95 : decode cX0_joined 95 = .ok (.goto (-73), 3) := by decide +kernel
theorem dX0_joined_98 : decode cX0_joined 98 = .ok (.iconst (-1), 1) := by decide +kernel
theorem dX0_joined_99 : decode cX0_joined 99 = .ok (.ireturn, 1) := by decide +kernel
theorem dX0_level_0 : decode cX0_level 0 = .ok (.aload_n 0, 1) := by decide +kernel
theorem dX0_level_1 : decode cX0_level 1 = .ok (.getfield 45, 3) := by decide +kernel
theorem dX0_level_4 : decode cX0_level 4 = .ok (.iload_n 1, 1) := by decide +kernel
theorem dX0_level_5 : decode cX0_level 5 = .ok (.invokestatic 277, 3) := by decide +kernel
theorem dX0_level_8 : decode cX0_level 8 = .ok (.ifCond .eq 20, 3) := by decide +kernel
theorem dX0_level_11 : decode cX0_level 11 = .ok (.aload_n 0, 1) := by decide +kernel
theorem dX0_level_12 : decode cX0_level 12 = .ok (.getfield 45, 3) := by decide +kernel
theorem dX0_level_15 : decode cX0_level 15 = .ok (.iload_n 1, 1) := by decide +kernel
theorem dX0_level_16 : decode cX0_level 16 = .ok (.invokevirtual 48, 3) := by decide +kernel
theorem dX0_level_19 : decode cX0_level 19 = .ok (.checkcast 52, 3) := by decide +kernel
theorem dX0_level_22 : decode cX0_level 22 = .ok (.getfield 183, 3) := by decide +kernel
theorem dX0_level_25 : decode cX0_level 25 = .ok (.goto 4, 3) := by decide +kernel
theorem dX0_level_28 : decode cX0_level 28 = .ok (.iconst (-1), 1) := by decide +kernel
theorem dX0_level_29 : decode cX0_level 29 = .ok (.ireturn, 1) := by decide +kernel
theorem dX0_effect_0 : decode cX0_effect 0 = .ok (.aload_n 0, 1) := by decide +kernel
theorem dX0_effect_1 : decode cX0_effect 1 = .ok (.getfield 207, 3) := by decide +kernel
theorem dX0_effect_4 : decode cX0_effect 4 = .ok (.iload_n 1, 1) := by decide +kernel
theorem dX0_effect_5 : decode cX0_effect 5 = .ok (.invokestatic 277, 3) := by decide +kernel
theorem dX0_effect_8 : decode cX0_effect 8 = .ok (.ifCond .ne 5, 3) := by decide +kernel
theorem dX0_effect_11 : decode cX0_effect 11 = .ok (.iconst (-1), 1) := by decide +kernel
theorem dX0_effect_12 : decode cX0_effect 12 = .ok (.ireturn, 1) := by decide +kernel
theorem dX0_effect_13 : decode cX0_effect 13 = .ok (.aload_n 0, 1) := by decide +kernel
theorem dX0_effect_14 : decode cX0_effect 14 = .ok (.getfield 207, 3) := by decide +kernel
theorem dX0_effect_17 : decode cX0_effect 17 = .ok (.iload_n 1, 1) := by decide +kernel
theorem dX0_effect_18 : decode cX0_effect 18 = .ok (.invokevirtual 48, 3) := by decide +kernel
theorem dX0_effect_21 : decode cX0_effect 21 = .ok (.checkcast 187, 3) := by decide +kernel
theorem dX0_effect_24 : decode cX0_effect 24 = .ok (.astore_n 3, 1) := by decide +kernel
theorem dX0_effect_25 : decode cX0_effect 25 = .ok (.iload_n 2, 1) := by decide +kernel
theorem dX0_effect_26 : decode cX0_effect 26 = .ok (.tableswitch 59 0 4 #[34, 39, 44, 49, 54], 34) := by decide +kernel
theorem dX0_effect_60 : decode cX0_effect 60 = .ok (.aload_n 3, 1) := by decide +kernel
theorem dX0_effect_61 : decode cX0_effect 61 = .ok (.getfield 210, 3) := by decide +kernel
theorem dX0_effect_64 : decode cX0_effect 64 = .ok (.ireturn, 1) := by decide +kernel
theorem dX0_effect_65 : decode cX0_effect 65 = .ok (.aload_n 3, 1) := by decide +kernel
theorem dX0_effect_66 : decode cX0_effect 66 = .ok (.getfield 460, 3) := by decide +kernel
theorem dX0_effect_69 : decode cX0_effect 69 = .ok (.ireturn, 1) := by decide +kernel
theorem dX0_effect_70 : decode cX0_effect 70 = .ok (.aload_n 3, 1) := by decide +kernel
theorem dX0_effect_71 : decode cX0_effect 71 = .ok (.getfield 211, 3) := by decide +kernel
theorem dX0_effect_74 : decode cX0_effect 74 = .ok (.ireturn, 1) := by decide +kernel
theorem dX0_effect_75 : decode cX0_effect 75 = .ok (.aload_n 3, 1) := by decide +kernel
theorem dX0_effect_76 : decode cX0_effect 76 = .ok (.getfield 186, 3) := by decide +kernel
theorem dX0_effect_79 : decode cX0_effect 79 = .ok (.ireturn, 1) := by decide +kernel
theorem dX0_effect_80 : decode cX0_effect 80 = .ok (.aload_n 3, 1) := by decide +kernel
theorem dX0_effect_81 : decode cX0_effect 81 = .ok (.getfield 462, 3) := by decide +kernel
theorem dX0_effect_84 : decode cX0_effect 84 = .ok (.ireturn, 1) := by decide +kernel
theorem dX0_effect_85 : decode cX0_effect 85 = .ok (.iconst (-1), 1) := by decide +kernel
theorem dX0_effect_86 : decode cX0_effect 86 = .ok (.ireturn, 1) := by decide +kernel
theorem dX0_isOf_0 : decode cX0_isOf 0 = .ok (.iload_n 1, 1) := by decide +kernel
theorem dX0_isOf_1 : decode cX0_isOf 1 = .ok (.iconst 0, 1) := by decide +kernel
theorem dX0_isOf_2 : decode cX0_isOf 2 = .ok (.bipush 15, 2) := by decide +kernel
theorem dX0_isOf_4 : decode cX0_isOf 4 = .ok (.invokestatic 270, 3) := by decide +kernel
theorem dX0_isOf_7 : decode cX0_isOf 7 = .ok (.ifCond .eq 13, 3) := by decide +kernel
theorem dX0_isOf_10 : decode cX0_isOf 10 = .ok (.iload_n 2, 1) := by decide +kernel
theorem dX0_isOf_11 : decode cX0_isOf 11 = .ok (.iconst 0, 1) := by decide +kernel
theorem dX0_isOf_12 : decode cX0_isOf 12 = .ok (.bipush 15, 2) := by decide +kernel
theorem dX0_isOf_14 : decode cX0_isOf 14 = .ok (.invokestatic 270, 3) := by decide +kernel
theorem dX0_isOf_17 : decode cX0_isOf 17 = .ok (.ifCond .ne 7, 3) := by decide +kernel
theorem dX0_isOf_20 : decode cX0_isOf 20 = .ok (.iconst (-1), 1) := by decide +kernel
theorem dX0_isOf_21 : decode cX0_isOf 21 = .ok (.goto 16, 3) := by decide +kernel
theorem dX0_isOf_24 : decode cX0_isOf 24 = .ok (.iload_n 1, 1) := by decide +kernel
theorem dX0_isOf_25 : decode cX0_isOf 25 = .ok (.iload_n 2, 1) := by decide +kernel
theorem dX0_isOf_26 : decode cX0_isOf 26 = .ok (.invokestatic 463, 3) := by decide +kernel
theorem dX0_isOf_29 : decode cX0_isOf 29 = .ok (.ifCond .eq 7, 3) := by decide +kernel
theorem dX0_isOf_32 : decode cX0_isOf 32 = .ok (.iconst 1, 1) := by decide +kernel
theorem dX0_isOf_33 : decode cX0_isOf 33 = .ok (.goto 4, 3) := by decide +kernel
theorem dX0_isOf_36 : decode cX0_isOf 36 = .ok (.iconst 0, 1) := by decide +kernel
theorem dX0_isOf_37 : decode cX0_isOf 37 = .ok (.ireturn, 1) := by decide +kernel
theorem dX0_count_0 : decode cX0_count 0 = .ok (.iconst 0, 1) := by decide +kernel
theorem dX0_count_1 : decode cX0_count 1 = .ok (.istore_n 2, 1) := by decide +kernel
theorem dX0_count_2 : decode cX0_count 2 = .ok (.iload_n 1, 1) := by decide +kernel
theorem dX0_count_3 : decode cX0_count 3 = .ok (.tableswitch 307 0 14 #[73, 81, 89, 97, 105, 113, 121, 129, 137, 145, 145, 209, 250, 258, 266], 73) := by decide +kernel
theorem dX0_count_76 : decode cX0_count 76 = .ok (.aload_n 0, 1) := by decide +kernel
theorem dX0_count_77 : decode cX0_count 77 = .ok (.getfield 45, 3) := by decide +kernel
theorem dX0_count_80 : decode cX0_count 80 = .ok (.invokevirtual 13, 3) := by decide +kernel
theorem dX0_count_83 : decode cX0_count 83 = .ok (.ireturn, 1) := by decide +kernel
theorem dX0_count_84 : decode cX0_count 84 = .ok (.aload_n 0, 1) := by decide +kernel
theorem dX0_count_85 : decode cX0_count 85 = .ok (.getfield 169, 3) := by decide +kernel
theorem dX0_count_88 : decode cX0_count 88 = .ok (.invokevirtual 13, 3) := by decide +kernel
theorem dX0_count_91 : decode cX0_count 91 = .ok (.ireturn, 1) := by decide +kernel
theorem dX0_count_92 : decode cX0_count 92 = .ok (.aload_n 0, 1) := by decide +kernel
theorem dX0_count_93 : decode cX0_count 93 = .ok (.getfield 60, 3) := by decide +kernel
theorem dX0_count_96 : decode cX0_count 96 = .ok (.invokevirtual 13, 3) := by decide +kernel
theorem dX0_count_99 : decode cX0_count 99 = .ok (.ireturn, 1) := by decide +kernel
theorem dX0_count_100 : decode cX0_count 100 = .ok (.aload_n 0, 1) := by decide +kernel
theorem dX0_count_101 : decode cX0_count 101 = .ok (.getfield 223, 3) := by decide +kernel
theorem dX0_count_104 : decode cX0_count 104 = .ok (.invokevirtual 13, 3) := by decide +kernel
theorem dX0_count_107 : decode cX0_count 107 = .ok (.ireturn, 1) := by decide +kernel
theorem dX0_count_108 : decode cX0_count 108 = .ok (.aload_n 0, 1) := by decide +kernel
theorem dX0_count_109 : decode cX0_count 109 = .ok (.getfield 263, 3) := by decide +kernel
theorem dX0_count_112 : decode cX0_count 112 = .ok (.invokevirtual 13, 3) := by decide +kernel
theorem dX0_count_115 : decode cX0_count 115 = .ok (.ireturn, 1) := by decide +kernel
theorem dX0_count_116 : decode cX0_count 116 = .ok (.aload_n 0, 1) := by decide +kernel
theorem dX0_count_117 : decode cX0_count 117 = .ok (.getfield 266, 3) := by decide +kernel
theorem dX0_count_120 : decode cX0_count 120 = .ok (.invokevirtual 13, 3) := by decide +kernel
theorem dX0_count_123 : decode cX0_count 123 = .ok (.ireturn, 1) := by decide +kernel
theorem dX0_count_124 : decode cX0_count 124 = .ok (.aload_n 0, 1) := by decide +kernel
theorem dX0_count_125 : decode cX0_count 125 = .ok (.getfield 33, 3) := by decide +kernel
theorem dX0_count_128 : decode cX0_count 128 = .ok (.invokevirtual 13, 3) := by decide +kernel
theorem dX0_count_131 : decode cX0_count 131 = .ok (.ireturn, 1) := by decide +kernel
theorem dX0_count_132 : decode cX0_count 132 = .ok (.aload_n 0, 1) := by decide +kernel
theorem dX0_count_133 : decode cX0_count 133 = .ok (.getfield 9, 3) := by decide +kernel
theorem dX0_count_136 : decode cX0_count 136 = .ok (.invokevirtual 13, 3) := by decide +kernel
theorem dX0_count_139 : decode cX0_count 139 = .ok (.ireturn, 1) := by decide +kernel
theorem dX0_count_140 : decode cX0_count 140 = .ok (.aload_n 0, 1) := by decide +kernel
theorem dX0_count_141 : decode cX0_count 141 = .ok (.getfield 207, 3) := by decide +kernel
theorem dX0_count_144 : decode cX0_count 144 = .ok (.invokevirtual 13, 3) := by decide +kernel
theorem dX0_count_147 : decode cX0_count 147 = .ok (.ireturn, 1) := by decide +kernel
theorem dX0_count_148 : decode cX0_count 148 = .ok (.iconst 0, 1) := by decide +kernel
theorem dX0_count_149 : decode cX0_count 149 = .ok (.istore_n 3, 1) := by decide +kernel
theorem dX0_count_150 : decode cX0_count 150 = .ok (.iload_n 3, 1) := by decide +kernel
theorem dX0_count_151 : decode cX0_count 151 = .ok (.aload_n 0, 1) := by decide +kernel
theorem dX0_count_152 : decode cX0_count 152 = .ok (.getfield 33, 3) := by decide +kernel
theorem dX0_count_155 : decode cX0_count 155 = .ok (.invokevirtual 13, 3) := by decide +kernel
theorem dX0_count_158 : decode cX0_count 158 = .ok (.if_icmp .ge 52, 3) := by decide +kernel
theorem dX0_count_161 : decode cX0_count 161 = .ok (.aload_n 0, 1) := by decide +kernel
theorem dX0_count_162 : decode cX0_count 162 = .ok (.getfield 33, 3) := by decide +kernel
theorem dX0_count_165 : decode cX0_count 165 = .ok (.iload_n 3, 1) := by decide +kernel
theorem dX0_count_166 : decode cX0_count 166 = .ok (.invokevirtual 48, 3) := by decide +kernel
theorem dX0_count_169 : decode cX0_count 169 = .ok (.checkcast 31, 3) := by decide +kernel
theorem dX0_count_172 : decode cX0_count 172 = .ok (.invokevirtual 157, 3) := by decide +kernel
theorem dX0_count_175 : decode cX0_count 175 = .ok (.ifCond .eq 29, 3) := by decide +kernel
theorem dX0_count_178 : decode cX0_count 178 = .ok (.iload_n 1, 1) := by decide +kernel
theorem dX0_count_179 : decode cX0_count 179 = .ok (.bipush 9, 2) := by decide +kernel
theorem dX0_count_181 : decode cX0_count 181 = .ok (.if_icmp .eq 20, 3) := by decide +kernel
theorem dX0_count_184 : decode cX0_count 184 = .ok (.aload_n 0, 1) := by decide +kernel
theorem dX0_count_185 : decode cX0_count 185 = .ok (.getfield 33, 3) := by decide +kernel
theorem dX0_count_188 : decode cX0_count 188 = .ok (.iload_n 3, 1) := by decide +kernel
theorem dX0_count_189 : decode cX0_count 189 = .ok (.invokevirtual 48, 3) := by decide +kernel
theorem dX0_count_192 : decode cX0_count 192 = .ok (.checkcast 31, 3) := by decide +kernel
theorem dX0_count_195 : decode cX0_count 195 = .ok (.getfield 92, 3) := by decide +kernel
theorem dX0_count_198 : decode cX0_count 198 = .ok (.ifnonnull 6, 3) := by decide +kernel
theorem dX0_count_201 : decode cX0_count 201 = .ok (.iinc 2 1, 3) := by decide +kernel
theorem dX0_count_204 : decode cX0_count 204 = .ok (.iinc 3 1, 3) := by decide +kernel
theorem dX0_count_207 : decode cX0_count 207 = .ok (.goto (-57), 3) := by decide +kernel
theorem dX0_count_210 : decode cX0_count 210 = .ok (.iload_n 2, 1) := by decide +kernel
theorem dX0_count_211 : decode cX0_count 211 = .ok (.ireturn, 1) := by decide +kernel
theorem dX0_count_212 : decode cX0_count 212 = .ok (.iconst 0, 1) := by decide +kernel
theorem dX0_count_213 : decode cX0_count 213 = .ok (.istore_n 3, 1) := by decide +kernel
theorem dX0_count_214 : decode cX0_count 214 = .ok (.iload_n 3, 1) := by decide +kernel
theorem dX0_count_215 : decode cX0_count 215 = .ok (.aload_n 0, 1) := by decide +kernel
theorem dX0_count_216 : decode cX0_count 216 = .ok (.getfield 266, 3) := by decide +kernel
theorem dX0_count_219 : decode cX0_count 219 = .ok (.invokevirtual 13, 3) := by decide +kernel
theorem dX0_count_222 : decode cX0_count 222 = .ok (.if_icmp .ge 29, 3) := by decide +kernel
theorem dX0_count_225 : decode cX0_count 225 = .ok (.aload_n 0, 1) := by decide +kernel
theorem dX0_count_226 : decode cX0_count 226 = .ok (.getfield 266, 3) := by decide +kernel
theorem dX0_count_229 : decode cX0_count 229 = .ok (.iload_n 3, 1) := by decide +kernel
theorem dX0_count_230 : decode cX0_count 230 = .ok (.invokevirtual 48, 3) := by decide +kernel
theorem dX0_count_233 : decode cX0_count 233 = .ok (.checkcast 66, 3) := by decide +kernel
theorem dX0_count_236 : decode cX0_count 236 = .ok (.invokevirtual 345, 3) := by decide +kernel
theorem dX0_count_239 : decode cX0_count 239 = .ok (.ifCond .ne 6, 3) := by decide +kernel
theorem dX0_count_242 : decode cX0_count 242 = .ok (.iinc 2 1, 3) := by decide +kernel
theorem dX0_count_245 : decode cX0_count 245 = .ok (.iinc 3 1, 3) := by decide +kernel
theorem dX0_count_248 : decode cX0_count 248 = .ok (.goto (-34), 3) := by decide +kernel
theorem dX0_count_251 : decode cX0_count 251 = .ok (.iload_n 2, 1) := by decide +kernel
theorem dX0_count_252 : decode cX0_count 252 = .ok (.ireturn, 1) := by decide +kernel
theorem dX0_count_253 : decode cX0_count 253 = .ok (.aload_n 0, 1) := by decide +kernel
theorem dX0_count_254 : decode cX0_count 254 = .ok (.getfield 260, 3) := by decide +kernel
theorem dX0_count_257 : decode cX0_count 257 = .ok (.invokevirtual 13, 3) := by decide +kernel
theorem dX0_count_260 : decode cX0_count 260 = .ok (.ireturn, 1) := by decide +kernel
theorem dX0_count_261 : decode cX0_count 261 = .ok (.aload_n 0, 1) := by decide +kernel
theorem dX0_count_262 : decode cX0_count 262 = .ok (.getfield 241, 3) := by decide +kernel
theorem dX0_count_265 : decode cX0_count 265 = .ok (.invokevirtual 13, 3) := by decide +kernel
theorem dX0_count_268 : decode cX0_count 268 = .ok (.ireturn, 1) := by decide +kernel
theorem dX0_count_269 : decode cX0_count 269 = .ok (.iconst 0, 1) := by decide +kernel
theorem dX0_count_270 : decode cX0_count 270 = .ok (.istore_n 3, 1) := by decide +kernel
theorem dX0_count_271 : decode cX0_count 271 = .ok (.iload_n 3, 1) := by decide +kernel
theorem dX0_count_272 : decode cX0_count 272 = .ok (.aload_n 0, 1) := by decide +kernel
theorem dX0_count_273 : decode cX0_count 273 = .ok (.getfield 249, 3) := by decide +kernel
theorem dX0_count_276 : decode cX0_count 276 = .ok (.invokevirtual 13, 3) := by decide +kernel
theorem dX0_count_279 : decode cX0_count 279 = .ok (.if_icmp .ge 29, 3) := by decide +kernel
theorem dX0_count_282 : decode cX0_count 282 = .ok (.aload_n 0, 1) := by decide +kernel
theorem dX0_count_283 : decode cX0_count 283 = .ok (.getfield 249, 3) := by decide +kernel
theorem dX0_count_286 : decode cX0_count 286 = .ok (.iload_n 3, 1) := by decide +kernel
theorem dX0_count_287 : decode cX0_count 287 = .ok (.invokevirtual 48, 3) := by decide +kernel
theorem dX0_count_290 : decode cX0_count 290 = .ok (.checkcast 252, 3) := by decide +kernel
theorem dX0_count_293 : decode cX0_count 293 = .ok (.getfield 401, 3) := by decide +kernel
theorem dX0_count_296 : decode cX0_count 296 = .ok (.ifCond .eq 6, 3) := by decide +kernel
theorem dX0_count_299 : decode cX0_count 299 = .ok (.iinc 2 1, 3) := by decide +kernel
theorem dX0_count_302 : decode cX0_count 302 = .ok (.iinc 3 1, 3) := by decide +kernel
theorem dX0_count_305 : decode cX0_count 305 = .ok (.goto (-34), 3) := by decide +kernel
theorem dX0_count_308 : decode cX0_count 308 = .ok (.iload_n 2, 1) := by decide +kernel
theorem dX0_count_309 : decode cX0_count 309 = .ok (.ireturn, 1) := by decide +kernel
theorem dX0_count_310 : decode cX0_count 310 = .ok (.iconst (-1), 1) := by decide +kernel
theorem dX0_count_311 : decode cX0_count 311 = .ok (.ireturn, 1) := by decide +kernel
