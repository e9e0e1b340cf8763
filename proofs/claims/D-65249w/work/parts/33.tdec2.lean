set_option maxRecDepth 100000
theorem dX1_told_205 : decode cX1_told 205 = .ok (.aload_n 0, 1) := by decide +kernel
theorem dX1_told_206 : decode cX1_told 206 = .ok (.getfield 149, 3) := by decide +kernel
theorem dX1_told_209 : decode cX1_told 209 = .ok (.iload 4, 2) := by decide +kernel
theorem dX1_told_211 : decode cX1_told 211 = .ok (.aload_n 0, 1) := by decide +kernel
theorem dX1_told_212 : decode cX1_told 212 = .ok (.getfield 225, 3) := by decide +kernel
theorem dX1_told_215 : decode cX1_told 215 = .ok (.iload_n 2, 1) := by decide +kernel
theorem dX1_told_216 : decode cX1_told 216 = .ok (.baload, 1) := by decide +kernel
theorem dX1_told_217 : decode cX1_told 217 = .ok (.bastore, 1) := by decide +kernel
theorem dX1_told_218 : decode cX1_told 218 = .ok (.aload_n 0, 1) := by decide +kernel
theorem dX1_told_219 : decode cX1_told 219 = .ok (.iload_n 1, 1) := by decide +kernel
theorem dX1_told_220 : decode cX1_told 220 = .ok (.iload_n 2, 1) := by decide +kernel
theorem dX1_told_221 : decode cX1_told 221 = .ok (.invokevirtual 422, 3) := by decide +kernel
theorem dX1_told_224 : decode cX1_told 224 = .ok (.goto 85, 3) := by decide +kernel
theorem dX1_told_227 : decode cX1_told 227 = .ok (.aload_n 0, 1) := by decide +kernel
theorem dX1_told_228 : decode cX1_told 228 = .ok (.iconst 3, 1) := by decide +kernel
theorem dX1_told_229 : decode cX1_told 229 = .ok (.iload_n 1, 1) := by decide +kernel
theorem dX1_told_230 : decode cX1_told 230 = .ok (.iconst (-1), 1) := by decide +kernel
theorem dX1_told_231 : decode cX1_told 231 = .ok (.iconst 0, 1) := by decide +kernel
theorem dX1_told_232 : decode cX1_told 232 = .ok (.iconst 0, 1) := by decide +kernel
theorem dX1_told_233 : decode cX1_told 233 = .ok (.invokevirtual 397, 3) := by decide +kernel
theorem dX1_told_236 : decode cX1_told 236 = .ok (.aload_n 0, 1) := by decide +kernel
theorem dX1_told_237 : decode cX1_told 237 = .ok (.iload_n 1, 1) := by decide +kernel
theorem dX1_told_238 : decode cX1_told 238 = .ok (.iload_n 2, 1) := by decide +kernel
theorem dX1_told_239 : decode cX1_told 239 = .ok (.invokevirtual 422, 3) := by decide +kernel
theorem dX1_told_242 : decode cX1_told 242 = .ok (.goto 67, 3) := by decide +kernel
theorem dX1_told_245 : decode cX1_told 245 = .ok (.aload_n 0, 1) := by decide +kernel
theorem dX1_told_246 : decode cX1_told 246 = .ok (.iload_n 2, 1) := by decide +kernel
theorem dX1_told_247 : decode cX1_told 247 = .ok (.iload_n 3, 1) := by decide +kernel
theorem dX1_told_248 : decode cX1_told 248 = .ok (.invokevirtual 434, 3) := by decide +kernel
theorem dX1_told_251 : decode cX1_told 251 = .ok (.ifCond .eq 43, 3) := by decide +kernel
theorem dX1_told_254 : decode cX1_told 254 = .ok (.aload_n 0, 1) := by decide +kernel
theorem dX1_told_255 : decode cX1_told 255 = .ok (.aload_n 0, 1) := by decide +kernel
theorem dX1_told_256 : decode cX1_told 256 = .ok (.getfield 110, 3) := by decide +kernel
theorem dX1_told_259 : decode cX1_told 259 = .ok (.iload_n 3, 1) := by decide +kernel
theorem dX1_told_260 : decode cX1_told 260 = .ok (.iaload, 1) := by decide +kernel
theorem dX1_told_261 : decode cX1_told 261 = .ok (.iload_n 3, 1) := by decide +kernel
theorem dX1_told_262 : decode cX1_told 262 = .ok (.iconst (-1), 1) := by decide +kernel
theorem dX1_told_263 : decode cX1_told 263 = .ok (.invokevirtual 411, 3) := by decide +kernel
theorem dX1_told_266 : decode cX1_told 266 = .ok (.istore 4, 2) := by decide +kernel
theorem dX1_told_268 : decode cX1_told 268 = .ok (.aload_n 0, 1) := by decide +kernel
theorem dX1_told_269 : decode cX1_told 269 = .ok (.getfield 95, 3) := by decide +kernel
theorem dX1_told_272 : decode cX1_told 272 = .ok (.iload 4, 2) := by decide +kernel
theorem dX1_told_274 : decode cX1_told 274 = .ok (.aload_n 0, 1) := by decide +kernel
theorem dX1_told_275 : decode cX1_told 275 = .ok (.getfield 222, 3) := by decide +kernel
theorem dX1_told_278 : decode cX1_told 278 = .ok (.iload_n 2, 1) := by decide +kernel
theorem dX1_told_279 : decode cX1_told 279 = .ok (.iaload, 1) := by decide +kernel
theorem dX1_told_280 : decode cX1_told 280 = .ok (.iastore, 1) := by decide +kernel
theorem dX1_told_281 : decode cX1_told 281 = .ok (.aload_n 0, 1) := by decide +kernel
theorem dX1_told_282 : decode cX1_told 282 = .ok (.iconst 1, 1) := by decide +kernel
theorem dX1_told_283 : decode cX1_told 283 = .ok (.iload_n 1, 1) := by decide +kernel
theorem dX1_told_284 : decode cX1_told 284 = .ok (.iconst 2, 1) := by decide +kernel
theorem dX1_told_285 : decode cX1_told 285 = .ok (.iload 4, 2) := by decide +kernel
theorem dX1_told_287 : decode cX1_told 287 = .ok (.iconst 0, 1) := by decide +kernel
theorem dX1_told_288 : decode cX1_told 288 = .ok (.invokevirtual 397, 3) := by decide +kernel
theorem dX1_told_291 : decode cX1_told 291 = .ok (.goto 18, 3) := by decide +kernel
theorem dX1_told_294 : decode cX1_told 294 = .ok (.aload_n 0, 1) := by decide +kernel
theorem dX1_told_295 : decode cX1_told 295 = .ok (.iload_n 1, 1) := by decide +kernel
theorem dX1_told_296 : decode cX1_told 296 = .ok (.iload_n 2, 1) := by decide +kernel
theorem dX1_told_297 : decode cX1_told 297 = .ok (.invokevirtual 422, 3) := by decide +kernel
theorem dX1_told_300 : decode cX1_told 300 = .ok (.goto 9, 3) := by decide +kernel
theorem dX1_told_303 : decode cX1_told 303 = .ok (.aload_n 0, 1) := by decide +kernel
theorem dX1_told_304 : decode cX1_told 304 = .ok (.iload_n 1, 1) := by decide +kernel
theorem dX1_told_305 : decode cX1_told 305 = .ok (.iload_n 2, 1) := by decide +kernel
theorem dX1_told_306 : decode cX1_told 306 = .ok (.invokevirtual 422, 3) := by decide +kernel
theorem dX1_told_309 : decode cX1_told 309 = .ok (.return_, 1) := by decide +kernel
theorem dX1_fuseTold_0 : decode cX1_fuseTold 0 = .ok (.aload_n 0, 1) := by decide +kernel
theorem dX1_fuseTold_1 : decode cX1_fuseTold 1 = .ok (.iload_n 2, 1) := by decide +kernel
theorem dX1_fuseTold_2 : decode cX1_fuseTold 2 = .ok (.iload_n 3, 1) := by decide +kernel
theorem dX1_fuseTold_3 : decode cX1_fuseTold 3 = .ok (.invokevirtual 434, 3) := by decide +kernel
theorem dX1_fuseTold_6 : decode cX1_fuseTold 6 = .ok (.istore 4, 2) := by decide +kernel
theorem dX1_fuseTold_8 : decode cX1_fuseTold 8 = .ok (.aload_n 0, 1) := by decide +kernel
theorem dX1_fuseTold_9 : decode cX1_fuseTold 9 = .ok (.getfield 249, 3) := by decide +kernel
theorem dX1_fuseTold_12 : decode cX1_fuseTold 12 = .ok (.iload_n 1, 1) := by decide +kernel
theorem dX1_fuseTold_13 : decode cX1_fuseTold 13 = .ok (.baload, 1) := by decide +kernel
theorem dX1_fuseTold_14 : decode cX1_fuseTold 14 = .ok (.ifCond .eq 44, 3) := by decide +kernel
theorem dX1_fuseTold_17 : decode cX1_fuseTold 17 = .ok (.iload 4, 2) := by decide +kernel
theorem dX1_fuseTold_19 : decode cX1_fuseTold 19 = .ok (.ifCond .eq 22, 3) := by decide +kernel
theorem dX1_fuseTold_22 : decode cX1_fuseTold 22 = .ok (.aload_n 0, 1) := by decide +kernel
theorem dX1_fuseTold_23 : decode cX1_fuseTold 23 = .ok (.iload_n 3, 1) := by decide +kernel
theorem dX1_fuseTold_24 : decode cX1_fuseTold 24 = .ok (.aload_n 0, 1) := by decide +kernel
theorem dX1_fuseTold_25 : decode cX1_fuseTold 25 = .ok (.getfield 7, 3) := by decide +kernel
theorem dX1_fuseTold_28 : decode cX1_fuseTold 28 = .ok (.aload_n 0, 1) := by decide +kernel
theorem dX1_fuseTold_29 : decode cX1_fuseTold 29 = .ok (.getfield 110, 3) := by decide +kernel
theorem dX1_fuseTold_32 : decode cX1_fuseTold 32 = .ok (.iload_n 3, 1) := by decide +kernel
theorem dX1_fuseTold_33 : decode cX1_fuseTold 33 = .ok (.iaload, 1) := by decide +kernel
theorem dX1_fuseTold_34 : decode cX1_fuseTold 34 = .ok (.iadd, 1) := by decide +kernel
theorem dX1_fuseTold_35 : decode cX1_fuseTold 35 = .ok (.invokevirtual 437, 3) := by decide +kernel
theorem dX1_fuseTold_38 : decode cX1_fuseTold 38 = .ok (.goto 88, 3) := by decide +kernel
theorem dX1_fuseTold_41 : decode cX1_fuseTold 41 = .ok (.aload_n 0, 1) := by decide +kernel
theorem dX1_fuseTold_42 : decode cX1_fuseTold 42 = .ok (.getfield 119, 3) := by decide +kernel
theorem dX1_fuseTold_45 : decode cX1_fuseTold 45 = .ok (.iload_n 3, 1) := by decide +kernel
theorem dX1_fuseTold_46 : decode cX1_fuseTold 46 = .ok (.iconst 0, 1) := by decide +kernel
theorem dX1_fuseTold_47 : decode cX1_fuseTold 47 = .ok (.iastore, 1) := by decide +kernel
theorem dX1_fuseTold_48 : decode cX1_fuseTold 48 = .ok (.aload_n 0, 1) := by decide +kernel
theorem dX1_fuseTold_49 : decode cX1_fuseTold 49 = .ok (.getfield 122, 3) := by decide +kernel
theorem dX1_fuseTold_52 : decode cX1_fuseTold 52 = .ok (.iload_n 3, 1) := by decide +kernel
theorem dX1_fuseTold_53 : decode cX1_fuseTold 53 = .ok (.iconst 0, 1) := by decide +kernel
theorem dX1_fuseTold_54 : decode cX1_fuseTold 54 = .ok (.iastore, 1) := by decide +kernel
theorem dX1_fuseTold_55 : decode cX1_fuseTold 55 = .ok (.goto 71, 3) := by decide +kernel
theorem dX1_fuseTold_58 : decode cX1_fuseTold 58 = .ok (.aload_n 0, 1) := by decide +kernel
theorem dX1_fuseTold_59 : decode cX1_fuseTold 59 = .ok (.getfield 119, 3) := by decide +kernel
theorem dX1_fuseTold_62 : decode cX1_fuseTold 62 = .ok (.iload_n 3, 1) := by decide +kernel
theorem dX1_fuseTold_63 : decode cX1_fuseTold 63 = .ok (.iaload, 1) := by decide +kernel
theorem dX1_fuseTold_64 : decode cX1_fuseTold 64 = .ok (.ifCond .ne 62, 3) := by decide +kernel
theorem dX1_fuseTold_67 : decode cX1_fuseTold 67 = .ok (.aload_n 0, 1) := by decide +kernel
theorem dX1_fuseTold_68 : decode cX1_fuseTold 68 = .ok (.getfield 122, 3) := by decide +kernel
theorem dX1_fuseTold_71 : decode cX1_fuseTold 71 = .ok (.iload_n 3, 1) := by decide +kernel
theorem dX1_fuseTold_72 : decode cX1_fuseTold 72 = .ok (.iload 4, 2) := by decide +kernel
theorem dX1_fuseTold_74 : decode cX1_fuseTold 74 = .ok (.ifCond .eq 14, 3) := by decide +kernel
theorem dX1_fuseTold_77 : decode cX1_fuseTold 77 = .ok (.aload_n 0, 1) := by decide +kernel
theorem dX1_fuseTold_78 : decode cX1_fuseTold 78 = .ok (.getfield 122, 3) := by decide +kernel
theorem dX1_fuseTold_81 : decode cX1_fuseTold 81 = .ok (.iload_n 3, 1) := by decide +kernel
theorem dX1_fuseTold_82 : decode cX1_fuseTold 82 = .ok (.iaload, 1) := by decide +kernel
theorem dX1_fuseTold_83 : decode cX1_fuseTold 83 = .ok (.iconst 1, 1) := by decide +kernel
theorem dX1_fuseTold_84 : decode cX1_fuseTold 84 = .ok (.iadd, 1) := by decide +kernel
theorem dX1_fuseTold_85 : decode cX1_fuseTold 85 = .ok (.goto 4, 3) := by decide +kernel
theorem dX1_fuseTold_88 : decode cX1_fuseTold 88 = .ok (.iconst 0, 1) := by decide +kernel
theorem dX1_fuseTold_89 : decode cX1_fuseTold 89 = .ok (.iastore, 1) := by decide +kernel
theorem dX1_fuseTold_90 : decode cX1_fuseTold 90 = .ok (.iload 4, 2) := by decide +kernel
theorem dX1_fuseTold_92 : decode cX1_fuseTold 92 = .ok (.ifCond .eq 34, 3) := by decide +kernel
theorem dX1_fuseTold_95 : decode cX1_fuseTold 95 = .ok (.aload_n 0, 1) := by decide +kernel
theorem dX1_fuseTold_96 : decode cX1_fuseTold 96 = .ok (.getfield 122, 3) := by decide +kernel
theorem dX1_fuseTold_99 : decode cX1_fuseTold 99 = .ok (.iload_n 3, 1) := by decide +kernel
theorem dX1_fuseTold_100 : decode cX1_fuseTold 100 = .ok (.iaload, 1) := by decide +kernel
theorem dX1_fuseTold_101 : decode cX1_fuseTold 101 = .ok (.aload_n 0, 1) := by decide +kernel
theorem dX1_fuseTold_102 : decode cX1_fuseTold 102 = .ok (.getfield 107, 3) := by decide +kernel
theorem dX1_fuseTold_105 : decode cX1_fuseTold 105 = .ok (.iload_n 3, 1) := by decide +kernel
theorem dX1_fuseTold_106 : decode cX1_fuseTold 106 = .ok (.iaload, 1) := by decide +kernel
theorem dX1_fuseTold_107 : decode cX1_fuseTold 107 = .ok (.if_icmp .ne 19, 3) := by decide +kernel
theorem dX1_fuseTold_110 : decode cX1_fuseTold 110 = .ok (.aload_n 0, 1) := by decide +kernel
theorem dX1_fuseTold_111 : decode cX1_fuseTold 111 = .ok (.iload_n 3, 1) := by decide +kernel
theorem dX1_fuseTold_112 : decode cX1_fuseTold 112 = .ok (.aload_n 0, 1) := by decide +kernel
theorem dX1_fuseTold_113 : decode cX1_fuseTold 113 = .ok (.getfield 7, 3) := by decide +kernel
theorem dX1_fuseTold_116 : decode cX1_fuseTold 116 = .ok (.aload_n 0, 1) := by decide +kernel
theorem dX1_fuseTold_117 : decode cX1_fuseTold 117 = .ok (.getfield 110, 3) := by decide +kernel
theorem dX1_fuseTold_120 : decode cX1_fuseTold 120 = .ok (.iload_n 3, 1) := by decide +kernel
theorem dX1_fuseTold_121 : decode cX1_fuseTold 121 = .ok (.iaload, 1) := by decide +kernel
theorem dX1_fuseTold_122 : decode cX1_fuseTold 122 = .ok (.iadd, 1) := by decide +kernel
theorem dX1_fuseTold_123 : decode cX1_fuseTold 123 = .ok (.invokevirtual 437, 3) := by decide +kernel
theorem dX1_fuseTold_126 : decode cX1_fuseTold 126 = .ok (.return_, 1) := by decide +kernel
theorem dX1_isNamed_0 : decode cX1_isNamed 0 = .ok (.aload_n 0, 1) := by decide +kernel
theorem dX1_isNamed_1 : decode cX1_isNamed 1 = .ok (.getfield 219, 3) := by decide +kernel
theorem dX1_isNamed_4 : decode cX1_isNamed 4 = .ok (.iload_n 1, 1) := by decide +kernel
theorem dX1_isNamed_5 : decode cX1_isNamed 5 = .ok (.iaload, 1) := by decide +kernel
theorem dX1_isNamed_6 : decode cX1_isNamed 6 = .ok (.iconst 2, 1) := by decide +kernel
theorem dX1_isNamed_7 : decode cX1_isNamed 7 = .ok (.if_icmp .ne 31, 3) := by decide +kernel
theorem dX1_isNamed_10 : decode cX1_isNamed 10 = .ok (.aload_n 0, 1) := by decide +kernel
theorem dX1_isNamed_11 : decode cX1_isNamed 11 = .ok (.aload_n 0, 1) := by decide +kernel
theorem dX1_isNamed_12 : decode cX1_isNamed 12 = .ok (.getfield 83, 3) := by decide +kernel
theorem dX1_isNamed_15 : decode cX1_isNamed 15 = .ok (.aload_n 0, 1) := by decide +kernel
theorem dX1_isNamed_16 : decode cX1_isNamed 16 = .ok (.getfield 222, 3) := by decide +kernel
theorem dX1_isNamed_19 : decode cX1_isNamed 19 = .ok (.iload_n 1, 1) := by decide +kernel
theorem dX1_isNamed_20 : decode cX1_isNamed 20 = .ok (.iaload, 1) := by decide +kernel
theorem dX1_isNamed_21 : decode cX1_isNamed 21 = .ok (.iaload, 1) := by decide +kernel
theorem dX1_isNamed_22 : decode cX1_isNamed 22 = .ok (.aload_n 0, 1) := by decide +kernel
theorem dX1_isNamed_23 : decode cX1_isNamed 23 = .ok (.getfield 116, 3) := by decide +kernel
theorem dX1_isNamed_26 : decode cX1_isNamed 26 = .ok (.iload_n 2, 1) := by decide +kernel
theorem dX1_isNamed_27 : decode cX1_isNamed 27 = .ok (.iaload, 1) := by decide +kernel
theorem dX1_isNamed_28 : decode cX1_isNamed 28 = .ok (.invokevirtual 354, 3) := by decide +kernel
theorem dX1_isNamed_31 : decode cX1_isNamed 31 = .ok (.ifCond .eq 7, 3) := by decide +kernel
theorem dX1_isNamed_34 : decode cX1_isNamed 34 = .ok (.iconst 1, 1) := by decide +kernel
theorem dX1_isNamed_35 : decode cX1_isNamed 35 = .ok (.goto 4, 3) := by decide +kernel
theorem dX1_isNamed_38 : decode cX1_isNamed 38 = .ok (.iconst 0, 1) := by decide +kernel
theorem dX1_isNamed_39 : decode cX1_isNamed 39 = .ok (.ireturn, 1) := by decide +kernel
theorem dX1_opens_0 : decode cX1_opens 0 = .ok (.aload_n 0, 1) := by decide +kernel
theorem dX1_opens_1 : decode cX1_opens 1 = .ok (.getfield 119, 3) := by decide +kernel
theorem dX1_opens_4 : decode cX1_opens 4 = .ok (.iload_n 1, 1) := by decide +kernel
theorem dX1_opens_5 : decode cX1_opens 5 = .ok (.iconst 1, 1) := by decide +kernel
theorem dX1_opens_6 : decode cX1_opens 6 = .ok (.iastore, 1) := by decide +kernel
theorem dX1_opens_7 : decode cX1_opens 7 = .ok (.aload_n 0, 1) := by decide +kernel
theorem dX1_opens_8 : decode cX1_opens 8 = .ok (.getfield 125, 3) := by decide +kernel
theorem dX1_opens_11 : decode cX1_opens 11 = .ok (.iload_n 1, 1) := by decide +kernel
theorem dX1_opens_12 : decode cX1_opens 12 = .ok (.iload_n 2, 1) := by decide +kernel
theorem dX1_opens_13 : decode cX1_opens 13 = .ok (.iastore, 1) := by decide +kernel
theorem dX1_opens_14 : decode cX1_opens 14 = .ok (.return_, 1) := by decide +kernel
theorem dX1_alike_0 : decode cX1_alike 0 = .ok (.aload_n 0, 1) := by decide +kernel
theorem dX1_alike_1 : decode cX1_alike 1 = .ok (.iconst 1, 1) := by decide +kernel
theorem dX1_alike_2 : decode cX1_alike 2 = .ok (.iload_n 1, 1) := by decide +kernel
theorem dX1_alike_3 : decode cX1_alike 3 = .ok (.aload_n 0, 1) := by decide +kernel
theorem dX1_alike_4 : decode cX1_alike 4 = .ok (.getfield 219, 3) := by decide +kernel
theorem dX1_alike_7 : decode cX1_alike 7 = .ok (.iload_n 2, 1) := by decide +kernel
theorem dX1_alike_8 : decode cX1_alike 8 = .ok (.iaload, 1) := by decide +kernel
theorem dX1_alike_9 : decode cX1_alike 9 = .ok (.aload_n 0, 1) := by decide +kernel
theorem dX1_alike_10 : decode cX1_alike 10 = .ok (.getfield 222, 3) := by decide +kernel
theorem dX1_alike_13 : decode cX1_alike 13 = .ok (.iload_n 2, 1) := by decide +kernel
theorem dX1_alike_14 : decode cX1_alike 14 = .ok (.iaload, 1) := by decide +kernel
theorem dX1_alike_15 : decode cX1_alike 15 = .ok (.aload_n 0, 1) := by decide +kernel
theorem dX1_alike_16 : decode cX1_alike 16 = .ok (.getfield 225, 3) := by decide +kernel
theorem dX1_alike_19 : decode cX1_alike 19 = .ok (.iload_n 2, 1) := by decide +kernel
theorem dX1_alike_20 : decode cX1_alike 20 = .ok (.baload, 1) := by decide +kernel
theorem dX1_alike_21 : decode cX1_alike 21 = .ok (.ifCond .eq 7, 3) := by decide +kernel
theorem dX1_alike_24 : decode cX1_alike 24 = .ok (.iconst 1, 1) := by decide +kernel
theorem dX1_alike_25 : decode cX1_alike 25 = .ok (.goto 4, 3) := by decide +kernel
theorem dX1_alike_28 : decode cX1_alike 28 = .ok (.iconst 0, 1) := by decide +kernel
theorem dX1_alike_29 : decode cX1_alike 29 = .ok (.invokevirtual 397, 3) := by decide +kernel
theorem dX1_alike_32 : decode cX1_alike 32 = .ok (.return_, 1) := by decide +kernel
theorem dX1_retryTold_0 : decode cX1_retryTold 0 = .ok (.aload_n 0, 1) := by decide +kernel
theorem dX1_retryTold_1 : decode cX1_retryTold 1 = .ok (.iload_n 2, 1) := by decide +kernel
theorem dX1_retryTold_2 : decode cX1_retryTold 2 = .ok (.iload_n 3, 1) := by decide +kernel
theorem dX1_retryTold_3 : decode cX1_retryTold 3 = .ok (.invokevirtual 434, 3) := by decide +kernel
theorem dX1_retryTold_6 : decode cX1_retryTold 6 = .ok (.ifCond .eq 71, 3) := by decide +kernel
theorem dX1_retryTold_9 : decode cX1_retryTold 9 = .ok (.aload_n 0, 1) := by decide +kernel
theorem dX1_retryTold_10 : decode cX1_retryTold 10 = .ok (.getfield 231, 3) := by decide +kernel
theorem dX1_retryTold_13 : decode cX1_retryTold 13 = .ok (.iload_n 1, 1) := by decide +kernel
theorem dX1_retryTold_14 : decode cX1_retryTold 14 = .ok (.iaload, 1) := by decide +kernel
theorem dX1_retryTold_15 : decode cX1_retryTold 15 = .ok (.aload_n 0, 1) := by decide +kernel
theorem dX1_retryTold_16 : decode cX1_retryTold 16 = .ok (.getfield 107, 3) := by decide +kernel
theorem dX1_retryTold_19 : decode cX1_retryTold 19 = .ok (.iload_n 3, 1) := by decide +kernel
theorem dX1_retryTold_20 : decode cX1_retryTold 20 = .ok (.iaload, 1) := by decide +kernel
theorem dX1_retryTold_21 : decode cX1_retryTold 21 = .ok (.if_icmp .ge 56, 3) := by decide +kernel
theorem dX1_retryTold_24 : decode cX1_retryTold 24 = .ok (.aload_n 0, 1) := by decide +kernel
theorem dX1_retryTold_25 : decode cX1_retryTold 25 = .ok (.getfield 240, 3) := by decide +kernel
theorem dX1_retryTold_28 : decode cX1_retryTold 28 = .ok (.iload_n 1, 1) := by decide +kernel
theorem dX1_retryTold_29 : decode cX1_retryTold 29 = .ok (.iconst 1, 1) := by decide +kernel
theorem dX1_retryTold_30 : decode cX1_retryTold 30 = .ok (.bastore, 1) := by decide +kernel
theorem dX1_retryTold_31 : decode cX1_retryTold 31 = .ok (.aload_n 0, 1) := by decide +kernel
theorem dX1_retryTold_32 : decode cX1_retryTold 32 = .ok (.getfield 228, 3) := by decide +kernel
theorem dX1_retryTold_35 : decode cX1_retryTold 35 = .ok (.iload_n 1, 1) := by decide +kernel
theorem dX1_retryTold_36 : decode cX1_retryTold 36 = .ok (.aload_n 0, 1) := by decide +kernel
theorem dX1_retryTold_37 : decode cX1_retryTold 37 = .ok (.getfield 7, 3) := by decide +kernel
theorem dX1_retryTold_40 : decode cX1_retryTold 40 = .ok (.aload_n 0, 1) := by decide +kernel
theorem dX1_retryTold_41 : decode cX1_retryTold 41 = .ok (.getfield 113, 3) := by decide +kernel
theorem dX1_retryTold_44 : decode cX1_retryTold 44 = .ok (.iload_n 3, 1) := by decide +kernel
theorem dX1_retryTold_45 : decode cX1_retryTold 45 = .ok (.iaload, 1) := by decide +kernel
theorem dX1_retryTold_46 : decode cX1_retryTold 46 = .ok (.iconst 1, 1) := by decide +kernel
theorem dX1_retryTold_47 : decode cX1_retryTold 47 = .ok (.if_icmp .ne 21, 3) := by decide +kernel
theorem dX1_retryTold_50 : decode cX1_retryTold 50 = .ok (.aload_n 0, 1) := by decide +kernel
theorem dX1_retryTold_51 : decode cX1_retryTold 51 = .ok (.getfield 110, 3) := by decide +kernel
theorem dX1_retryTold_54 : decode cX1_retryTold 54 = .ok (.iload_n 3, 1) := by decide +kernel
theorem dX1_retryTold_55 : decode cX1_retryTold 55 = .ok (.iaload, 1) := by decide +kernel
theorem dX1_retryTold_56 : decode cX1_retryTold 56 = .ok (.aload_n 0, 1) := by decide +kernel
theorem dX1_retryTold_57 : decode cX1_retryTold 57 = .ok (.getfield 231, 3) := by decide +kernel
theorem dX1_retryTold_60 : decode cX1_retryTold 60 = .ok (.iload_n 1, 1) := by decide +kernel
theorem dX1_retryTold_61 : decode cX1_retryTold 61 = .ok (.iaload, 1) := by decide +kernel
theorem dX1_retryTold_62 : decode cX1_retryTold 62 = .ok (.iconst 1, 1) := by decide +kernel
theorem dX1_retryTold_63 : decode cX1_retryTold 63 = .ok (.isub, 1) := by decide +kernel
theorem dX1_retryTold_64 : decode cX1_retryTold 64 = .ok (.ishl, 1) := by decide +kernel
theorem dX1_retryTold_65 : decode cX1_retryTold 65 = .ok (.goto 9, 3) := by decide +kernel
theorem dX1_retryTold_68 : decode cX1_retryTold 68 = .ok (.aload_n 0, 1) := by decide +kernel
theorem dX1_retryTold_69 : decode cX1_retryTold 69 = .ok (.getfield 110, 3) := by decide +kernel
theorem dX1_retryTold_72 : decode cX1_retryTold 72 = .ok (.iload_n 3, 1) := by decide +kernel
theorem dX1_retryTold_73 : decode cX1_retryTold 73 = .ok (.iaload, 1) := by decide +kernel
theorem dX1_retryTold_74 : decode cX1_retryTold 74 = .ok (.iadd, 1) := by decide +kernel
theorem dX1_retryTold_75 : decode cX1_retryTold 75 = .ok (.iastore, 1) := by decide +kernel
theorem dX1_retryTold_76 : decode cX1_retryTold 76 = .ok (.return_, 1) := by decide +kernel
theorem dX1_retryTold_77 : decode cX1_retryTold 77 = .ok (.iconst 0, 1) := by decide +kernel
theorem dX1_retryTold_78 : decode cX1_retryTold 78 = .ok (.istore 4, 2) := by decide +kernel
theorem dX1_retryTold_80 : decode cX1_retryTold 80 = .ok (.iload 4, 2) := by decide +kernel
theorem dX1_retryTold_82 : decode cX1_retryTold 82 = .ok (.aload_n 0, 1) := by decide +kernel
theorem dX1_retryTold_83 : decode cX1_retryTold 83 = .ok (.getfield 195, 3) := by decide +kernel
theorem dX1_retryTold_86 : decode cX1_retryTold 86 = .ok (.if_icmp .ge 94, 3) := by decide +kernel
theorem dX1_retryTold_89 : decode cX1_retryTold 89 = .ok (.aload_n 0, 1) := by decide +kernel
theorem dX1_retryTold_90 : decode cX1_retryTold 90 = .ok (.getfield 219, 3) := by decide +kernel
theorem dX1_retryTold_93 : decode cX1_retryTold 93 = .ok (.iload_n 2, 1) := by decide +kernel
theorem dX1_retryTold_94 : decode cX1_retryTold 94 = .ok (.iaload, 1) := by decide +kernel
theorem dX1_retryTold_95 : decode cX1_retryTold 95 = .ok (.iconst 2, 1) := by decide +kernel
theorem dX1_retryTold_96 : decode cX1_retryTold 96 = .ok (.if_icmp .ne 84, 3) := by decide +kernel
theorem dX1_retryTold_99 : decode cX1_retryTold 99 = .ok (.aload_n 0, 1) := by decide +kernel
theorem dX1_retryTold_100 : decode cX1_retryTold 100 = .ok (.getfield 204, 3) := by decide +kernel
theorem dX1_retryTold_103 : decode cX1_retryTold 103 = .ok (.iload 4, 2) := by decide +kernel
theorem dX1_retryTold_105 : decode cX1_retryTold 105 = .ok (.iaload, 1) := by decide +kernel
theorem dX1_retryTold_106 : decode cX1_retryTold 106 = .ok (.iload_n 1, 1) := by decide +kernel
theorem dX1_retryTold_107 : decode cX1_retryTold 107 = .ok (.if_icmp .ne 67, 3) := by decide +kernel
theorem dX1_retryTold_110 : decode cX1_retryTold 110 = .ok (.iload 4, 2) := by decide +kernel
theorem dX1_retryTold_112 : decode cX1_retryTold 112 = .ok (.iload_n 2, 1) := by decide +kernel
theorem dX1_retryTold_113 : decode cX1_retryTold 113 = .ok (.if_icmp .eq 61, 3) := by decide +kernel
theorem dX1_retryTold_116 : decode cX1_retryTold 116 = .ok (.aload_n 0, 1) := by decide +kernel
theorem dX1_retryTold_117 : decode cX1_retryTold 117 = .ok (.getfield 219, 3) := by decide +kernel
theorem dX1_retryTold_120 : decode cX1_retryTold 120 = .ok (.iload 4, 2) := by decide +kernel
theorem dX1_retryTold_122 : decode cX1_retryTold 122 = .ok (.iaload, 1) := by decide +kernel
theorem dX1_retryTold_123 : decode cX1_retryTold 123 = .ok (.iconst 2, 1) := by decide +kernel
theorem dX1_retryTold_124 : decode cX1_retryTold 124 = .ok (.if_icmp .eq 6, 3) := by decide +kernel
theorem dX1_retryTold_127 : decode cX1_retryTold 127 = .ok (.goto 47, 3) := by decide +kernel
theorem dX1_retryTold_130 : decode cX1_retryTold 130 = .ok (.aload_n 0, 1) := by decide +kernel
theorem dX1_retryTold_131 : decode cX1_retryTold 131 = .ok (.getfield 222, 3) := by decide +kernel
theorem dX1_retryTold_134 : decode cX1_retryTold 134 = .ok (.iload 4, 2) := by decide +kernel
theorem dX1_retryTold_136 : decode cX1_retryTold 136 = .ok (.iaload, 1) := by decide +kernel
theorem dX1_retryTold_137 : decode cX1_retryTold 137 = .ok (.istore 5, 2) := by decide +kernel
theorem dX1_retryTold_139 : decode cX1_retryTold 139 = .ok (.iload 5, 2) := by decide +kernel
theorem dX1_retryTold_141 : decode cX1_retryTold 141 = .ok (.aload_n 0, 1) := by decide +kernel
theorem dX1_retryTold_142 : decode cX1_retryTold 142 = .ok (.getfield 222, 3) := by decide +kernel
theorem dX1_retryTold_145 : decode cX1_retryTold 145 = .ok (.iload_n 2, 1) := by decide +kernel
theorem dX1_retryTold_146 : decode cX1_retryTold 146 = .ok (.iaload, 1) := by decide +kernel
theorem dX1_retryTold_147 : decode cX1_retryTold 147 = .ok (.if_icmp .eq 27, 3) := by decide +kernel
theorem dX1_retryTold_150 : decode cX1_retryTold 150 = .ok (.aload_n 0, 1) := by decide +kernel
theorem dX1_retryTold_151 : decode cX1_retryTold 151 = .ok (.getfield 98, 3) := by decide +kernel
theorem dX1_retryTold_154 : decode cX1_retryTold 154 = .ok (.iload 5, 2) := by decide +kernel
theorem dX1_retryTold_156 : decode cX1_retryTold 156 = .ok (.iaload, 1) := by decide +kernel
theorem dX1_retryTold_157 : decode cX1_retryTold 157 = .ok (.iconst (-1), 1) := by decide +kernel
theorem dX1_retryTold_158 : decode cX1_retryTold 158 = .ok (.if_icmp .ne 16, 3) := by decide +kernel
theorem dX1_retryTold_161 : decode cX1_retryTold 161 = .ok (.aload_n 0, 1) := by decide +kernel
theorem dX1_retryTold_162 : decode cX1_retryTold 162 = .ok (.getfield 98, 3) := by decide +kernel
theorem dX1_retryTold_165 : decode cX1_retryTold 165 = .ok (.iload 5, 2) := by decide +kernel
theorem dX1_retryTold_167 : decode cX1_retryTold 167 = .ok (.aload_n 0, 1) := by decide +kernel
theorem dX1_retryTold_168 : decode cX1_retryTold 168 = .ok (.getfield 222, 3) := by decide +kernel
theorem dX1_retryTold_171 : decode cX1_retryTold 171 = .ok (.iload_n 2, 1) := by decide +kernel
theorem dX1_retryTold_172 : decode cX1_retryTold 172 = .ok (.iaload, 1) := by decide +kernel
theorem dX1_retryTold_173 : decode cX1_retryTold 173 = .ok (.iastore, 1) := by decide +kernel
theorem dX1_retryTold_174 : decode cX1_retryTold 174 = .ok (.iinc 4 1, 3) := by decide +kernel
theorem dX1_retryTold_177 : decode cX1_retryTold 177 = .ok (.goto (-97), 3) := by decide +kernel
theorem dX1_retryTold_180 : decode cX1_retryTold 180 = .ok (.aload_n 0, 1) := by decide +kernel
theorem dX1_retryTold_181 : decode cX1_retryTold 181 = .ok (.iload_n 1, 1) := by decide +kernel
theorem dX1_retryTold_182 : decode cX1_retryTold 182 = .ok (.iload_n 2, 1) := by decide +kernel
theorem dX1_retryTold_183 : decode cX1_retryTold 183 = .ok (.invokevirtual 422, 3) := by decide +kernel
theorem dX1_retryTold_186 : decode cX1_retryTold 186 = .ok (.return_, 1) := by decide +kernel
theorem dX1_hedgeTold_0 : decode cX1_hedgeTold 0 = .ok (.aload_n 0, 1) := by decide +kernel
theorem dX1_hedgeTold_1 : decode cX1_hedgeTold 1 = .ok (.iload_n 1, 1) := by decide +kernel
theorem dX1_hedgeTold_2 : decode cX1_hedgeTold 2 = .ok (.iload_n 2, 1) := by decide +kernel
theorem dX1_hedgeTold_3 : decode cX1_hedgeTold 3 = .ok (.invokevirtual 440, 3) := by decide +kernel
theorem dX1_hedgeTold_6 : decode cX1_hedgeTold 6 = .ok (.istore_n 3, 1) := by decide +kernel
theorem dX1_hedgeTold_7 : decode cX1_hedgeTold 7 = .ok (.aload_n 0, 1) := by decide +kernel
theorem dX1_hedgeTold_8 : decode cX1_hedgeTold 8 = .ok (.getfield 219, 3) := by decide +kernel
theorem dX1_hedgeTold_11 : decode cX1_hedgeTold 11 = .ok (.iload_n 2, 1) := by decide +kernel
theorem dX1_hedgeTold_12 : decode cX1_hedgeTold 12 = .ok (.iaload, 1) := by decide +kernel
theorem dX1_hedgeTold_13 : decode cX1_hedgeTold 13 = .ok (.iconst 1, 1) := by decide +kernel
theorem dX1_hedgeTold_14 : decode cX1_hedgeTold 14 = .ok (.if_icmp .ne 30, 3) := by decide +kernel
theorem dX1_hedgeTold_17 : decode cX1_hedgeTold 17 = .ok (.aload_n 0, 1) := by decide +kernel
theorem dX1_hedgeTold_18 : decode cX1_hedgeTold 18 = .ok (.iload_n 1, 1) := by decide +kernel
theorem dX1_hedgeTold_19 : decode cX1_hedgeTold 19 = .ok (.iload_n 2, 1) := by decide +kernel
theorem dX1_hedgeTold_20 : decode cX1_hedgeTold 20 = .ok (.invokevirtual 422, 3) := by decide +kernel
theorem dX1_hedgeTold_23 : decode cX1_hedgeTold 23 = .ok (.iload_n 3, 1) := by decide +kernel
theorem dX1_hedgeTold_24 : decode cX1_hedgeTold 24 = .ok (.ifCond .lt 19, 3) := by decide +kernel
theorem dX1_hedgeTold_27 : decode cX1_hedgeTold 27 = .ok (.aload_n 0, 1) := by decide +kernel
theorem dX1_hedgeTold_28 : decode cX1_hedgeTold 28 = .ok (.getfield 219, 3) := by decide +kernel
theorem dX1_hedgeTold_31 : decode cX1_hedgeTold 31 = .ok (.iload_n 3, 1) := by decide +kernel
theorem dX1_hedgeTold_32 : decode cX1_hedgeTold 32 = .ok (.iaload, 1) := by decide +kernel
theorem dX1_hedgeTold_33 : decode cX1_hedgeTold 33 = .ok (.ifCond .ne 10, 3) := by decide +kernel
theorem dX1_hedgeTold_36 : decode cX1_hedgeTold 36 = .ok (.aload_n 0, 1) := by decide +kernel
theorem dX1_hedgeTold_37 : decode cX1_hedgeTold 37 = .ok (.iload_n 3, 1) := by decide +kernel
theorem dX1_hedgeTold_38 : decode cX1_hedgeTold 38 = .ok (.iconst (-1), 1) := by decide +kernel
theorem dX1_hedgeTold_39 : decode cX1_hedgeTold 39 = .ok (.invokevirtual 443, 3) := by decide +kernel
theorem dX1_hedgeTold_42 : decode cX1_hedgeTold 42 = .ok (.pop, 1) := by decide +kernel
theorem dX1_hedgeTold_43 : decode cX1_hedgeTold 43 = .ok (.return_, 1) := by decide +kernel
theorem dX1_hedgeTold_44 : decode cX1_hedgeTold 44 = .ok (.iload_n 3, 1) := by decide +kernel
theorem dX1_hedgeTold_45 : decode cX1_hedgeTold 45 = .ok (.ifCond .lt 13, 3) := by decide +kernel
theorem dX1_hedgeTold_48 : decode cX1_hedgeTold 48 = .ok (.aload_n 0, 1) := by decide +kernel
theorem dX1_hedgeTold_49 : decode cX1_hedgeTold 49 = .ok (.getfield 219, 3) := by decide +kernel
theorem dX1_hedgeTold_52 : decode cX1_hedgeTold 52 = .ok (.iload_n 3, 1) := by decide +kernel
theorem dX1_hedgeTold_53 : decode cX1_hedgeTold 53 = .ok (.iaload, 1) := by decide +kernel
theorem dX1_hedgeTold_54 : decode cX1_hedgeTold 54 = .ok (.ifCond .ne 4, 3) := by decide +kernel
theorem dX1_hedgeTold_57 : decode cX1_hedgeTold 57 = .ok (.return_, 1) := by decide +kernel
theorem dX1_hedgeTold_58 : decode cX1_hedgeTold 58 = .ok (.iload_n 3, 1) := by decide +kernel
theorem dX1_hedgeTold_59 : decode cX1_hedgeTold 59 = .ok (.ifCond .lt 13, 3) := by decide +kernel
theorem dX1_hedgeTold_62 : decode cX1_hedgeTold 62 = .ok (.aload_n 0, 1) := by decide +kernel
theorem dX1_hedgeTold_63 : decode cX1_hedgeTold 63 = .ok (.getfield 219, 3) := by decide +kernel
theorem dX1_hedgeTold_66 : decode cX1_hedgeTold 66 = .ok (.iload_n 3, 1) := by decide +kernel
theorem dX1_hedgeTold_67 : decode cX1_hedgeTold 67 = .ok (.iaload, 1) := by decide +kernel
theorem dX1_hedgeTold_68 : decode cX1_hedgeTold 68 = .ok (.iconst 2, 1) := by decide +kernel
theorem dX1_hedgeTold_69 : decode cX1_hedgeTold 69 = .ok (.if_icmp .eq 10, 3) := by decide +kernel
theorem dX1_hedgeTold_72 : decode cX1_hedgeTold 72 = .ok (.aload_n 0, 1) := by decide +kernel
theorem dX1_hedgeTold_73 : decode cX1_hedgeTold 73 = .ok (.iload_n 1, 1) := by decide +kernel
theorem dX1_hedgeTold_74 : decode cX1_hedgeTold 74 = .ok (.iload_n 2, 1) := by decide +kernel
theorem dX1_hedgeTold_75 : decode cX1_hedgeTold 75 = .ok (.invokevirtual 422, 3) := by decide +kernel
theorem dX1_hedgeTold_78 : decode cX1_hedgeTold 78 = .ok (.return_, 1) := by decide +kernel
theorem dX1_hedgeTold_79 : decode cX1_hedgeTold 79 = .ok (.aload_n 0, 1) := by decide +kernel
theorem dX1_hedgeTold_80 : decode cX1_hedgeTold 80 = .ok (.getfield 222, 3) := by decide +kernel
theorem dX1_hedgeTold_83 : decode cX1_hedgeTold 83 = .ok (.iload_n 2, 1) := by decide +kernel
theorem dX1_hedgeTold_84 : decode cX1_hedgeTold 84 = .ok (.iaload, 1) := by decide +kernel
theorem dX1_hedgeTold_85 : decode cX1_hedgeTold 85 = .ok (.istore 4, 2) := by decide +kernel
theorem dX1_hedgeTold_87 : decode cX1_hedgeTold 87 = .ok (.aload_n 0, 1) := by decide +kernel
theorem dX1_hedgeTold_88 : decode cX1_hedgeTold 88 = .ok (.getfield 222, 3) := by decide +kernel
theorem dX1_hedgeTold_91 : decode cX1_hedgeTold 91 = .ok (.iload_n 3, 1) := by decide +kernel
theorem dX1_hedgeTold_92 : decode cX1_hedgeTold 92 = .ok (.iaload, 1) := by decide +kernel
theorem dX1_hedgeTold_93 : decode cX1_hedgeTold 93 = .ok (.istore 5, 2) := by decide +kernel
theorem dX1_hedgeTold_95 : decode cX1_hedgeTold 95 = .ok (.iload 4, 2) := by decide +kernel
theorem dX1_hedgeTold_97 : decode cX1_hedgeTold 97 = .ok (.iload 5, 2) := by decide +kernel
theorem dX1_hedgeTold_99 : decode cX1_hedgeTold 99 = .ok (.if_icmp .eq 23, 3) := by decide +kernel
theorem dX1_hedgeTold_102 : decode cX1_hedgeTold 102 = .ok (.aload_n 0, 1) := by decide +kernel
theorem dX1_hedgeTold_103 : decode cX1_hedgeTold 103 = .ok (.getfield 98, 3) := by decide +kernel
theorem dX1_hedgeTold_106 : decode cX1_hedgeTold 106 = .ok (.iload 4, 2) := by decide +kernel
theorem dX1_hedgeTold_108 : decode cX1_hedgeTold 108 = .ok (.iaload, 1) := by decide +kernel
theorem dX1_hedgeTold_109 : decode cX1_hedgeTold 109 = .ok (.iconst (-1), 1) := by decide +kernel
theorem dX1_hedgeTold_110 : decode cX1_hedgeTold 110 = .ok (.if_icmp .ne 12, 3) := by decide +kernel
theorem dX1_hedgeTold_113 : decode cX1_hedgeTold 113 = .ok (.aload_n 0, 1) := by decide +kernel
theorem dX1_hedgeTold_114 : decode cX1_hedgeTold 114 = .ok (.getfield 98, 3) := by decide +kernel
theorem dX1_hedgeTold_117 : decode cX1_hedgeTold 117 = .ok (.iload 4, 2) := by decide +kernel
theorem dX1_hedgeTold_119 : decode cX1_hedgeTold 119 = .ok (.iload 5, 2) := by decide +kernel
theorem dX1_hedgeTold_121 : decode cX1_hedgeTold 121 = .ok (.iastore, 1) := by decide +kernel
theorem dX1_hedgeTold_122 : decode cX1_hedgeTold 122 = .ok (.aload_n 0, 1) := by decide +kernel
theorem dX1_hedgeTold_123 : decode cX1_hedgeTold 123 = .ok (.iconst 1, 1) := by decide +kernel
theorem dX1_hedgeTold_124 : decode cX1_hedgeTold 124 = .ok (.iload_n 1, 1) := by decide +kernel
theorem dX1_hedgeTold_125 : decode cX1_hedgeTold 125 = .ok (.iconst 2, 1) := by decide +kernel
theorem dX1_hedgeTold_126 : decode cX1_hedgeTold 126 = .ok (.iload 5, 2) := by decide +kernel
theorem dX1_hedgeTold_128 : decode cX1_hedgeTold 128 = .ok (.iconst 0, 1) := by decide +kernel
theorem dX1_hedgeTold_129 : decode cX1_hedgeTold 129 = .ok (.invokevirtual 397, 3) := by decide +kernel
theorem dX1_hedgeTold_132 : decode cX1_hedgeTold 132 = .ok (.return_, 1) := by decide +kernel
theorem dX1_otherOf_0 : decode cX1_otherOf 0 = .ok (.iconst (-1), 1) := by decide +kernel
theorem dX1_otherOf_1 : decode cX1_otherOf 1 = .ok (.istore_n 3, 1) := by decide +kernel
theorem dX1_otherOf_2 : decode cX1_otherOf 2 = .ok (.iconst 0, 1) := by decide +kernel
theorem dX1_otherOf_3 : decode cX1_otherOf 3 = .ok (.istore 4, 2) := by decide +kernel
theorem dX1_otherOf_5 : decode cX1_otherOf 5 = .ok (.iload 4, 2) := by decide +kernel
theorem dX1_otherOf_7 : decode cX1_otherOf 7 = .ok (.aload_n 0, 1) := by decide +kernel
theorem dX1_otherOf_8 : decode cX1_otherOf 8 = .ok (.getfield 195, 3) := by decide +kernel
theorem dX1_otherOf_11 : decode cX1_otherOf 11 = .ok (.if_icmp .ge 29, 3) := by decide +kernel
theorem dX1_otherOf_14 : decode cX1_otherOf 14 = .ok (.aload_n 0, 1) := by decide +kernel
theorem dX1_otherOf_15 : decode cX1_otherOf 15 = .ok (.getfield 204, 3) := by decide +kernel
theorem dX1_otherOf_18 : decode cX1_otherOf 18 = .ok (.iload 4, 2) := by decide +kernel
theorem dX1_otherOf_20 : decode cX1_otherOf 20 = .ok (.iaload, 1) := by decide +kernel
theorem dX1_otherOf_21 : decode cX1_otherOf 21 = .ok (.iload_n 1, 1) := by decide +kernel
theorem dX1_otherOf_22 : decode cX1_otherOf 22 = .ok (.if_icmp .ne 12, 3) := by decide +kernel
theorem dX1_otherOf_25 : decode cX1_otherOf 25 = .ok (.iload 4, 2) := by decide +kernel
theorem dX1_otherOf_27 : decode cX1_otherOf 27 = .ok (.iload_n 2, 1) := by decide +kernel
theorem dX1_otherOf_28 : decode cX1_otherOf 28 = .ok (.if_icmp .eq 6, 3) := by decide +kernel
theorem dX1_otherOf_31 : decode cX1_otherOf 31 = .ok (.iload 4, 2) := by decide +kernel
theorem dX1_otherOf_33 : decode cX1_otherOf 33 = .ok (.istore_n 3, 1) := by decide +kernel
theorem dX1_otherOf_34 : decode cX1_otherOf 34 = .ok (.iinc 4 1, 3) := by decide +kernel
theorem dX1_otherOf_37 : decode cX1_otherOf 37 = .ok (.goto (-32), 3) := by decide +kernel
theorem dX1_otherOf_40 : decode cX1_otherOf 40 = .ok (.iload_n 3, 1) := by decide +kernel
theorem dX1_otherOf_41 : decode cX1_otherOf 41 = .ok (.ireturn, 1) := by decide +kernel
theorem dX1_takeBack_0 : decode cX1_takeBack 0 = .ok (.aload_n 0, 1) := by decide +kernel
theorem dX1_takeBack_1 : decode cX1_takeBack 1 = .ok (.getfield 258, 3) := by decide +kernel
theorem dX1_takeBack_4 : decode cX1_takeBack 4 = .ok (.istore_n 3, 1) := by decide +kernel
theorem dX1_takeBack_5 : decode cX1_takeBack 5 = .ok (.iconst 0, 1) := by decide +kernel
theorem dX1_takeBack_6 : decode cX1_takeBack 6 = .ok (.istore 4, 2) := by decide +kernel
theorem dX1_takeBack_8 : decode cX1_takeBack 8 = .ok (.iload 4, 2) := by decide +kernel
theorem dX1_takeBack_10 : decode cX1_takeBack 10 = .ok (.aload_n 0, 1) := by decide +kernel
theorem dX1_takeBack_11 : decode cX1_takeBack 11 = .ok (.getfield 195, 3) := by decide +kernel
theorem dX1_takeBack_14 : decode cX1_takeBack 14 = .ok (.if_icmp .ge 130, 3) := by decide +kernel
theorem dX1_takeBack_17 : decode cX1_takeBack 17 = .ok (.aload_n 0, 1) := by decide +kernel
theorem dX1_takeBack_18 : decode cX1_takeBack 18 = .ok (.getfield 252, 3) := by decide +kernel
theorem dX1_takeBack_21 : decode cX1_takeBack 21 = .ok (.iload 4, 2) := by decide +kernel
theorem dX1_takeBack_23 : decode cX1_takeBack 23 = .ok (.iload 4, 2) := by decide +kernel
theorem dX1_takeBack_25 : decode cX1_takeBack 25 = .ok (.iload_n 1, 1) := by decide +kernel
theorem dX1_takeBack_26 : decode cX1_takeBack 26 = .ok (.if_icmp .eq 43, 3) := by decide +kernel
theorem dX1_takeBack_29 : decode cX1_takeBack 29 = .ok (.iload_n 2, 1) := by decide +kernel
theorem dX1_takeBack_30 : decode cX1_takeBack 30 = .ok (.ifCond .lt 14, 3) := by decide +kernel
theorem dX1_takeBack_33 : decode cX1_takeBack 33 = .ok (.aload_n 0, 1) := by decide +kernel
theorem dX1_takeBack_34 : decode cX1_takeBack 34 = .ok (.getfield 198, 3) := by decide +kernel
theorem dX1_takeBack_37 : decode cX1_takeBack 37 = .ok (.iload 4, 2) := by decide +kernel
theorem dX1_takeBack_39 : decode cX1_takeBack 39 = .ok (.iaload, 1) := by decide +kernel
theorem dX1_takeBack_40 : decode cX1_takeBack 40 = .ok (.iload_n 2, 1) := by decide +kernel
theorem dX1_takeBack_41 : decode cX1_takeBack 41 = .ok (.if_icmp .eq 28, 3) := by decide +kernel
theorem dX1_takeBack_44 : decode cX1_takeBack 44 = .ok (.aload_n 0, 1) := by decide +kernel
theorem dX1_takeBack_45 : decode cX1_takeBack 45 = .ok (.getfield 204, 3) := by decide +kernel
theorem dX1_takeBack_48 : decode cX1_takeBack 48 = .ok (.iload 4, 2) := by decide +kernel
theorem dX1_takeBack_50 : decode cX1_takeBack 50 = .ok (.iaload, 1) := by decide +kernel
theorem dX1_takeBack_51 : decode cX1_takeBack 51 = .ok (.ifCond .lt 22, 3) := by decide +kernel
theorem dX1_takeBack_54 : decode cX1_takeBack 54 = .ok (.aload_n 0, 1) := by decide +kernel
theorem dX1_takeBack_55 : decode cX1_takeBack 55 = .ok (.getfield 252, 3) := by decide +kernel
theorem dX1_takeBack_58 : decode cX1_takeBack 58 = .ok (.aload_n 0, 1) := by decide +kernel
theorem dX1_takeBack_59 : decode cX1_takeBack 59 = .ok (.getfield 204, 3) := by decide +kernel
theorem dX1_takeBack_62 : decode cX1_takeBack 62 = .ok (.iload 4, 2) := by decide +kernel
theorem dX1_takeBack_64 : decode cX1_takeBack 64 = .ok (.iaload, 1) := by decide +kernel
theorem dX1_takeBack_65 : decode cX1_takeBack 65 = .ok (.baload, 1) := by decide +kernel
theorem dX1_takeBack_66 : decode cX1_takeBack 66 = .ok (.ifCond .eq 7, 3) := by decide +kernel
theorem dX1_takeBack_69 : decode cX1_takeBack 69 = .ok (.iconst 1, 1) := by decide +kernel
theorem dX1_takeBack_70 : decode cX1_takeBack 70 = .ok (.goto 4, 3) := by decide +kernel
theorem dX1_takeBack_73 : decode cX1_takeBack 73 = .ok (.iconst 0, 1) := by decide +kernel
theorem dX1_takeBack_74 : decode cX1_takeBack 74 = .ok (.bastore, 1) := by decide +kernel
theorem dX1_takeBack_75 : decode cX1_takeBack 75 = .ok (.aload_n 0, 1) := by decide +kernel
theorem dX1_takeBack_76 : decode cX1_takeBack 76 = .ok (.getfield 252, 3) := by decide +kernel
theorem dX1_takeBack_79 : decode cX1_takeBack 79 = .ok (.iload 4, 2) := by decide +kernel
theorem dX1_takeBack_81 : decode cX1_takeBack 81 = .ok (.baload, 1) := by decide +kernel
theorem dX1_takeBack_82 : decode cX1_takeBack 82 = .ok (.ifCond .eq 56, 3) := by decide +kernel
theorem dX1_takeBack_85 : decode cX1_takeBack 85 = .ok (.aload_n 0, 1) := by decide +kernel
theorem dX1_takeBack_86 : decode cX1_takeBack 86 = .ok (.getfield 219, 3) := by decide +kernel
theorem dX1_takeBack_89 : decode cX1_takeBack 89 = .ok (.iload 4, 2) := by decide +kernel
theorem dX1_takeBack_91 : decode cX1_takeBack 91 = .ok (.iaload, 1) := by decide +kernel
theorem dX1_takeBack_92 : decode cX1_takeBack 92 = .ok (.ifCond .eq 6, 3) := by decide +kernel
theorem dX1_takeBack_95 : decode cX1_takeBack 95 = .ok (.goto 43, 3) := by decide +kernel
theorem dX1_takeBack_98 : decode cX1_takeBack 98 = .ok (.aload_n 0, 1) := by decide +kernel
theorem dX1_takeBack_99 : decode cX1_takeBack 99 = .ok (.getfield 219, 3) := by decide +kernel
theorem dX1_takeBack_102 : decode cX1_takeBack 102 = .ok (.iload 4, 2) := by decide +kernel
theorem dX1_takeBack_104 : decode cX1_takeBack 104 = .ok (.iconst 3, 1) := by decide +kernel
theorem dX1_takeBack_105 : decode cX1_takeBack 105 = .ok (.iastore, 1) := by decide +kernel
theorem dX1_takeBack_106 : decode cX1_takeBack 106 = .ok (.aload_n 0, 1) := by decide +kernel
theorem dX1_takeBack_107 : decode cX1_takeBack 107 = .ok (.getfield 216, 3) := by decide +kernel
theorem dX1_takeBack_110 : decode cX1_takeBack 110 = .ok (.iload 4, 2) := by decide +kernel
theorem dX1_takeBack_112 : decode cX1_takeBack 112 = .ok (.aload_n 0, 1) := by decide +kernel
theorem dX1_takeBack_113 : decode cX1_takeBack 113 = .ok (.getfield 7, 3) := by decide +kernel
theorem dX1_takeBack_116 : decode cX1_takeBack 116 = .ok (.iastore, 1) := by decide +kernel
theorem dX1_takeBack_117 : decode cX1_takeBack 117 = .ok (.aload_n 0, 1) := by decide +kernel
theorem dX1_takeBack_118 : decode cX1_takeBack 118 = .ok (.getfield 255, 3) := by decide +kernel
theorem dX1_takeBack_121 : decode cX1_takeBack 121 = .ok (.aload_n 0, 1) := by decide +kernel
theorem dX1_takeBack_122 : decode cX1_takeBack 122 = .ok (.getfield 258, 3) := by decide +kernel
theorem dX1_takeBack_125 : decode cX1_takeBack 125 = .ok (.iload 4, 2) := by decide +kernel
theorem dX1_takeBack_127 : decode cX1_takeBack 127 = .ok (.iastore, 1) := by decide +kernel
theorem dX1_takeBack_128 : decode cX1_takeBack 128 = .ok (.aload_n 0, 1) := by decide +kernel
theorem dX1_takeBack_129 : decode cX1_takeBack 129 = .ok (.dup, 1) := by decide +kernel
theorem dX1_takeBack_130 : decode cX1_takeBack 130 = .ok (.getfield 258, 3) := by decide +kernel
theorem dX1_takeBack_133 : decode cX1_takeBack 133 = .ok (.iconst 1, 1) := by decide +kernel
theorem dX1_takeBack_134 : decode cX1_takeBack 134 = .ok (.iadd, 1) := by decide +kernel
theorem dX1_takeBack_135 : decode cX1_takeBack 135 = .ok (.putfield 258, 3) := by decide +kernel
theorem dX1_takeBack_138 : decode cX1_takeBack 138 = .ok (.iinc 4 1, 3) := by decide +kernel
theorem dX1_takeBack_141 : decode cX1_takeBack 141 = .ok (.goto (-133), 3) := by decide +kernel
theorem dX1_takeBack_144 : decode cX1_takeBack 144 = .ok (.aload_n 0, 1) := by decide +kernel
theorem dX1_takeBack_145 : decode cX1_takeBack 145 = .ok (.getfield 258, 3) := by decide +kernel
theorem dX1_takeBack_148 : decode cX1_takeBack 148 = .ok (.iload_n 3, 1) := by decide +kernel
theorem dX1_takeBack_149 : decode cX1_takeBack 149 = .ok (.if_icmp .le 15, 3) := by decide +kernel
theorem dX1_takeBack_152 : decode cX1_takeBack 152 = .ok (.aload_n 0, 1) := by decide +kernel
theorem dX1_takeBack_153 : decode cX1_takeBack 153 = .ok (.iconst 4, 1) := by decide +kernel
theorem dX1_takeBack_154 : decode cX1_takeBack 154 = .ok (.iload_n 3, 1) := by decide +kernel
theorem dX1_takeBack_155 : decode cX1_takeBack 155 = .ok (.aload_n 0, 1) := by decide +kernel
theorem dX1_takeBack_156 : decode cX1_takeBack 156 = .ok (.getfield 258, 3) := by decide +kernel
theorem dX1_takeBack_159 : decode cX1_takeBack 159 = .ok (.iconst 0, 1) := by decide +kernel
theorem dX1_takeBack_160 : decode cX1_takeBack 160 = .ok (.iconst 0, 1) := by decide +kernel
theorem dX1_takeBack_161 : decode cX1_takeBack 161 = .ok (.invokevirtual 397, 3) := by decide +kernel
theorem dX1_takeBack_164 : decode cX1_takeBack 164 = .ok (.aload_n 0, 1) := by decide +kernel
theorem dX1_takeBack_165 : decode cX1_takeBack 165 = .ok (.getfield 258, 3) := by decide +kernel
theorem dX1_takeBack_168 : decode cX1_takeBack 168 = .ok (.iload_n 3, 1) := by decide +kernel
theorem dX1_takeBack_169 : decode cX1_takeBack 169 = .ok (.isub, 1) := by decide +kernel
theorem dX1_takeBack_170 : decode cX1_takeBack 170 = .ok (.ireturn, 1) := by decide +kernel
theorem dX1_fallbackTold_0 : decode cX1_fallbackTold 0 = .ok (.aload_n 0, 1) := by decide +kernel
theorem dX1_fallbackTold_1 : decode cX1_fallbackTold 1 = .ok (.getfield 231, 3) := by decide +kernel
theorem dX1_fallbackTold_4 : decode cX1_fallbackTold 4 = .ok (.iload_n 1, 1) := by decide +kernel
theorem dX1_fallbackTold_5 : decode cX1_fallbackTold 5 = .ok (.iaload, 1) := by decide +kernel
theorem dX1_fallbackTold_6 : decode cX1_fallbackTold 6 = .ok (.iconst 2, 1) := by decide +kernel
theorem dX1_fallbackTold_7 : decode cX1_fallbackTold 7 = .ok (.if_icmp .ne 59, 3) := by decide +kernel
theorem dX1_fallbackTold_10 : decode cX1_fallbackTold 10 = .ok (.aload_n 0, 1) := by decide +kernel
theorem dX1_fallbackTold_11 : decode cX1_fallbackTold 11 = .ok (.getfield 219, 3) := by decide +kernel
theorem dX1_fallbackTold_14 : decode cX1_fallbackTold 14 = .ok (.iload_n 2, 1) := by decide +kernel
theorem dX1_fallbackTold_15 : decode cX1_fallbackTold 15 = .ok (.iaload, 1) := by decide +kernel
theorem dX1_fallbackTold_16 : decode cX1_fallbackTold 16 = .ok (.iconst 1, 1) := by decide +kernel
theorem dX1_fallbackTold_17 : decode cX1_fallbackTold 17 = .ok (.if_icmp .ne 18, 3) := by decide +kernel
theorem dX1_fallbackTold_20 : decode cX1_fallbackTold 20 = .ok (.aload_n 0, 1) := by decide +kernel
theorem dX1_fallbackTold_21 : decode cX1_fallbackTold 21 = .ok (.iconst 1, 1) := by decide +kernel
theorem dX1_fallbackTold_22 : decode cX1_fallbackTold 22 = .ok (.iload_n 1, 1) := by decide +kernel
theorem dX1_fallbackTold_23 : decode cX1_fallbackTold 23 = .ok (.iconst 1, 1) := by decide +kernel
theorem dX1_fallbackTold_24 : decode cX1_fallbackTold 24 = .ok (.aload_n 0, 1) := by decide +kernel
theorem dX1_fallbackTold_25 : decode cX1_fallbackTold 25 = .ok (.getfield 222, 3) := by decide +kernel
theorem dX1_fallbackTold_28 : decode cX1_fallbackTold 28 = .ok (.iload_n 2, 1) := by decide +kernel
theorem dX1_fallbackTold_29 : decode cX1_fallbackTold 29 = .ok (.iaload, 1) := by decide +kernel
theorem dX1_fallbackTold_30 : decode cX1_fallbackTold 30 = .ok (.iconst 1, 1) := by decide +kernel
theorem dX1_fallbackTold_31 : decode cX1_fallbackTold 31 = .ok (.invokevirtual 397, 3) := by decide +kernel
theorem dX1_fallbackTold_34 : decode cX1_fallbackTold 34 = .ok (.return_, 1) := by decide +kernel
theorem dX1_fallbackTold_35 : decode cX1_fallbackTold 35 = .ok (.aload_n 0, 1) := by decide +kernel
theorem dX1_fallbackTold_36 : decode cX1_fallbackTold 36 = .ok (.getfield 95, 3) := by decide +kernel
theorem dX1_fallbackTold_39 : decode cX1_fallbackTold 39 = .ok (.aload_n 0, 1) := by decide +kernel
theorem dX1_fallbackTold_40 : decode cX1_fallbackTold 40 = .ok (.getfield 222, 3) := by decide +kernel
theorem dX1_fallbackTold_43 : decode cX1_fallbackTold 43 = .ok (.iload_n 2, 1) := by decide +kernel
theorem dX1_fallbackTold_44 : decode cX1_fallbackTold 44 = .ok (.iaload, 1) := by decide +kernel
theorem dX1_fallbackTold_45 : decode cX1_fallbackTold 45 = .ok (.aload_n 0, 1) := by decide +kernel
theorem dX1_fallbackTold_46 : decode cX1_fallbackTold 46 = .ok (.getfield 222, 3) := by decide +kernel
theorem dX1_fallbackTold_49 : decode cX1_fallbackTold 49 = .ok (.aload_n 0, 1) := by decide +kernel
theorem dX1_fallbackTold_50 : decode cX1_fallbackTold 50 = .ok (.iload_n 1, 1) := by decide +kernel
theorem dX1_fallbackTold_51 : decode cX1_fallbackTold 51 = .ok (.iload_n 2, 1) := by decide +kernel
theorem dX1_fallbackTold_52 : decode cX1_fallbackTold 52 = .ok (.invokevirtual 440, 3) := by decide +kernel
theorem dX1_fallbackTold_55 : decode cX1_fallbackTold 55 = .ok (.iaload, 1) := by decide +kernel
theorem dX1_fallbackTold_56 : decode cX1_fallbackTold 56 = .ok (.iastore, 1) := by decide +kernel
theorem dX1_fallbackTold_57 : decode cX1_fallbackTold 57 = .ok (.aload_n 0, 1) := by decide +kernel
theorem dX1_fallbackTold_58 : decode cX1_fallbackTold 58 = .ok (.iload_n 1, 1) := by decide +kernel
theorem dX1_fallbackTold_59 : decode cX1_fallbackTold 59 = .ok (.iload_n 2, 1) := by decide +kernel
theorem dX1_fallbackTold_60 : decode cX1_fallbackTold 60 = .ok (.invokevirtual 422, 3) := by decide +kernel
theorem dX1_fallbackTold_63 : decode cX1_fallbackTold 63 = .ok (.goto 73, 3) := by decide +kernel
theorem dX1_fallbackTold_66 : decode cX1_fallbackTold 66 = .ok (.aload_n 0, 1) := by decide +kernel
theorem dX1_fallbackTold_67 : decode cX1_fallbackTold 67 = .ok (.iload_n 2, 1) := by decide +kernel
theorem dX1_fallbackTold_68 : decode cX1_fallbackTold 68 = .ok (.iload_n 3, 1) := by decide +kernel
theorem dX1_fallbackTold_69 : decode cX1_fallbackTold 69 = .ok (.invokevirtual 434, 3) := by decide +kernel
theorem dX1_fallbackTold_72 : decode cX1_fallbackTold 72 = .ok (.ifCond .ne 12, 3) := by decide +kernel
theorem dX1_fallbackTold_75 : decode cX1_fallbackTold 75 = .ok (.aload_n 0, 1) := by decide +kernel
theorem dX1_fallbackTold_76 : decode cX1_fallbackTold 76 = .ok (.iload_n 1, 1) := by decide +kernel
theorem dX1_fallbackTold_77 : decode cX1_fallbackTold 77 = .ok (.iload_n 2, 1) := by decide +kernel
theorem dX1_fallbackTold_78 : decode cX1_fallbackTold 78 = .ok (.invokevirtual 422, 3) := by decide +kernel
theorem dX1_fallbackTold_81 : decode cX1_fallbackTold 81 = .ok (.goto 55, 3) := by decide +kernel
theorem dX1_fallbackTold_84 : decode cX1_fallbackTold 84 = .ok (.aload_n 0, 1) := by decide +kernel
theorem dX1_fallbackTold_85 : decode cX1_fallbackTold 85 = .ok (.getfield 107, 3) := by decide +kernel
theorem dX1_fallbackTold_88 : decode cX1_fallbackTold 88 = .ok (.iload_n 3, 1) := by decide +kernel
theorem dX1_fallbackTold_89 : decode cX1_fallbackTold 89 = .ok (.iaload, 1) := by decide +kernel
theorem dX1_fallbackTold_90 : decode cX1_fallbackTold 90 = .ok (.ifCond .ne 20, 3) := by decide +kernel
theorem dX1_fallbackTold_93 : decode cX1_fallbackTold 93 = .ok (.aload_n 0, 1) := by decide +kernel
theorem dX1_fallbackTold_94 : decode cX1_fallbackTold 94 = .ok (.iconst 1, 1) := by decide +kernel
theorem dX1_fallbackTold_95 : decode cX1_fallbackTold 95 = .ok (.iload_n 1, 1) := by decide +kernel
theorem dX1_fallbackTold_96 : decode cX1_fallbackTold 96 = .ok (.iconst 1, 1) := by decide +kernel
theorem dX1_fallbackTold_97 : decode cX1_fallbackTold 97 = .ok (.aload_n 0, 1) := by decide +kernel
theorem dX1_fallbackTold_98 : decode cX1_fallbackTold 98 = .ok (.getfield 110, 3) := by decide +kernel
theorem dX1_fallbackTold_101 : decode cX1_fallbackTold 101 = .ok (.iload_n 3, 1) := by decide +kernel
theorem dX1_fallbackTold_102 : decode cX1_fallbackTold 102 = .ok (.iaload, 1) := by decide +kernel
theorem dX1_fallbackTold_103 : decode cX1_fallbackTold 103 = .ok (.iconst 1, 1) := by decide +kernel
theorem dX1_fallbackTold_104 : decode cX1_fallbackTold 104 = .ok (.invokevirtual 397, 3) := by decide +kernel
theorem dX1_fallbackTold_107 : decode cX1_fallbackTold 107 = .ok (.goto 29, 3) := by decide +kernel
theorem dX1_fallbackTold_110 : decode cX1_fallbackTold 110 = .ok (.aload_n 0, 1) := by decide +kernel
theorem dX1_fallbackTold_111 : decode cX1_fallbackTold 111 = .ok (.iconst 0, 1) := by decide +kernel
theorem dX1_fallbackTold_112 : decode cX1_fallbackTold 112 = .ok (.aload_n 0, 1) := by decide +kernel
theorem dX1_fallbackTold_113 : decode cX1_fallbackTold 113 = .ok (.getfield 198, 3) := by decide +kernel
theorem dX1_fallbackTold_116 : decode cX1_fallbackTold 116 = .ok (.iload_n 1, 1) := by decide +kernel
theorem dX1_fallbackTold_117 : decode cX1_fallbackTold 117 = .ok (.iaload, 1) := by decide +kernel
theorem dX1_fallbackTold_118 : decode cX1_fallbackTold 118 = .ok (.aload_n 0, 1) := by decide +kernel
theorem dX1_fallbackTold_119 : decode cX1_fallbackTold 119 = .ok (.getfield 201, 3) := by decide +kernel
theorem dX1_fallbackTold_122 : decode cX1_fallbackTold 122 = .ok (.iload_n 1, 1) := by decide +kernel
theorem dX1_fallbackTold_123 : decode cX1_fallbackTold 123 = .ok (.iaload, 1) := by decide +kernel
theorem dX1_fallbackTold_124 : decode cX1_fallbackTold 124 = .ok (.iconst 1, 1) := by decide +kernel
theorem dX1_fallbackTold_125 : decode cX1_fallbackTold 125 = .ok (.iadd, 1) := by decide +kernel
theorem dX1_fallbackTold_126 : decode cX1_fallbackTold 126 = .ok (.iload_n 1, 1) := by decide +kernel
theorem dX1_fallbackTold_127 : decode cX1_fallbackTold 127 = .ok (.aload_n 0, 1) := by decide +kernel
theorem dX1_fallbackTold_128 : decode cX1_fallbackTold 128 = .ok (.getfield 110, 3) := by decide +kernel
theorem dX1_fallbackTold_131 : decode cX1_fallbackTold 131 = .ok (.iload_n 3, 1) := by decide +kernel
theorem dX1_fallbackTold_132 : decode cX1_fallbackTold 132 = .ok (.iaload, 1) := by decide +kernel
theorem dX1_fallbackTold_133 : decode cX1_fallbackTold 133 = .ok (.invokevirtual 397, 3) := by decide +kernel
theorem dX1_fallbackTold_136 : decode cX1_fallbackTold 136 = .ok (.return_, 1) := by decide +kernel
theorem dX1_fails_0 : decode cX1_fails 0 = .ok (.aload_n 0, 1) := by decide +kernel
theorem dX1_fails_1 : decode cX1_fails 1 = .ok (.getfield 83, 3) := by decide +kernel
theorem dX1_fails_4 : decode cX1_fails 4 = .ok (.aload_n 0, 1) := by decide +kernel
theorem dX1_fails_5 : decode cX1_fails 5 = .ok (.getfield 80, 3) := by decide +kernel
theorem dX1_fails_8 : decode cX1_fails 8 = .ok (.iload_n 1, 1) := by decide +kernel
theorem dX1_fails_9 : decode cX1_fails 9 = .ok (.iastore, 1) := by decide +kernel
theorem dX1_fails_10 : decode cX1_fails 10 = .ok (.aload_n 0, 1) := by decide +kernel
theorem dX1_fails_11 : decode cX1_fails 11 = .ok (.getfield 86, 3) := by decide +kernel
theorem dX1_fails_14 : decode cX1_fails 14 = .ok (.aload_n 0, 1) := by decide +kernel
theorem dX1_fails_15 : decode cX1_fails 15 = .ok (.getfield 80, 3) := by decide +kernel
theorem dX1_fails_18 : decode cX1_fails 18 = .ok (.aload_n 0, 1) := by decide +kernel
theorem dX1_fails_19 : decode cX1_fails 19 = .ok (.getfield 7, 3) := by decide +kernel
theorem dX1_fails_22 : decode cX1_fails 22 = .ok (.iastore, 1) := by decide +kernel
theorem dX1_fails_23 : decode cX1_fails 23 = .ok (.aload_n 0, 1) := by decide +kernel
theorem dX1_fails_24 : decode cX1_fails 24 = .ok (.getfield 89, 3) := by decide +kernel
theorem dX1_fails_27 : decode cX1_fails 27 = .ok (.aload_n 0, 1) := by decide +kernel
theorem dX1_fails_28 : decode cX1_fails 28 = .ok (.getfield 80, 3) := by decide +kernel
theorem dX1_fails_31 : decode cX1_fails 31 = .ok (.iload_n 2, 1) := by decide +kernel
theorem dX1_fails_32 : decode cX1_fails 32 = .ok (.iastore, 1) := by decide +kernel
theorem dX1_fails_33 : decode cX1_fails 33 = .ok (.aload_n 0, 1) := by decide +kernel
theorem dX1_fails_34 : decode cX1_fails 34 = .ok (.getfield 92, 3) := by decide +kernel
theorem dX1_fails_37 : decode cX1_fails 37 = .ok (.aload_n 0, 1) := by decide +kernel
theorem dX1_fails_38 : decode cX1_fails 38 = .ok (.getfield 80, 3) := by decide +kernel
theorem dX1_fails_41 : decode cX1_fails 41 = .ok (.iload_n 3, 1) := by decide +kernel
theorem dX1_fails_42 : decode cX1_fails 42 = .ok (.iastore, 1) := by decide +kernel
theorem dX1_fails_43 : decode cX1_fails 43 = .ok (.aload_n 0, 1) := by decide +kernel
theorem dX1_fails_44 : decode cX1_fails 44 = .ok (.getfield 95, 3) := by decide +kernel
theorem dX1_fails_47 : decode cX1_fails 47 = .ok (.aload_n 0, 1) := by decide +kernel
theorem dX1_fails_48 : decode cX1_fails 48 = .ok (.getfield 80, 3) := by decide +kernel
theorem dX1_fails_51 : decode cX1_fails 51 = .ok (.iconst (-1), 1) := by decide +kernel
theorem dX1_fails_52 : decode cX1_fails 52 = .ok (.iastore, 1) := by decide +kernel
theorem dX1_fails_53 : decode cX1_fails 53 = .ok (.aload_n 0, 1) := by decide +kernel
theorem dX1_fails_54 : decode cX1_fails 54 = .ok (.getfield 98, 3) := by decide +kernel
theorem dX1_fails_57 : decode cX1_fails 57 = .ok (.aload_n 0, 1) := by decide +kernel
theorem dX1_fails_58 : decode cX1_fails 58 = .ok (.getfield 80, 3) := by decide +kernel
theorem dX1_fails_61 : decode cX1_fails 61 = .ok (.iconst (-1), 1) := by decide +kernel
theorem dX1_fails_62 : decode cX1_fails 62 = .ok (.iastore, 1) := by decide +kernel
theorem dX1_fails_63 : decode cX1_fails 63 = .ok (.aload_n 0, 1) := by decide +kernel
theorem dX1_fails_64 : decode cX1_fails 64 = .ok (.dup, 1) := by decide +kernel
theorem dX1_fails_65 : decode cX1_fails 65 = .ok (.getfield 80, 3) := by decide +kernel
theorem dX1_fails_68 : decode cX1_fails 68 = .ok (.iconst 1, 1) := by decide +kernel
theorem dX1_fails_69 : decode cX1_fails 69 = .ok (.iadd, 1) := by decide +kernel
theorem dX1_fails_70 : decode cX1_fails 70 = .ok (.putfield 80, 3) := by decide +kernel
theorem dX1_fails_73 : decode cX1_fails 73 = .ok (.aload_n 0, 1) := by decide +kernel
theorem dX1_fails_74 : decode cX1_fails 74 = .ok (.getfield 80, 3) := by decide +kernel
theorem dX1_fails_77 : decode cX1_fails 77 = .ok (.iconst 1, 1) := by decide +kernel
theorem dX1_fails_78 : decode cX1_fails 78 = .ok (.isub, 1) := by decide +kernel
theorem dX1_fails_79 : decode cX1_fails 79 = .ok (.ireturn, 1) := by decide +kernel
theorem dX1_failsNow_0 : decode cX1_failsNow 0 = .ok (.aload_n 0, 1) := by decide +kernel
theorem dX1_failsNow_1 : decode cX1_failsNow 1 = .ok (.getfield 219, 3) := by decide +kernel
theorem dX1_failsNow_4 : decode cX1_failsNow 4 = .ok (.iload_n 1, 1) := by decide +kernel
theorem dX1_failsNow_5 : decode cX1_failsNow 5 = .ok (.iaload, 1) := by decide +kernel
theorem dX1_failsNow_6 : decode cX1_failsNow 6 = .ok (.ifCond .ne 23, 3) := by decide +kernel
theorem dX1_failsNow_9 : decode cX1_failsNow 9 = .ok (.aload_n 0, 1) := by decide +kernel
theorem dX1_failsNow_10 : decode cX1_failsNow 10 = .ok (.iconst 1, 1) := by decide +kernel
theorem dX1_failsNow_11 : decode cX1_failsNow 11 = .ok (.iload_n 1, 1) := by decide +kernel
theorem dX1_failsNow_12 : decode cX1_failsNow 12 = .ok (.iconst 2, 1) := by decide +kernel
theorem dX1_failsNow_13 : decode cX1_failsNow 13 = .ok (.aload_n 0, 1) := by decide +kernel
theorem dX1_failsNow_14 : decode cX1_failsNow 14 = .ok (.iload_n 2, 1) := by decide +kernel
theorem dX1_failsNow_15 : decode cX1_failsNow 15 = .ok (.aload_n 0, 1) := by decide +kernel
theorem dX1_failsNow_16 : decode cX1_failsNow 16 = .ok (.getfield 207, 3) := by decide +kernel
theorem dX1_failsNow_19 : decode cX1_failsNow 19 = .ok (.iload_n 1, 1) := by decide +kernel
theorem dX1_failsNow_20 : decode cX1_failsNow 20 = .ok (.iaload, 1) := by decide +kernel
theorem dX1_failsNow_21 : decode cX1_failsNow 21 = .ok (.iconst (-1), 1) := by decide +kernel
theorem dX1_failsNow_22 : decode cX1_failsNow 22 = .ok (.invokevirtual 411, 3) := by decide +kernel
theorem dX1_failsNow_25 : decode cX1_failsNow 25 = .ok (.iconst 0, 1) := by decide +kernel
theorem dX1_failsNow_26 : decode cX1_failsNow 26 = .ok (.invokevirtual 397, 3) := by decide +kernel
theorem dX1_failsNow_29 : decode cX1_failsNow 29 = .ok (.return_, 1) := by decide +kernel
theorem dX1_freeJoined_0 : decode cX1_freeJoined 0 = .ok (.iload_n 2, 1) := by decide +kernel
theorem dX1_freeJoined_1 : decode cX1_freeJoined 1 = .ok (.iconst 1, 1) := by decide +kernel
theorem dX1_freeJoined_2 : decode cX1_freeJoined 2 = .ok (.iadd, 1) := by decide +kernel
theorem dX1_freeJoined_3 : decode cX1_freeJoined 3 = .ok (.istore_n 3, 1) := by decide +kernel
theorem dX1_freeJoined_4 : decode cX1_freeJoined 4 = .ok (.iload_n 3, 1) := by decide +kernel
theorem dX1_freeJoined_5 : decode cX1_freeJoined 5 = .ok (.aload_n 0, 1) := by decide +kernel
theorem dX1_freeJoined_6 : decode cX1_freeJoined 6 = .ok (.getfield 195, 3) := by decide +kernel
theorem dX1_freeJoined_9 : decode cX1_freeJoined 9 = .ok (.if_icmp .ge 47, 3) := by decide +kernel
theorem dX1_freeJoined_12 : decode cX1_freeJoined 12 = .ok (.aload_n 0, 1) := by decide +kernel
theorem dX1_freeJoined_13 : decode cX1_freeJoined 13 = .ok (.getfield 234, 3) := by decide +kernel
theorem dX1_freeJoined_16 : decode cX1_freeJoined 16 = .ok (.iload_n 3, 1) := by decide +kernel
theorem dX1_freeJoined_17 : decode cX1_freeJoined 17 = .ok (.iaload, 1) := by decide +kernel
theorem dX1_freeJoined_18 : decode cX1_freeJoined 18 = .ok (.iload_n 1, 1) := by decide +kernel
theorem dX1_freeJoined_19 : decode cX1_freeJoined 19 = .ok (.if_icmp .ne 31, 3) := by decide +kernel
theorem dX1_freeJoined_22 : decode cX1_freeJoined 22 = .ok (.aload_n 0, 1) := by decide +kernel
theorem dX1_freeJoined_23 : decode cX1_freeJoined 23 = .ok (.getfield 219, 3) := by decide +kernel
theorem dX1_freeJoined_26 : decode cX1_freeJoined 26 = .ok (.iload_n 3, 1) := by decide +kernel
theorem dX1_freeJoined_27 : decode cX1_freeJoined 27 = .ok (.iaload, 1) := by decide +kernel
theorem dX1_freeJoined_28 : decode cX1_freeJoined 28 = .ok (.ifCond .eq 6, 3) := by decide +kernel
theorem dX1_freeJoined_31 : decode cX1_freeJoined 31 = .ok (.goto 19, 3) := by decide +kernel
theorem dX1_freeJoined_34 : decode cX1_freeJoined 34 = .ok (.aload_n 0, 1) := by decide +kernel
theorem dX1_freeJoined_35 : decode cX1_freeJoined 35 = .ok (.iconst 3, 1) := by decide +kernel
theorem dX1_freeJoined_36 : decode cX1_freeJoined 36 = .ok (.iload_n 1, 1) := by decide +kernel
theorem dX1_freeJoined_37 : decode cX1_freeJoined 37 = .ok (.iload_n 3, 1) := by decide +kernel
theorem dX1_freeJoined_38 : decode cX1_freeJoined 38 = .ok (.iconst 0, 1) := by decide +kernel
theorem dX1_freeJoined_39 : decode cX1_freeJoined 39 = .ok (.iconst 0, 1) := by decide +kernel
theorem dX1_freeJoined_40 : decode cX1_freeJoined 40 = .ok (.invokevirtual 397, 3) := by decide +kernel
theorem dX1_freeJoined_43 : decode cX1_freeJoined 43 = .ok (.aload_n 0, 1) := by decide +kernel
theorem dX1_freeJoined_44 : decode cX1_freeJoined 44 = .ok (.iload_n 3, 1) := by decide +kernel
theorem dX1_freeJoined_45 : decode cX1_freeJoined 45 = .ok (.iload_n 1, 1) := by decide +kernel
theorem dX1_freeJoined_46 : decode cX1_freeJoined 46 = .ok (.invokevirtual 422, 3) := by decide +kernel
theorem dX1_freeJoined_49 : decode cX1_freeJoined 49 = .ok (.return_, 1) := by decide +kernel
theorem dX1_freeJoined_50 : decode cX1_freeJoined 50 = .ok (.iinc 3 1, 3) := by decide +kernel
theorem dX1_freeJoined_53 : decode cX1_freeJoined 53 = .ok (.goto (-49), 3) := by decide +kernel
theorem dX1_freeJoined_56 : decode cX1_freeJoined 56 = .ok (.return_, 1) := by decide +kernel
theorem dX1_takenBack_0 : decode cX1_takenBack 0 = .ok (.iload_n 1, 1) := by decide +kernel
theorem dX1_takenBack_1 : decode cX1_takenBack 1 = .ok (.iconst 1, 1) := by decide +kernel
theorem dX1_takenBack_2 : decode cX1_takenBack 2 = .ok (.iadd, 1) := by decide +kernel
theorem dX1_takenBack_3 : decode cX1_takenBack 3 = .ok (.iload_n 2, 1) := by decide +kernel
theorem dX1_takenBack_4 : decode cX1_takenBack 4 = .ok (.if_icmp .ge 14, 3) := by decide +kernel
theorem dX1_takenBack_7 : decode cX1_takenBack 7 = .ok (.aload_n 0, 1) := by decide +kernel
theorem dX1_takenBack_8 : decode cX1_takenBack 8 = .ok (.iconst 4, 1) := by decide +kernel
theorem dX1_takenBack_9 : decode cX1_takenBack 9 = .ok (.iload_n 1, 1) := by decide +kernel
theorem dX1_takenBack_10 : decode cX1_takenBack 10 = .ok (.iconst 1, 1) := by decide +kernel
theorem dX1_takenBack_11 : decode cX1_takenBack 11 = .ok (.iadd, 1) := by decide +kernel
theorem dX1_takenBack_12 : decode cX1_takenBack 12 = .ok (.iload_n 2, 1) := by decide +kernel
theorem dX1_takenBack_13 : decode cX1_takenBack 13 = .ok (.iconst 0, 1) := by decide +kernel
theorem dX1_takenBack_14 : decode cX1_takenBack 14 = .ok (.iconst 0, 1) := by decide +kernel
theorem dX1_takenBack_15 : decode cX1_takenBack 15 = .ok (.invokevirtual 397, 3) := by decide +kernel
theorem dX1_takenBack_18 : decode cX1_takenBack 18 = .ok (.aload_n 0, 1) := by decide +kernel
theorem dX1_takenBack_19 : decode cX1_takenBack 19 = .ok (.getfield 255, 3) := by decide +kernel
theorem dX1_takenBack_22 : decode cX1_takenBack 22 = .ok (.iload_n 1, 1) := by decide +kernel
theorem dX1_takenBack_23 : decode cX1_takenBack 23 = .ok (.iaload, 1) := by decide +kernel
theorem dX1_takenBack_24 : decode cX1_takenBack 24 = .ok (.istore_n 3, 1) := by decide +kernel
theorem dX1_takenBack_25 : decode cX1_takenBack 25 = .ok (.aload_n 0, 1) := by decide +kernel
theorem dX1_takenBack_26 : decode cX1_takenBack 26 = .ok (.getfield 207, 3) := by decide +kernel
theorem dX1_takenBack_29 : decode cX1_takenBack 29 = .ok (.iload_n 3, 1) := by decide +kernel
theorem dX1_takenBack_30 : decode cX1_takenBack 30 = .ok (.iaload, 1) := by decide +kernel
theorem dX1_takenBack_31 : decode cX1_takenBack 31 = .ok (.istore 4, 2) := by decide +kernel
theorem dX1_takenBack_33 : decode cX1_takenBack 33 = .ok (.iload 4, 2) := by decide +kernel
theorem dX1_takenBack_35 : decode cX1_takenBack 35 = .ok (.ifCond .ge 4, 3) := by decide +kernel
theorem dX1_takenBack_38 : decode cX1_takenBack 38 = .ok (.return_, 1) := by decide +kernel
theorem dX1_takenBack_39 : decode cX1_takenBack 39 = .ok (.aload_n 0, 1) := by decide +kernel
theorem dX1_takenBack_40 : decode cX1_takenBack 40 = .ok (.getfield 249, 3) := by decide +kernel
theorem dX1_takenBack_43 : decode cX1_takenBack 43 = .ok (.iload_n 3, 1) := by decide +kernel
theorem dX1_takenBack_44 : decode cX1_takenBack 44 = .ok (.baload, 1) := by decide +kernel
theorem dX1_takenBack_45 : decode cX1_takenBack 45 = .ok (.ifCond .eq 13, 3) := by decide +kernel
theorem dX1_takenBack_48 : decode cX1_takenBack 48 = .ok (.aload_n 0, 1) := by decide +kernel
theorem dX1_takenBack_49 : decode cX1_takenBack 49 = .ok (.iload 4, 2) := by decide +kernel
theorem dX1_takenBack_51 : decode cX1_takenBack 51 = .ok (.aload_n 0, 1) := by decide +kernel
theorem dX1_takenBack_52 : decode cX1_takenBack 52 = .ok (.getfield 7, 3) := by decide +kernel
theorem dX1_takenBack_55 : decode cX1_takenBack 55 = .ok (.invokevirtual 437, 3) := by decide +kernel
theorem dX1_takenBack_58 : decode cX1_takenBack 58 = .ok (.aload_n 0, 1) := by decide +kernel
theorem dX1_takenBack_59 : decode cX1_takenBack 59 = .ok (.getfield 243, 3) := by decide +kernel
theorem dX1_takenBack_62 : decode cX1_takenBack 62 = .ok (.iload_n 3, 1) := by decide +kernel
theorem dX1_takenBack_63 : decode cX1_takenBack 63 = .ok (.baload, 1) := by decide +kernel
theorem dX1_takenBack_64 : decode cX1_takenBack 64 = .ok (.ifCond .eq 21, 3) := by decide +kernel
theorem dX1_takenBack_67 : decode cX1_takenBack 67 = .ok (.aload_n 0, 1) := by decide +kernel
theorem dX1_takenBack_68 : decode cX1_takenBack 68 = .ok (.getfield 243, 3) := by decide +kernel
theorem dX1_takenBack_71 : decode cX1_takenBack 71 = .ok (.iload_n 3, 1) := by decide +kernel
theorem dX1_takenBack_72 : decode cX1_takenBack 72 = .ok (.iconst 0, 1) := by decide +kernel
theorem dX1_takenBack_73 : decode cX1_takenBack 73 = .ok (.bastore, 1) := by decide +kernel
theorem dX1_takenBack_74 : decode cX1_takenBack 74 = .ok (.aload_n 0, 1) := by decide +kernel
theorem dX1_takenBack_75 : decode cX1_takenBack 75 = .ok (.getfield 128, 3) := by decide +kernel
theorem dX1_takenBack_78 : decode cX1_takenBack 78 = .ok (.iload 4, 2) := by decide +kernel
theorem dX1_takenBack_80 : decode cX1_takenBack 80 = .ok (.dup2, 1) := by decide +kernel
theorem dX1_takenBack_81 : decode cX1_takenBack 81 = .ok (.iaload, 1) := by decide +kernel
theorem dX1_takenBack_82 : decode cX1_takenBack 82 = .ok (.iconst 1, 1) := by decide +kernel
theorem dX1_takenBack_83 : decode cX1_takenBack 83 = .ok (.isub, 1) := by decide +kernel
theorem dX1_takenBack_84 : decode cX1_takenBack 84 = .ok (.iastore, 1) := by decide +kernel
theorem dX1_takenBack_85 : decode cX1_takenBack 85 = .ok (.aload_n 0, 1) := by decide +kernel
theorem dX1_takenBack_86 : decode cX1_takenBack 86 = .ok (.getfield 237, 3) := by decide +kernel
theorem dX1_takenBack_89 : decode cX1_takenBack 89 = .ok (.iload_n 3, 1) := by decide +kernel
theorem dX1_takenBack_90 : decode cX1_takenBack 90 = .ok (.baload, 1) := by decide +kernel
theorem dX1_takenBack_91 : decode cX1_takenBack 91 = .ok (.ifCond .eq 99, 3) := by decide +kernel
theorem dX1_takenBack_94 : decode cX1_takenBack 94 = .ok (.aload_n 0, 1) := by decide +kernel
theorem dX1_takenBack_95 : decode cX1_takenBack 95 = .ok (.getfield 237, 3) := by decide +kernel
theorem dX1_takenBack_98 : decode cX1_takenBack 98 = .ok (.iload_n 3, 1) := by decide +kernel
theorem dX1_takenBack_99 : decode cX1_takenBack 99 = .ok (.iconst 0, 1) := by decide +kernel
theorem dX1_takenBack_100 : decode cX1_takenBack 100 = .ok (.bastore, 1) := by decide +kernel
theorem dX1_takenBack_101 : decode cX1_takenBack 101 = .ok (.iconst 0, 1) := by decide +kernel
theorem dX1_takenBack_102 : decode cX1_takenBack 102 = .ok (.istore 5, 2) := by decide +kernel
theorem dX1_takenBack_104 : decode cX1_takenBack 104 = .ok (.aload_n 0, 1) := by decide +kernel
theorem dX1_takenBack_105 : decode cX1_takenBack 105 = .ok (.getfield 140, 3) := by decide +kernel
theorem dX1_takenBack_108 : decode cX1_takenBack 108 = .ok (.bipush 10, 2) := by decide +kernel
theorem dX1_takenBack_110 : decode cX1_takenBack 110 = .ok (.iload 4, 2) := by decide +kernel
theorem dX1_takenBack_112 : decode cX1_takenBack 112 = .ok (.imul, 1) := by decide +kernel
theorem dX1_takenBack_113 : decode cX1_takenBack 113 = .ok (.iload 5, 2) := by decide +kernel
theorem dX1_takenBack_115 : decode cX1_takenBack 115 = .ok (.iadd, 1) := by decide +kernel
theorem dX1_takenBack_116 : decode cX1_takenBack 116 = .ok (.iaload, 1) := by decide +kernel
theorem dX1_takenBack_117 : decode cX1_takenBack 117 = .ok (.iload_n 3, 1) := by decide +kernel
theorem dX1_takenBack_118 : decode cX1_takenBack 118 = .ok (.if_icmp .eq 9, 3) := by decide +kernel
theorem dX1_takenBack_121 : decode cX1_takenBack 121 = .ok (.iinc 5 1, 3) := by decide +kernel
theorem dX1_takenBack_124 : decode cX1_takenBack 124 = .ok (.goto (-20), 3) := by decide +kernel
theorem dX1_takenBack_127 : decode cX1_takenBack 127 = .ok (.iload 5, 2) := by decide +kernel
theorem dX1_takenBack_129 : decode cX1_takenBack 129 = .ok (.istore 6, 2) := by decide +kernel
theorem dX1_takenBack_131 : decode cX1_takenBack 131 = .ok (.iload 6, 2) := by decide +kernel
theorem dX1_takenBack_133 : decode cX1_takenBack 133 = .ok (.iconst 1, 1) := by decide +kernel
theorem dX1_takenBack_134 : decode cX1_takenBack 134 = .ok (.iadd, 1) := by decide +kernel
theorem dX1_takenBack_135 : decode cX1_takenBack 135 = .ok (.aload_n 0, 1) := by decide +kernel
theorem dX1_takenBack_136 : decode cX1_takenBack 136 = .ok (.getfield 131, 3) := by decide +kernel
theorem dX1_takenBack_139 : decode cX1_takenBack 139 = .ok (.iload 4, 2) := by decide +kernel
theorem dX1_takenBack_141 : decode cX1_takenBack 141 = .ok (.iaload, 1) := by decide +kernel
theorem dX1_takenBack_142 : decode cX1_takenBack 142 = .ok (.if_icmp .ge 37, 3) := by decide +kernel
theorem dX1_takenBack_145 : decode cX1_takenBack 145 = .ok (.aload_n 0, 1) := by decide +kernel
theorem dX1_takenBack_146 : decode cX1_takenBack 146 = .ok (.getfield 140, 3) := by decide +kernel
theorem dX1_takenBack_149 : decode cX1_takenBack 149 = .ok (.bipush 10, 2) := by decide +kernel
theorem dX1_takenBack_151 : decode cX1_takenBack 151 = .ok (.iload 4, 2) := by decide +kernel
theorem dX1_takenBack_153 : decode cX1_takenBack 153 = .ok (.imul, 1) := by decide +kernel
theorem dX1_takenBack_154 : decode cX1_takenBack 154 = .ok (.iload 6, 2) := by decide +kernel
theorem dX1_takenBack_156 : decode cX1_takenBack 156 = .ok (.iadd, 1) := by decide +kernel
theorem dX1_takenBack_157 : decode cX1_takenBack 157 = .ok (.aload_n 0, 1) := by decide +kernel
theorem dX1_takenBack_158 : decode cX1_takenBack 158 = .ok (.getfield 140, 3) := by decide +kernel
theorem dX1_takenBack_161 : decode cX1_takenBack 161 = .ok (.bipush 10, 2) := by decide +kernel
theorem dX1_takenBack_163 : decode cX1_takenBack 163 = .ok (.iload 4, 2) := by decide +kernel
theorem dX1_takenBack_165 : decode cX1_takenBack 165 = .ok (.imul, 1) := by decide +kernel
theorem dX1_takenBack_166 : decode cX1_takenBack 166 = .ok (.iload 6, 2) := by decide +kernel
theorem dX1_takenBack_168 : decode cX1_takenBack 168 = .ok (.iadd, 1) := by decide +kernel
theorem dX1_takenBack_169 : decode cX1_takenBack 169 = .ok (.iconst 1, 1) := by decide +kernel
theorem dX1_takenBack_170 : decode cX1_takenBack 170 = .ok (.iadd, 1) := by decide +kernel
theorem dX1_takenBack_171 : decode cX1_takenBack 171 = .ok (.iaload, 1) := by decide +kernel
theorem dX1_takenBack_172 : decode cX1_takenBack 172 = .ok (.iastore, 1) := by decide +kernel
theorem dX1_takenBack_173 : decode cX1_takenBack 173 = .ok (.iinc 6 1, 3) := by decide +kernel
theorem dX1_takenBack_176 : decode cX1_takenBack 176 = .ok (.goto (-45), 3) := by decide +kernel
theorem dX1_takenBack_179 : decode cX1_takenBack 179 = .ok (.aload_n 0, 1) := by decide +kernel
theorem dX1_takenBack_180 : decode cX1_takenBack 180 = .ok (.getfield 131, 3) := by decide +kernel
theorem dX1_takenBack_183 : decode cX1_takenBack 183 = .ok (.iload 4, 2) := by decide +kernel
theorem dX1_takenBack_185 : decode cX1_takenBack 185 = .ok (.dup2, 1) := by decide +kernel
theorem dX1_takenBack_186 : decode cX1_takenBack 186 = .ok (.iaload, 1) := by decide +kernel
theorem dX1_takenBack_187 : decode cX1_takenBack 187 = .ok (.iconst 1, 1) := by decide +kernel
theorem dX1_takenBack_188 : decode cX1_takenBack 188 = .ok (.isub, 1) := by decide +kernel
theorem dX1_takenBack_189 : decode cX1_takenBack 189 = .ok (.iastore, 1) := by decide +kernel
theorem dX1_takenBack_190 : decode cX1_takenBack 190 = .ok (.aload_n 0, 1) := by decide +kernel
theorem dX1_takenBack_191 : decode cX1_takenBack 191 = .ok (.getfield 246, 3) := by decide +kernel
theorem dX1_takenBack_194 : decode cX1_takenBack 194 = .ok (.iload_n 3, 1) := by decide +kernel
theorem dX1_takenBack_195 : decode cX1_takenBack 195 = .ok (.baload, 1) := by decide +kernel
theorem dX1_takenBack_196 : decode cX1_takenBack 196 = .ok (.ifCond .eq 12, 3) := by decide +kernel
theorem dX1_takenBack_199 : decode cX1_takenBack 199 = .ok (.aload_n 0, 1) := by decide +kernel
theorem dX1_takenBack_200 : decode cX1_takenBack 200 = .ok (.iconst 5, 1) := by decide +kernel
theorem dX1_takenBack_201 : decode cX1_takenBack 201 = .ok (.iload_n 3, 1) := by decide +kernel
theorem dX1_takenBack_202 : decode cX1_takenBack 202 = .ok (.iconst (-1), 1) := by decide +kernel
theorem dX1_takenBack_203 : decode cX1_takenBack 203 = .ok (.iconst 0, 1) := by decide +kernel
theorem dX1_takenBack_204 : decode cX1_takenBack 204 = .ok (.iconst 0, 1) := by decide +kernel
theorem dX1_takenBack_205 : decode cX1_takenBack 205 = .ok (.invokevirtual 397, 3) := by decide +kernel
theorem dX1_takenBack_208 : decode cX1_takenBack 208 = .ok (.return_, 1) := by decide +kernel
theorem dX1_gone_0 : decode cX1_gone 0 = .ok (.iload_n 2, 1) := by decide +kernel
theorem dX1_gone_1 : decode cX1_gone 1 = .ok (.iconst 1, 1) := by decide +kernel
theorem dX1_gone_2 : decode cX1_gone 2 = .ok (.iadd, 1) := by decide +kernel
theorem dX1_gone_3 : decode cX1_gone 3 = .ok (.istore_n 3, 1) := by decide +kernel
theorem dX1_gone_4 : decode cX1_gone 4 = .ok (.iload_n 3, 1) := by decide +kernel
theorem dX1_gone_5 : decode cX1_gone 5 = .ok (.aload_n 0, 1) := by decide +kernel
theorem dX1_gone_6 : decode cX1_gone 6 = .ok (.getfield 195, 3) := by decide +kernel
theorem dX1_gone_9 : decode cX1_gone 9 = .ok (.if_icmp .ge 51, 3) := by decide +kernel
theorem dX1_gone_12 : decode cX1_gone 12 = .ok (.aload_n 0, 1) := by decide +kernel
theorem dX1_gone_13 : decode cX1_gone 13 = .ok (.getfield 234, 3) := by decide +kernel
theorem dX1_gone_16 : decode cX1_gone 16 = .ok (.iload_n 3, 1) := by decide +kernel
theorem dX1_gone_17 : decode cX1_gone 17 = .ok (.iaload, 1) := by decide +kernel
theorem dX1_gone_18 : decode cX1_gone 18 = .ok (.iload_n 1, 1) := by decide +kernel
theorem dX1_gone_19 : decode cX1_gone 19 = .ok (.if_icmp .ne 35, 3) := by decide +kernel
theorem dX1_gone_22 : decode cX1_gone 22 = .ok (.aload_n 0, 1) := by decide +kernel
theorem dX1_gone_23 : decode cX1_gone 23 = .ok (.getfield 219, 3) := by decide +kernel
theorem dX1_gone_26 : decode cX1_gone 26 = .ok (.iload_n 3, 1) := by decide +kernel
theorem dX1_gone_27 : decode cX1_gone 27 = .ok (.iaload, 1) := by decide +kernel
theorem dX1_gone_28 : decode cX1_gone 28 = .ok (.ifCond .eq 6, 3) := by decide +kernel
theorem dX1_gone_31 : decode cX1_gone 31 = .ok (.goto 23, 3) := by decide +kernel
theorem dX1_gone_34 : decode cX1_gone 34 = .ok (.aload_n 0, 1) := by decide +kernel
theorem dX1_gone_35 : decode cX1_gone 35 = .ok (.iconst 5, 1) := by decide +kernel
theorem dX1_gone_36 : decode cX1_gone 36 = .ok (.iload_n 1, 1) := by decide +kernel
theorem dX1_gone_37 : decode cX1_gone 37 = .ok (.iload_n 3, 1) := by decide +kernel
theorem dX1_gone_38 : decode cX1_gone 38 = .ok (.iconst 0, 1) := by decide +kernel
theorem dX1_gone_39 : decode cX1_gone 39 = .ok (.iconst 0, 1) := by decide +kernel
theorem dX1_gone_40 : decode cX1_gone 40 = .ok (.invokevirtual 397, 3) := by decide +kernel
theorem dX1_gone_43 : decode cX1_gone 43 = .ok (.aload_n 0, 1) := by decide +kernel
theorem dX1_gone_44 : decode cX1_gone 44 = .ok (.iconst 2, 1) := by decide +kernel
theorem dX1_gone_45 : decode cX1_gone 45 = .ok (.iload_n 3, 1) := by decide +kernel
theorem dX1_gone_46 : decode cX1_gone 46 = .ok (.bipush 13, 2) := by decide +kernel
theorem dX1_gone_48 : decode cX1_gone 48 = .ok (.iconst 0, 1) := by decide +kernel
theorem dX1_gone_49 : decode cX1_gone 49 = .ok (.iconst 0, 1) := by decide +kernel
theorem dX1_gone_50 : decode cX1_gone 50 = .ok (.invokevirtual 397, 3) := by decide +kernel
theorem dX1_gone_53 : decode cX1_gone 53 = .ok (.return_, 1) := by decide +kernel
theorem dX1_gone_54 : decode cX1_gone 54 = .ok (.iinc 3 1, 3) := by decide +kernel
theorem dX1_gone_57 : decode cX1_gone 57 = .ok (.goto (-53), 3) := by decide +kernel
theorem dX1_gone_60 : decode cX1_gone 60 = .ok (.return_, 1) := by decide +kernel
theorem dX1_cancel_0 : decode cX1_cancel 0 = .ok (.iload_n 1, 1) := by decide +kernel
theorem dX1_cancel_1 : decode cX1_cancel 1 = .ok (.ifCond .lt 11, 3) := by decide +kernel
theorem dX1_cancel_4 : decode cX1_cancel 4 = .ok (.iload_n 1, 1) := by decide +kernel
theorem dX1_cancel_5 : decode cX1_cancel 5 = .ok (.aload_n 0, 1) := by decide +kernel
theorem dX1_cancel_6 : decode cX1_cancel 6 = .ok (.getfield 162, 3) := by decide +kernel
theorem dX1_cancel_9 : decode cX1_cancel 9 = .ok (.if_icmp .lt 5, 3) := by decide +kernel
theorem dX1_cancel_12 : decode cX1_cancel 12 = .ok (.iconst (-1), 1) := by decide +kernel
theorem dX1_cancel_13 : decode cX1_cancel 13 = .ok (.ireturn, 1) := by decide +kernel
theorem dX1_cancel_14 : decode cX1_cancel 14 = .ok (.aload_n 0, 1) := by decide +kernel
theorem dX1_cancel_15 : decode cX1_cancel 15 = .ok (.getfield 186, 3) := by decide +kernel
theorem dX1_cancel_18 : decode cX1_cancel 18 = .ok (.iload_n 1, 1) := by decide +kernel
theorem dX1_cancel_19 : decode cX1_cancel 19 = .ok (.iaload, 1) := by decide +kernel
theorem dX1_cancel_20 : decode cX1_cancel 20 = .ok (.ifCond .eq 6, 3) := by decide +kernel
theorem dX1_cancel_23 : decode cX1_cancel 23 = .ok (.bipush (-4), 2) := by decide +kernel
theorem dX1_cancel_25 : decode cX1_cancel 25 = .ok (.ireturn, 1) := by decide +kernel
theorem dX1_cancel_26 : decode cX1_cancel 26 = .ok (.aload_n 0, 1) := by decide +kernel
theorem dX1_cancel_27 : decode cX1_cancel 27 = .ok (.getfield 186, 3) := by decide +kernel
theorem dX1_cancel_30 : decode cX1_cancel 30 = .ok (.iload_n 1, 1) := by decide +kernel
theorem dX1_cancel_31 : decode cX1_cancel 31 = .ok (.iconst 4, 1) := by decide +kernel
theorem dX1_cancel_32 : decode cX1_cancel 32 = .ok (.iastore, 1) := by decide +kernel
theorem dX1_cancel_33 : decode cX1_cancel 33 = .ok (.aload_n 0, 1) := by decide +kernel
theorem dX1_cancel_34 : decode cX1_cancel 34 = .ok (.getfield 183, 3) := by decide +kernel
theorem dX1_cancel_37 : decode cX1_cancel 37 = .ok (.iload_n 1, 1) := by decide +kernel
theorem dX1_cancel_38 : decode cX1_cancel 38 = .ok (.aload_n 0, 1) := by decide +kernel
theorem dX1_cancel_39 : decode cX1_cancel 39 = .ok (.getfield 7, 3) := by decide +kernel
theorem dX1_cancel_42 : decode cX1_cancel 42 = .ok (.iastore, 1) := by decide +kernel
theorem dX1_cancel_43 : decode cX1_cancel 43 = .ok (.aload_n 0, 1) := by decide +kernel
theorem dX1_cancel_44 : decode cX1_cancel 44 = .ok (.iconst (-1), 1) := by decide +kernel
theorem dX1_cancel_45 : decode cX1_cancel 45 = .ok (.iload_n 1, 1) := by decide +kernel
theorem dX1_cancel_46 : decode cX1_cancel 46 = .ok (.invokevirtual 443, 3) := by decide +kernel
theorem dX1_cancel_49 : decode cX1_cancel 49 = .ok (.istore_n 2, 1) := by decide +kernel
theorem dX1_cancel_50 : decode cX1_cancel 50 = .ok (.aload_n 0, 1) := by decide +kernel
theorem dX1_cancel_51 : decode cX1_cancel 51 = .ok (.invokevirtual 446, 3) := by decide +kernel
theorem dX1_cancel_54 : decode cX1_cancel 54 = .ok (.iload_n 2, 1) := by decide +kernel
theorem dX1_cancel_55 : decode cX1_cancel 55 = .ok (.ireturn, 1) := by decide +kernel
theorem dX1_plan_0 : decode cX1_plan 0 = .ok (.aload_n 0, 1) := by decide +kernel
theorem dX1_plan_1 : decode cX1_plan 1 = .ok (.iload_n 1, 1) := by decide +kernel
theorem dX1_plan_2 : decode cX1_plan 2 = .ok (.invokevirtual 449, 3) := by decide +kernel
theorem dX1_plan_5 : decode cX1_plan 5 = .ok (.ifCond .eq 11, 3) := by decide +kernel
theorem dX1_plan_8 : decode cX1_plan 8 = .ok (.aload_n 0, 1) := by decide +kernel
theorem dX1_plan_9 : decode cX1_plan 9 = .ok (.iload_n 2, 1) := by decide +kernel
theorem dX1_plan_10 : decode cX1_plan 10 = .ok (.invokevirtual 343, 3) := by decide +kernel
theorem dX1_plan_13 : decode cX1_plan 13 = .ok (.ifCond .ne 5, 3) := by decide +kernel
theorem dX1_plan_16 : decode cX1_plan 16 = .ok (.iconst (-1), 1) := by decide +kernel
theorem dX1_plan_17 : decode cX1_plan 17 = .ok (.ireturn, 1) := by decide +kernel
theorem dX1_plan_18 : decode cX1_plan 18 = .ok (.aload_n 0, 1) := by decide +kernel
theorem dX1_plan_19 : decode cX1_plan 19 = .ok (.iload_n 3, 1) := by decide +kernel
theorem dX1_plan_20 : decode cX1_plan 20 = .ok (.invokevirtual 347, 3) := by decide +kernel
theorem dX1_plan_23 : decode cX1_plan 23 = .ok (.ifCond .eq 39, 3) := by decide +kernel
theorem dX1_plan_26 : decode cX1_plan 26 = .ok (.aload_n 0, 1) := by decide +kernel
theorem dX1_plan_27 : decode cX1_plan 27 = .ok (.iload_n 3, 1) := by decide +kernel
theorem dX1_plan_28 : decode cX1_plan 28 = .ok (.iload 4, 2) := by decide +kernel
theorem dX1_plan_30 : decode cX1_plan 30 = .ok (.invokevirtual 452, 3) := by decide +kernel
theorem dX1_plan_33 : decode cX1_plan 33 = .ok (.ifCond .eq 29, 3) := by decide +kernel
theorem dX1_plan_36 : decode cX1_plan 36 = .ok (.iload 5, 2) := by decide +kernel
theorem dX1_plan_38 : decode cX1_plan 38 = .ok (.iconst 1, 1) := by decide +kernel
theorem dX1_plan_39 : decode cX1_plan 39 = .ok (.if_icmp .lt 23, 3) := by decide +kernel
theorem dX1_plan_42 : decode cX1_plan 42 = .ok (.iload 5, 2) := by decide +kernel
theorem dX1_plan_44 : decode cX1_plan 44 = .ok (.sipush 1000, 3) := by decide +kernel
theorem dX1_plan_47 : decode cX1_plan 47 = .ok (.if_icmp .gt 15, 3) := by decide +kernel
theorem dX1_plan_50 : decode cX1_plan 50 = .ok (.iload 6, 2) := by decide +kernel
theorem dX1_plan_52 : decode cX1_plan 52 = .ok (.ifCond .lt 10, 3) := by decide +kernel
theorem dX1_plan_55 : decode cX1_plan 55 = .ok (.iload 7, 2) := by decide +kernel
theorem dX1_plan_57 : decode cX1_plan 57 = .ok (.iload 6, 2) := by decide +kernel
theorem dX1_plan_59 : decode cX1_plan 59 = .ok (.if_icmp .ge 6, 3) := by decide +kernel
theorem dX1_plan_62 : decode cX1_plan 62 = .ok (.bipush (-2), 2) := by decide +kernel
theorem dX1_plan_64 : decode cX1_plan 64 = .ok (.ireturn, 1) := by decide +kernel
theorem dX1_plan_65 : decode cX1_plan 65 = .ok (.aload_n 0, 1) := by decide +kernel
theorem dX1_plan_66 : decode cX1_plan 66 = .ok (.getfield 279, 3) := by decide +kernel
theorem dX1_plan_69 : decode cX1_plan 69 = .ok (.bipush 12, 2) := by decide +kernel
theorem dX1_plan_71 : decode cX1_plan 71 = .ok (.if_icmp .ne 6, 3) := by decide +kernel
theorem dX1_plan_74 : decode cX1_plan 74 = .ok (.bipush (-3), 2) := by decide +kernel
theorem dX1_plan_76 : decode cX1_plan 76 = .ok (.ireturn, 1) := by decide +kernel
theorem dX1_plan_77 : decode cX1_plan 77 = .ok (.aload_n 0, 1) := by decide +kernel
theorem dX1_plan_78 : decode cX1_plan 78 = .ok (.getfield 279, 3) := by decide +kernel
theorem dX1_plan_81 : decode cX1_plan 81 = .ok (.istore 8, 2) := by decide +kernel
theorem dX1_plan_83 : decode cX1_plan 83 = .ok (.aload_n 0, 1) := by decide +kernel
theorem dX1_plan_84 : decode cX1_plan 84 = .ok (.getfield 282, 3) := by decide +kernel
theorem dX1_plan_87 : decode cX1_plan 87 = .ok (.iload 8, 2) := by decide +kernel
theorem dX1_plan_89 : decode cX1_plan 89 = .ok (.iload_n 1, 1) := by decide +kernel
theorem dX1_plan_90 : decode cX1_plan 90 = .ok (.iastore, 1) := by decide +kernel
theorem dX1_plan_91 : decode cX1_plan 91 = .ok (.aload_n 0, 1) := by decide +kernel
theorem dX1_plan_92 : decode cX1_plan 92 = .ok (.getfield 285, 3) := by decide +kernel
theorem dX1_plan_95 : decode cX1_plan 95 = .ok (.iload 8, 2) := by decide +kernel
theorem dX1_plan_97 : decode cX1_plan 97 = .ok (.iload_n 2, 1) := by decide +kernel
theorem dX1_plan_98 : decode cX1_plan 98 = .ok (.iastore, 1) := by decide +kernel
theorem dX1_plan_99 : decode cX1_plan 99 = .ok (.aload_n 0, 1) := by decide +kernel
theorem dX1_plan_100 : decode cX1_plan 100 = .ok (.getfield 288, 3) := by decide +kernel
theorem dX1_plan_103 : decode cX1_plan 103 = .ok (.iload 8, 2) := by decide +kernel
theorem dX1_plan_105 : decode cX1_plan 105 = .ok (.iload_n 3, 1) := by decide +kernel
theorem dX1_plan_106 : decode cX1_plan 106 = .ok (.iastore, 1) := by decide +kernel
theorem dX1_plan_107 : decode cX1_plan 107 = .ok (.aload_n 0, 1) := by decide +kernel
theorem dX1_plan_108 : decode cX1_plan 108 = .ok (.getfield 291, 3) := by decide +kernel
theorem dX1_plan_111 : decode cX1_plan 111 = .ok (.iload 8, 2) := by decide +kernel
theorem dX1_plan_113 : decode cX1_plan 113 = .ok (.iload 4, 2) := by decide +kernel
theorem dX1_plan_115 : decode cX1_plan 115 = .ok (.iastore, 1) := by decide +kernel
theorem dX1_plan_116 : decode cX1_plan 116 = .ok (.aload_n 0, 1) := by decide +kernel
theorem dX1_plan_117 : decode cX1_plan 117 = .ok (.getfield 294, 3) := by decide +kernel
theorem dX1_plan_120 : decode cX1_plan 120 = .ok (.iload 8, 2) := by decide +kernel
theorem dX1_plan_122 : decode cX1_plan 122 = .ok (.iload 5, 2) := by decide +kernel
theorem dX1_plan_124 : decode cX1_plan 124 = .ok (.iastore, 1) := by decide +kernel
theorem dX1_plan_125 : decode cX1_plan 125 = .ok (.aload_n 0, 1) := by decide +kernel
theorem dX1_plan_126 : decode cX1_plan 126 = .ok (.getfield 297, 3) := by decide +kernel
theorem dX1_plan_129 : decode cX1_plan 129 = .ok (.iload 8, 2) := by decide +kernel
theorem dX1_plan_131 : decode cX1_plan 131 = .ok (.iload 6, 2) := by decide +kernel
theorem dX1_plan_133 : decode cX1_plan 133 = .ok (.iastore, 1) := by decide +kernel
theorem dX1_plan_134 : decode cX1_plan 134 = .ok (.aload_n 0, 1) := by decide +kernel
theorem dX1_plan_135 : decode cX1_plan 135 = .ok (.getfield 300, 3) := by decide +kernel
theorem dX1_plan_138 : decode cX1_plan 138 = .ok (.iload 8, 2) := by decide +kernel
theorem dX1_plan_140 : decode cX1_plan 140 = .ok (.iload 7, 2) := by decide +kernel
theorem dX1_plan_142 : decode cX1_plan 142 = .ok (.iastore, 1) := by decide +kernel
theorem dX1_plan_143 : decode cX1_plan 143 = .ok (.aload_n 0, 1) := by decide +kernel
theorem dX1_plan_144 : decode cX1_plan 144 = .ok (.getfield 303, 3) := by decide +kernel
theorem dX1_plan_147 : decode cX1_plan 147 = .ok (.iload 8, 2) := by decide +kernel
theorem dX1_plan_149 : decode cX1_plan 149 = .ok (.aload_n 0, 1) := by decide +kernel
theorem dX1_plan_150 : decode cX1_plan 150 = .ok (.getfield 7, 3) := by decide +kernel
theorem dX1_plan_153 : decode cX1_plan 153 = .ok (.iastore, 1) := by decide +kernel
theorem dX1_plan_154 : decode cX1_plan 154 = .ok (.aload_n 0, 1) := by decide +kernel
theorem dX1_plan_155 : decode cX1_plan 155 = .ok (.getfield 306, 3) := by decide +kernel
theorem dX1_plan_158 : decode cX1_plan 158 = .ok (.iload 8, 2) := by decide +kernel
theorem dX1_plan_160 : decode cX1_plan 160 = .ok (.iconst 0, 1) := by decide +kernel
theorem dX1_plan_161 : decode cX1_plan 161 = .ok (.iastore, 1) := by decide +kernel
theorem dX1_plan_162 : decode cX1_plan 162 = .ok (.aload_n 0, 1) := by decide +kernel
theorem dX1_plan_163 : decode cX1_plan 163 = .ok (.getfield 309, 3) := by decide +kernel
theorem dX1_plan_166 : decode cX1_plan 166 = .ok (.iload 8, 2) := by decide +kernel
theorem dX1_plan_168 : decode cX1_plan 168 = .ok (.iconst (-1), 1) := by decide +kernel
theorem dX1_plan_169 : decode cX1_plan 169 = .ok (.iastore, 1) := by decide +kernel
theorem dX1_plan_170 : decode cX1_plan 170 = .ok (.aload_n 0, 1) := by decide +kernel
theorem dX1_plan_171 : decode cX1_plan 171 = .ok (.getfield 312, 3) := by decide +kernel
theorem dX1_plan_174 : decode cX1_plan 174 = .ok (.iload 8, 2) := by decide +kernel
theorem dX1_plan_176 : decode cX1_plan 176 = .ok (.iconst 0, 1) := by decide +kernel
theorem dX1_plan_177 : decode cX1_plan 177 = .ok (.iastore, 1) := by decide +kernel
theorem dX1_plan_178 : decode cX1_plan 178 = .ok (.aload_n 0, 1) := by decide +kernel
theorem dX1_plan_179 : decode cX1_plan 179 = .ok (.getfield 315, 3) := by decide +kernel
theorem dX1_plan_182 : decode cX1_plan 182 = .ok (.iload 8, 2) := by decide +kernel
theorem dX1_plan_184 : decode cX1_plan 184 = .ok (.iconst 0, 1) := by decide +kernel
theorem dX1_plan_185 : decode cX1_plan 185 = .ok (.iastore, 1) := by decide +kernel
theorem dX1_plan_186 : decode cX1_plan 186 = .ok (.aload_n 0, 1) := by decide +kernel
theorem dX1_plan_187 : decode cX1_plan 187 = .ok (.getfield 318, 3) := by decide +kernel
theorem dX1_plan_190 : decode cX1_plan 190 = .ok (.iload 8, 2) := by decide +kernel
theorem dX1_plan_192 : decode cX1_plan 192 = .ok (.iconst 0, 1) := by decide +kernel
theorem dX1_plan_193 : decode cX1_plan 193 = .ok (.bastore, 1) := by decide +kernel
theorem dX1_plan_194 : decode cX1_plan 194 = .ok (.aload_n 0, 1) := by decide +kernel
theorem dX1_plan_195 : decode cX1_plan 195 = .ok (.dup, 1) := by decide +kernel
theorem dX1_plan_196 : decode cX1_plan 196 = .ok (.getfield 279, 3) := by decide +kernel
theorem dX1_plan_199 : decode cX1_plan 199 = .ok (.iconst 1, 1) := by decide +kernel
theorem dX1_plan_200 : decode cX1_plan 200 = .ok (.iadd, 1) := by decide +kernel
theorem dX1_plan_201 : decode cX1_plan 201 = .ok (.putfield 279, 3) := by decide +kernel
theorem dX1_plan_204 : decode cX1_plan 204 = .ok (.iload 8, 2) := by decide +kernel
theorem dX1_plan_206 : decode cX1_plan 206 = .ok (.ireturn, 1) := by decide +kernel
theorem dX1_stop_0 : decode cX1_stop 0 = .ok (.iload_n 1, 1) := by decide +kernel
theorem dX1_stop_1 : decode cX1_stop 1 = .ok (.ifCond .lt 11, 3) := by decide +kernel
theorem dX1_stop_4 : decode cX1_stop 4 = .ok (.iload_n 1, 1) := by decide +kernel
theorem dX1_stop_5 : decode cX1_stop 5 = .ok (.aload_n 0, 1) := by decide +kernel
theorem dX1_stop_6 : decode cX1_stop 6 = .ok (.getfield 279, 3) := by decide +kernel
theorem dX1_stop_9 : decode cX1_stop 9 = .ok (.if_icmp .lt 5, 3) := by decide +kernel
theorem dX1_stop_12 : decode cX1_stop 12 = .ok (.iconst (-1), 1) := by decide +kernel
theorem dX1_stop_13 : decode cX1_stop 13 = .ok (.ireturn, 1) := by decide +kernel
theorem dX1_stop_14 : decode cX1_stop 14 = .ok (.aload_n 0, 1) := by decide +kernel
theorem dX1_stop_15 : decode cX1_stop 15 = .ok (.getfield 318, 3) := by decide +kernel
theorem dX1_stop_18 : decode cX1_stop 18 = .ok (.iload_n 1, 1) := by decide +kernel
theorem dX1_stop_19 : decode cX1_stop 19 = .ok (.baload, 1) := by decide +kernel
theorem dX1_stop_20 : decode cX1_stop 20 = .ok (.ifCond .eq 6, 3) := by decide +kernel
theorem dX1_stop_23 : decode cX1_stop 23 = .ok (.bipush (-4), 2) := by decide +kernel
theorem dX1_stop_25 : decode cX1_stop 25 = .ok (.ireturn, 1) := by decide +kernel
theorem dX1_stop_26 : decode cX1_stop 26 = .ok (.aload_n 0, 1) := by decide +kernel
theorem dX1_stop_27 : decode cX1_stop 27 = .ok (.getfield 318, 3) := by decide +kernel
theorem dX1_stop_30 : decode cX1_stop 30 = .ok (.iload_n 1, 1) := by decide +kernel
theorem dX1_stop_31 : decode cX1_stop 31 = .ok (.iconst 1, 1) := by decide +kernel
theorem dX1_stop_32 : decode cX1_stop 32 = .ok (.bastore, 1) := by decide +kernel
theorem dX1_stop_33 : decode cX1_stop 33 = .ok (.aload_n 0, 1) := by decide +kernel
theorem dX1_stop_34 : decode cX1_stop 34 = .ok (.getfield 306, 3) := by decide +kernel
theorem dX1_stop_37 : decode cX1_stop 37 = .ok (.iload_n 1, 1) := by decide +kernel
theorem dX1_stop_38 : decode cX1_stop 38 = .ok (.iaload, 1) := by decide +kernel
theorem dX1_stop_39 : decode cX1_stop 39 = .ok (.ireturn, 1) := by decide +kernel
theorem dX1_planned_0 : decode cX1_planned 0 = .ok (.iload_n 1, 1) := by decide +kernel
theorem dX1_planned_1 : decode cX1_planned 1 = .ok (.ifCond .lt 11, 3) := by decide +kernel
theorem dX1_planned_4 : decode cX1_planned 4 = .ok (.iload_n 1, 1) := by decide +kernel
theorem dX1_planned_5 : decode cX1_planned 5 = .ok (.aload_n 0, 1) := by decide +kernel
theorem dX1_planned_6 : decode cX1_planned 6 = .ok (.getfield 279, 3) := by decide +kernel
theorem dX1_planned_9 : decode cX1_planned 9 = .ok (.if_icmp .lt 5, 3) := by decide +kernel
theorem dX1_planned_12 : decode cX1_planned 12 = .ok (.iconst (-1), 1) := by decide +kernel
theorem dX1_planned_13 : decode cX1_planned 13 = .ok (.ireturn, 1) := by decide +kernel
theorem dX1_planned_14 : decode cX1_planned 14 = .ok (.iload_n 2, 1) := by decide +kernel
theorem dX1_planned_15 : decode cX1_planned 15 = .ok (.tableswitch 76 0 4 #[33, 40, 47, 54, 61], 33) := by decide +kernel
theorem dX1_planned_48 : decode cX1_planned 48 = .ok (.aload_n 0, 1) := by decide +kernel
theorem dX1_planned_49 : decode cX1_planned 49 = .ok (.getfield 306, 3) := by decide +kernel
theorem dX1_planned_52 : decode cX1_planned 52 = .ok (.iload_n 1, 1) := by decide +kernel
theorem dX1_planned_53 : decode cX1_planned 53 = .ok (.iaload, 1) := by decide +kernel
theorem dX1_planned_54 : decode cX1_planned 54 = .ok (.ireturn, 1) := by decide +kernel
theorem dX1_planned_55 : decode cX1_planned 55 = .ok (.aload_n 0, 1) := by decide +kernel
theorem dX1_planned_56 : decode cX1_planned 56 = .ok (.getfield 309, 3) := by decide +kernel
theorem dX1_planned_59 : decode cX1_planned 59 = .ok (.iload_n 1, 1) := by decide +kernel
theorem dX1_planned_60 : decode cX1_planned 60 = .ok (.iaload, 1) := by decide +kernel
theorem dX1_planned_61 : decode cX1_planned 61 = .ok (.ireturn, 1) := by decide +kernel
theorem dX1_planned_62 : decode cX1_planned 62 = .ok (.aload_n 0, 1) := by decide +kernel
theorem dX1_planned_63 : decode cX1_planned 63 = .ok (.getfield 312, 3) := by decide +kernel
theorem dX1_planned_66 : decode cX1_planned 66 = .ok (.iload_n 1, 1) := by decide +kernel
theorem dX1_planned_67 : decode cX1_planned 67 = .ok (.iaload, 1) := by decide +kernel
theorem dX1_planned_68 : decode cX1_planned 68 = .ok (.ireturn, 1) := by decide +kernel
theorem dX1_planned_69 : decode cX1_planned 69 = .ok (.aload_n 0, 1) := by decide +kernel
theorem dX1_planned_70 : decode cX1_planned 70 = .ok (.getfield 315, 3) := by decide +kernel
theorem dX1_planned_73 : decode cX1_planned 73 = .ok (.iload_n 1, 1) := by decide +kernel
theorem dX1_planned_74 : decode cX1_planned 74 = .ok (.iaload, 1) := by decide +kernel
theorem dX1_planned_75 : decode cX1_planned 75 = .ok (.ireturn, 1) := by decide +kernel
theorem dX1_planned_76 : decode cX1_planned 76 = .ok (.aload_n 0, 1) := by decide +kernel
theorem dX1_planned_77 : decode cX1_planned 77 = .ok (.getfield 318, 3) := by decide +kernel
theorem dX1_planned_80 : decode cX1_planned 80 = .ok (.iload_n 1, 1) := by decide +kernel
theorem dX1_planned_81 : decode cX1_planned 81 = .ok (.baload, 1) := by decide +kernel
theorem dX1_planned_82 : decode cX1_planned 82 = .ok (.ifCond .eq 7, 3) := by decide +kernel
theorem dX1_planned_85 : decode cX1_planned 85 = .ok (.iconst 0, 1) := by decide +kernel
theorem dX1_planned_86 : decode cX1_planned 86 = .ok (.goto 4, 3) := by decide +kernel
theorem dX1_planned_89 : decode cX1_planned 89 = .ok (.iconst 1, 1) := by decide +kernel
theorem dX1_planned_90 : decode cX1_planned 90 = .ok (.ireturn, 1) := by decide +kernel
theorem dX1_planned_91 : decode cX1_planned 91 = .ok (.iconst (-1), 1) := by decide +kernel
theorem dX1_planned_92 : decode cX1_planned 92 = .ok (.ireturn, 1) := by decide +kernel
theorem dX1_alarm_0 : decode cX1_alarm 0 = .ok (.iload_n 1, 1) := by decide +kernel
theorem dX1_alarm_1 : decode cX1_alarm 1 = .ok (.ifCond .ne 12, 3) := by decide +kernel
theorem dX1_alarm_4 : decode cX1_alarm 4 = .ok (.aload_n 0, 1) := by decide +kernel
theorem dX1_alarm_5 : decode cX1_alarm 5 = .ok (.iload_n 2, 1) := by decide +kernel
theorem dX1_alarm_6 : decode cX1_alarm 6 = .ok (.iconst 0, 1) := by decide +kernel
theorem dX1_alarm_7 : decode cX1_alarm 7 = .ok (.invokevirtual 459, 3) := by decide +kernel
theorem dX1_alarm_10 : decode cX1_alarm 10 = .ok (.ifCond .eq 30, 3) := by decide +kernel
theorem dX1_alarm_13 : decode cX1_alarm 13 = .ok (.iload_n 1, 1) := by decide +kernel
theorem dX1_alarm_14 : decode cX1_alarm 14 = .ok (.iconst 1, 1) := by decide +kernel
theorem dX1_alarm_15 : decode cX1_alarm 15 = .ok (.if_icmp .ne 11, 3) := by decide +kernel
theorem dX1_alarm_18 : decode cX1_alarm 18 = .ok (.aload_n 0, 1) := by decide +kernel
theorem dX1_alarm_19 : decode cX1_alarm 19 = .ok (.iload_n 2, 1) := by decide +kernel
theorem dX1_alarm_20 : decode cX1_alarm 20 = .ok (.invokevirtual 343, 3) := by decide +kernel
theorem dX1_alarm_23 : decode cX1_alarm 23 = .ok (.ifCond .eq 17, 3) := by decide +kernel
theorem dX1_alarm_26 : decode cX1_alarm 26 = .ok (.iload_n 1, 1) := by decide +kernel
theorem dX1_alarm_27 : decode cX1_alarm 27 = .ok (.iconst 2, 1) := by decide +kernel
theorem dX1_alarm_28 : decode cX1_alarm 28 = .ok (.if_icmp .ne 14, 3) := by decide +kernel
theorem dX1_alarm_31 : decode cX1_alarm 31 = .ok (.aload_n 0, 1) := by decide +kernel
theorem dX1_alarm_32 : decode cX1_alarm 32 = .ok (.iload_n 2, 1) := by decide +kernel
theorem dX1_alarm_33 : decode cX1_alarm 33 = .ok (.iconst 1, 1) := by decide +kernel
theorem dX1_alarm_34 : decode cX1_alarm 34 = .ok (.invokevirtual 459, 3) := by decide +kernel
theorem dX1_alarm_37 : decode cX1_alarm 37 = .ok (.ifCond .ne 5, 3) := by decide +kernel
theorem dX1_alarm_40 : decode cX1_alarm 40 = .ok (.iconst (-1), 1) := by decide +kernel
theorem dX1_alarm_41 : decode cX1_alarm 41 = .ok (.ireturn, 1) := by decide +kernel
