set_option maxRecDepth 100000
theorem dX1_init_0 : decode cX1_init 0 = .ok (.aload_n 0, 1) := by decide +kernel
theorem dX1_init_1 : decode cX1_init 1 = .ok (.invokespecial 1, 3) := by decide +kernel
theorem dX1_init_4 : decode cX1_init 4 = .ok (.aload_n 0, 1) := by decide +kernel
theorem dX1_init_5 : decode cX1_init 5 = .ok (.iconst 0, 1) := by decide +kernel
theorem dX1_init_6 : decode cX1_init 6 = .ok (.putfield 7, 3) := by decide +kernel
theorem dX1_init_9 : decode cX1_init 9 = .ok (.aload_n 0, 1) := by decide +kernel
theorem dX1_init_10 : decode cX1_init 10 = .ok (.iconst 0, 1) := by decide +kernel
theorem dX1_init_11 : decode cX1_init 11 = .ok (.putfield 13, 3) := by decide +kernel
theorem dX1_init_14 : decode cX1_init 14 = .ok (.aload_n 0, 1) := by decide +kernel
theorem dX1_init_15 : decode cX1_init 15 = .ok (.bipush 8, 2) := by decide +kernel
theorem dX1_init_17 : decode cX1_init 17 = .ok (.newarray .int, 2) := by decide +kernel
theorem dX1_init_19 : decode cX1_init 19 = .ok (.putfield 16, 3) := by decide +kernel
theorem dX1_init_22 : decode cX1_init 22 = .ok (.aload_n 0, 1) := by decide +kernel
theorem dX1_init_23 : decode cX1_init 23 = .ok (.bipush 8, 2) := by decide +kernel
theorem dX1_init_25 : decode cX1_init 25 = .ok (.newarray .int, 2) := by decide +kernel
theorem dX1_init_27 : decode cX1_init 27 = .ok (.putfield 20, 3) := by decide +kernel
theorem dX1_init_30 : decode cX1_init 30 = .ok (.aload_n 0, 1) := by decide +kernel
theorem dX1_init_31 : decode cX1_init 31 = .ok (.bipush 8, 2) := by decide +kernel
theorem dX1_init_33 : decode cX1_init 33 = .ok (.newarray .int, 2) := by decide +kernel
theorem dX1_init_35 : decode cX1_init 35 = .ok (.putfield 23, 3) := by decide +kernel
theorem dX1_init_38 : decode cX1_init 38 = .ok (.aload_n 0, 1) := by decide +kernel
theorem dX1_init_39 : decode cX1_init 39 = .ok (.iconst 0, 1) := by decide +kernel
theorem dX1_init_40 : decode cX1_init 40 = .ok (.putfield 26, 3) := by decide +kernel
theorem dX1_init_43 : decode cX1_init 43 = .ok (.aload_n 0, 1) := by decide +kernel
theorem dX1_init_44 : decode cX1_init 44 = .ok (.bipush 30, 2) := by decide +kernel
theorem dX1_init_46 : decode cX1_init 46 = .ok (.newarray .int, 2) := by decide +kernel
theorem dX1_init_48 : decode cX1_init 48 = .ok (.putfield 29, 3) := by decide +kernel
theorem dX1_init_51 : decode cX1_init 51 = .ok (.aload_n 0, 1) := by decide +kernel
theorem dX1_init_52 : decode cX1_init 52 = .ok (.bipush 30, 2) := by decide +kernel
theorem dX1_init_54 : decode cX1_init 54 = .ok (.newarray .int, 2) := by decide +kernel
theorem dX1_init_56 : decode cX1_init 56 = .ok (.putfield 32, 3) := by decide +kernel
theorem dX1_init_59 : decode cX1_init 59 = .ok (.aload_n 0, 1) := by decide +kernel
theorem dX1_init_60 : decode cX1_init 60 = .ok (.bipush 30, 2) := by decide +kernel
theorem dX1_init_62 : decode cX1_init 62 = .ok (.newarray .int, 2) := by decide +kernel
theorem dX1_init_64 : decode cX1_init 64 = .ok (.putfield 35, 3) := by decide +kernel
theorem dX1_init_67 : decode cX1_init 67 = .ok (.aload_n 0, 1) := by decide +kernel
theorem dX1_init_68 : decode cX1_init 68 = .ok (.bipush 30, 2) := by decide +kernel
theorem dX1_init_70 : decode cX1_init 70 = .ok (.newarray .int, 2) := by decide +kernel
theorem dX1_init_72 : decode cX1_init 72 = .ok (.putfield 38, 3) := by decide +kernel
theorem dX1_init_75 : decode cX1_init 75 = .ok (.aload_n 0, 1) := by decide +kernel
theorem dX1_init_76 : decode cX1_init 76 = .ok (.bipush 30, 2) := by decide +kernel
theorem dX1_init_78 : decode cX1_init 78 = .ok (.newarray .int, 2) := by decide +kernel
theorem dX1_init_80 : decode cX1_init 80 = .ok (.putfield 41, 3) := by decide +kernel
theorem dX1_init_83 : decode cX1_init 83 = .ok (.aload_n 0, 1) := by decide +kernel
theorem dX1_init_84 : decode cX1_init 84 = .ok (.iconst 0, 1) := by decide +kernel
theorem dX1_init_85 : decode cX1_init 85 = .ok (.putfield 44, 3) := by decide +kernel
theorem dX1_init_88 : decode cX1_init 88 = .ok (.aload_n 0, 1) := by decide +kernel
theorem dX1_init_89 : decode cX1_init 89 = .ok (.bipush 30, 2) := by decide +kernel
theorem dX1_init_91 : decode cX1_init 91 = .ok (.newarray .int, 2) := by decide +kernel
theorem dX1_init_93 : decode cX1_init 93 = .ok (.putfield 47, 3) := by decide +kernel
theorem dX1_init_96 : decode cX1_init 96 = .ok (.aload_n 0, 1) := by decide +kernel
theorem dX1_init_97 : decode cX1_init 97 = .ok (.bipush 30, 2) := by decide +kernel
theorem dX1_init_99 : decode cX1_init 99 = .ok (.newarray .int, 2) := by decide +kernel
theorem dX1_init_101 : decode cX1_init 101 = .ok (.putfield 50, 3) := by decide +kernel
theorem dX1_init_104 : decode cX1_init 104 = .ok (.aload_n 0, 1) := by decide +kernel
theorem dX1_init_105 : decode cX1_init 105 = .ok (.bipush 30, 2) := by decide +kernel
theorem dX1_init_107 : decode cX1_init 107 = .ok (.newarray .int, 2) := by decide +kernel
theorem dX1_init_109 : decode cX1_init 109 = .ok (.putfield 53, 3) := by decide +kernel
theorem dX1_init_112 : decode cX1_init 112 = .ok (.aload_n 0, 1) := by decide +kernel
theorem dX1_init_113 : decode cX1_init 113 = .ok (.bipush 30, 2) := by decide +kernel
theorem dX1_init_115 : decode cX1_init 115 = .ok (.newarray .int, 2) := by decide +kernel
theorem dX1_init_117 : decode cX1_init 117 = .ok (.putfield 56, 3) := by decide +kernel
theorem dX1_init_120 : decode cX1_init 120 = .ok (.aload_n 0, 1) := by decide +kernel
theorem dX1_init_121 : decode cX1_init 121 = .ok (.bipush 30, 2) := by decide +kernel
theorem dX1_init_123 : decode cX1_init 123 = .ok (.newarray .int, 2) := by decide +kernel
theorem dX1_init_125 : decode cX1_init 125 = .ok (.putfield 59, 3) := by decide +kernel
theorem dX1_init_128 : decode cX1_init 128 = .ok (.aload_n 0, 1) := by decide +kernel
theorem dX1_init_129 : decode cX1_init 129 = .ok (.iconst 0, 1) := by decide +kernel
theorem dX1_init_130 : decode cX1_init 130 = .ok (.putfield 62, 3) := by decide +kernel
theorem dX1_init_133 : decode cX1_init 133 = .ok (.aload_n 0, 1) := by decide +kernel
theorem dX1_init_134 : decode cX1_init 134 = .ok (.sipush 4400, 3) := by decide +kernel
theorem dX1_init_137 : decode cX1_init 137 = .ok (.newarray .int, 2) := by decide +kernel
theorem dX1_init_139 : decode cX1_init 139 = .ok (.putfield 65, 3) := by decide +kernel
theorem dX1_init_142 : decode cX1_init 142 = .ok (.aload_n 0, 1) := by decide +kernel
theorem dX1_init_143 : decode cX1_init 143 = .ok (.sipush 4400, 3) := by decide +kernel
theorem dX1_init_146 : decode cX1_init 146 = .ok (.newarray .int, 2) := by decide +kernel
theorem dX1_init_148 : decode cX1_init 148 = .ok (.putfield 68, 3) := by decide +kernel
theorem dX1_init_151 : decode cX1_init 151 = .ok (.aload_n 0, 1) := by decide +kernel
theorem dX1_init_152 : decode cX1_init 152 = .ok (.sipush 4400, 3) := by decide +kernel
theorem dX1_init_155 : decode cX1_init 155 = .ok (.newarray .int, 2) := by decide +kernel
theorem dX1_init_157 : decode cX1_init 157 = .ok (.putfield 71, 3) := by decide +kernel
theorem dX1_init_160 : decode cX1_init 160 = .ok (.aload_n 0, 1) := by decide +kernel
theorem dX1_init_161 : decode cX1_init 161 = .ok (.sipush 4400, 3) := by decide +kernel
theorem dX1_init_164 : decode cX1_init 164 = .ok (.newarray .int, 2) := by decide +kernel
theorem dX1_init_166 : decode cX1_init 166 = .ok (.putfield 74, 3) := by decide +kernel
theorem dX1_init_169 : decode cX1_init 169 = .ok (.aload_n 0, 1) := by decide +kernel
theorem dX1_init_170 : decode cX1_init 170 = .ok (.sipush 4400, 3) := by decide +kernel
theorem dX1_init_173 : decode cX1_init 173 = .ok (.newarray .int, 2) := by decide +kernel
theorem dX1_init_175 : decode cX1_init 175 = .ok (.putfield 77, 3) := by decide +kernel
theorem dX1_init_178 : decode cX1_init 178 = .ok (.aload_n 0, 1) := by decide +kernel
theorem dX1_init_179 : decode cX1_init 179 = .ok (.iconst 0, 1) := by decide +kernel
theorem dX1_init_180 : decode cX1_init 180 = .ok (.putfield 80, 3) := by decide +kernel
theorem dX1_init_183 : decode cX1_init 183 = .ok (.aload_n 0, 1) := by decide +kernel
theorem dX1_init_184 : decode cX1_init 184 = .ok (.sipush 4400, 3) := by decide +kernel
theorem dX1_init_187 : decode cX1_init 187 = .ok (.newarray .int, 2) := by decide +kernel
theorem dX1_init_189 : decode cX1_init 189 = .ok (.putfield 83, 3) := by decide +kernel
theorem dX1_init_192 : decode cX1_init 192 = .ok (.aload_n 0, 1) := by decide +kernel
theorem dX1_init_193 : decode cX1_init 193 = .ok (.sipush 4400, 3) := by decide +kernel
theorem dX1_init_196 : decode cX1_init 196 = .ok (.newarray .int, 2) := by decide +kernel
theorem dX1_init_198 : decode cX1_init 198 = .ok (.putfield 86, 3) := by decide +kernel
theorem dX1_init_201 : decode cX1_init 201 = .ok (.aload_n 0, 1) := by decide +kernel
theorem dX1_init_202 : decode cX1_init 202 = .ok (.sipush 4400, 3) := by decide +kernel
theorem dX1_init_205 : decode cX1_init 205 = .ok (.newarray .int, 2) := by decide +kernel
theorem dX1_init_207 : decode cX1_init 207 = .ok (.putfield 89, 3) := by decide +kernel
theorem dX1_init_210 : decode cX1_init 210 = .ok (.aload_n 0, 1) := by decide +kernel
theorem dX1_init_211 : decode cX1_init 211 = .ok (.sipush 4400, 3) := by decide +kernel
theorem dX1_init_214 : decode cX1_init 214 = .ok (.newarray .int, 2) := by decide +kernel
theorem dX1_init_216 : decode cX1_init 216 = .ok (.putfield 92, 3) := by decide +kernel
theorem dX1_init_219 : decode cX1_init 219 = .ok (.aload_n 0, 1) := by decide +kernel
theorem dX1_init_220 : decode cX1_init 220 = .ok (.sipush 4400, 3) := by decide +kernel
theorem dX1_init_223 : decode cX1_init 223 = .ok (.newarray .int, 2) := by decide +kernel
theorem dX1_init_225 : decode cX1_init 225 = .ok (.putfield 95, 3) := by decide +kernel
theorem dX1_init_228 : decode cX1_init 228 = .ok (.aload_n 0, 1) := by decide +kernel
theorem dX1_init_229 : decode cX1_init 229 = .ok (.sipush 4400, 3) := by decide +kernel
theorem dX1_init_232 : decode cX1_init 232 = .ok (.newarray .int, 2) := by decide +kernel
theorem dX1_init_234 : decode cX1_init 234 = .ok (.putfield 98, 3) := by decide +kernel
theorem dX1_init_237 : decode cX1_init 237 = .ok (.aload_n 0, 1) := by decide +kernel
theorem dX1_init_238 : decode cX1_init 238 = .ok (.iconst 0, 1) := by decide +kernel
theorem dX1_init_239 : decode cX1_init 239 = .ok (.putfield 101, 3) := by decide +kernel
theorem dX1_init_242 : decode cX1_init 242 = .ok (.aload_n 0, 1) := by decide +kernel
theorem dX1_init_243 : decode cX1_init 243 = .ok (.bipush 24, 2) := by decide +kernel
theorem dX1_init_245 : decode cX1_init 245 = .ok (.newarray .int, 2) := by decide +kernel
theorem dX1_init_247 : decode cX1_init 247 = .ok (.putfield 104, 3) := by decide +kernel
theorem dX1_init_250 : decode cX1_init 250 = .ok (.aload_n 0, 1) := by decide +kernel
theorem dX1_init_251 : decode cX1_init 251 = .ok (.bipush 24, 2) := by decide +kernel
theorem dX1_init_253 : decode cX1_init 253 = .ok (.newarray .int, 2) := by decide +kernel
theorem dX1_init_255 : decode cX1_init 255 = .ok (.putfield 107, 3) := by decide +kernel
theorem dX1_init_258 : decode cX1_init 258 = .ok (.aload_n 0, 1) := by decide +kernel
theorem dX1_init_259 : decode cX1_init 259 = .ok (.bipush 24, 2) := by decide +kernel
theorem dX1_init_261 : decode cX1_init 261 = .ok (.newarray .int, 2) := by decide +kernel
theorem dX1_init_263 : decode cX1_init 263 = .ok (.putfield 110, 3) := by decide +kernel
theorem dX1_init_266 : decode cX1_init 266 = .ok (.aload_n 0, 1) := by decide +kernel
theorem dX1_init_267 : decode cX1_init 267 = .ok (.bipush 24, 2) := by decide +kernel
theorem dX1_init_269 : decode cX1_init 269 = .ok (.newarray .int, 2) := by decide +kernel
theorem dX1_init_271 : decode cX1_init 271 = .ok (.putfield 113, 3) := by decide +kernel
theorem dX1_init_274 : decode cX1_init 274 = .ok (.aload_n 0, 1) := by decide +kernel
theorem dX1_init_275 : decode cX1_init 275 = .ok (.bipush 24, 2) := by decide +kernel
theorem dX1_init_277 : decode cX1_init 277 = .ok (.newarray .int, 2) := by decide +kernel
theorem dX1_init_279 : decode cX1_init 279 = .ok (.putfield 116, 3) := by decide +kernel
theorem dX1_init_282 : decode cX1_init 282 = .ok (.aload_n 0, 1) := by decide +kernel
theorem dX1_init_283 : decode cX1_init 283 = .ok (.bipush 24, 2) := by decide +kernel
theorem dX1_init_285 : decode cX1_init 285 = .ok (.newarray .int, 2) := by decide +kernel
theorem dX1_init_287 : decode cX1_init 287 = .ok (.putfield 119, 3) := by decide +kernel
theorem dX1_init_290 : decode cX1_init 290 = .ok (.aload_n 0, 1) := by decide +kernel
theorem dX1_init_291 : decode cX1_init 291 = .ok (.bipush 24, 2) := by decide +kernel
theorem dX1_init_293 : decode cX1_init 293 = .ok (.newarray .int, 2) := by decide +kernel
theorem dX1_init_295 : decode cX1_init 295 = .ok (.putfield 122, 3) := by decide +kernel
theorem dX1_init_298 : decode cX1_init 298 = .ok (.aload_n 0, 1) := by decide +kernel
theorem dX1_init_299 : decode cX1_init 299 = .ok (.bipush 24, 2) := by decide +kernel
theorem dX1_init_301 : decode cX1_init 301 = .ok (.newarray .int, 2) := by decide +kernel
theorem dX1_init_303 : decode cX1_init 303 = .ok (.putfield 125, 3) := by decide +kernel
theorem dX1_init_306 : decode cX1_init 306 = .ok (.aload_n 0, 1) := by decide +kernel
theorem dX1_init_307 : decode cX1_init 307 = .ok (.bipush 24, 2) := by decide +kernel
theorem dX1_init_309 : decode cX1_init 309 = .ok (.newarray .int, 2) := by decide +kernel
theorem dX1_init_311 : decode cX1_init 311 = .ok (.putfield 128, 3) := by decide +kernel
theorem dX1_init_314 : decode cX1_init 314 = .ok (.aload_n 0, 1) := by decide +kernel
theorem dX1_init_315 : decode cX1_init 315 = .ok (.bipush 24, 2) := by decide +kernel
theorem dX1_init_317 : decode cX1_init 317 = .ok (.newarray .int, 2) := by decide +kernel
theorem dX1_init_319 : decode cX1_init 319 = .ok (.putfield 131, 3) := by decide +kernel
theorem dX1_init_322 : decode cX1_init 322 = .ok (.aload_n 0, 1) := by decide +kernel
theorem dX1_init_323 : decode cX1_init 323 = .ok (.bipush 24, 2) := by decide +kernel
theorem dX1_init_325 : decode cX1_init 325 = .ok (.newarray .int, 2) := by decide +kernel
theorem dX1_init_327 : decode cX1_init 327 = .ok (.putfield 134, 3) := by decide +kernel
theorem dX1_init_330 : decode cX1_init 330 = .ok (.aload_n 0, 1) := by decide +kernel
theorem dX1_init_331 : decode cX1_init 331 = .ok (.bipush 24, 2) := by decide +kernel
theorem dX1_init_333 : decode cX1_init 333 = .ok (.newarray .int, 2) := by decide +kernel
theorem dX1_init_335 : decode cX1_init 335 = .ok (.putfield 137, 3) := by decide +kernel
theorem dX1_init_338 : decode cX1_init 338 = .ok (.aload_n 0, 1) := by decide +kernel
theorem dX1_init_339 : decode cX1_init 339 = .ok (.sipush 240, 3) := by decide +kernel
theorem dX1_init_342 : decode cX1_init 342 = .ok (.newarray .int, 2) := by decide +kernel
theorem dX1_init_344 : decode cX1_init 344 = .ok (.putfield 140, 3) := by decide +kernel
theorem dX1_init_347 : decode cX1_init 347 = .ok (.aload_n 0, 1) := by decide +kernel
theorem dX1_init_348 : decode cX1_init 348 = .ok (.sipush 192, 3) := by decide +kernel
theorem dX1_init_351 : decode cX1_init 351 = .ok (.newarray .int, 2) := by decide +kernel
theorem dX1_init_353 : decode cX1_init 353 = .ok (.putfield 143, 3) := by decide +kernel
theorem dX1_init_356 : decode cX1_init 356 = .ok (.aload_n 0, 1) := by decide +kernel
theorem dX1_init_357 : decode cX1_init 357 = .ok (.sipush 192, 3) := by decide +kernel
theorem dX1_init_360 : decode cX1_init 360 = .ok (.newarray .int, 2) := by decide +kernel
theorem dX1_init_362 : decode cX1_init 362 = .ok (.putfield 146, 3) := by decide +kernel
theorem dX1_init_365 : decode cX1_init 365 = .ok (.aload_n 0, 1) := by decide +kernel
theorem dX1_init_366 : decode cX1_init 366 = .ok (.sipush 192, 3) := by decide +kernel
theorem dX1_init_369 : decode cX1_init 369 = .ok (.newarray .boolean, 2) := by decide +kernel
theorem dX1_init_371 : decode cX1_init 371 = .ok (.putfield 149, 3) := by decide +kernel
theorem dX1_init_374 : decode cX1_init 374 = .ok (.aload_n 0, 1) := by decide +kernel
theorem dX1_init_375 : decode cX1_init 375 = .ok (.iconst 0, 1) := by decide +kernel
theorem dX1_init_376 : decode cX1_init 376 = .ok (.putfield 153, 3) := by decide +kernel
theorem dX1_init_379 : decode cX1_init 379 = .ok (.aload_n 0, 1) := by decide +kernel
theorem dX1_init_380 : decode cX1_init 380 = .ok (.bipush 11, 2) := by decide +kernel
theorem dX1_init_382 : decode cX1_init 382 = .ok (.newarray .int, 2) := by decide +kernel
theorem dX1_init_384 : decode cX1_init 384 = .ok (.putfield 156, 3) := by decide +kernel
theorem dX1_init_387 : decode cX1_init 387 = .ok (.aload_n 0, 1) := by decide +kernel
theorem dX1_init_388 : decode cX1_init 388 = .ok (.bipush 55, 2) := by decide +kernel
theorem dX1_init_390 : decode cX1_init 390 = .ok (.newarray .int, 2) := by decide +kernel
theorem dX1_init_392 : decode cX1_init 392 = .ok (.putfield 159, 3) := by decide +kernel
theorem dX1_init_395 : decode cX1_init 395 = .ok (.aload_n 0, 1) := by decide +kernel
theorem dX1_init_396 : decode cX1_init 396 = .ok (.iconst 0, 1) := by decide +kernel
theorem dX1_init_397 : decode cX1_init 397 = .ok (.putfield 162, 3) := by decide +kernel
theorem dX1_init_400 : decode cX1_init 400 = .ok (.aload_n 0, 1) := by decide +kernel
theorem dX1_init_401 : decode cX1_init 401 = .ok (.bipush 60, 2) := by decide +kernel
theorem dX1_init_403 : decode cX1_init 403 = .ok (.newarray .int, 2) := by decide +kernel
theorem dX1_init_405 : decode cX1_init 405 = .ok (.putfield 165, 3) := by decide +kernel
theorem dX1_init_408 : decode cX1_init 408 = .ok (.aload_n 0, 1) := by decide +kernel
theorem dX1_init_409 : decode cX1_init 409 = .ok (.bipush 60, 2) := by decide +kernel
theorem dX1_init_411 : decode cX1_init 411 = .ok (.newarray .int, 2) := by decide +kernel
theorem dX1_init_413 : decode cX1_init 413 = .ok (.putfield 168, 3) := by decide +kernel
theorem dX1_init_416 : decode cX1_init 416 = .ok (.aload_n 0, 1) := by decide +kernel
theorem dX1_init_417 : decode cX1_init 417 = .ok (.bipush 60, 2) := by decide +kernel
theorem dX1_init_419 : decode cX1_init 419 = .ok (.newarray .int, 2) := by decide +kernel
theorem dX1_init_421 : decode cX1_init 421 = .ok (.putfield 171, 3) := by decide +kernel
theorem dX1_init_424 : decode cX1_init 424 = .ok (.aload_n 0, 1) := by decide +kernel
theorem dX1_init_425 : decode cX1_init 425 = .ok (.bipush 60, 2) := by decide +kernel
theorem dX1_init_427 : decode cX1_init 427 = .ok (.newarray .int, 2) := by decide +kernel
theorem dX1_init_429 : decode cX1_init 429 = .ok (.putfield 174, 3) := by decide +kernel
theorem dX1_init_432 : decode cX1_init 432 = .ok (.aload_n 0, 1) := by decide +kernel
theorem dX1_init_433 : decode cX1_init 433 = .ok (.bipush 60, 2) := by decide +kernel
theorem dX1_init_435 : decode cX1_init 435 = .ok (.newarray .int, 2) := by decide +kernel
theorem dX1_init_437 : decode cX1_init 437 = .ok (.putfield 177, 3) := by decide +kernel
theorem dX1_init_440 : decode cX1_init 440 = .ok (.aload_n 0, 1) := by decide +kernel
theorem dX1_init_441 : decode cX1_init 441 = .ok (.bipush 60, 2) := by decide +kernel
theorem dX1_init_443 : decode cX1_init 443 = .ok (.newarray .int, 2) := by decide +kernel
theorem dX1_init_445 : decode cX1_init 445 = .ok (.putfield 180, 3) := by decide +kernel
theorem dX1_init_448 : decode cX1_init 448 = .ok (.aload_n 0, 1) := by decide +kernel
theorem dX1_init_449 : decode cX1_init 449 = .ok (.bipush 60, 2) := by decide +kernel
theorem dX1_init_451 : decode cX1_init 451 = .ok (.newarray .int, 2) := by decide +kernel
theorem dX1_init_453 : decode cX1_init 453 = .ok (.putfield 183, 3) := by decide +kernel
theorem dX1_init_456 : decode cX1_init 456 = .ok (.aload_n 0, 1) := by decide +kernel
theorem dX1_init_457 : decode cX1_init 457 = .ok (.bipush 60, 2) := by decide +kernel
theorem dX1_init_459 : decode cX1_init 459 = .ok (.newarray .int, 2) := by decide +kernel
theorem dX1_init_461 : decode cX1_init 461 = .ok (.putfield 186, 3) := by decide +kernel
theorem dX1_init_464 : decode cX1_init 464 = .ok (.aload_n 0, 1) := by decide +kernel
theorem dX1_init_465 : decode cX1_init 465 = .ok (.bipush 60, 2) := by decide +kernel
theorem dX1_init_467 : decode cX1_init 467 = .ok (.newarray .int, 2) := by decide +kernel
theorem dX1_init_469 : decode cX1_init 469 = .ok (.putfield 189, 3) := by decide +kernel
theorem dX1_init_472 : decode cX1_init 472 = .ok (.aload_n 0, 1) := by decide +kernel
theorem dX1_init_473 : decode cX1_init 473 = .ok (.iconst 0, 1) := by decide +kernel
theorem dX1_init_474 : decode cX1_init 474 = .ok (.putfield 192, 3) := by decide +kernel
theorem dX1_init_477 : decode cX1_init 477 = .ok (.aload_n 0, 1) := by decide +kernel
theorem dX1_init_478 : decode cX1_init 478 = .ok (.iconst 0, 1) := by decide +kernel
theorem dX1_init_479 : decode cX1_init 479 = .ok (.putfield 195, 3) := by decide +kernel
theorem dX1_init_482 : decode cX1_init 482 = .ok (.aload_n 0, 1) := by decide +kernel
theorem dX1_init_483 : decode cX1_init 483 = .ok (.sipush 4400, 3) := by decide +kernel
theorem dX1_init_486 : decode cX1_init 486 = .ok (.newarray .int, 2) := by decide +kernel
theorem dX1_init_488 : decode cX1_init 488 = .ok (.putfield 198, 3) := by decide +kernel
theorem dX1_init_491 : decode cX1_init 491 = .ok (.aload_n 0, 1) := by decide +kernel
theorem dX1_init_492 : decode cX1_init 492 = .ok (.sipush 4400, 3) := by decide +kernel
theorem dX1_init_495 : decode cX1_init 495 = .ok (.newarray .int, 2) := by decide +kernel
theorem dX1_init_497 : decode cX1_init 497 = .ok (.putfield 201, 3) := by decide +kernel
theorem dX1_init_500 : decode cX1_init 500 = .ok (.aload_n 0, 1) := by decide +kernel
theorem dX1_init_501 : decode cX1_init 501 = .ok (.sipush 4400, 3) := by decide +kernel
theorem dX1_init_504 : decode cX1_init 504 = .ok (.newarray .int, 2) := by decide +kernel
theorem dX1_init_506 : decode cX1_init 506 = .ok (.putfield 204, 3) := by decide +kernel
theorem dX1_init_509 : decode cX1_init 509 = .ok (.aload_n 0, 1) := by decide +kernel
theorem dX1_init_510 : decode cX1_init 510 = .ok (.sipush 4400, 3) := by decide +kernel
theorem dX1_init_513 : decode cX1_init 513 = .ok (.newarray .int, 2) := by decide +kernel
theorem dX1_init_515 : decode cX1_init 515 = .ok (.putfield 207, 3) := by decide +kernel
theorem dX1_init_518 : decode cX1_init 518 = .ok (.aload_n 0, 1) := by decide +kernel
theorem dX1_init_519 : decode cX1_init 519 = .ok (.sipush 4400, 3) := by decide +kernel
theorem dX1_init_522 : decode cX1_init 522 = .ok (.newarray .int, 2) := by decide +kernel
theorem dX1_init_524 : decode cX1_init 524 = .ok (.putfield 210, 3) := by decide +kernel
theorem dX1_init_527 : decode cX1_init 527 = .ok (.aload_n 0, 1) := by decide +kernel
theorem dX1_init_528 : decode cX1_init 528 = .ok (.sipush 4400, 3) := by decide +kernel
theorem dX1_init_531 : decode cX1_init 531 = .ok (.newarray .int, 2) := by decide +kernel
theorem dX1_init_533 : decode cX1_init 533 = .ok (.putfield 213, 3) := by decide +kernel
theorem dX1_init_536 : decode cX1_init 536 = .ok (.aload_n 0, 1) := by decide +kernel
theorem dX1_init_537 : decode cX1_init 537 = .ok (.sipush 4400, 3) := by decide +kernel
theorem dX1_init_540 : decode cX1_init 540 = .ok (.newarray .int, 2) := by decide +kernel
theorem dX1_init_542 : decode cX1_init 542 = .ok (.putfield 216, 3) := by decide +kernel
theorem dX1_init_545 : decode cX1_init 545 = .ok (.aload_n 0, 1) := by decide +kernel
theorem dX1_init_546 : decode cX1_init 546 = .ok (.sipush 4400, 3) := by decide +kernel
theorem dX1_init_549 : decode cX1_init 549 = .ok (.newarray .int, 2) := by decide +kernel
theorem dX1_init_551 : decode cX1_init 551 = .ok (.putfield 219, 3) := by decide +kernel
theorem dX1_init_554 : decode cX1_init 554 = .ok (.aload_n 0, 1) := by decide +kernel
theorem dX1_init_555 : decode cX1_init 555 = .ok (.sipush 4400, 3) := by decide +kernel
theorem dX1_init_558 : decode cX1_init 558 = .ok (.newarray .int, 2) := by decide +kernel
theorem dX1_init_560 : decode cX1_init 560 = .ok (.putfield 222, 3) := by decide +kernel
theorem dX1_init_563 : decode cX1_init 563 = .ok (.aload_n 0, 1) := by decide +kernel
theorem dX1_init_564 : decode cX1_init 564 = .ok (.sipush 4400, 3) := by decide +kernel
theorem dX1_init_567 : decode cX1_init 567 = .ok (.newarray .boolean, 2) := by decide +kernel
theorem dX1_init_569 : decode cX1_init 569 = .ok (.putfield 225, 3) := by decide +kernel
theorem dX1_init_572 : decode cX1_init 572 = .ok (.aload_n 0, 1) := by decide +kernel
theorem dX1_init_573 : decode cX1_init 573 = .ok (.sipush 4400, 3) := by decide +kernel
theorem dX1_init_576 : decode cX1_init 576 = .ok (.newarray .int, 2) := by decide +kernel
theorem dX1_init_578 : decode cX1_init 578 = .ok (.putfield 228, 3) := by decide +kernel
theorem dX1_init_581 : decode cX1_init 581 = .ok (.aload_n 0, 1) := by decide +kernel
theorem dX1_init_582 : decode cX1_init 582 = .ok (.sipush 4400, 3) := by decide +kernel
theorem dX1_init_585 : decode cX1_init 585 = .ok (.newarray .int, 2) := by decide +kernel
theorem dX1_init_587 : decode cX1_init 587 = .ok (.putfield 231, 3) := by decide +kernel
theorem dX1_init_590 : decode cX1_init 590 = .ok (.aload_n 0, 1) := by decide +kernel
theorem dX1_init_591 : decode cX1_init 591 = .ok (.sipush 4400, 3) := by decide +kernel
theorem dX1_init_594 : decode cX1_init 594 = .ok (.newarray .int, 2) := by decide +kernel
theorem dX1_init_596 : decode cX1_init 596 = .ok (.putfield 234, 3) := by decide +kernel
theorem dX1_init_599 : decode cX1_init 599 = .ok (.aload_n 0, 1) := by decide +kernel
theorem dX1_init_600 : decode cX1_init 600 = .ok (.sipush 4400, 3) := by decide +kernel
theorem dX1_init_603 : decode cX1_init 603 = .ok (.newarray .boolean, 2) := by decide +kernel
theorem dX1_init_605 : decode cX1_init 605 = .ok (.putfield 237, 3) := by decide +kernel
theorem dX1_init_608 : decode cX1_init 608 = .ok (.aload_n 0, 1) := by decide +kernel
theorem dX1_init_609 : decode cX1_init 609 = .ok (.sipush 4400, 3) := by decide +kernel
theorem dX1_init_612 : decode cX1_init 612 = .ok (.newarray .boolean, 2) := by decide +kernel
theorem dX1_init_614 : decode cX1_init 614 = .ok (.putfield 240, 3) := by decide +kernel
theorem dX1_init_617 : decode cX1_init 617 = .ok (.aload_n 0, 1) := by decide +kernel
theorem dX1_init_618 : decode cX1_init 618 = .ok (.sipush 4400, 3) := by decide +kernel
theorem dX1_init_621 : decode cX1_init 621 = .ok (.newarray .boolean, 2) := by decide +kernel
theorem dX1_init_623 : decode cX1_init 623 = .ok (.putfield 243, 3) := by decide +kernel
theorem dX1_init_626 : decode cX1_init 626 = .ok (.aload_n 0, 1) := by decide +kernel
theorem dX1_init_627 : decode cX1_init 627 = .ok (.sipush 4400, 3) := by decide +kernel
theorem dX1_init_630 : decode cX1_init 630 = .ok (.newarray .boolean, 2) := by decide +kernel
theorem dX1_init_632 : decode cX1_init 632 = .ok (.putfield 246, 3) := by decide +kernel
theorem dX1_init_635 : decode cX1_init 635 = .ok (.aload_n 0, 1) := by decide +kernel
theorem dX1_init_636 : decode cX1_init 636 = .ok (.sipush 4400, 3) := by decide +kernel
theorem dX1_init_639 : decode cX1_init 639 = .ok (.newarray .boolean, 2) := by decide +kernel
theorem dX1_init_641 : decode cX1_init 641 = .ok (.putfield 249, 3) := by decide +kernel
theorem dX1_init_644 : decode cX1_init 644 = .ok (.aload_n 0, 1) := by decide +kernel
theorem dX1_init_645 : decode cX1_init 645 = .ok (.sipush 4400, 3) := by decide +kernel
theorem dX1_init_648 : decode cX1_init 648 = .ok (.newarray .boolean, 2) := by decide +kernel
theorem dX1_init_650 : decode cX1_init 650 = .ok (.putfield 252, 3) := by decide +kernel
theorem dX1_init_653 : decode cX1_init 653 = .ok (.aload_n 0, 1) := by decide +kernel
theorem dX1_init_654 : decode cX1_init 654 = .ok (.sipush 4400, 3) := by decide +kernel
theorem dX1_init_657 : decode cX1_init 657 = .ok (.newarray .int, 2) := by decide +kernel
theorem dX1_init_659 : decode cX1_init 659 = .ok (.putfield 255, 3) := by decide +kernel
theorem dX1_init_662 : decode cX1_init 662 = .ok (.aload_n 0, 1) := by decide +kernel
theorem dX1_init_663 : decode cX1_init 663 = .ok (.iconst 0, 1) := by decide +kernel
theorem dX1_init_664 : decode cX1_init 664 = .ok (.putfield 258, 3) := by decide +kernel
theorem dX1_init_667 : decode cX1_init 667 = .ok (.aload_n 0, 1) := by decide +kernel
theorem dX1_init_668 : decode cX1_init 668 = .ok (.sipush 20000, 3) := by decide +kernel
theorem dX1_init_671 : decode cX1_init 671 = .ok (.newarray .int, 2) := by decide +kernel
theorem dX1_init_673 : decode cX1_init 673 = .ok (.putfield 261, 3) := by decide +kernel
theorem dX1_init_676 : decode cX1_init 676 = .ok (.aload_n 0, 1) := by decide +kernel
theorem dX1_init_677 : decode cX1_init 677 = .ok (.sipush 20000, 3) := by decide +kernel
theorem dX1_init_680 : decode cX1_init 680 = .ok (.newarray .int, 2) := by decide +kernel
theorem dX1_init_682 : decode cX1_init 682 = .ok (.putfield 264, 3) := by decide +kernel
theorem dX1_init_685 : decode cX1_init 685 = .ok (.aload_n 0, 1) := by decide +kernel
theorem dX1_init_686 : decode cX1_init 686 = .ok (.sipush 20000, 3) := by decide +kernel
theorem dX1_init_689 : decode cX1_init 689 = .ok (.newarray .int, 2) := by decide +kernel
theorem dX1_init_691 : decode cX1_init 691 = .ok (.putfield 267, 3) := by decide +kernel
theorem dX1_init_694 : decode cX1_init 694 = .ok (.aload_n 0, 1) := by decide +kernel
theorem dX1_init_695 : decode cX1_init 695 = .ok (.sipush 20000, 3) := by decide +kernel
theorem dX1_init_698 : decode cX1_init 698 = .ok (.newarray .int, 2) := by decide +kernel
theorem dX1_init_700 : decode cX1_init 700 = .ok (.putfield 270, 3) := by decide +kernel
theorem dX1_init_703 : decode cX1_init 703 = .ok (.aload_n 0, 1) := by decide +kernel
theorem dX1_init_704 : decode cX1_init 704 = .ok (.sipush 20000, 3) := by decide +kernel
theorem dX1_init_707 : decode cX1_init 707 = .ok (.newarray .int, 2) := by decide +kernel
theorem dX1_init_709 : decode cX1_init 709 = .ok (.putfield 273, 3) := by decide +kernel
theorem dX1_init_712 : decode cX1_init 712 = .ok (.aload_n 0, 1) := by decide +kernel
theorem dX1_init_713 : decode cX1_init 713 = .ok (.iconst 0, 1) := by decide +kernel
theorem dX1_init_714 : decode cX1_init 714 = .ok (.putfield 276, 3) := by decide +kernel
theorem dX1_init_717 : decode cX1_init 717 = .ok (.aload_n 0, 1) := by decide +kernel
theorem dX1_init_718 : decode cX1_init 718 = .ok (.iconst 0, 1) := by decide +kernel
theorem dX1_init_719 : decode cX1_init 719 = .ok (.putfield 279, 3) := by decide +kernel
theorem dX1_init_722 : decode cX1_init 722 = .ok (.aload_n 0, 1) := by decide +kernel
theorem dX1_init_723 : decode cX1_init 723 = .ok (.bipush 12, 2) := by decide +kernel
theorem dX1_init_725 : decode cX1_init 725 = .ok (.newarray .int, 2) := by decide +kernel
theorem dX1_init_727 : decode cX1_init 727 = .ok (.putfield 282, 3) := by decide +kernel
theorem dX1_init_730 : decode cX1_init 730 = .ok (.aload_n 0, 1) := by decide +kernel
theorem dX1_init_731 : decode cX1_init 731 = .ok (.bipush 12, 2) := by decide +kernel
theorem dX1_init_733 : decode cX1_init 733 = .ok (.newarray .int, 2) := by decide +kernel
theorem dX1_init_735 : decode cX1_init 735 = .ok (.putfield 285, 3) := by decide +kernel
theorem dX1_init_738 : decode cX1_init 738 = .ok (.aload_n 0, 1) := by decide +kernel
theorem dX1_init_739 : decode cX1_init 739 = .ok (.bipush 12, 2) := by decide +kernel
theorem dX1_init_741 : decode cX1_init 741 = .ok (.newarray .int, 2) := by decide +kernel
theorem dX1_init_743 : decode cX1_init 743 = .ok (.putfield 288, 3) := by decide +kernel
theorem dX1_init_746 : decode cX1_init 746 = .ok (.aload_n 0, 1) := by decide +kernel
theorem dX1_init_747 : decode cX1_init 747 = .ok (.bipush 12, 2) := by decide +kernel
theorem dX1_init_749 : decode cX1_init 749 = .ok (.newarray .int, 2) := by decide +kernel
theorem dX1_init_751 : decode cX1_init 751 = .ok (.putfield 291, 3) := by decide +kernel
theorem dX1_init_754 : decode cX1_init 754 = .ok (.aload_n 0, 1) := by decide +kernel
theorem dX1_init_755 : decode cX1_init 755 = .ok (.bipush 12, 2) := by decide +kernel
theorem dX1_init_757 : decode cX1_init 757 = .ok (.newarray .int, 2) := by decide +kernel
theorem dX1_init_759 : decode cX1_init 759 = .ok (.putfield 294, 3) := by decide +kernel
theorem dX1_init_762 : decode cX1_init 762 = .ok (.aload_n 0, 1) := by decide +kernel
theorem dX1_init_763 : decode cX1_init 763 = .ok (.bipush 12, 2) := by decide +kernel
theorem dX1_init_765 : decode cX1_init 765 = .ok (.newarray .int, 2) := by decide +kernel
theorem dX1_init_767 : decode cX1_init 767 = .ok (.putfield 297, 3) := by decide +kernel
theorem dX1_init_770 : decode cX1_init 770 = .ok (.aload_n 0, 1) := by decide +kernel
theorem dX1_init_771 : decode cX1_init 771 = .ok (.bipush 12, 2) := by decide +kernel
theorem dX1_init_773 : decode cX1_init 773 = .ok (.newarray .int, 2) := by decide +kernel
theorem dX1_init_775 : decode cX1_init 775 = .ok (.putfield 300, 3) := by decide +kernel
theorem dX1_init_778 : decode cX1_init 778 = .ok (.aload_n 0, 1) := by decide +kernel
theorem dX1_init_779 : decode cX1_init 779 = .ok (.bipush 12, 2) := by decide +kernel
theorem dX1_init_781 : decode cX1_init 781 = .ok (.newarray .int, 2) := by decide +kernel
theorem dX1_init_783 : decode cX1_init 783 = .ok (.putfield 303, 3) := by decide +kernel
theorem dX1_init_786 : decode cX1_init 786 = .ok (.aload_n 0, 1) := by decide +kernel
theorem dX1_init_787 : decode cX1_init 787 = .ok (.bipush 12, 2) := by decide +kernel
theorem dX1_init_789 : decode cX1_init 789 = .ok (.newarray .int, 2) := by decide +kernel
theorem dX1_init_791 : decode cX1_init 791 = .ok (.putfield 306, 3) := by decide +kernel
theorem dX1_init_794 : decode cX1_init 794 = .ok (.aload_n 0, 1) := by decide +kernel
theorem dX1_init_795 : decode cX1_init 795 = .ok (.bipush 12, 2) := by decide +kernel
theorem dX1_init_797 : decode cX1_init 797 = .ok (.newarray .int, 2) := by decide +kernel
theorem dX1_init_799 : decode cX1_init 799 = .ok (.putfield 309, 3) := by decide +kernel
theorem dX1_init_802 : decode cX1_init 802 = .ok (.aload_n 0, 1) := by decide +kernel
theorem dX1_init_803 : decode cX1_init 803 = .ok (.bipush 12, 2) := by decide +kernel
theorem dX1_init_805 : decode cX1_init 805 = .ok (.newarray .int, 2) := by decide +kernel
theorem dX1_init_807 : decode cX1_init 807 = .ok (.putfield 312, 3) := by decide +kernel
theorem dX1_init_810 : decode cX1_init 810 = .ok (.aload_n 0, 1) := by decide +kernel
theorem dX1_init_811 : decode cX1_init 811 = .ok (.bipush 12, 2) := by decide +kernel
theorem dX1_init_813 : decode cX1_init 813 = .ok (.newarray .int, 2) := by decide +kernel
theorem dX1_init_815 : decode cX1_init 815 = .ok (.putfield 315, 3) := by decide +kernel
theorem dX1_init_818 : decode cX1_init 818 = .ok (.aload_n 0, 1) := by decide +kernel
theorem dX1_init_819 : decode cX1_init 819 = .ok (.bipush 12, 2) := by decide +kernel
theorem dX1_init_821 : decode cX1_init 821 = .ok (.newarray .boolean, 2) := by decide +kernel
theorem dX1_init_823 : decode cX1_init 823 = .ok (.putfield 318, 3) := by decide +kernel
theorem dX1_init_826 : decode cX1_init 826 = .ok (.aload_n 0, 1) := by decide +kernel
theorem dX1_init_827 : decode cX1_init 827 = .ok (.iconst 0, 1) := by decide +kernel
theorem dX1_init_828 : decode cX1_init 828 = .ok (.putfield 321, 3) := by decide +kernel
theorem dX1_init_831 : decode cX1_init 831 = .ok (.aload_n 0, 1) := by decide +kernel
theorem dX1_init_832 : decode cX1_init 832 = .ok (.bipush 10, 2) := by decide +kernel
theorem dX1_init_834 : decode cX1_init 834 = .ok (.newarray .int, 2) := by decide +kernel
theorem dX1_init_836 : decode cX1_init 836 = .ok (.putfield 324, 3) := by decide +kernel
theorem dX1_init_839 : decode cX1_init 839 = .ok (.aload_n 0, 1) := by decide +kernel
theorem dX1_init_840 : decode cX1_init 840 = .ok (.bipush 10, 2) := by decide +kernel
theorem dX1_init_842 : decode cX1_init 842 = .ok (.newarray .int, 2) := by decide +kernel
theorem dX1_init_844 : decode cX1_init 844 = .ok (.putfield 327, 3) := by decide +kernel
theorem dX1_init_847 : decode cX1_init 847 = .ok (.aload_n 0, 1) := by decide +kernel
theorem dX1_init_848 : decode cX1_init 848 = .ok (.bipush 10, 2) := by decide +kernel
theorem dX1_init_850 : decode cX1_init 850 = .ok (.newarray .int, 2) := by decide +kernel
theorem dX1_init_852 : decode cX1_init 852 = .ok (.putfield 330, 3) := by decide +kernel
theorem dX1_init_855 : decode cX1_init 855 = .ok (.aload_n 0, 1) := by decide +kernel
theorem dX1_init_856 : decode cX1_init 856 = .ok (.bipush 10, 2) := by decide +kernel
theorem dX1_init_858 : decode cX1_init 858 = .ok (.newarray .int, 2) := by decide +kernel
theorem dX1_init_860 : decode cX1_init 860 = .ok (.putfield 333, 3) := by decide +kernel
theorem dX1_init_863 : decode cX1_init 863 = .ok (.aload_n 0, 1) := by decide +kernel
theorem dX1_init_864 : decode cX1_init 864 = .ok (.bipush 10, 2) := by decide +kernel
theorem dX1_init_866 : decode cX1_init 866 = .ok (.newarray .int, 2) := by decide +kernel
theorem dX1_init_868 : decode cX1_init 868 = .ok (.putfield 336, 3) := by decide +kernel
theorem dX1_init_871 : decode cX1_init 871 = .ok (.aload_n 0, 1) := by decide +kernel
theorem dX1_init_872 : decode cX1_init 872 = .ok (.bipush 10, 2) := by decide +kernel
theorem dX1_init_874 : decode cX1_init 874 = .ok (.newarray .boolean, 2) := by decide +kernel
theorem dX1_init_876 : decode cX1_init 876 = .ok (.putfield 339, 3) := by decide +kernel
theorem dX1_init_879 : decode cX1_init 879 = .ok (.return_, 1) := by decide +kernel
theorem dX1_station_0 : decode cX1_station 0 = .ok (.iload_n 2, 1) := by decide +kernel
theorem dX1_station_1 : decode cX1_station 1 = .ok (.ifCond .lt 30, 3) := by decide +kernel
theorem dX1_station_4 : decode cX1_station 4 = .ok (.iload_n 2, 1) := by decide +kernel
theorem dX1_station_5 : decode cX1_station 5 = .ok (.ldc_w 342, 3) := by decide +kernel
theorem dX1_station_8 : decode cX1_station 8 = .ok (.if_icmp .gt 23, 3) := by decide +kernel
theorem dX1_station_11 : decode cX1_station 11 = .ok (.iload_n 1, 1) := by decide +kernel
theorem dX1_station_12 : decode cX1_station 12 = .ok (.ifCond .lt 19, 3) := by decide +kernel
theorem dX1_station_15 : decode cX1_station 15 = .ok (.iload_n 1, 1) := by decide +kernel
theorem dX1_station_16 : decode cX1_station 16 = .ok (.iload_n 2, 1) := by decide +kernel
theorem dX1_station_17 : decode cX1_station 17 = .ok (.if_icmp .gt 14, 3) := by decide +kernel
theorem dX1_station_20 : decode cX1_station 20 = .ok (.iload_n 3, 1) := by decide +kernel
theorem dX1_station_21 : decode cX1_station 21 = .ok (.iconst 1, 1) := by decide +kernel
theorem dX1_station_22 : decode cX1_station 22 = .ok (.if_icmp .lt 9, 3) := by decide +kernel
theorem dX1_station_25 : decode cX1_station 25 = .ok (.iload_n 3, 1) := by decide +kernel
theorem dX1_station_26 : decode cX1_station 26 = .ok (.bipush 100, 2) := by decide +kernel
theorem dX1_station_28 : decode cX1_station 28 = .ok (.if_icmp .le 6, 3) := by decide +kernel
theorem dX1_station_31 : decode cX1_station 31 = .ok (.bipush (-2), 2) := by decide +kernel
theorem dX1_station_33 : decode cX1_station 33 = .ok (.ireturn, 1) := by decide +kernel
theorem dX1_station_34 : decode cX1_station 34 = .ok (.aload_n 0, 1) := by decide +kernel
theorem dX1_station_35 : decode cX1_station 35 = .ok (.getfield 13, 3) := by decide +kernel
theorem dX1_station_38 : decode cX1_station 38 = .ok (.bipush 8, 2) := by decide +kernel
theorem dX1_station_40 : decode cX1_station 40 = .ok (.if_icmp .ne 6, 3) := by decide +kernel
theorem dX1_station_43 : decode cX1_station 43 = .ok (.bipush (-3), 2) := by decide +kernel
theorem dX1_station_45 : decode cX1_station 45 = .ok (.ireturn, 1) := by decide +kernel
theorem dX1_station_46 : decode cX1_station 46 = .ok (.aload_n 0, 1) := by decide +kernel
theorem dX1_station_47 : decode cX1_station 47 = .ok (.getfield 16, 3) := by decide +kernel
theorem dX1_station_50 : decode cX1_station 50 = .ok (.aload_n 0, 1) := by decide +kernel
theorem dX1_station_51 : decode cX1_station 51 = .ok (.getfield 13, 3) := by decide +kernel
theorem dX1_station_54 : decode cX1_station 54 = .ok (.iload_n 1, 1) := by decide +kernel
theorem dX1_station_55 : decode cX1_station 55 = .ok (.iastore, 1) := by decide +kernel
theorem dX1_station_56 : decode cX1_station 56 = .ok (.aload_n 0, 1) := by decide +kernel
theorem dX1_station_57 : decode cX1_station 57 = .ok (.getfield 20, 3) := by decide +kernel
theorem dX1_station_60 : decode cX1_station 60 = .ok (.aload_n 0, 1) := by decide +kernel
theorem dX1_station_61 : decode cX1_station 61 = .ok (.getfield 13, 3) := by decide +kernel
theorem dX1_station_64 : decode cX1_station 64 = .ok (.iload_n 2, 1) := by decide +kernel
theorem dX1_station_65 : decode cX1_station 65 = .ok (.iastore, 1) := by decide +kernel
theorem dX1_station_66 : decode cX1_station 66 = .ok (.aload_n 0, 1) := by decide +kernel
theorem dX1_station_67 : decode cX1_station 67 = .ok (.getfield 23, 3) := by decide +kernel
theorem dX1_station_70 : decode cX1_station 70 = .ok (.aload_n 0, 1) := by decide +kernel
theorem dX1_station_71 : decode cX1_station 71 = .ok (.getfield 13, 3) := by decide +kernel
theorem dX1_station_74 : decode cX1_station 74 = .ok (.iload_n 3, 1) := by decide +kernel
theorem dX1_station_75 : decode cX1_station 75 = .ok (.iastore, 1) := by decide +kernel
theorem dX1_station_76 : decode cX1_station 76 = .ok (.aload_n 0, 1) := by decide +kernel
theorem dX1_station_77 : decode cX1_station 77 = .ok (.dup, 1) := by decide +kernel
theorem dX1_station_78 : decode cX1_station 78 = .ok (.getfield 13, 3) := by decide +kernel
theorem dX1_station_81 : decode cX1_station 81 = .ok (.iconst 1, 1) := by decide +kernel
theorem dX1_station_82 : decode cX1_station 82 = .ok (.iadd, 1) := by decide +kernel
theorem dX1_station_83 : decode cX1_station 83 = .ok (.putfield 13, 3) := by decide +kernel
theorem dX1_station_86 : decode cX1_station 86 = .ok (.aload_n 0, 1) := by decide +kernel
theorem dX1_station_87 : decode cX1_station 87 = .ok (.getfield 13, 3) := by decide +kernel
theorem dX1_station_90 : decode cX1_station 90 = .ok (.iconst 1, 1) := by decide +kernel
theorem dX1_station_91 : decode cX1_station 91 = .ok (.isub, 1) := by decide +kernel
theorem dX1_station_92 : decode cX1_station 92 = .ok (.ireturn, 1) := by decide +kernel
theorem dX1_fault_0 : decode cX1_fault 0 = .ok (.aload_n 0, 1) := by decide +kernel
theorem dX1_fault_1 : decode cX1_fault 1 = .ok (.iload_n 1, 1) := by decide +kernel
theorem dX1_fault_2 : decode cX1_fault 2 = .ok (.invokevirtual 343, 3) := by decide +kernel
theorem dX1_fault_5 : decode cX1_fault 5 = .ok (.ifCond .ne 5, 3) := by decide +kernel
theorem dX1_fault_8 : decode cX1_fault 8 = .ok (.iconst (-1), 1) := by decide +kernel
theorem dX1_fault_9 : decode cX1_fault 9 = .ok (.ireturn, 1) := by decide +kernel
theorem dX1_fault_10 : decode cX1_fault 10 = .ok (.aload_n 0, 1) := by decide +kernel
theorem dX1_fault_11 : decode cX1_fault 11 = .ok (.iload_n 2, 1) := by decide +kernel
theorem dX1_fault_12 : decode cX1_fault 12 = .ok (.invokevirtual 347, 3) := by decide +kernel
theorem dX1_fault_15 : decode cX1_fault 15 = .ok (.ifCond .eq 26, 3) := by decide +kernel
theorem dX1_fault_18 : decode cX1_fault 18 = .ok (.iload_n 3, 1) := by decide +kernel
theorem dX1_fault_19 : decode cX1_fault 19 = .ok (.ifCond .lt 22, 3) := by decide +kernel
theorem dX1_fault_22 : decode cX1_fault 22 = .ok (.iload 4, 2) := by decide +kernel
theorem dX1_fault_24 : decode cX1_fault 24 = .ok (.iload_n 3, 1) := by decide +kernel
theorem dX1_fault_25 : decode cX1_fault 25 = .ok (.if_icmp .lt 16, 3) := by decide +kernel
theorem dX1_fault_28 : decode cX1_fault 28 = .ok (.iload 5, 2) := by decide +kernel
theorem dX1_fault_30 : decode cX1_fault 30 = .ok (.iconst 1, 1) := by decide +kernel
theorem dX1_fault_31 : decode cX1_fault 31 = .ok (.if_icmp .lt 10, 3) := by decide +kernel
theorem dX1_fault_34 : decode cX1_fault 34 = .ok (.iload 5, 2) := by decide +kernel
theorem dX1_fault_36 : decode cX1_fault 36 = .ok (.bipush 7, 2) := by decide +kernel
theorem dX1_fault_38 : decode cX1_fault 38 = .ok (.if_icmp .le 6, 3) := by decide +kernel
theorem dX1_fault_41 : decode cX1_fault 41 = .ok (.bipush (-2), 2) := by decide +kernel
theorem dX1_fault_43 : decode cX1_fault 43 = .ok (.ireturn, 1) := by decide +kernel
theorem dX1_fault_44 : decode cX1_fault 44 = .ok (.aload_n 0, 1) := by decide +kernel
theorem dX1_fault_45 : decode cX1_fault 45 = .ok (.getfield 26, 3) := by decide +kernel
theorem dX1_fault_48 : decode cX1_fault 48 = .ok (.bipush 30, 2) := by decide +kernel
theorem dX1_fault_50 : decode cX1_fault 50 = .ok (.if_icmp .ne 6, 3) := by decide +kernel
theorem dX1_fault_53 : decode cX1_fault 53 = .ok (.bipush (-3), 2) := by decide +kernel
theorem dX1_fault_55 : decode cX1_fault 55 = .ok (.ireturn, 1) := by decide +kernel
theorem dX1_fault_56 : decode cX1_fault 56 = .ok (.aload_n 0, 1) := by decide +kernel
theorem dX1_fault_57 : decode cX1_fault 57 = .ok (.getfield 29, 3) := by decide +kernel
theorem dX1_fault_60 : decode cX1_fault 60 = .ok (.aload_n 0, 1) := by decide +kernel
theorem dX1_fault_61 : decode cX1_fault 61 = .ok (.getfield 26, 3) := by decide +kernel
theorem dX1_fault_64 : decode cX1_fault 64 = .ok (.iload_n 1, 1) := by decide +kernel
theorem dX1_fault_65 : decode cX1_fault 65 = .ok (.iastore, 1) := by decide +kernel
theorem dX1_fault_66 : decode cX1_fault 66 = .ok (.aload_n 0, 1) := by decide +kernel
theorem dX1_fault_67 : decode cX1_fault 67 = .ok (.getfield 32, 3) := by decide +kernel
theorem dX1_fault_70 : decode cX1_fault 70 = .ok (.aload_n 0, 1) := by decide +kernel
theorem dX1_fault_71 : decode cX1_fault 71 = .ok (.getfield 26, 3) := by decide +kernel
theorem dX1_fault_74 : decode cX1_fault 74 = .ok (.iload_n 2, 1) := by decide +kernel
theorem dX1_fault_75 : decode cX1_fault 75 = .ok (.iastore, 1) := by decide +kernel
theorem dX1_fault_76 : decode cX1_fault 76 = .ok (.aload_n 0, 1) := by decide +kernel
theorem dX1_fault_77 : decode cX1_fault 77 = .ok (.getfield 35, 3) := by decide +kernel
theorem dX1_fault_80 : decode cX1_fault 80 = .ok (.aload_n 0, 1) := by decide +kernel
theorem dX1_fault_81 : decode cX1_fault 81 = .ok (.getfield 26, 3) := by decide +kernel
theorem dX1_fault_84 : decode cX1_fault 84 = .ok (.iload_n 3, 1) := by decide +kernel
theorem dX1_fault_85 : decode cX1_fault 85 = .ok (.iastore, 1) := by decide +kernel
theorem dX1_fault_86 : decode cX1_fault 86 = .ok (.aload_n 0, 1) := by decide +kernel
theorem dX1_fault_87 : decode cX1_fault 87 = .ok (.getfield 38, 3) := by decide +kernel
theorem dX1_fault_90 : decode cX1_fault 90 = .ok (.aload_n 0, 1) := by decide +kernel
theorem dX1_fault_91 : decode cX1_fault 91 = .ok (.getfield 26, 3) := by decide +kernel
theorem dX1_fault_94 : decode cX1_fault 94 = .ok (.iload 4, 2) := by decide +kernel
theorem dX1_fault_96 : decode cX1_fault 96 = .ok (.iastore, 1) := by decide +kernel
theorem dX1_fault_97 : decode cX1_fault 97 = .ok (.aload_n 0, 1) := by decide +kernel
theorem dX1_fault_98 : decode cX1_fault 98 = .ok (.getfield 41, 3) := by decide +kernel
theorem dX1_fault_101 : decode cX1_fault 101 = .ok (.aload_n 0, 1) := by decide +kernel
theorem dX1_fault_102 : decode cX1_fault 102 = .ok (.getfield 26, 3) := by decide +kernel
theorem dX1_fault_105 : decode cX1_fault 105 = .ok (.iload 5, 2) := by decide +kernel
theorem dX1_fault_107 : decode cX1_fault 107 = .ok (.iastore, 1) := by decide +kernel
theorem dX1_fault_108 : decode cX1_fault 108 = .ok (.aload_n 0, 1) := by decide +kernel
theorem dX1_fault_109 : decode cX1_fault 109 = .ok (.dup, 1) := by decide +kernel
theorem dX1_fault_110 : decode cX1_fault 110 = .ok (.getfield 26, 3) := by decide +kernel
theorem dX1_fault_113 : decode cX1_fault 113 = .ok (.iconst 1, 1) := by decide +kernel
theorem dX1_fault_114 : decode cX1_fault 114 = .ok (.iadd, 1) := by decide +kernel
theorem dX1_fault_115 : decode cX1_fault 115 = .ok (.putfield 26, 3) := by decide +kernel
theorem dX1_fault_118 : decode cX1_fault 118 = .ok (.aload_n 0, 1) := by decide +kernel
theorem dX1_fault_119 : decode cX1_fault 119 = .ok (.getfield 26, 3) := by decide +kernel
theorem dX1_fault_122 : decode cX1_fault 122 = .ok (.ireturn, 1) := by decide +kernel
theorem dX1_isStation_0 : decode cX1_isStation 0 = .ok (.iload_n 1, 1) := by decide +kernel
theorem dX1_isStation_1 : decode cX1_isStation 1 = .ok (.ifCond .lt 15, 3) := by decide +kernel
theorem dX1_isStation_4 : decode cX1_isStation 4 = .ok (.iload_n 1, 1) := by decide +kernel
theorem dX1_isStation_5 : decode cX1_isStation 5 = .ok (.aload_n 0, 1) := by decide +kernel
theorem dX1_isStation_6 : decode cX1_isStation 6 = .ok (.getfield 13, 3) := by decide +kernel
theorem dX1_isStation_9 : decode cX1_isStation 9 = .ok (.if_icmp .ge 7, 3) := by decide +kernel
theorem dX1_isStation_12 : decode cX1_isStation 12 = .ok (.iconst 1, 1) := by decide +kernel
theorem dX1_isStation_13 : decode cX1_isStation 13 = .ok (.goto 4, 3) := by decide +kernel
theorem dX1_isStation_16 : decode cX1_isStation 16 = .ok (.iconst 0, 1) := by decide +kernel
theorem dX1_isStation_17 : decode cX1_isStation 17 = .ok (.ireturn, 1) := by decide +kernel
theorem dX1_isAct_0 : decode cX1_isAct 0 = .ok (.iload_n 1, 1) := by decide +kernel
theorem dX1_isAct_1 : decode cX1_isAct 1 = .ok (.ifCond .lt 12, 3) := by decide +kernel
theorem dX1_isAct_4 : decode cX1_isAct 4 = .ok (.iload_n 1, 1) := by decide +kernel
theorem dX1_isAct_5 : decode cX1_isAct 5 = .ok (.iconst 2, 1) := by decide +kernel
theorem dX1_isAct_6 : decode cX1_isAct 6 = .ok (.if_icmp .gt 7, 3) := by decide +kernel
theorem dX1_isAct_9 : decode cX1_isAct 9 = .ok (.iconst 1, 1) := by decide +kernel
theorem dX1_isAct_10 : decode cX1_isAct 10 = .ok (.goto 4, 3) := by decide +kernel
theorem dX1_isAct_13 : decode cX1_isAct 13 = .ok (.iconst 0, 1) := by decide +kernel
theorem dX1_isAct_14 : decode cX1_isAct 14 = .ok (.ireturn, 1) := by decide +kernel
theorem dX1_slow_0 : decode cX1_slow 0 = .ok (.aload_n 0, 1) := by decide +kernel
theorem dX1_slow_1 : decode cX1_slow 1 = .ok (.iload_n 1, 1) := by decide +kernel
theorem dX1_slow_2 : decode cX1_slow 2 = .ok (.invokevirtual 343, 3) := by decide +kernel
theorem dX1_slow_5 : decode cX1_slow 5 = .ok (.ifCond .ne 5, 3) := by decide +kernel
theorem dX1_slow_8 : decode cX1_slow 8 = .ok (.iconst (-1), 1) := by decide +kernel
theorem dX1_slow_9 : decode cX1_slow 9 = .ok (.ireturn, 1) := by decide +kernel
theorem dX1_slow_10 : decode cX1_slow 10 = .ok (.aload_n 0, 1) := by decide +kernel
theorem dX1_slow_11 : decode cX1_slow 11 = .ok (.iload_n 2, 1) := by decide +kernel
theorem dX1_slow_12 : decode cX1_slow 12 = .ok (.invokevirtual 347, 3) := by decide +kernel
theorem dX1_slow_15 : decode cX1_slow 15 = .ok (.ifCond .eq 27, 3) := by decide +kernel
theorem dX1_slow_18 : decode cX1_slow 18 = .ok (.iload_n 3, 1) := by decide +kernel
theorem dX1_slow_19 : decode cX1_slow 19 = .ok (.ifCond .lt 23, 3) := by decide +kernel
theorem dX1_slow_22 : decode cX1_slow 22 = .ok (.iload 4, 2) := by decide +kernel
theorem dX1_slow_24 : decode cX1_slow 24 = .ok (.iload_n 3, 1) := by decide +kernel
theorem dX1_slow_25 : decode cX1_slow 25 = .ok (.if_icmp .lt 17, 3) := by decide +kernel
theorem dX1_slow_28 : decode cX1_slow 28 = .ok (.iload 5, 2) := by decide +kernel
theorem dX1_slow_30 : decode cX1_slow 30 = .ok (.iconst 1, 1) := by decide +kernel
theorem dX1_slow_31 : decode cX1_slow 31 = .ok (.if_icmp .lt 11, 3) := by decide +kernel
theorem dX1_slow_34 : decode cX1_slow 34 = .ok (.iload 5, 2) := by decide +kernel
theorem dX1_slow_36 : decode cX1_slow 36 = .ok (.sipush 1000, 3) := by decide +kernel
theorem dX1_slow_39 : decode cX1_slow 39 = .ok (.if_icmp .le 6, 3) := by decide +kernel
theorem dX1_slow_42 : decode cX1_slow 42 = .ok (.bipush (-2), 2) := by decide +kernel
theorem dX1_slow_44 : decode cX1_slow 44 = .ok (.ireturn, 1) := by decide +kernel
theorem dX1_slow_45 : decode cX1_slow 45 = .ok (.aload_n 0, 1) := by decide +kernel
theorem dX1_slow_46 : decode cX1_slow 46 = .ok (.getfield 44, 3) := by decide +kernel
theorem dX1_slow_49 : decode cX1_slow 49 = .ok (.bipush 30, 2) := by decide +kernel
theorem dX1_slow_51 : decode cX1_slow 51 = .ok (.if_icmp .ne 6, 3) := by decide +kernel
theorem dX1_slow_54 : decode cX1_slow 54 = .ok (.bipush (-3), 2) := by decide +kernel
theorem dX1_slow_56 : decode cX1_slow 56 = .ok (.ireturn, 1) := by decide +kernel
theorem dX1_slow_57 : decode cX1_slow 57 = .ok (.aload_n 0, 1) := by decide +kernel
theorem dX1_slow_58 : decode cX1_slow 58 = .ok (.getfield 47, 3) := by decide +kernel
theorem dX1_slow_61 : decode cX1_slow 61 = .ok (.aload_n 0, 1) := by decide +kernel
theorem dX1_slow_62 : decode cX1_slow 62 = .ok (.getfield 44, 3) := by decide +kernel
theorem dX1_slow_65 : decode cX1_slow 65 = .ok (.iload_n 1, 1) := by decide +kernel
theorem dX1_slow_66 : decode cX1_slow 66 = .ok (.iastore, 1) := by decide +kernel
theorem dX1_slow_67 : decode cX1_slow 67 = .ok (.aload_n 0, 1) := by decide +kernel
theorem dX1_slow_68 : decode cX1_slow 68 = .ok (.getfield 50, 3) := by decide +kernel
theorem dX1_slow_71 : decode cX1_slow 71 = .ok (.aload_n 0, 1) := by decide +kernel
theorem dX1_slow_72 : decode cX1_slow 72 = .ok (.getfield 44, 3) := by decide +kernel
theorem dX1_slow_75 : decode cX1_slow 75 = .ok (.iload_n 2, 1) := by decide +kernel
theorem dX1_slow_76 : decode cX1_slow 76 = .ok (.iastore, 1) := by decide +kernel
theorem dX1_slow_77 : decode cX1_slow 77 = .ok (.aload_n 0, 1) := by decide +kernel
theorem dX1_slow_78 : decode cX1_slow 78 = .ok (.getfield 53, 3) := by decide +kernel
theorem dX1_slow_81 : decode cX1_slow 81 = .ok (.aload_n 0, 1) := by decide +kernel
theorem dX1_slow_82 : decode cX1_slow 82 = .ok (.getfield 44, 3) := by decide +kernel
theorem dX1_slow_85 : decode cX1_slow 85 = .ok (.iload_n 3, 1) := by decide +kernel
theorem dX1_slow_86 : decode cX1_slow 86 = .ok (.iastore, 1) := by decide +kernel
theorem dX1_slow_87 : decode cX1_slow 87 = .ok (.aload_n 0, 1) := by decide +kernel
theorem dX1_slow_88 : decode cX1_slow 88 = .ok (.getfield 56, 3) := by decide +kernel
theorem dX1_slow_91 : decode cX1_slow 91 = .ok (.aload_n 0, 1) := by decide +kernel
theorem dX1_slow_92 : decode cX1_slow 92 = .ok (.getfield 44, 3) := by decide +kernel
theorem dX1_slow_95 : decode cX1_slow 95 = .ok (.iload 4, 2) := by decide +kernel
theorem dX1_slow_97 : decode cX1_slow 97 = .ok (.iastore, 1) := by decide +kernel
theorem dX1_slow_98 : decode cX1_slow 98 = .ok (.aload_n 0, 1) := by decide +kernel
theorem dX1_slow_99 : decode cX1_slow 99 = .ok (.getfield 59, 3) := by decide +kernel
theorem dX1_slow_102 : decode cX1_slow 102 = .ok (.aload_n 0, 1) := by decide +kernel
theorem dX1_slow_103 : decode cX1_slow 103 = .ok (.getfield 44, 3) := by decide +kernel
theorem dX1_slow_106 : decode cX1_slow 106 = .ok (.iload 5, 2) := by decide +kernel
theorem dX1_slow_108 : decode cX1_slow 108 = .ok (.iastore, 1) := by decide +kernel
theorem dX1_slow_109 : decode cX1_slow 109 = .ok (.aload_n 0, 1) := by decide +kernel
theorem dX1_slow_110 : decode cX1_slow 110 = .ok (.dup, 1) := by decide +kernel
theorem dX1_slow_111 : decode cX1_slow 111 = .ok (.getfield 44, 3) := by decide +kernel
theorem dX1_slow_114 : decode cX1_slow 114 = .ok (.iconst 1, 1) := by decide +kernel
theorem dX1_slow_115 : decode cX1_slow 115 = .ok (.iadd, 1) := by decide +kernel
theorem dX1_slow_116 : decode cX1_slow 116 = .ok (.putfield 44, 3) := by decide +kernel
theorem dX1_slow_119 : decode cX1_slow 119 = .ok (.aload_n 0, 1) := by decide +kernel
theorem dX1_slow_120 : decode cX1_slow 120 = .ok (.getfield 44, 3) := by decide +kernel
theorem dX1_slow_123 : decode cX1_slow 123 = .ok (.ireturn, 1) := by decide +kernel
theorem dX1_isOf_0 : decode cX1_isOf 0 = .ok (.iload_n 1, 1) := by decide +kernel
theorem dX1_isOf_1 : decode cX1_isOf 1 = .ok (.ifCond .lt 19, 3) := by decide +kernel
theorem dX1_isOf_4 : decode cX1_isOf 4 = .ok (.iload_n 1, 1) := by decide +kernel
theorem dX1_isOf_5 : decode cX1_isOf 5 = .ok (.bipush 15, 2) := by decide +kernel
theorem dX1_isOf_7 : decode cX1_isOf 7 = .ok (.if_icmp .gt 13, 3) := by decide +kernel
theorem dX1_isOf_10 : decode cX1_isOf 10 = .ok (.iload_n 2, 1) := by decide +kernel
theorem dX1_isOf_11 : decode cX1_isOf 11 = .ok (.ifCond .lt 9, 3) := by decide +kernel
theorem dX1_isOf_14 : decode cX1_isOf 14 = .ok (.iload_n 2, 1) := by decide +kernel
theorem dX1_isOf_15 : decode cX1_isOf 15 = .ok (.bipush 15, 2) := by decide +kernel
theorem dX1_isOf_17 : decode cX1_isOf 17 = .ok (.if_icmp .le 5, 3) := by decide +kernel
theorem dX1_isOf_20 : decode cX1_isOf 20 = .ok (.iconst (-1), 1) := by decide +kernel
theorem dX1_isOf_21 : decode cX1_isOf 21 = .ok (.ireturn, 1) := by decide +kernel
theorem dX1_isOf_22 : decode cX1_isOf 22 = .ok (.aload_n 0, 1) := by decide +kernel
theorem dX1_isOf_23 : decode cX1_isOf 23 = .ok (.iload_n 1, 1) := by decide +kernel
theorem dX1_isOf_24 : decode cX1_isOf 24 = .ok (.iload_n 2, 1) := by decide +kernel
theorem dX1_isOf_25 : decode cX1_isOf 25 = .ok (.invokevirtual 354, 3) := by decide +kernel
theorem dX1_isOf_28 : decode cX1_isOf 28 = .ok (.ifCond .eq 7, 3) := by decide +kernel
theorem dX1_isOf_31 : decode cX1_isOf 31 = .ok (.iconst 1, 1) := by decide +kernel
theorem dX1_isOf_32 : decode cX1_isOf 32 = .ok (.goto 4, 3) := by decide +kernel
theorem dX1_isOf_35 : decode cX1_isOf 35 = .ok (.iconst 0, 1) := by decide +kernel
theorem dX1_isOf_36 : decode cX1_isOf 36 = .ok (.ireturn, 1) := by decide +kernel
theorem dX1_isUnder_0 : decode cX1_isUnder 0 = .ok (.iload_n 1, 1) := by decide +kernel
theorem dX1_isUnder_1 : decode cX1_isUnder 1 = .ok (.istore_n 3, 1) := by decide +kernel
theorem dX1_isUnder_2 : decode cX1_isUnder 2 = .ok (.iload_n 3, 1) := by decide +kernel
theorem dX1_isUnder_3 : decode cX1_isUnder 3 = .ok (.iconst (-1), 1) := by decide +kernel
theorem dX1_isUnder_4 : decode cX1_isUnder 4 = .ok (.if_icmp .eq 17, 3) := by decide +kernel
theorem dX1_isUnder_7 : decode cX1_isUnder 7 = .ok (.iload_n 3, 1) := by decide +kernel
theorem dX1_isUnder_8 : decode cX1_isUnder 8 = .ok (.iload_n 2, 1) := by decide +kernel
theorem dX1_isUnder_9 : decode cX1_isUnder 9 = .ok (.if_icmp .eq 12, 3) := by decide +kernel
theorem dX1_isUnder_12 : decode cX1_isUnder 12 = .ok (.aload_n 0, 1) := by decide +kernel
theorem dX1_isUnder_13 : decode cX1_isUnder 13 = .ok (.iload_n 3, 1) := by decide +kernel
theorem dX1_isUnder_14 : decode cX1_isUnder 14 = .ok (.invokevirtual 350, 3) := by decide +kernel
theorem dX1_isUnder_17 : decode cX1_isUnder 17 = .ok (.istore_n 3, 1) := by decide +kernel
theorem dX1_isUnder_18 : decode cX1_isUnder 18 = .ok (.goto (-16), 3) := by decide +kernel
theorem dX1_isUnder_21 : decode cX1_isUnder 21 = .ok (.iload_n 3, 1) := by decide +kernel
theorem dX1_isUnder_22 : decode cX1_isUnder 22 = .ok (.iload_n 2, 1) := by decide +kernel
theorem dX1_isUnder_23 : decode cX1_isUnder 23 = .ok (.if_icmp .ne 7, 3) := by decide +kernel
theorem dX1_isUnder_26 : decode cX1_isUnder 26 = .ok (.iconst 1, 1) := by decide +kernel
theorem dX1_isUnder_27 : decode cX1_isUnder 27 = .ok (.goto 4, 3) := by decide +kernel
theorem dX1_isUnder_30 : decode cX1_isUnder 30 = .ok (.iconst 0, 1) := by decide +kernel
theorem dX1_isUnder_31 : decode cX1_isUnder 31 = .ok (.ireturn, 1) := by decide +kernel
theorem dX1_over_0 : decode cX1_over 0 = .ok (.iload_n 1, 1) := by decide +kernel
theorem dX1_over_1 : decode cX1_over 1 = .ok (.ifCond .ne 5, 3) := by decide +kernel
theorem dX1_over_4 : decode cX1_over 4 = .ok (.iconst (-1), 1) := by decide +kernel
theorem dX1_over_5 : decode cX1_over 5 = .ok (.ireturn, 1) := by decide +kernel
theorem dX1_over_6 : decode cX1_over 6 = .ok (.iload_n 1, 1) := by decide +kernel
theorem dX1_over_7 : decode cX1_over 7 = .ok (.iconst 1, 1) := by decide +kernel
theorem dX1_over_8 : decode cX1_over 8 = .ok (.if_icmp .eq 20, 3) := by decide +kernel
theorem dX1_over_11 : decode cX1_over 11 = .ok (.iload_n 1, 1) := by decide +kernel
theorem dX1_over_12 : decode cX1_over 12 = .ok (.iconst 4, 1) := by decide +kernel
theorem dX1_over_13 : decode cX1_over 13 = .ok (.if_icmp .eq 15, 3) := by decide +kernel
theorem dX1_over_16 : decode cX1_over 16 = .ok (.iload_n 1, 1) := by decide +kernel
theorem dX1_over_17 : decode cX1_over 17 = .ok (.bipush 8, 2) := by decide +kernel
theorem dX1_over_19 : decode cX1_over 19 = .ok (.if_icmp .eq 9, 3) := by decide +kernel
theorem dX1_over_22 : decode cX1_over 22 = .ok (.iload_n 1, 1) := by decide +kernel
theorem dX1_over_23 : decode cX1_over 23 = .ok (.bipush 14, 2) := by decide +kernel
theorem dX1_over_25 : decode cX1_over 25 = .ok (.if_icmp .ne 5, 3) := by decide +kernel
theorem dX1_over_28 : decode cX1_over 28 = .ok (.iconst 0, 1) := by decide +kernel
theorem dX1_over_29 : decode cX1_over 29 = .ok (.ireturn, 1) := by decide +kernel
theorem dX1_over_30 : decode cX1_over 30 = .ok (.iload_n 1, 1) := by decide +kernel
theorem dX1_over_31 : decode cX1_over 31 = .ok (.iconst 4, 1) := by decide +kernel
theorem dX1_over_32 : decode cX1_over 32 = .ok (.if_icmp .ge 5, 3) := by decide +kernel
theorem dX1_over_35 : decode cX1_over 35 = .ok (.iconst 1, 1) := by decide +kernel
theorem dX1_over_36 : decode cX1_over 36 = .ok (.ireturn, 1) := by decide +kernel
theorem dX1_over_37 : decode cX1_over 37 = .ok (.iload_n 1, 1) := by decide +kernel
theorem dX1_over_38 : decode cX1_over 38 = .ok (.bipush 8, 2) := by decide +kernel
theorem dX1_over_40 : decode cX1_over 40 = .ok (.if_icmp .ge 5, 3) := by decide +kernel
theorem dX1_over_43 : decode cX1_over 43 = .ok (.iconst 4, 1) := by decide +kernel
theorem dX1_over_44 : decode cX1_over 44 = .ok (.ireturn, 1) := by decide +kernel
theorem dX1_over_45 : decode cX1_over 45 = .ok (.iload_n 1, 1) := by decide +kernel
theorem dX1_over_46 : decode cX1_over 46 = .ok (.bipush 14, 2) := by decide +kernel
theorem dX1_over_48 : decode cX1_over 48 = .ok (.if_icmp .ge 8, 3) := by decide +kernel
theorem dX1_over_51 : decode cX1_over 51 = .ok (.bipush 8, 2) := by decide +kernel
theorem dX1_over_53 : decode cX1_over 53 = .ok (.goto 5, 3) := by decide +kernel
theorem dX1_over_56 : decode cX1_over 56 = .ok (.bipush 14, 2) := by decide +kernel
theorem dX1_over_58 : decode cX1_over 58 = .ok (.ireturn, 1) := by decide +kernel
theorem dX1_failure_0 : decode cX1_failure 0 = .ok (.iload_n 1, 1) := by decide +kernel
theorem dX1_failure_1 : decode cX1_failure 1 = .ok (.ifCond .lt 11, 3) := by decide +kernel
theorem dX1_failure_4 : decode cX1_failure 4 = .ok (.iload_n 1, 1) := by decide +kernel
theorem dX1_failure_5 : decode cX1_failure 5 = .ok (.aload_n 0, 1) := by decide +kernel
theorem dX1_failure_6 : decode cX1_failure 6 = .ok (.getfield 80, 3) := by decide +kernel
theorem dX1_failure_9 : decode cX1_failure 9 = .ok (.if_icmp .lt 5, 3) := by decide +kernel
theorem dX1_failure_12 : decode cX1_failure 12 = .ok (.iconst (-1), 1) := by decide +kernel
theorem dX1_failure_13 : decode cX1_failure 13 = .ok (.ireturn, 1) := by decide +kernel
theorem dX1_failure_14 : decode cX1_failure 14 = .ok (.iload_n 2, 1) := by decide +kernel
theorem dX1_failure_15 : decode cX1_failure 15 = .ok (.tableswitch 79 0 5 #[37, 44, 51, 58, 65, 72], 37) := by decide +kernel
theorem dX1_failure_52 : decode cX1_failure 52 = .ok (.aload_n 0, 1) := by decide +kernel
theorem dX1_failure_53 : decode cX1_failure 53 = .ok (.getfield 83, 3) := by decide +kernel
theorem dX1_failure_56 : decode cX1_failure 56 = .ok (.iload_n 1, 1) := by decide +kernel
theorem dX1_failure_57 : decode cX1_failure 57 = .ok (.iaload, 1) := by decide +kernel
theorem dX1_failure_58 : decode cX1_failure 58 = .ok (.ireturn, 1) := by decide +kernel
theorem dX1_failure_59 : decode cX1_failure 59 = .ok (.aload_n 0, 1) := by decide +kernel
theorem dX1_failure_60 : decode cX1_failure 60 = .ok (.getfield 86, 3) := by decide +kernel
theorem dX1_failure_63 : decode cX1_failure 63 = .ok (.iload_n 1, 1) := by decide +kernel
theorem dX1_failure_64 : decode cX1_failure 64 = .ok (.iaload, 1) := by decide +kernel
theorem dX1_failure_65 : decode cX1_failure 65 = .ok (.ireturn, 1) := by decide +kernel
theorem dX1_failure_66 : decode cX1_failure 66 = .ok (.aload_n 0, 1) := by decide +kernel
theorem dX1_failure_67 : decode cX1_failure 67 = .ok (.getfield 89, 3) := by decide +kernel
theorem dX1_failure_70 : decode cX1_failure 70 = .ok (.iload_n 1, 1) := by decide +kernel
theorem dX1_failure_71 : decode cX1_failure 71 = .ok (.iaload, 1) := by decide +kernel
theorem dX1_failure_72 : decode cX1_failure 72 = .ok (.ireturn, 1) := by decide +kernel
theorem dX1_failure_73 : decode cX1_failure 73 = .ok (.aload_n 0, 1) := by decide +kernel
theorem dX1_failure_74 : decode cX1_failure 74 = .ok (.getfield 92, 3) := by decide +kernel
theorem dX1_failure_77 : decode cX1_failure 77 = .ok (.iload_n 1, 1) := by decide +kernel
theorem dX1_failure_78 : decode cX1_failure 78 = .ok (.iaload, 1) := by decide +kernel
theorem dX1_failure_79 : decode cX1_failure 79 = .ok (.ireturn, 1) := by decide +kernel
theorem dX1_failure_80 : decode cX1_failure 80 = .ok (.aload_n 0, 1) := by decide +kernel
theorem dX1_failure_81 : decode cX1_failure 81 = .ok (.getfield 95, 3) := by decide +kernel
theorem dX1_failure_84 : decode cX1_failure 84 = .ok (.iload_n 1, 1) := by decide +kernel
theorem dX1_failure_85 : decode cX1_failure 85 = .ok (.iaload, 1) := by decide +kernel
theorem dX1_failure_86 : decode cX1_failure 86 = .ok (.ireturn, 1) := by decide +kernel
theorem dX1_failure_87 : decode cX1_failure 87 = .ok (.aload_n 0, 1) := by decide +kernel
theorem dX1_failure_88 : decode cX1_failure 88 = .ok (.getfield 98, 3) := by decide +kernel
theorem dX1_failure_91 : decode cX1_failure 91 = .ok (.iload_n 1, 1) := by decide +kernel
theorem dX1_failure_92 : decode cX1_failure 92 = .ok (.iaload, 1) := by decide +kernel
theorem dX1_failure_93 : decode cX1_failure 93 = .ok (.ireturn, 1) := by decide +kernel
theorem dX1_failure_94 : decode cX1_failure 94 = .ok (.iconst (-1), 1) := by decide +kernel
theorem dX1_failure_95 : decode cX1_failure 95 = .ok (.ireturn, 1) := by decide +kernel
theorem dX1_guard_0 : decode cX1_guard 0 = .ok (.iload_n 1, 1) := by decide +kernel
theorem dX1_guard_1 : decode cX1_guard 1 = .ok (.bipush 6, 2) := by decide +kernel
theorem dX1_guard_3 : decode cX1_guard 3 = .ok (.if_icmp .ne 18, 3) := by decide +kernel
theorem dX1_guard_6 : decode cX1_guard 6 = .ok (.iload_n 2, 1) := by decide +kernel
theorem dX1_guard_7 : decode cX1_guard 7 = .ok (.iconst 1, 1) := by decide +kernel
theorem dX1_guard_8 : decode cX1_guard 8 = .ok (.if_icmp .ne 13, 3) := by decide +kernel
theorem dX1_guard_11 : decode cX1_guard 11 = .ok (.aload_n 0, 1) := by decide +kernel
theorem dX1_guard_12 : decode cX1_guard 12 = .ok (.iload_n 3, 1) := by decide +kernel
theorem dX1_guard_13 : decode cX1_guard 13 = .ok (.invokevirtual 343, 3) := by decide +kernel
theorem dX1_guard_16 : decode cX1_guard 16 = .ok (.ifCond .ne 5, 3) := by decide +kernel
theorem dX1_guard_19 : decode cX1_guard 19 = .ok (.iconst (-1), 1) := by decide +kernel
theorem dX1_guard_20 : decode cX1_guard 20 = .ok (.ireturn, 1) := by decide +kernel
theorem dX1_guard_21 : decode cX1_guard 21 = .ok (.iload_n 1, 1) := by decide +kernel
theorem dX1_guard_22 : decode cX1_guard 22 = .ok (.ifCond .eq 20, 3) := by decide +kernel
theorem dX1_guard_25 : decode cX1_guard 25 = .ok (.iload_n 1, 1) := by decide +kernel
theorem dX1_guard_26 : decode cX1_guard 26 = .ok (.iconst 4, 1) := by decide +kernel
theorem dX1_guard_27 : decode cX1_guard 27 = .ok (.if_icmp .eq 15, 3) := by decide +kernel
theorem dX1_guard_30 : decode cX1_guard 30 = .ok (.iload_n 1, 1) := by decide +kernel
theorem dX1_guard_31 : decode cX1_guard 31 = .ok (.bipush 6, 2) := by decide +kernel
theorem dX1_guard_33 : decode cX1_guard 33 = .ok (.if_icmp .eq 9, 3) := by decide +kernel
theorem dX1_guard_36 : decode cX1_guard 36 = .ok (.iload_n 1, 1) := by decide +kernel
theorem dX1_guard_37 : decode cX1_guard 37 = .ok (.bipush 9, 2) := by decide +kernel
theorem dX1_guard_39 : decode cX1_guard 39 = .ok (.if_icmp .ne 7, 3) := by decide +kernel
theorem dX1_guard_42 : decode cX1_guard 42 = .ok (.iconst 1, 1) := by decide +kernel
theorem dX1_guard_43 : decode cX1_guard 43 = .ok (.goto 4, 3) := by decide +kernel
theorem dX1_guard_46 : decode cX1_guard 46 = .ok (.iconst 0, 1) := by decide +kernel
theorem dX1_guard_47 : decode cX1_guard 47 = .ok (.istore 6, 2) := by decide +kernel
theorem dX1_guard_49 : decode cX1_guard 49 = .ok (.aload_n 0, 1) := by decide +kernel
theorem dX1_guard_50 : decode cX1_guard 50 = .ok (.iload_n 1, 1) := by decide +kernel
theorem dX1_guard_51 : decode cX1_guard 51 = .ok (.iload_n 2, 1) := by decide +kernel
theorem dX1_guard_52 : decode cX1_guard 52 = .ok (.iload_n 3, 1) := by decide +kernel
theorem dX1_guard_53 : decode cX1_guard 53 = .ok (.iload 4, 2) := by decide +kernel
theorem dX1_guard_55 : decode cX1_guard 55 = .ok (.invokevirtual 362, 3) := by decide +kernel
theorem dX1_guard_58 : decode cX1_guard 58 = .ok (.ifCond .eq 24, 3) := by decide +kernel
theorem dX1_guard_61 : decode cX1_guard 61 = .ok (.aload_n 0, 1) := by decide +kernel
theorem dX1_guard_62 : decode cX1_guard 62 = .ok (.iload 5, 2) := by decide +kernel
theorem dX1_guard_64 : decode cX1_guard 64 = .ok (.iconst 0, 1) := by decide +kernel
theorem dX1_guard_65 : decode cX1_guard 65 = .ok (.iload 6, 2) := by decide +kernel
theorem dX1_guard_67 : decode cX1_guard 67 = .ok (.ifCond .eq 8, 3) := by decide +kernel
theorem dX1_guard_70 : decode cX1_guard 70 = .ok (.bipush 15, 2) := by decide +kernel
theorem dX1_guard_72 : decode cX1_guard 72 = .ok (.goto 4, 3) := by decide +kernel
theorem dX1_guard_75 : decode cX1_guard 75 = .ok (.iconst 0, 1) := by decide +kernel
theorem dX1_guard_76 : decode cX1_guard 76 = .ok (.invokevirtual 358, 3) := by decide +kernel
theorem dX1_guard_79 : decode cX1_guard 79 = .ok (.ifCond .ne 6, 3) := by decide +kernel
theorem dX1_guard_82 : decode cX1_guard 82 = .ok (.bipush (-2), 2) := by decide +kernel
theorem dX1_guard_84 : decode cX1_guard 84 = .ok (.ireturn, 1) := by decide +kernel
theorem dX1_guard_85 : decode cX1_guard 85 = .ok (.aload_n 0, 1) := by decide +kernel
theorem dX1_guard_86 : decode cX1_guard 86 = .ok (.getfield 101, 3) := by decide +kernel
theorem dX1_guard_89 : decode cX1_guard 89 = .ok (.bipush 24, 2) := by decide +kernel
theorem dX1_guard_91 : decode cX1_guard 91 = .ok (.if_icmp .ne 6, 3) := by decide +kernel
theorem dX1_guard_94 : decode cX1_guard 94 = .ok (.bipush (-3), 2) := by decide +kernel
theorem dX1_guard_96 : decode cX1_guard 96 = .ok (.ireturn, 1) := by decide +kernel
theorem dX1_guard_97 : decode cX1_guard 97 = .ok (.aload_n 0, 1) := by decide +kernel
theorem dX1_guard_98 : decode cX1_guard 98 = .ok (.getfield 101, 3) := by decide +kernel
theorem dX1_guard_101 : decode cX1_guard 101 = .ok (.istore 7, 2) := by decide +kernel
theorem dX1_guard_103 : decode cX1_guard 103 = .ok (.aload_n 0, 1) := by decide +kernel
theorem dX1_guard_104 : decode cX1_guard 104 = .ok (.getfield 104, 3) := by decide +kernel
theorem dX1_guard_107 : decode cX1_guard 107 = .ok (.iload 7, 2) := by decide +kernel
theorem dX1_guard_109 : decode cX1_guard 109 = .ok (.iload_n 1, 1) := by decide +kernel
theorem dX1_guard_110 : decode cX1_guard 110 = .ok (.iastore, 1) := by decide +kernel
theorem dX1_guard_111 : decode cX1_guard 111 = .ok (.aload_n 0, 1) := by decide +kernel
theorem dX1_guard_112 : decode cX1_guard 112 = .ok (.getfield 107, 3) := by decide +kernel
theorem dX1_guard_115 : decode cX1_guard 115 = .ok (.iload 7, 2) := by decide +kernel
theorem dX1_guard_117 : decode cX1_guard 117 = .ok (.iload_n 2, 1) := by decide +kernel
theorem dX1_guard_118 : decode cX1_guard 118 = .ok (.iastore, 1) := by decide +kernel
theorem dX1_guard_119 : decode cX1_guard 119 = .ok (.aload_n 0, 1) := by decide +kernel
theorem dX1_guard_120 : decode cX1_guard 120 = .ok (.getfield 110, 3) := by decide +kernel
theorem dX1_guard_123 : decode cX1_guard 123 = .ok (.iload 7, 2) := by decide +kernel
theorem dX1_guard_125 : decode cX1_guard 125 = .ok (.iload_n 3, 1) := by decide +kernel
theorem dX1_guard_126 : decode cX1_guard 126 = .ok (.iastore, 1) := by decide +kernel
theorem dX1_guard_127 : decode cX1_guard 127 = .ok (.aload_n 0, 1) := by decide +kernel
theorem dX1_guard_128 : decode cX1_guard 128 = .ok (.getfield 113, 3) := by decide +kernel
theorem dX1_guard_131 : decode cX1_guard 131 = .ok (.iload 7, 2) := by decide +kernel
theorem dX1_guard_133 : decode cX1_guard 133 = .ok (.iload 4, 2) := by decide +kernel
theorem dX1_guard_135 : decode cX1_guard 135 = .ok (.iastore, 1) := by decide +kernel
theorem dX1_guard_136 : decode cX1_guard 136 = .ok (.aload_n 0, 1) := by decide +kernel
theorem dX1_guard_137 : decode cX1_guard 137 = .ok (.getfield 116, 3) := by decide +kernel
theorem dX1_guard_140 : decode cX1_guard 140 = .ok (.iload 7, 2) := by decide +kernel
theorem dX1_guard_142 : decode cX1_guard 142 = .ok (.iload 5, 2) := by decide +kernel
theorem dX1_guard_144 : decode cX1_guard 144 = .ok (.iastore, 1) := by decide +kernel
theorem dX1_guard_145 : decode cX1_guard 145 = .ok (.aload_n 0, 1) := by decide +kernel
theorem dX1_guard_146 : decode cX1_guard 146 = .ok (.getfield 119, 3) := by decide +kernel
theorem dX1_guard_149 : decode cX1_guard 149 = .ok (.iload 7, 2) := by decide +kernel
theorem dX1_guard_151 : decode cX1_guard 151 = .ok (.iconst 0, 1) := by decide +kernel
theorem dX1_guard_152 : decode cX1_guard 152 = .ok (.iastore, 1) := by decide +kernel
theorem dX1_guard_153 : decode cX1_guard 153 = .ok (.aload_n 0, 1) := by decide +kernel
theorem dX1_guard_154 : decode cX1_guard 154 = .ok (.getfield 122, 3) := by decide +kernel
theorem dX1_guard_157 : decode cX1_guard 157 = .ok (.iload 7, 2) := by decide +kernel
theorem dX1_guard_159 : decode cX1_guard 159 = .ok (.iconst 0, 1) := by decide +kernel
theorem dX1_guard_160 : decode cX1_guard 160 = .ok (.iastore, 1) := by decide +kernel
theorem dX1_guard_161 : decode cX1_guard 161 = .ok (.aload_n 0, 1) := by decide +kernel
theorem dX1_guard_162 : decode cX1_guard 162 = .ok (.getfield 125, 3) := by decide +kernel
theorem dX1_guard_165 : decode cX1_guard 165 = .ok (.iload 7, 2) := by decide +kernel
theorem dX1_guard_167 : decode cX1_guard 167 = .ok (.iconst 0, 1) := by decide +kernel
theorem dX1_guard_168 : decode cX1_guard 168 = .ok (.iastore, 1) := by decide +kernel
theorem dX1_guard_169 : decode cX1_guard 169 = .ok (.aload_n 0, 1) := by decide +kernel
theorem dX1_guard_170 : decode cX1_guard 170 = .ok (.getfield 128, 3) := by decide +kernel
theorem dX1_guard_173 : decode cX1_guard 173 = .ok (.iload 7, 2) := by decide +kernel
theorem dX1_guard_175 : decode cX1_guard 175 = .ok (.iconst 0, 1) := by decide +kernel
theorem dX1_guard_176 : decode cX1_guard 176 = .ok (.iastore, 1) := by decide +kernel
theorem dX1_guard_177 : decode cX1_guard 177 = .ok (.aload_n 0, 1) := by decide +kernel
theorem dX1_guard_178 : decode cX1_guard 178 = .ok (.getfield 131, 3) := by decide +kernel
theorem dX1_guard_181 : decode cX1_guard 181 = .ok (.iload 7, 2) := by decide +kernel
theorem dX1_guard_183 : decode cX1_guard 183 = .ok (.iconst 0, 1) := by decide +kernel
theorem dX1_guard_184 : decode cX1_guard 184 = .ok (.iastore, 1) := by decide +kernel
theorem dX1_guard_185 : decode cX1_guard 185 = .ok (.aload_n 0, 1) := by decide +kernel
theorem dX1_guard_186 : decode cX1_guard 186 = .ok (.getfield 134, 3) := by decide +kernel
theorem dX1_guard_189 : decode cX1_guard 189 = .ok (.iload 7, 2) := by decide +kernel
theorem dX1_guard_191 : decode cX1_guard 191 = .ok (.iconst 0, 1) := by decide +kernel
theorem dX1_guard_192 : decode cX1_guard 192 = .ok (.iastore, 1) := by decide +kernel
theorem dX1_guard_193 : decode cX1_guard 193 = .ok (.aload_n 0, 1) := by decide +kernel
theorem dX1_guard_194 : decode cX1_guard 194 = .ok (.getfield 137, 3) := by decide +kernel
theorem dX1_guard_197 : decode cX1_guard 197 = .ok (.iload 7, 2) := by decide +kernel
theorem dX1_guard_199 : decode cX1_guard 199 = .ok (.iload_n 1, 1) := by decide +kernel
theorem dX1_guard_200 : decode cX1_guard 200 = .ok (.iconst 2, 1) := by decide +kernel
theorem dX1_guard_201 : decode cX1_guard 201 = .ok (.if_icmp .ne 7, 3) := by decide +kernel
theorem dX1_guard_204 : decode cX1_guard 204 = .ok (.iload_n 2, 1) := by decide +kernel
theorem dX1_guard_205 : decode cX1_guard 205 = .ok (.goto 4, 3) := by decide +kernel
theorem dX1_guard_208 : decode cX1_guard 208 = .ok (.iconst 0, 1) := by decide +kernel
theorem dX1_guard_209 : decode cX1_guard 209 = .ok (.iastore, 1) := by decide +kernel
theorem dX1_guard_210 : decode cX1_guard 210 = .ok (.iconst 0, 1) := by decide +kernel
theorem dX1_guard_211 : decode cX1_guard 211 = .ok (.istore 8, 2) := by decide +kernel
theorem dX1_guard_213 : decode cX1_guard 213 = .ok (.iload 8, 2) := by decide +kernel
theorem dX1_guard_215 : decode cX1_guard 215 = .ok (.bipush 8, 2) := by decide +kernel
theorem dX1_guard_217 : decode cX1_guard 217 = .ok (.if_icmp .ge 23, 3) := by decide +kernel
theorem dX1_guard_220 : decode cX1_guard 220 = .ok (.aload_n 0, 1) := by decide +kernel
theorem dX1_guard_221 : decode cX1_guard 221 = .ok (.getfield 146, 3) := by decide +kernel
theorem dX1_guard_224 : decode cX1_guard 224 = .ok (.bipush 8, 2) := by decide +kernel
theorem dX1_guard_226 : decode cX1_guard 226 = .ok (.iload 7, 2) := by decide +kernel
theorem dX1_guard_228 : decode cX1_guard 228 = .ok (.imul, 1) := by decide +kernel
theorem dX1_guard_229 : decode cX1_guard 229 = .ok (.iload 8, 2) := by decide +kernel
theorem dX1_guard_231 : decode cX1_guard 231 = .ok (.iadd, 1) := by decide +kernel
theorem dX1_guard_232 : decode cX1_guard 232 = .ok (.iconst (-1), 1) := by decide +kernel
theorem dX1_guard_233 : decode cX1_guard 233 = .ok (.iastore, 1) := by decide +kernel
theorem dX1_guard_234 : decode cX1_guard 234 = .ok (.iinc 8 1, 3) := by decide +kernel
theorem dX1_guard_237 : decode cX1_guard 237 = .ok (.goto (-24), 3) := by decide +kernel
theorem dX1_guard_240 : decode cX1_guard 240 = .ok (.aload_n 0, 1) := by decide +kernel
theorem dX1_guard_241 : decode cX1_guard 241 = .ok (.dup, 1) := by decide +kernel
theorem dX1_guard_242 : decode cX1_guard 242 = .ok (.getfield 101, 3) := by decide +kernel
theorem dX1_guard_245 : decode cX1_guard 245 = .ok (.iconst 1, 1) := by decide +kernel
theorem dX1_guard_246 : decode cX1_guard 246 = .ok (.iadd, 1) := by decide +kernel
theorem dX1_guard_247 : decode cX1_guard 247 = .ok (.putfield 101, 3) := by decide +kernel
theorem dX1_guard_250 : decode cX1_guard 250 = .ok (.iload 7, 2) := by decide +kernel
theorem dX1_guard_252 : decode cX1_guard 252 = .ok (.ireturn, 1) := by decide +kernel
theorem dX1_isGood_0 : decode cX1_isGood 0 = .ok (.iload_n 1, 1) := by decide +kernel
theorem dX1_isGood_1 : decode cX1_isGood 1 = .ok (.tableswitch 324 0 9 #[55, 89, 122, 155, 182, 221, 247, 155, 279, 298], 55) := by decide +kernel
theorem dX1_isGood_56 : decode cX1_isGood 56 = .ok (.aload_n 0, 1) := by decide +kernel
theorem dX1_isGood_57 : decode cX1_isGood 57 = .ok (.iload_n 2, 1) := by decide +kernel
theorem dX1_isGood_58 : decode cX1_isGood 58 = .ok (.iconst 1, 1) := by decide +kernel
theorem dX1_isGood_59 : decode cX1_isGood 59 = .ok (.bipush 20, 2) := by decide +kernel
theorem dX1_isGood_61 : decode cX1_isGood 61 = .ok (.invokevirtual 358, 3) := by decide +kernel
theorem dX1_isGood_64 : decode cX1_isGood 64 = .ok (.ifCond .eq 24, 3) := by decide +kernel
theorem dX1_isGood_67 : decode cX1_isGood 67 = .ok (.aload_n 0, 1) := by decide +kernel
theorem dX1_isGood_68 : decode cX1_isGood 68 = .ok (.iload_n 3, 1) := by decide +kernel
theorem dX1_isGood_69 : decode cX1_isGood 69 = .ok (.iconst 1, 1) := by decide +kernel
theorem dX1_isGood_70 : decode cX1_isGood 70 = .ok (.sipush 1000, 3) := by decide +kernel
theorem dX1_isGood_73 : decode cX1_isGood 73 = .ok (.invokevirtual 358, 3) := by decide +kernel
theorem dX1_isGood_76 : decode cX1_isGood 76 = .ok (.ifCond .eq 12, 3) := by decide +kernel
theorem dX1_isGood_79 : decode cX1_isGood 79 = .ok (.iload 4, 2) := by decide +kernel
theorem dX1_isGood_81 : decode cX1_isGood 81 = .ok (.ifCond .ne 7, 3) := by decide +kernel
theorem dX1_isGood_84 : decode cX1_isGood 84 = .ok (.iconst 1, 1) := by decide +kernel
theorem dX1_isGood_85 : decode cX1_isGood 85 = .ok (.goto 4, 3) := by decide +kernel
theorem dX1_isGood_88 : decode cX1_isGood 88 = .ok (.iconst 0, 1) := by decide +kernel
theorem dX1_isGood_89 : decode cX1_isGood 89 = .ok (.ireturn, 1) := by decide +kernel
theorem dX1_isGood_90 : decode cX1_isGood 90 = .ok (.aload_n 0, 1) := by decide +kernel
theorem dX1_isGood_91 : decode cX1_isGood 91 = .ok (.iload_n 2, 1) := by decide +kernel
theorem dX1_isGood_92 : decode cX1_isGood 92 = .ok (.iconst 1, 1) := by decide +kernel
theorem dX1_isGood_93 : decode cX1_isGood 93 = .ok (.bipush 10, 2) := by decide +kernel
theorem dX1_isGood_95 : decode cX1_isGood 95 = .ok (.invokevirtual 358, 3) := by decide +kernel
theorem dX1_isGood_98 : decode cX1_isGood 98 = .ok (.ifCond .eq 23, 3) := by decide +kernel
theorem dX1_isGood_101 : decode cX1_isGood 101 = .ok (.aload_n 0, 1) := by decide +kernel
theorem dX1_isGood_102 : decode cX1_isGood 102 = .ok (.iload_n 3, 1) := by decide +kernel
theorem dX1_isGood_103 : decode cX1_isGood 103 = .ok (.iconst 0, 1) := by decide +kernel
theorem dX1_isGood_104 : decode cX1_isGood 104 = .ok (.bipush 10, 2) := by decide +kernel
theorem dX1_isGood_106 : decode cX1_isGood 106 = .ok (.invokevirtual 358, 3) := by decide +kernel
theorem dX1_isGood_109 : decode cX1_isGood 109 = .ok (.ifCond .eq 12, 3) := by decide +kernel
theorem dX1_isGood_112 : decode cX1_isGood 112 = .ok (.iload 4, 2) := by decide +kernel
theorem dX1_isGood_114 : decode cX1_isGood 114 = .ok (.ifCond .ne 7, 3) := by decide +kernel
theorem dX1_isGood_117 : decode cX1_isGood 117 = .ok (.iconst 1, 1) := by decide +kernel
theorem dX1_isGood_118 : decode cX1_isGood 118 = .ok (.goto 4, 3) := by decide +kernel
theorem dX1_isGood_121 : decode cX1_isGood 121 = .ok (.iconst 0, 1) := by decide +kernel
theorem dX1_isGood_122 : decode cX1_isGood 122 = .ok (.ireturn, 1) := by decide +kernel
theorem dX1_isGood_123 : decode cX1_isGood 123 = .ok (.aload_n 0, 1) := by decide +kernel
theorem dX1_isGood_124 : decode cX1_isGood 124 = .ok (.iload_n 2, 1) := by decide +kernel
theorem dX1_isGood_125 : decode cX1_isGood 125 = .ok (.iconst 1, 1) := by decide +kernel
theorem dX1_isGood_126 : decode cX1_isGood 126 = .ok (.bipush 100, 2) := by decide +kernel
theorem dX1_isGood_128 : decode cX1_isGood 128 = .ok (.invokevirtual 358, 3) := by decide +kernel
theorem dX1_isGood_131 : decode cX1_isGood 131 = .ok (.ifCond .eq 23, 3) := by decide +kernel
theorem dX1_isGood_134 : decode cX1_isGood 134 = .ok (.aload_n 0, 1) := by decide +kernel
theorem dX1_isGood_135 : decode cX1_isGood 135 = .ok (.iload_n 3, 1) := by decide +kernel
theorem dX1_isGood_136 : decode cX1_isGood 136 = .ok (.iconst 1, 1) := by decide +kernel
theorem dX1_isGood_137 : decode cX1_isGood 137 = .ok (.bipush 100, 2) := by decide +kernel
theorem dX1_isGood_139 : decode cX1_isGood 139 = .ok (.invokevirtual 358, 3) := by decide +kernel
theorem dX1_isGood_142 : decode cX1_isGood 142 = .ok (.ifCond .eq 12, 3) := by decide +kernel
theorem dX1_isGood_145 : decode cX1_isGood 145 = .ok (.iload 4, 2) := by decide +kernel
theorem dX1_isGood_147 : decode cX1_isGood 147 = .ok (.ifCond .ne 7, 3) := by decide +kernel
theorem dX1_isGood_150 : decode cX1_isGood 150 = .ok (.iconst 1, 1) := by decide +kernel
theorem dX1_isGood_151 : decode cX1_isGood 151 = .ok (.goto 4, 3) := by decide +kernel
theorem dX1_isGood_154 : decode cX1_isGood 154 = .ok (.iconst 0, 1) := by decide +kernel
theorem dX1_isGood_155 : decode cX1_isGood 155 = .ok (.ireturn, 1) := by decide +kernel
theorem dX1_isGood_156 : decode cX1_isGood 156 = .ok (.aload_n 0, 1) := by decide +kernel
theorem dX1_isGood_157 : decode cX1_isGood 157 = .ok (.iload_n 2, 1) := by decide +kernel
theorem dX1_isGood_158 : decode cX1_isGood 158 = .ok (.iconst 1, 1) := by decide +kernel
theorem dX1_isGood_159 : decode cX1_isGood 159 = .ok (.sipush 1000, 3) := by decide +kernel
theorem dX1_isGood_162 : decode cX1_isGood 162 = .ok (.invokevirtual 358, 3) := by decide +kernel
theorem dX1_isGood_165 : decode cX1_isGood 165 = .ok (.ifCond .eq 16, 3) := by decide +kernel
theorem dX1_isGood_168 : decode cX1_isGood 168 = .ok (.iload_n 3, 1) := by decide +kernel
theorem dX1_isGood_169 : decode cX1_isGood 169 = .ok (.ifCond .ne 12, 3) := by decide +kernel
theorem dX1_isGood_172 : decode cX1_isGood 172 = .ok (.iload 4, 2) := by decide +kernel
theorem dX1_isGood_174 : decode cX1_isGood 174 = .ok (.ifCond .ne 7, 3) := by decide +kernel
theorem dX1_isGood_177 : decode cX1_isGood 177 = .ok (.iconst 1, 1) := by decide +kernel
theorem dX1_isGood_178 : decode cX1_isGood 178 = .ok (.goto 4, 3) := by decide +kernel
theorem dX1_isGood_181 : decode cX1_isGood 181 = .ok (.iconst 0, 1) := by decide +kernel
theorem dX1_isGood_182 : decode cX1_isGood 182 = .ok (.ireturn, 1) := by decide +kernel
theorem dX1_isGood_183 : decode cX1_isGood 183 = .ok (.aload_n 0, 1) := by decide +kernel
theorem dX1_isGood_184 : decode cX1_isGood 184 = .ok (.iload_n 2, 1) := by decide +kernel
theorem dX1_isGood_185 : decode cX1_isGood 185 = .ok (.iconst 2, 1) := by decide +kernel
theorem dX1_isGood_186 : decode cX1_isGood 186 = .ok (.bipush 6, 2) := by decide +kernel
theorem dX1_isGood_188 : decode cX1_isGood 188 = .ok (.invokevirtual 358, 3) := by decide +kernel
theorem dX1_isGood_191 : decode cX1_isGood 191 = .ok (.ifCond .eq 29, 3) := by decide +kernel
theorem dX1_isGood_194 : decode cX1_isGood 194 = .ok (.aload_n 0, 1) := by decide +kernel
theorem dX1_isGood_195 : decode cX1_isGood 195 = .ok (.iload_n 3, 1) := by decide +kernel
theorem dX1_isGood_196 : decode cX1_isGood 196 = .ok (.iconst 1, 1) := by decide +kernel
theorem dX1_isGood_197 : decode cX1_isGood 197 = .ok (.bipush 50, 2) := by decide +kernel
theorem dX1_isGood_199 : decode cX1_isGood 199 = .ok (.invokevirtual 358, 3) := by decide +kernel
theorem dX1_isGood_202 : decode cX1_isGood 202 = .ok (.ifCond .eq 18, 3) := by decide +kernel
theorem dX1_isGood_205 : decode cX1_isGood 205 = .ok (.aload_n 0, 1) := by decide +kernel
theorem dX1_isGood_206 : decode cX1_isGood 206 = .ok (.iload 4, 2) := by decide +kernel
theorem dX1_isGood_208 : decode cX1_isGood 208 = .ok (.iconst 0, 1) := by decide +kernel
theorem dX1_isGood_209 : decode cX1_isGood 209 = .ok (.iconst 1, 1) := by decide +kernel
theorem dX1_isGood_210 : decode cX1_isGood 210 = .ok (.invokevirtual 358, 3) := by decide +kernel
theorem dX1_isGood_213 : decode cX1_isGood 213 = .ok (.ifCond .eq 7, 3) := by decide +kernel
theorem dX1_isGood_216 : decode cX1_isGood 216 = .ok (.iconst 1, 1) := by decide +kernel
theorem dX1_isGood_217 : decode cX1_isGood 217 = .ok (.goto 4, 3) := by decide +kernel
theorem dX1_isGood_220 : decode cX1_isGood 220 = .ok (.iconst 0, 1) := by decide +kernel
theorem dX1_isGood_221 : decode cX1_isGood 221 = .ok (.ireturn, 1) := by decide +kernel
theorem dX1_isGood_222 : decode cX1_isGood 222 = .ok (.aload_n 0, 1) := by decide +kernel
theorem dX1_isGood_223 : decode cX1_isGood 223 = .ok (.iload_n 2, 1) := by decide +kernel
theorem dX1_isGood_224 : decode cX1_isGood 224 = .ok (.iconst 1, 1) := by decide +kernel
theorem dX1_isGood_225 : decode cX1_isGood 225 = .ok (.bipush 100, 2) := by decide +kernel
theorem dX1_isGood_227 : decode cX1_isGood 227 = .ok (.invokevirtual 358, 3) := by decide +kernel
theorem dX1_isGood_230 : decode cX1_isGood 230 = .ok (.ifCond .eq 16, 3) := by decide +kernel
theorem dX1_isGood_233 : decode cX1_isGood 233 = .ok (.iload_n 3, 1) := by decide +kernel
theorem dX1_isGood_234 : decode cX1_isGood 234 = .ok (.ifCond .ne 12, 3) := by decide +kernel
theorem dX1_isGood_237 : decode cX1_isGood 237 = .ok (.iload 4, 2) := by decide +kernel
theorem dX1_isGood_239 : decode cX1_isGood 239 = .ok (.ifCond .ne 7, 3) := by decide +kernel
theorem dX1_isGood_242 : decode cX1_isGood 242 = .ok (.iconst 1, 1) := by decide +kernel
theorem dX1_isGood_243 : decode cX1_isGood 243 = .ok (.goto 4, 3) := by decide +kernel
theorem dX1_isGood_246 : decode cX1_isGood 246 = .ok (.iconst 0, 1) := by decide +kernel
theorem dX1_isGood_247 : decode cX1_isGood 247 = .ok (.ireturn, 1) := by decide +kernel
theorem dX1_isGood_248 : decode cX1_isGood 248 = .ok (.iload 4, 2) := by decide +kernel
theorem dX1_isGood_250 : decode cX1_isGood 250 = .ok (.ifCond .ne 28, 3) := by decide +kernel
theorem dX1_isGood_253 : decode cX1_isGood 253 = .ok (.iload_n 2, 1) := by decide +kernel
theorem dX1_isGood_254 : decode cX1_isGood 254 = .ok (.ifCond .ne 15, 3) := by decide +kernel
theorem dX1_isGood_257 : decode cX1_isGood 257 = .ok (.aload_n 0, 1) := by decide +kernel
theorem dX1_isGood_258 : decode cX1_isGood 258 = .ok (.iload_n 3, 1) := by decide +kernel
theorem dX1_isGood_259 : decode cX1_isGood 259 = .ok (.iconst 0, 1) := by decide +kernel
theorem dX1_isGood_260 : decode cX1_isGood 260 = .ok (.ldc_w 342, 3) := by decide +kernel
theorem dX1_isGood_263 : decode cX1_isGood 263 = .ok (.invokevirtual 358, 3) := by decide +kernel
theorem dX1_isGood_266 : decode cX1_isGood 266 = .ok (.ifCond .ne 8, 3) := by decide +kernel
theorem dX1_isGood_269 : decode cX1_isGood 269 = .ok (.iload_n 2, 1) := by decide +kernel
theorem dX1_isGood_270 : decode cX1_isGood 270 = .ok (.iconst 1, 1) := by decide +kernel
theorem dX1_isGood_271 : decode cX1_isGood 271 = .ok (.if_icmp .ne 7, 3) := by decide +kernel
theorem dX1_isGood_274 : decode cX1_isGood 274 = .ok (.iconst 1, 1) := by decide +kernel
theorem dX1_isGood_275 : decode cX1_isGood 275 = .ok (.goto 4, 3) := by decide +kernel
theorem dX1_isGood_278 : decode cX1_isGood 278 = .ok (.iconst 0, 1) := by decide +kernel
theorem dX1_isGood_279 : decode cX1_isGood 279 = .ok (.ireturn, 1) := by decide +kernel
theorem dX1_isGood_280 : decode cX1_isGood 280 = .ok (.iload_n 2, 1) := by decide +kernel
theorem dX1_isGood_281 : decode cX1_isGood 281 = .ok (.ifCond .ne 16, 3) := by decide +kernel
theorem dX1_isGood_284 : decode cX1_isGood 284 = .ok (.iload_n 3, 1) := by decide +kernel
theorem dX1_isGood_285 : decode cX1_isGood 285 = .ok (.ifCond .ne 12, 3) := by decide +kernel
theorem dX1_isGood_288 : decode cX1_isGood 288 = .ok (.iload 4, 2) := by decide +kernel
theorem dX1_isGood_290 : decode cX1_isGood 290 = .ok (.ifCond .ne 7, 3) := by decide +kernel
theorem dX1_isGood_293 : decode cX1_isGood 293 = .ok (.iconst 1, 1) := by decide +kernel
theorem dX1_isGood_294 : decode cX1_isGood 294 = .ok (.goto 4, 3) := by decide +kernel
theorem dX1_isGood_297 : decode cX1_isGood 297 = .ok (.iconst 0, 1) := by decide +kernel
theorem dX1_isGood_298 : decode cX1_isGood 298 = .ok (.ireturn, 1) := by decide +kernel
theorem dX1_isGood_299 : decode cX1_isGood 299 = .ok (.iload_n 2, 1) := by decide +kernel
theorem dX1_isGood_300 : decode cX1_isGood 300 = .ok (.ifCond .ne 23, 3) := by decide +kernel
theorem dX1_isGood_303 : decode cX1_isGood 303 = .ok (.aload_n 0, 1) := by decide +kernel
theorem dX1_isGood_304 : decode cX1_isGood 304 = .ok (.iload_n 3, 1) := by decide +kernel
theorem dX1_isGood_305 : decode cX1_isGood 305 = .ok (.iconst 0, 1) := by decide +kernel
theorem dX1_isGood_306 : decode cX1_isGood 306 = .ok (.bipush 15, 2) := by decide +kernel
theorem dX1_isGood_308 : decode cX1_isGood 308 = .ok (.invokevirtual 358, 3) := by decide +kernel
theorem dX1_isGood_311 : decode cX1_isGood 311 = .ok (.ifCond .eq 12, 3) := by decide +kernel
theorem dX1_isGood_314 : decode cX1_isGood 314 = .ok (.iload 4, 2) := by decide +kernel
theorem dX1_isGood_316 : decode cX1_isGood 316 = .ok (.ifCond .ne 7, 3) := by decide +kernel
theorem dX1_isGood_319 : decode cX1_isGood 319 = .ok (.iconst 1, 1) := by decide +kernel
theorem dX1_isGood_320 : decode cX1_isGood 320 = .ok (.goto 4, 3) := by decide +kernel
theorem dX1_isGood_323 : decode cX1_isGood 323 = .ok (.iconst 0, 1) := by decide +kernel
theorem dX1_isGood_324 : decode cX1_isGood 324 = .ok (.ireturn, 1) := by decide +kernel
theorem dX1_isGood_325 : decode cX1_isGood 325 = .ok (.iconst 0, 1) := by decide +kernel
theorem dX1_isGood_326 : decode cX1_isGood 326 = .ok (.ireturn, 1) := by decide +kernel
theorem dX1_in_0 : decode cX1_in 0 = .ok (.iload_n 1, 1) := by decide +kernel
theorem dX1_in_1 : decode cX1_in 1 = .ok (.iload_n 2, 1) := by decide +kernel
theorem dX1_in_2 : decode cX1_in 2 = .ok (.if_icmp .lt 12, 3) := by decide +kernel
theorem dX1_in_5 : decode cX1_in 5 = .ok (.iload_n 1, 1) := by decide +kernel
theorem dX1_in_6 : decode cX1_in 6 = .ok (.iload_n 3, 1) := by decide +kernel
theorem dX1_in_7 : decode cX1_in 7 = .ok (.if_icmp .gt 7, 3) := by decide +kernel
theorem dX1_in_10 : decode cX1_in 10 = .ok (.iconst 1, 1) := by decide +kernel
theorem dX1_in_11 : decode cX1_in 11 = .ok (.goto 4, 3) := by decide +kernel
theorem dX1_in_14 : decode cX1_in 14 = .ok (.iconst 0, 1) := by decide +kernel
theorem dX1_in_15 : decode cX1_in 15 = .ok (.ireturn, 1) := by decide +kernel
theorem dX1_on_0 : decode cX1_on 0 = .ok (.iload_n 1, 1) := by decide +kernel
theorem dX1_on_1 : decode cX1_on 1 = .ok (.ifCond .lt 11, 3) := by decide +kernel
theorem dX1_on_4 : decode cX1_on 4 = .ok (.iload_n 1, 1) := by decide +kernel
theorem dX1_on_5 : decode cX1_on 5 = .ok (.aload_n 0, 1) := by decide +kernel
theorem dX1_on_6 : decode cX1_on 6 = .ok (.getfield 101, 3) := by decide +kernel
theorem dX1_on_9 : decode cX1_on 9 = .ok (.if_icmp .lt 5, 3) := by decide +kernel
theorem dX1_on_12 : decode cX1_on 12 = .ok (.iconst (-1), 1) := by decide +kernel
theorem dX1_on_13 : decode cX1_on 13 = .ok (.ireturn, 1) := by decide +kernel
theorem dX1_on_14 : decode cX1_on 14 = .ok (.iconst 0, 1) := by decide +kernel
theorem dX1_on_15 : decode cX1_on 15 = .ok (.istore_n 2, 1) := by decide +kernel
theorem dX1_on_16 : decode cX1_on 16 = .ok (.iload_n 2, 1) := by decide +kernel
theorem dX1_on_17 : decode cX1_on 17 = .ok (.aload_n 0, 1) := by decide +kernel
theorem dX1_on_18 : decode cX1_on 18 = .ok (.getfield 156, 3) := by decide +kernel
theorem dX1_on_21 : decode cX1_on 21 = .ok (.bipush 10, 2) := by decide +kernel
theorem dX1_on_23 : decode cX1_on 23 = .ok (.iaload, 1) := by decide +kernel
theorem dX1_on_24 : decode cX1_on 24 = .ok (.if_icmp .ge 35, 3) := by decide +kernel
theorem dX1_on_27 : decode cX1_on 27 = .ok (.aload_n 0, 1) := by decide +kernel
theorem dX1_on_28 : decode cX1_on 28 = .ok (.getfield 104, 3) := by decide +kernel
theorem dX1_on_31 : decode cX1_on 31 = .ok (.aload_n 0, 1) := by decide +kernel
theorem dX1_on_32 : decode cX1_on 32 = .ok (.getfield 159, 3) := by decide +kernel
theorem dX1_on_35 : decode cX1_on 35 = .ok (.bipush 50, 2) := by decide +kernel
theorem dX1_on_37 : decode cX1_on 37 = .ok (.iload_n 2, 1) := by decide +kernel
theorem dX1_on_38 : decode cX1_on 38 = .ok (.iadd, 1) := by decide +kernel
theorem dX1_on_39 : decode cX1_on 39 = .ok (.iaload, 1) := by decide +kernel
theorem dX1_on_40 : decode cX1_on 40 = .ok (.iaload, 1) := by decide +kernel
theorem dX1_on_41 : decode cX1_on 41 = .ok (.aload_n 0, 1) := by decide +kernel
theorem dX1_on_42 : decode cX1_on 42 = .ok (.getfield 104, 3) := by decide +kernel
theorem dX1_on_45 : decode cX1_on 45 = .ok (.iload_n 1, 1) := by decide +kernel
theorem dX1_on_46 : decode cX1_on 46 = .ok (.iaload, 1) := by decide +kernel
theorem dX1_on_47 : decode cX1_on 47 = .ok (.if_icmp .ne 6, 3) := by decide +kernel
theorem dX1_on_50 : decode cX1_on 50 = .ok (.bipush (-2), 2) := by decide +kernel
theorem dX1_on_52 : decode cX1_on 52 = .ok (.ireturn, 1) := by decide +kernel
theorem dX1_on_53 : decode cX1_on 53 = .ok (.iinc 2 1, 3) := by decide +kernel
theorem dX1_on_56 : decode cX1_on 56 = .ok (.goto (-40), 3) := by decide +kernel
theorem dX1_on_59 : decode cX1_on 59 = .ok (.aload_n 0, 1) := by decide +kernel
theorem dX1_on_60 : decode cX1_on 60 = .ok (.getfield 156, 3) := by decide +kernel
theorem dX1_on_63 : decode cX1_on 63 = .ok (.bipush 10, 2) := by decide +kernel
theorem dX1_on_65 : decode cX1_on 65 = .ok (.iaload, 1) := by decide +kernel
theorem dX1_on_66 : decode cX1_on 66 = .ok (.iconst 5, 1) := by decide +kernel
theorem dX1_on_67 : decode cX1_on 67 = .ok (.if_icmp .ne 6, 3) := by decide +kernel
theorem dX1_on_70 : decode cX1_on 70 = .ok (.bipush (-3), 2) := by decide +kernel
theorem dX1_on_72 : decode cX1_on 72 = .ok (.ireturn, 1) := by decide +kernel
theorem dX1_on_73 : decode cX1_on 73 = .ok (.aload_n 0, 1) := by decide +kernel
