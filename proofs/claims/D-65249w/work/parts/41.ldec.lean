set_option maxRecDepth 100000
theorem dL_law_0 : decode cL_law 0 = .ok (.new 7, 3) := by decide +kernel
theorem dL_law_3 : decode cL_law 3 = .ok (.dup, 1) := by decide +kernel
theorem dL_law_4 : decode cL_law 4 = .ok (.invokespecial 9, 3) := by decide +kernel
theorem dL_law_7 : decode cL_law 7 = .ok (.astore_n 1, 1) := by decide +kernel
theorem dL_law_8 : decode cL_law 8 = .ok (.new 10, 3) := by decide +kernel
theorem dL_law_11 : decode cL_law 11 = .ok (.dup, 1) := by decide +kernel
theorem dL_law_12 : decode cL_law 12 = .ok (.invokespecial 12, 3) := by decide +kernel
theorem dL_law_15 : decode cL_law 15 = .ok (.astore_n 2, 1) := by decide +kernel
theorem dL_law_16 : decode cL_law 16 = .ok (.iconst 0, 1) := by decide +kernel
theorem dL_law_17 : decode cL_law 17 = .ok (.istore_n 3, 1) := by decide +kernel
theorem dL_law_18 : decode cL_law 18 = .ok (.iload_n 3, 1) := by decide +kernel
theorem dL_law_19 : decode cL_law 19 = .ok (.aload_n 0, 1) := by decide +kernel
theorem dL_law_20 : decode cL_law 20 = .ok (.arraylength, 1) := by decide +kernel
theorem dL_law_21 : decode cL_law 21 = .ok (.bipush 8, 2) := by decide +kernel
theorem dL_law_23 : decode cL_law 23 = .ok (.isub, 1) := by decide +kernel
theorem dL_law_24 : decode cL_law 24 = .ok (.if_icmp .gt 1187, 3) := by decide +kernel
theorem dL_law_27 : decode cL_law 27 = .ok (.aload_n 0, 1) := by decide +kernel
theorem dL_law_28 : decode cL_law 28 = .ok (.iload_n 3, 1) := by decide +kernel
theorem dL_law_29 : decode cL_law 29 = .ok (.iaload, 1) := by decide +kernel
theorem dL_law_30 : decode cL_law 30 = .ok (.bipush 31, 2) := by decide +kernel
theorem dL_law_32 : decode cL_law 32 = .ok (.iand, 1) := by decide +kernel
theorem dL_law_33 : decode cL_law 33 = .ok (.tableswitch 1172 0 28 #[131, 174, 237, 300, 363, 386, 399, 462, 485, 508, 595, 618, 651, 694, 727, 740, 763, 796, 829, 862, 895, 928, 961, 984, 1027, 1060, 1083, 1116, 1149], 131) := by decide +kernel
theorem dL_law_164 : decode cL_law 164 = .ok (.aload_n 1, 1) := by decide +kernel
theorem dL_law_165 : decode cL_law 165 = .ok (.aload_n 0, 1) := by decide +kernel
theorem dL_law_166 : decode cL_law 166 = .ok (.iload_n 3, 1) := by decide +kernel
theorem dL_law_167 : decode cL_law 167 = .ok (.iconst 1, 1) := by decide +kernel
theorem dL_law_168 : decode cL_law 168 = .ok (.iadd, 1) := by decide +kernel
theorem dL_law_169 : decode cL_law 169 = .ok (.iaload, 1) := by decide +kernel
theorem dL_law_170 : decode cL_law 170 = .ok (.aload_n 0, 1) := by decide +kernel
theorem dL_law_171 : decode cL_law 171 = .ok (.iload_n 3, 1) := by decide +kernel
theorem dL_law_172 : decode cL_law 172 = .ok (.iconst 2, 1) := by decide +kernel
theorem dL_law_173 : decode cL_law 173 = .ok (.iadd, 1) := by decide +kernel
theorem dL_law_174 : decode cL_law 174 = .ok (.iaload, 1) := by decide +kernel
theorem dL_law_175 : decode cL_law 175 = .ok (.aload_n 0, 1) := by decide +kernel
theorem dL_law_176 : decode cL_law 176 = .ok (.iload_n 3, 1) := by decide +kernel
theorem dL_law_177 : decode cL_law 177 = .ok (.iconst 3, 1) := by decide +kernel
theorem dL_law_178 : decode cL_law 178 = .ok (.iadd, 1) := by decide +kernel
theorem dL_law_179 : decode cL_law 179 = .ok (.iaload, 1) := by decide +kernel
theorem dL_law_180 : decode cL_law 180 = .ok (.invokevirtual 13, 3) := by decide +kernel
theorem dL_law_183 : decode cL_law 183 = .ok (.aload_n 2, 1) := by decide +kernel
theorem dL_law_184 : decode cL_law 184 = .ok (.aload_n 0, 1) := by decide +kernel
theorem dL_law_185 : decode cL_law 185 = .ok (.iload_n 3, 1) := by decide +kernel
theorem dL_law_186 : decode cL_law 186 = .ok (.iconst 1, 1) := by decide +kernel
theorem dL_law_187 : decode cL_law 187 = .ok (.iadd, 1) := by decide +kernel
theorem dL_law_188 : decode cL_law 188 = .ok (.iaload, 1) := by decide +kernel
theorem dL_law_189 : decode cL_law 189 = .ok (.aload_n 0, 1) := by decide +kernel
theorem dL_law_190 : decode cL_law 190 = .ok (.iload_n 3, 1) := by decide +kernel
theorem dL_law_191 : decode cL_law 191 = .ok (.iconst 2, 1) := by decide +kernel
theorem dL_law_192 : decode cL_law 192 = .ok (.iadd, 1) := by decide +kernel
theorem dL_law_193 : decode cL_law 193 = .ok (.iaload, 1) := by decide +kernel
theorem dL_law_194 : decode cL_law 194 = .ok (.aload_n 0, 1) := by decide +kernel
theorem dL_law_195 : decode cL_law 195 = .ok (.iload_n 3, 1) := by decide +kernel
theorem dL_law_196 : decode cL_law 196 = .ok (.iconst 3, 1) := by decide +kernel
theorem dL_law_197 : decode cL_law 197 = .ok (.iadd, 1) := by decide +kernel
theorem dL_law_198 : decode cL_law 198 = .ok (.iaload, 1) := by decide +kernel
theorem dL_law_199 : decode cL_law 199 = .ok (.invokevirtual 17, 3) := by decide +kernel
theorem dL_law_202 : decode cL_law 202 = .ok (.if_icmp .eq 1003, 3) := by decide +kernel
theorem dL_law_205 : decode cL_law 205 = .ok (.iconst 0, 1) := by decide +kernel
theorem dL_law_206 : decode cL_law 206 = .ok (.ireturn, 1) := by decide +kernel
theorem dL_law_207 : decode cL_law 207 = .ok (.aload_n 1, 1) := by decide +kernel
theorem dL_law_208 : decode cL_law 208 = .ok (.aload_n 0, 1) := by decide +kernel
theorem dL_law_209 : decode cL_law 209 = .ok (.iload_n 3, 1) := by decide +kernel
theorem dL_law_210 : decode cL_law 210 = .ok (.iconst 1, 1) := by decide +kernel
theorem dL_law_211 : decode cL_law 211 = .ok (.iadd, 1) := by decide +kernel
theorem dL_law_212 : decode cL_law 212 = .ok (.iaload, 1) := by decide +kernel
theorem dL_law_213 : decode cL_law 213 = .ok (.aload_n 0, 1) := by decide +kernel
theorem dL_law_214 : decode cL_law 214 = .ok (.iload_n 3, 1) := by decide +kernel
theorem dL_law_215 : decode cL_law 215 = .ok (.iconst 2, 1) := by decide +kernel
theorem dL_law_216 : decode cL_law 216 = .ok (.iadd, 1) := by decide +kernel
theorem dL_law_217 : decode cL_law 217 = .ok (.iaload, 1) := by decide +kernel
theorem dL_law_218 : decode cL_law 218 = .ok (.aload_n 0, 1) := by decide +kernel
theorem dL_law_219 : decode cL_law 219 = .ok (.iload_n 3, 1) := by decide +kernel
theorem dL_law_220 : decode cL_law 220 = .ok (.iconst 3, 1) := by decide +kernel
theorem dL_law_221 : decode cL_law 221 = .ok (.iadd, 1) := by decide +kernel
theorem dL_law_222 : decode cL_law 222 = .ok (.iaload, 1) := by decide +kernel
theorem dL_law_223 : decode cL_law 223 = .ok (.aload_n 0, 1) := by decide +kernel
theorem dL_law_224 : decode cL_law 224 = .ok (.iload_n 3, 1) := by decide +kernel
theorem dL_law_225 : decode cL_law 225 = .ok (.iconst 4, 1) := by decide +kernel
theorem dL_law_226 : decode cL_law 226 = .ok (.iadd, 1) := by decide +kernel
theorem dL_law_227 : decode cL_law 227 = .ok (.iaload, 1) := by decide +kernel
theorem dL_law_228 : decode cL_law 228 = .ok (.aload_n 0, 1) := by decide +kernel
theorem dL_law_229 : decode cL_law 229 = .ok (.iload_n 3, 1) := by decide +kernel
theorem dL_law_230 : decode cL_law 230 = .ok (.iconst 5, 1) := by decide +kernel
theorem dL_law_231 : decode cL_law 231 = .ok (.iadd, 1) := by decide +kernel
theorem dL_law_232 : decode cL_law 232 = .ok (.iaload, 1) := by decide +kernel
theorem dL_law_233 : decode cL_law 233 = .ok (.invokevirtual 18, 3) := by decide +kernel
theorem dL_law_236 : decode cL_law 236 = .ok (.aload_n 2, 1) := by decide +kernel
theorem dL_law_237 : decode cL_law 237 = .ok (.aload_n 0, 1) := by decide +kernel
theorem dL_law_238 : decode cL_law 238 = .ok (.iload_n 3, 1) := by decide +kernel
theorem dL_law_239 : decode cL_law 239 = .ok (.iconst 1, 1) := by decide +kernel
theorem dL_law_240 : decode cL_law 240 = .ok (.iadd, 1) := by decide +kernel
theorem dL_law_241 : decode cL_law 241 = .ok (.iaload, 1) := by decide +kernel
theorem dL_law_242 : decode cL_law 242 = .ok (.aload_n 0, 1) := by decide +kernel
theorem dL_law_243 : decode cL_law 243 = .ok (.iload_n 3, 1) := by decide +kernel
theorem dL_law_244 : decode cL_law 244 = .ok (.iconst 2, 1) := by decide +kernel
theorem dL_law_245 : decode cL_law 245 = .ok (.iadd, 1) := by decide +kernel
theorem dL_law_246 : decode cL_law 246 = .ok (.iaload, 1) := by decide +kernel
theorem dL_law_247 : decode cL_law 247 = .ok (.aload_n 0, 1) := by decide +kernel
theorem dL_law_248 : decode cL_law 248 = .ok (.iload_n 3, 1) := by decide +kernel
theorem dL_law_249 : decode cL_law 249 = .ok (.iconst 3, 1) := by decide +kernel
theorem dL_law_250 : decode cL_law 250 = .ok (.iadd, 1) := by decide +kernel
theorem dL_law_251 : decode cL_law 251 = .ok (.iaload, 1) := by decide +kernel
theorem dL_law_252 : decode cL_law 252 = .ok (.aload_n 0, 1) := by decide +kernel
theorem dL_law_253 : decode cL_law 253 = .ok (.iload_n 3, 1) := by decide +kernel
theorem dL_law_254 : decode cL_law 254 = .ok (.iconst 4, 1) := by decide +kernel
theorem dL_law_255 : decode cL_law 255 = .ok (.iadd, 1) := by decide +kernel
theorem dL_law_256 : decode cL_law 256 = .ok (.iaload, 1) := by decide +kernel
theorem dL_law_257 : decode cL_law 257 = .ok (.aload_n 0, 1) := by decide +kernel
theorem dL_law_258 : decode cL_law 258 = .ok (.iload_n 3, 1) := by decide +kernel
theorem dL_law_259 : decode cL_law 259 = .ok (.iconst 5, 1) := by decide +kernel
theorem dL_law_260 : decode cL_law 260 = .ok (.iadd, 1) := by decide +kernel
theorem dL_law_261 : decode cL_law 261 = .ok (.iaload, 1) := by decide +kernel
theorem dL_law_262 : decode cL_law 262 = .ok (.invokevirtual 22, 3) := by decide +kernel
theorem dL_law_265 : decode cL_law 265 = .ok (.if_icmp .eq 940, 3) := by decide +kernel
theorem dL_law_268 : decode cL_law 268 = .ok (.iconst 0, 1) := by decide +kernel
theorem dL_law_269 : decode cL_law 269 = .ok (.ireturn, 1) := by decide +kernel
theorem dL_law_270 : decode cL_law 270 = .ok (.aload_n 1, 1) := by decide +kernel
theorem dL_law_271 : decode cL_law 271 = .ok (.aload_n 0, 1) := by decide +kernel
theorem dL_law_272 : decode cL_law 272 = .ok (.iload_n 3, 1) := by decide +kernel
theorem dL_law_273 : decode cL_law 273 = .ok (.iconst 1, 1) := by decide +kernel
theorem dL_law_274 : decode cL_law 274 = .ok (.iadd, 1) := by decide +kernel
theorem dL_law_275 : decode cL_law 275 = .ok (.iaload, 1) := by decide +kernel
theorem dL_law_276 : decode cL_law 276 = .ok (.aload_n 0, 1) := by decide +kernel
theorem dL_law_277 : decode cL_law 277 = .ok (.iload_n 3, 1) := by decide +kernel
theorem dL_law_278 : decode cL_law 278 = .ok (.iconst 2, 1) := by decide +kernel
theorem dL_law_279 : decode cL_law 279 = .ok (.iadd, 1) := by decide +kernel
theorem dL_law_280 : decode cL_law 280 = .ok (.iaload, 1) := by decide +kernel
theorem dL_law_281 : decode cL_law 281 = .ok (.aload_n 0, 1) := by decide +kernel
theorem dL_law_282 : decode cL_law 282 = .ok (.iload_n 3, 1) := by decide +kernel
theorem dL_law_283 : decode cL_law 283 = .ok (.iconst 3, 1) := by decide +kernel
theorem dL_law_284 : decode cL_law 284 = .ok (.iadd, 1) := by decide +kernel
theorem dL_law_285 : decode cL_law 285 = .ok (.iaload, 1) := by decide +kernel
theorem dL_law_286 : decode cL_law 286 = .ok (.aload_n 0, 1) := by decide +kernel
theorem dL_law_287 : decode cL_law 287 = .ok (.iload_n 3, 1) := by decide +kernel
theorem dL_law_288 : decode cL_law 288 = .ok (.iconst 4, 1) := by decide +kernel
theorem dL_law_289 : decode cL_law 289 = .ok (.iadd, 1) := by decide +kernel
theorem dL_law_290 : decode cL_law 290 = .ok (.iaload, 1) := by decide +kernel
theorem dL_law_291 : decode cL_law 291 = .ok (.aload_n 0, 1) := by decide +kernel
theorem dL_law_292 : decode cL_law 292 = .ok (.iload_n 3, 1) := by decide +kernel
theorem dL_law_293 : decode cL_law 293 = .ok (.iconst 5, 1) := by decide +kernel
theorem dL_law_294 : decode cL_law 294 = .ok (.iadd, 1) := by decide +kernel
theorem dL_law_295 : decode cL_law 295 = .ok (.iaload, 1) := by decide +kernel
theorem dL_law_296 : decode cL_law 296 = .ok (.invokevirtual 23, 3) := by decide +kernel
theorem dL_law_299 : decode cL_law 299 = .ok (.aload_n 2, 1) := by decide +kernel
theorem dL_law_300 : decode cL_law 300 = .ok (.aload_n 0, 1) := by decide +kernel
theorem dL_law_301 : decode cL_law 301 = .ok (.iload_n 3, 1) := by decide +kernel
theorem dL_law_302 : decode cL_law 302 = .ok (.iconst 1, 1) := by decide +kernel
theorem dL_law_303 : decode cL_law 303 = .ok (.iadd, 1) := by decide +kernel
theorem dL_law_304 : decode cL_law 304 = .ok (.iaload, 1) := by decide +kernel
theorem dL_law_305 : decode cL_law 305 = .ok (.aload_n 0, 1) := by decide +kernel
theorem dL_law_306 : decode cL_law 306 = .ok (.iload_n 3, 1) := by decide +kernel
theorem dL_law_307 : decode cL_law 307 = .ok (.iconst 2, 1) := by decide +kernel
theorem dL_law_308 : decode cL_law 308 = .ok (.iadd, 1) := by decide +kernel
theorem dL_law_309 : decode cL_law 309 = .ok (.iaload, 1) := by decide +kernel
theorem dL_law_310 : decode cL_law 310 = .ok (.aload_n 0, 1) := by decide +kernel
theorem dL_law_311 : decode cL_law 311 = .ok (.iload_n 3, 1) := by decide +kernel
theorem dL_law_312 : decode cL_law 312 = .ok (.iconst 3, 1) := by decide +kernel
theorem dL_law_313 : decode cL_law 313 = .ok (.iadd, 1) := by decide +kernel
theorem dL_law_314 : decode cL_law 314 = .ok (.iaload, 1) := by decide +kernel
theorem dL_law_315 : decode cL_law 315 = .ok (.aload_n 0, 1) := by decide +kernel
theorem dL_law_316 : decode cL_law 316 = .ok (.iload_n 3, 1) := by decide +kernel
theorem dL_law_317 : decode cL_law 317 = .ok (.iconst 4, 1) := by decide +kernel
theorem dL_law_318 : decode cL_law 318 = .ok (.iadd, 1) := by decide +kernel
theorem dL_law_319 : decode cL_law 319 = .ok (.iaload, 1) := by decide +kernel
theorem dL_law_320 : decode cL_law 320 = .ok (.aload_n 0, 1) := by decide +kernel
theorem dL_law_321 : decode cL_law 321 = .ok (.iload_n 3, 1) := by decide +kernel
theorem dL_law_322 : decode cL_law 322 = .ok (.iconst 5, 1) := by decide +kernel
theorem dL_law_323 : decode cL_law 323 = .ok (.iadd, 1) := by decide +kernel
theorem dL_law_324 : decode cL_law 324 = .ok (.iaload, 1) := by decide +kernel
theorem dL_law_325 : decode cL_law 325 = .ok (.invokevirtual 26, 3) := by decide +kernel
theorem dL_law_328 : decode cL_law 328 = .ok (.if_icmp .eq 877, 3) := by decide +kernel
theorem dL_law_331 : decode cL_law 331 = .ok (.iconst 0, 1) := by decide +kernel
theorem dL_law_332 : decode cL_law 332 = .ok (.ireturn, 1) := by decide +kernel
theorem dL_law_333 : decode cL_law 333 = .ok (.aload_n 1, 1) := by decide +kernel
theorem dL_law_334 : decode cL_law 334 = .ok (.aload_n 0, 1) := by decide +kernel
theorem dL_law_335 : decode cL_law 335 = .ok (.iload_n 3, 1) := by decide +kernel
theorem dL_law_336 : decode cL_law 336 = .ok (.iconst 1, 1) := by decide +kernel
theorem dL_law_337 : decode cL_law 337 = .ok (.iadd, 1) := by decide +kernel
theorem dL_law_338 : decode cL_law 338 = .ok (.iaload, 1) := by decide +kernel
theorem dL_law_339 : decode cL_law 339 = .ok (.aload_n 0, 1) := by decide +kernel
theorem dL_law_340 : decode cL_law 340 = .ok (.iload_n 3, 1) := by decide +kernel
theorem dL_law_341 : decode cL_law 341 = .ok (.iconst 2, 1) := by decide +kernel
theorem dL_law_342 : decode cL_law 342 = .ok (.iadd, 1) := by decide +kernel
theorem dL_law_343 : decode cL_law 343 = .ok (.iaload, 1) := by decide +kernel
theorem dL_law_344 : decode cL_law 344 = .ok (.aload_n 0, 1) := by decide +kernel
theorem dL_law_345 : decode cL_law 345 = .ok (.iload_n 3, 1) := by decide +kernel
theorem dL_law_346 : decode cL_law 346 = .ok (.iconst 3, 1) := by decide +kernel
theorem dL_law_347 : decode cL_law 347 = .ok (.iadd, 1) := by decide +kernel
theorem dL_law_348 : decode cL_law 348 = .ok (.iaload, 1) := by decide +kernel
theorem dL_law_349 : decode cL_law 349 = .ok (.aload_n 0, 1) := by decide +kernel
theorem dL_law_350 : decode cL_law 350 = .ok (.iload_n 3, 1) := by decide +kernel
theorem dL_law_351 : decode cL_law 351 = .ok (.iconst 4, 1) := by decide +kernel
theorem dL_law_352 : decode cL_law 352 = .ok (.iadd, 1) := by decide +kernel
theorem dL_law_353 : decode cL_law 353 = .ok (.iaload, 1) := by decide +kernel
theorem dL_law_354 : decode cL_law 354 = .ok (.aload_n 0, 1) := by decide +kernel
theorem dL_law_355 : decode cL_law 355 = .ok (.iload_n 3, 1) := by decide +kernel
theorem dL_law_356 : decode cL_law 356 = .ok (.iconst 5, 1) := by decide +kernel
theorem dL_law_357 : decode cL_law 357 = .ok (.iadd, 1) := by decide +kernel
theorem dL_law_358 : decode cL_law 358 = .ok (.iaload, 1) := by decide +kernel
theorem dL_law_359 : decode cL_law 359 = .ok (.invokevirtual 27, 3) := by decide +kernel
theorem dL_law_362 : decode cL_law 362 = .ok (.aload_n 2, 1) := by decide +kernel
theorem dL_law_363 : decode cL_law 363 = .ok (.aload_n 0, 1) := by decide +kernel
theorem dL_law_364 : decode cL_law 364 = .ok (.iload_n 3, 1) := by decide +kernel
theorem dL_law_365 : decode cL_law 365 = .ok (.iconst 1, 1) := by decide +kernel
theorem dL_law_366 : decode cL_law 366 = .ok (.iadd, 1) := by decide +kernel
theorem dL_law_367 : decode cL_law 367 = .ok (.iaload, 1) := by decide +kernel
theorem dL_law_368 : decode cL_law 368 = .ok (.aload_n 0, 1) := by decide +kernel
theorem dL_law_369 : decode cL_law 369 = .ok (.iload_n 3, 1) := by decide +kernel
theorem dL_law_370 : decode cL_law 370 = .ok (.iconst 2, 1) := by decide +kernel
theorem dL_law_371 : decode cL_law 371 = .ok (.iadd, 1) := by decide +kernel
theorem dL_law_372 : decode cL_law 372 = .ok (.iaload, 1) := by decide +kernel
theorem dL_law_373 : decode cL_law 373 = .ok (.aload_n 0, 1) := by decide +kernel
theorem dL_law_374 : decode cL_law 374 = .ok (.iload_n 3, 1) := by decide +kernel
theorem dL_law_375 : decode cL_law 375 = .ok (.iconst 3, 1) := by decide +kernel
theorem dL_law_376 : decode cL_law 376 = .ok (.iadd, 1) := by decide +kernel
theorem dL_law_377 : decode cL_law 377 = .ok (.iaload, 1) := by decide +kernel
theorem dL_law_378 : decode cL_law 378 = .ok (.aload_n 0, 1) := by decide +kernel
theorem dL_law_379 : decode cL_law 379 = .ok (.iload_n 3, 1) := by decide +kernel
theorem dL_law_380 : decode cL_law 380 = .ok (.iconst 4, 1) := by decide +kernel
theorem dL_law_381 : decode cL_law 381 = .ok (.iadd, 1) := by decide +kernel
theorem dL_law_382 : decode cL_law 382 = .ok (.iaload, 1) := by decide +kernel
theorem dL_law_383 : decode cL_law 383 = .ok (.aload_n 0, 1) := by decide +kernel
theorem dL_law_384 : decode cL_law 384 = .ok (.iload_n 3, 1) := by decide +kernel
theorem dL_law_385 : decode cL_law 385 = .ok (.iconst 5, 1) := by decide +kernel
theorem dL_law_386 : decode cL_law 386 = .ok (.iadd, 1) := by decide +kernel
theorem dL_law_387 : decode cL_law 387 = .ok (.iaload, 1) := by decide +kernel
theorem dL_law_388 : decode cL_law 388 = .ok (.invokevirtual 30, 3) := by decide +kernel
theorem dL_law_391 : decode cL_law 391 = .ok (.if_icmp .eq 814, 3) := by decide +kernel
theorem dL_law_394 : decode cL_law 394 = .ok (.iconst 0, 1) := by decide +kernel
theorem dL_law_395 : decode cL_law 395 = .ok (.ireturn, 1) := by decide +kernel
theorem dL_law_396 : decode cL_law 396 = .ok (.aload_n 1, 1) := by decide +kernel
theorem dL_law_397 : decode cL_law 397 = .ok (.aload_n 0, 1) := by decide +kernel
theorem dL_law_398 : decode cL_law 398 = .ok (.iload_n 3, 1) := by decide +kernel
theorem dL_law_399 : decode cL_law 399 = .ok (.iconst 1, 1) := by decide +kernel
theorem dL_law_400 : decode cL_law 400 = .ok (.iadd, 1) := by decide +kernel
theorem dL_law_401 : decode cL_law 401 = .ok (.iaload, 1) := by decide +kernel
theorem dL_law_402 : decode cL_law 402 = .ok (.invokevirtual 31, 3) := by decide +kernel
theorem dL_law_405 : decode cL_law 405 = .ok (.aload_n 2, 1) := by decide +kernel
theorem dL_law_406 : decode cL_law 406 = .ok (.aload_n 0, 1) := by decide +kernel
theorem dL_law_407 : decode cL_law 407 = .ok (.iload_n 3, 1) := by decide +kernel
theorem dL_law_408 : decode cL_law 408 = .ok (.iconst 1, 1) := by decide +kernel
theorem dL_law_409 : decode cL_law 409 = .ok (.iadd, 1) := by decide +kernel
theorem dL_law_410 : decode cL_law 410 = .ok (.iaload, 1) := by decide +kernel
theorem dL_law_411 : decode cL_law 411 = .ok (.invokevirtual 35, 3) := by decide +kernel
theorem dL_law_414 : decode cL_law 414 = .ok (.if_icmp .eq 791, 3) := by decide +kernel
theorem dL_law_417 : decode cL_law 417 = .ok (.iconst 0, 1) := by decide +kernel
theorem dL_law_418 : decode cL_law 418 = .ok (.ireturn, 1) := by decide +kernel
theorem dL_law_419 : decode cL_law 419 = .ok (.aload_n 1, 1) := by decide +kernel
theorem dL_law_420 : decode cL_law 420 = .ok (.invokevirtual 36, 3) := by decide +kernel
theorem dL_law_423 : decode cL_law 423 = .ok (.aload_n 2, 1) := by decide +kernel
theorem dL_law_424 : decode cL_law 424 = .ok (.invokevirtual 40, 3) := by decide +kernel
theorem dL_law_427 : decode cL_law 427 = .ok (.if_icmp .eq 778, 3) := by decide +kernel
theorem dL_law_430 : decode cL_law 430 = .ok (.iconst 0, 1) := by decide +kernel
theorem dL_law_431 : decode cL_law 431 = .ok (.ireturn, 1) := by decide +kernel
theorem dL_law_432 : decode cL_law 432 = .ok (.aload_n 1, 1) := by decide +kernel
theorem dL_law_433 : decode cL_law 433 = .ok (.aload_n 0, 1) := by decide +kernel
theorem dL_law_434 : decode cL_law 434 = .ok (.iload_n 3, 1) := by decide +kernel
theorem dL_law_435 : decode cL_law 435 = .ok (.iconst 1, 1) := by decide +kernel
theorem dL_law_436 : decode cL_law 436 = .ok (.iadd, 1) := by decide +kernel
theorem dL_law_437 : decode cL_law 437 = .ok (.iaload, 1) := by decide +kernel
theorem dL_law_438 : decode cL_law 438 = .ok (.aload_n 0, 1) := by decide +kernel
theorem dL_law_439 : decode cL_law 439 = .ok (.iload_n 3, 1) := by decide +kernel
theorem dL_law_440 : decode cL_law 440 = .ok (.iconst 2, 1) := by decide +kernel
theorem dL_law_441 : decode cL_law 441 = .ok (.iadd, 1) := by decide +kernel
theorem dL_law_442 : decode cL_law 442 = .ok (.iaload, 1) := by decide +kernel
theorem dL_law_443 : decode cL_law 443 = .ok (.aload_n 0, 1) := by decide +kernel
theorem dL_law_444 : decode cL_law 444 = .ok (.iload_n 3, 1) := by decide +kernel
theorem dL_law_445 : decode cL_law 445 = .ok (.iconst 3, 1) := by decide +kernel
theorem dL_law_446 : decode cL_law 446 = .ok (.iadd, 1) := by decide +kernel
theorem dL_law_447 : decode cL_law 447 = .ok (.iaload, 1) := by decide +kernel
theorem dL_law_448 : decode cL_law 448 = .ok (.aload_n 0, 1) := by decide +kernel
theorem dL_law_449 : decode cL_law 449 = .ok (.iload_n 3, 1) := by decide +kernel
theorem dL_law_450 : decode cL_law 450 = .ok (.iconst 4, 1) := by decide +kernel
theorem dL_law_451 : decode cL_law 451 = .ok (.iadd, 1) := by decide +kernel
theorem dL_law_452 : decode cL_law 452 = .ok (.iaload, 1) := by decide +kernel
theorem dL_law_453 : decode cL_law 453 = .ok (.aload_n 0, 1) := by decide +kernel
theorem dL_law_454 : decode cL_law 454 = .ok (.iload_n 3, 1) := by decide +kernel
theorem dL_law_455 : decode cL_law 455 = .ok (.iconst 5, 1) := by decide +kernel
theorem dL_law_456 : decode cL_law 456 = .ok (.iadd, 1) := by decide +kernel
theorem dL_law_457 : decode cL_law 457 = .ok (.iaload, 1) := by decide +kernel
theorem dL_law_458 : decode cL_law 458 = .ok (.invokevirtual 41, 3) := by decide +kernel
theorem dL_law_461 : decode cL_law 461 = .ok (.aload_n 2, 1) := by decide +kernel
theorem dL_law_462 : decode cL_law 462 = .ok (.aload_n 0, 1) := by decide +kernel
theorem dL_law_463 : decode cL_law 463 = .ok (.iload_n 3, 1) := by decide +kernel
theorem dL_law_464 : decode cL_law 464 = .ok (.iconst 1, 1) := by decide +kernel
theorem dL_law_465 : decode cL_law 465 = .ok (.iadd, 1) := by decide +kernel
theorem dL_law_466 : decode cL_law 466 = .ok (.iaload, 1) := by decide +kernel
theorem dL_law_467 : decode cL_law 467 = .ok (.aload_n 0, 1) := by decide +kernel
theorem dL_law_468 : decode cL_law 468 = .ok (.iload_n 3, 1) := by decide +kernel
theorem dL_law_469 : decode cL_law 469 = .ok (.iconst 2, 1) := by decide +kernel
theorem dL_law_470 : decode cL_law 470 = .ok (.iadd, 1) := by decide +kernel
theorem dL_law_471 : decode cL_law 471 = .ok (.iaload, 1) := by decide +kernel
theorem dL_law_472 : decode cL_law 472 = .ok (.aload_n 0, 1) := by decide +kernel
theorem dL_law_473 : decode cL_law 473 = .ok (.iload_n 3, 1) := by decide +kernel
theorem dL_law_474 : decode cL_law 474 = .ok (.iconst 3, 1) := by decide +kernel
theorem dL_law_475 : decode cL_law 475 = .ok (.iadd, 1) := by decide +kernel
theorem dL_law_476 : decode cL_law 476 = .ok (.iaload, 1) := by decide +kernel
theorem dL_law_477 : decode cL_law 477 = .ok (.aload_n 0, 1) := by decide +kernel
theorem dL_law_478 : decode cL_law 478 = .ok (.iload_n 3, 1) := by decide +kernel
theorem dL_law_479 : decode cL_law 479 = .ok (.iconst 4, 1) := by decide +kernel
theorem dL_law_480 : decode cL_law 480 = .ok (.iadd, 1) := by decide +kernel
theorem dL_law_481 : decode cL_law 481 = .ok (.iaload, 1) := by decide +kernel
theorem dL_law_482 : decode cL_law 482 = .ok (.aload_n 0, 1) := by decide +kernel
theorem dL_law_483 : decode cL_law 483 = .ok (.iload_n 3, 1) := by decide +kernel
theorem dL_law_484 : decode cL_law 484 = .ok (.iconst 5, 1) := by decide +kernel
theorem dL_law_485 : decode cL_law 485 = .ok (.iadd, 1) := by decide +kernel
theorem dL_law_486 : decode cL_law 486 = .ok (.iaload, 1) := by decide +kernel
theorem dL_law_487 : decode cL_law 487 = .ok (.invokevirtual 44, 3) := by decide +kernel
theorem dL_law_490 : decode cL_law 490 = .ok (.if_icmp .eq 715, 3) := by decide +kernel
theorem dL_law_493 : decode cL_law 493 = .ok (.iconst 0, 1) := by decide +kernel
theorem dL_law_494 : decode cL_law 494 = .ok (.ireturn, 1) := by decide +kernel
theorem dL_law_495 : decode cL_law 495 = .ok (.aload_n 1, 1) := by decide +kernel
theorem dL_law_496 : decode cL_law 496 = .ok (.aload_n 0, 1) := by decide +kernel
theorem dL_law_497 : decode cL_law 497 = .ok (.iload_n 3, 1) := by decide +kernel
theorem dL_law_498 : decode cL_law 498 = .ok (.iconst 1, 1) := by decide +kernel
theorem dL_law_499 : decode cL_law 499 = .ok (.iadd, 1) := by decide +kernel
theorem dL_law_500 : decode cL_law 500 = .ok (.iaload, 1) := by decide +kernel
theorem dL_law_501 : decode cL_law 501 = .ok (.invokevirtual 45, 3) := by decide +kernel
theorem dL_law_504 : decode cL_law 504 = .ok (.aload_n 2, 1) := by decide +kernel
theorem dL_law_505 : decode cL_law 505 = .ok (.aload_n 0, 1) := by decide +kernel
theorem dL_law_506 : decode cL_law 506 = .ok (.iload_n 3, 1) := by decide +kernel
theorem dL_law_507 : decode cL_law 507 = .ok (.iconst 1, 1) := by decide +kernel
theorem dL_law_508 : decode cL_law 508 = .ok (.iadd, 1) := by decide +kernel
theorem dL_law_509 : decode cL_law 509 = .ok (.iaload, 1) := by decide +kernel
theorem dL_law_510 : decode cL_law 510 = .ok (.invokevirtual 48, 3) := by decide +kernel
theorem dL_law_513 : decode cL_law 513 = .ok (.if_icmp .eq 692, 3) := by decide +kernel
theorem dL_law_516 : decode cL_law 516 = .ok (.iconst 0, 1) := by decide +kernel
theorem dL_law_517 : decode cL_law 517 = .ok (.ireturn, 1) := by decide +kernel
theorem dL_law_518 : decode cL_law 518 = .ok (.aload_n 1, 1) := by decide +kernel
theorem dL_law_519 : decode cL_law 519 = .ok (.aload_n 0, 1) := by decide +kernel
theorem dL_law_520 : decode cL_law 520 = .ok (.iload_n 3, 1) := by decide +kernel
theorem dL_law_521 : decode cL_law 521 = .ok (.iconst 1, 1) := by decide +kernel
theorem dL_law_522 : decode cL_law 522 = .ok (.iadd, 1) := by decide +kernel
theorem dL_law_523 : decode cL_law 523 = .ok (.iaload, 1) := by decide +kernel
theorem dL_law_524 : decode cL_law 524 = .ok (.invokevirtual 49, 3) := by decide +kernel
theorem dL_law_527 : decode cL_law 527 = .ok (.aload_n 2, 1) := by decide +kernel
theorem dL_law_528 : decode cL_law 528 = .ok (.aload_n 0, 1) := by decide +kernel
theorem dL_law_529 : decode cL_law 529 = .ok (.iload_n 3, 1) := by decide +kernel
theorem dL_law_530 : decode cL_law 530 = .ok (.iconst 1, 1) := by decide +kernel
theorem dL_law_531 : decode cL_law 531 = .ok (.iadd, 1) := by decide +kernel
theorem dL_law_532 : decode cL_law 532 = .ok (.iaload, 1) := by decide +kernel
theorem dL_law_533 : decode cL_law 533 = .ok (.invokevirtual 52, 3) := by decide +kernel
theorem dL_law_536 : decode cL_law 536 = .ok (.if_icmp .eq 669, 3) := by decide +kernel
theorem dL_law_539 : decode cL_law 539 = .ok (.iconst 0, 1) := by decide +kernel
theorem dL_law_540 : decode cL_law 540 = .ok (.ireturn, 1) := by decide +kernel
theorem dL_law_541 : decode cL_law 541 = .ok (.aload_n 1, 1) := by decide +kernel
theorem dL_law_542 : decode cL_law 542 = .ok (.aload_n 0, 1) := by decide +kernel
theorem dL_law_543 : decode cL_law 543 = .ok (.iload_n 3, 1) := by decide +kernel
theorem dL_law_544 : decode cL_law 544 = .ok (.iconst 1, 1) := by decide +kernel
theorem dL_law_545 : decode cL_law 545 = .ok (.iadd, 1) := by decide +kernel
theorem dL_law_546 : decode cL_law 546 = .ok (.iaload, 1) := by decide +kernel
theorem dL_law_547 : decode cL_law 547 = .ok (.aload_n 0, 1) := by decide +kernel
theorem dL_law_548 : decode cL_law 548 = .ok (.iload_n 3, 1) := by decide +kernel
theorem dL_law_549 : decode cL_law 549 = .ok (.iconst 2, 1) := by decide +kernel
theorem dL_law_550 : decode cL_law 550 = .ok (.iadd, 1) := by decide +kernel
theorem dL_law_551 : decode cL_law 551 = .ok (.iaload, 1) := by decide +kernel
theorem dL_law_552 : decode cL_law 552 = .ok (.aload_n 0, 1) := by decide +kernel
theorem dL_law_553 : decode cL_law 553 = .ok (.iload_n 3, 1) := by decide +kernel
theorem dL_law_554 : decode cL_law 554 = .ok (.iconst 3, 1) := by decide +kernel
theorem dL_law_555 : decode cL_law 555 = .ok (.iadd, 1) := by decide +kernel
theorem dL_law_556 : decode cL_law 556 = .ok (.iaload, 1) := by decide +kernel
theorem dL_law_557 : decode cL_law 557 = .ok (.aload_n 0, 1) := by decide +kernel
theorem dL_law_558 : decode cL_law 558 = .ok (.iload_n 3, 1) := by decide +kernel
theorem dL_law_559 : decode cL_law 559 = .ok (.iconst 4, 1) := by decide +kernel
theorem dL_law_560 : decode cL_law 560 = .ok (.iadd, 1) := by decide +kernel
theorem dL_law_561 : decode cL_law 561 = .ok (.iaload, 1) := by decide +kernel
theorem dL_law_562 : decode cL_law 562 = .ok (.aload_n 0, 1) := by decide +kernel
theorem dL_law_563 : decode cL_law 563 = .ok (.iload_n 3, 1) := by decide +kernel
theorem dL_law_564 : decode cL_law 564 = .ok (.iconst 5, 1) := by decide +kernel
theorem dL_law_565 : decode cL_law 565 = .ok (.iadd, 1) := by decide +kernel
theorem dL_law_566 : decode cL_law 566 = .ok (.iaload, 1) := by decide +kernel
theorem dL_law_567 : decode cL_law 567 = .ok (.aload_n 0, 1) := by decide +kernel
theorem dL_law_568 : decode cL_law 568 = .ok (.iload_n 3, 1) := by decide +kernel
theorem dL_law_569 : decode cL_law 569 = .ok (.bipush 6, 2) := by decide +kernel
theorem dL_law_571 : decode cL_law 571 = .ok (.iadd, 1) := by decide +kernel
theorem dL_law_572 : decode cL_law 572 = .ok (.iaload, 1) := by decide +kernel
theorem dL_law_573 : decode cL_law 573 = .ok (.aload_n 0, 1) := by decide +kernel
theorem dL_law_574 : decode cL_law 574 = .ok (.iload_n 3, 1) := by decide +kernel
theorem dL_law_575 : decode cL_law 575 = .ok (.bipush 7, 2) := by decide +kernel
theorem dL_law_577 : decode cL_law 577 = .ok (.iadd, 1) := by decide +kernel
theorem dL_law_578 : decode cL_law 578 = .ok (.iaload, 1) := by decide +kernel
theorem dL_law_579 : decode cL_law 579 = .ok (.invokevirtual 53, 3) := by decide +kernel
theorem dL_law_582 : decode cL_law 582 = .ok (.aload_n 2, 1) := by decide +kernel
theorem dL_law_583 : decode cL_law 583 = .ok (.aload_n 0, 1) := by decide +kernel
theorem dL_law_584 : decode cL_law 584 = .ok (.iload_n 3, 1) := by decide +kernel
theorem dL_law_585 : decode cL_law 585 = .ok (.iconst 1, 1) := by decide +kernel
theorem dL_law_586 : decode cL_law 586 = .ok (.iadd, 1) := by decide +kernel
theorem dL_law_587 : decode cL_law 587 = .ok (.iaload, 1) := by decide +kernel
theorem dL_law_588 : decode cL_law 588 = .ok (.aload_n 0, 1) := by decide +kernel
theorem dL_law_589 : decode cL_law 589 = .ok (.iload_n 3, 1) := by decide +kernel
theorem dL_law_590 : decode cL_law 590 = .ok (.iconst 2, 1) := by decide +kernel
theorem dL_law_591 : decode cL_law 591 = .ok (.iadd, 1) := by decide +kernel
theorem dL_law_592 : decode cL_law 592 = .ok (.iaload, 1) := by decide +kernel
theorem dL_law_593 : decode cL_law 593 = .ok (.aload_n 0, 1) := by decide +kernel
theorem dL_law_594 : decode cL_law 594 = .ok (.iload_n 3, 1) := by decide +kernel
theorem dL_law_595 : decode cL_law 595 = .ok (.iconst 3, 1) := by decide +kernel
theorem dL_law_596 : decode cL_law 596 = .ok (.iadd, 1) := by decide +kernel
theorem dL_law_597 : decode cL_law 597 = .ok (.iaload, 1) := by decide +kernel
theorem dL_law_598 : decode cL_law 598 = .ok (.aload_n 0, 1) := by decide +kernel
theorem dL_law_599 : decode cL_law 599 = .ok (.iload_n 3, 1) := by decide +kernel
theorem dL_law_600 : decode cL_law 600 = .ok (.iconst 4, 1) := by decide +kernel
theorem dL_law_601 : decode cL_law 601 = .ok (.iadd, 1) := by decide +kernel
theorem dL_law_602 : decode cL_law 602 = .ok (.iaload, 1) := by decide +kernel
theorem dL_law_603 : decode cL_law 603 = .ok (.aload_n 0, 1) := by decide +kernel
theorem dL_law_604 : decode cL_law 604 = .ok (.iload_n 3, 1) := by decide +kernel
theorem dL_law_605 : decode cL_law 605 = .ok (.iconst 5, 1) := by decide +kernel
theorem dL_law_606 : decode cL_law 606 = .ok (.iadd, 1) := by decide +kernel
theorem dL_law_607 : decode cL_law 607 = .ok (.iaload, 1) := by decide +kernel
theorem dL_law_608 : decode cL_law 608 = .ok (.aload_n 0, 1) := by decide +kernel
theorem dL_law_609 : decode cL_law 609 = .ok (.iload_n 3, 1) := by decide +kernel
theorem dL_law_610 : decode cL_law 610 = .ok (.bipush 6, 2) := by decide +kernel
theorem dL_law_612 : decode cL_law 612 = .ok (.iadd, 1) := by decide +kernel
theorem dL_law_613 : decode cL_law 613 = .ok (.iaload, 1) := by decide +kernel
theorem dL_law_614 : decode cL_law 614 = .ok (.aload_n 0, 1) := by decide +kernel
theorem dL_law_615 : decode cL_law 615 = .ok (.iload_n 3, 1) := by decide +kernel
theorem dL_law_616 : decode cL_law 616 = .ok (.bipush 7, 2) := by decide +kernel
theorem dL_law_618 : decode cL_law 618 = .ok (.iadd, 1) := by decide +kernel
theorem dL_law_619 : decode cL_law 619 = .ok (.iaload, 1) := by decide +kernel
theorem dL_law_620 : decode cL_law 620 = .ok (.invokevirtual 57, 3) := by decide +kernel
theorem dL_law_623 : decode cL_law 623 = .ok (.if_icmp .eq 582, 3) := by decide +kernel
theorem dL_law_626 : decode cL_law 626 = .ok (.iconst 0, 1) := by decide +kernel
theorem dL_law_627 : decode cL_law 627 = .ok (.ireturn, 1) := by decide +kernel
theorem dL_law_628 : decode cL_law 628 = .ok (.aload_n 1, 1) := by decide +kernel
theorem dL_law_629 : decode cL_law 629 = .ok (.aload_n 0, 1) := by decide +kernel
theorem dL_law_630 : decode cL_law 630 = .ok (.iload_n 3, 1) := by decide +kernel
theorem dL_law_631 : decode cL_law 631 = .ok (.iconst 1, 1) := by decide +kernel
theorem dL_law_632 : decode cL_law 632 = .ok (.iadd, 1) := by decide +kernel
theorem dL_law_633 : decode cL_law 633 = .ok (.iaload, 1) := by decide +kernel
theorem dL_law_634 : decode cL_law 634 = .ok (.invokevirtual 58, 3) := by decide +kernel
theorem dL_law_637 : decode cL_law 637 = .ok (.aload_n 2, 1) := by decide +kernel
theorem dL_law_638 : decode cL_law 638 = .ok (.aload_n 0, 1) := by decide +kernel
theorem dL_law_639 : decode cL_law 639 = .ok (.iload_n 3, 1) := by decide +kernel
theorem dL_law_640 : decode cL_law 640 = .ok (.iconst 1, 1) := by decide +kernel
theorem dL_law_641 : decode cL_law 641 = .ok (.iadd, 1) := by decide +kernel
theorem dL_law_642 : decode cL_law 642 = .ok (.iaload, 1) := by decide +kernel
theorem dL_law_643 : decode cL_law 643 = .ok (.invokevirtual 61, 3) := by decide +kernel
theorem dL_law_646 : decode cL_law 646 = .ok (.if_icmp .eq 559, 3) := by decide +kernel
theorem dL_law_649 : decode cL_law 649 = .ok (.iconst 0, 1) := by decide +kernel
theorem dL_law_650 : decode cL_law 650 = .ok (.ireturn, 1) := by decide +kernel
theorem dL_law_651 : decode cL_law 651 = .ok (.aload_n 1, 1) := by decide +kernel
theorem dL_law_652 : decode cL_law 652 = .ok (.aload_n 0, 1) := by decide +kernel
theorem dL_law_653 : decode cL_law 653 = .ok (.iload_n 3, 1) := by decide +kernel
theorem dL_law_654 : decode cL_law 654 = .ok (.iconst 1, 1) := by decide +kernel
theorem dL_law_655 : decode cL_law 655 = .ok (.iadd, 1) := by decide +kernel
theorem dL_law_656 : decode cL_law 656 = .ok (.iaload, 1) := by decide +kernel
theorem dL_law_657 : decode cL_law 657 = .ok (.aload_n 0, 1) := by decide +kernel
theorem dL_law_658 : decode cL_law 658 = .ok (.iload_n 3, 1) := by decide +kernel
theorem dL_law_659 : decode cL_law 659 = .ok (.iconst 2, 1) := by decide +kernel
theorem dL_law_660 : decode cL_law 660 = .ok (.iadd, 1) := by decide +kernel
theorem dL_law_661 : decode cL_law 661 = .ok (.iaload, 1) := by decide +kernel
theorem dL_law_662 : decode cL_law 662 = .ok (.invokevirtual 62, 3) := by decide +kernel
theorem dL_law_665 : decode cL_law 665 = .ok (.aload_n 2, 1) := by decide +kernel
theorem dL_law_666 : decode cL_law 666 = .ok (.aload_n 0, 1) := by decide +kernel
theorem dL_law_667 : decode cL_law 667 = .ok (.iload_n 3, 1) := by decide +kernel
theorem dL_law_668 : decode cL_law 668 = .ok (.iconst 1, 1) := by decide +kernel
theorem dL_law_669 : decode cL_law 669 = .ok (.iadd, 1) := by decide +kernel
theorem dL_law_670 : decode cL_law 670 = .ok (.iaload, 1) := by decide +kernel
theorem dL_law_671 : decode cL_law 671 = .ok (.aload_n 0, 1) := by decide +kernel
theorem dL_law_672 : decode cL_law 672 = .ok (.iload_n 3, 1) := by decide +kernel
theorem dL_law_673 : decode cL_law 673 = .ok (.iconst 2, 1) := by decide +kernel
theorem dL_law_674 : decode cL_law 674 = .ok (.iadd, 1) := by decide +kernel
theorem dL_law_675 : decode cL_law 675 = .ok (.iaload, 1) := by decide +kernel
theorem dL_law_676 : decode cL_law 676 = .ok (.invokevirtual 66, 3) := by decide +kernel
theorem dL_law_679 : decode cL_law 679 = .ok (.if_icmp .eq 526, 3) := by decide +kernel
theorem dL_law_682 : decode cL_law 682 = .ok (.iconst 0, 1) := by decide +kernel
theorem dL_law_683 : decode cL_law 683 = .ok (.ireturn, 1) := by decide +kernel
theorem dL_law_684 : decode cL_law 684 = .ok (.aload_n 1, 1) := by decide +kernel
theorem dL_law_685 : decode cL_law 685 = .ok (.aload_n 0, 1) := by decide +kernel
theorem dL_law_686 : decode cL_law 686 = .ok (.iload_n 3, 1) := by decide +kernel
theorem dL_law_687 : decode cL_law 687 = .ok (.iconst 1, 1) := by decide +kernel
theorem dL_law_688 : decode cL_law 688 = .ok (.iadd, 1) := by decide +kernel
theorem dL_law_689 : decode cL_law 689 = .ok (.iaload, 1) := by decide +kernel
theorem dL_law_690 : decode cL_law 690 = .ok (.aload_n 0, 1) := by decide +kernel
theorem dL_law_691 : decode cL_law 691 = .ok (.iload_n 3, 1) := by decide +kernel
theorem dL_law_692 : decode cL_law 692 = .ok (.iconst 2, 1) := by decide +kernel
theorem dL_law_693 : decode cL_law 693 = .ok (.iadd, 1) := by decide +kernel
theorem dL_law_694 : decode cL_law 694 = .ok (.iaload, 1) := by decide +kernel
theorem dL_law_695 : decode cL_law 695 = .ok (.aload_n 0, 1) := by decide +kernel
theorem dL_law_696 : decode cL_law 696 = .ok (.iload_n 3, 1) := by decide +kernel
theorem dL_law_697 : decode cL_law 697 = .ok (.iconst 3, 1) := by decide +kernel
theorem dL_law_698 : decode cL_law 698 = .ok (.iadd, 1) := by decide +kernel
theorem dL_law_699 : decode cL_law 699 = .ok (.iaload, 1) := by decide +kernel
theorem dL_law_700 : decode cL_law 700 = .ok (.invokevirtual 67, 3) := by decide +kernel
theorem dL_law_703 : decode cL_law 703 = .ok (.aload_n 2, 1) := by decide +kernel
theorem dL_law_704 : decode cL_law 704 = .ok (.aload_n 0, 1) := by decide +kernel
theorem dL_law_705 : decode cL_law 705 = .ok (.iload_n 3, 1) := by decide +kernel
theorem dL_law_706 : decode cL_law 706 = .ok (.iconst 1, 1) := by decide +kernel
theorem dL_law_707 : decode cL_law 707 = .ok (.iadd, 1) := by decide +kernel
theorem dL_law_708 : decode cL_law 708 = .ok (.iaload, 1) := by decide +kernel
theorem dL_law_709 : decode cL_law 709 = .ok (.aload_n 0, 1) := by decide +kernel
theorem dL_law_710 : decode cL_law 710 = .ok (.iload_n 3, 1) := by decide +kernel
theorem dL_law_711 : decode cL_law 711 = .ok (.iconst 2, 1) := by decide +kernel
theorem dL_law_712 : decode cL_law 712 = .ok (.iadd, 1) := by decide +kernel
theorem dL_law_713 : decode cL_law 713 = .ok (.iaload, 1) := by decide +kernel
theorem dL_law_714 : decode cL_law 714 = .ok (.aload_n 0, 1) := by decide +kernel
theorem dL_law_715 : decode cL_law 715 = .ok (.iload_n 3, 1) := by decide +kernel
theorem dL_law_716 : decode cL_law 716 = .ok (.iconst 3, 1) := by decide +kernel
theorem dL_law_717 : decode cL_law 717 = .ok (.iadd, 1) := by decide +kernel
theorem dL_law_718 : decode cL_law 718 = .ok (.iaload, 1) := by decide +kernel
theorem dL_law_719 : decode cL_law 719 = .ok (.invokevirtual 70, 3) := by decide +kernel
theorem dL_law_722 : decode cL_law 722 = .ok (.if_icmp .eq 483, 3) := by decide +kernel
theorem dL_law_725 : decode cL_law 725 = .ok (.iconst 0, 1) := by decide +kernel
theorem dL_law_726 : decode cL_law 726 = .ok (.ireturn, 1) := by decide +kernel
theorem dL_law_727 : decode cL_law 727 = .ok (.aload_n 1, 1) := by decide +kernel
theorem dL_law_728 : decode cL_law 728 = .ok (.aload_n 0, 1) := by decide +kernel
theorem dL_law_729 : decode cL_law 729 = .ok (.iload_n 3, 1) := by decide +kernel
theorem dL_law_730 : decode cL_law 730 = .ok (.iconst 1, 1) := by decide +kernel
theorem dL_law_731 : decode cL_law 731 = .ok (.iadd, 1) := by decide +kernel
theorem dL_law_732 : decode cL_law 732 = .ok (.iaload, 1) := by decide +kernel
theorem dL_law_733 : decode cL_law 733 = .ok (.aload_n 0, 1) := by decide +kernel
theorem dL_law_734 : decode cL_law 734 = .ok (.iload_n 3, 1) := by decide +kernel
theorem dL_law_735 : decode cL_law 735 = .ok (.iconst 2, 1) := by decide +kernel
theorem dL_law_736 : decode cL_law 736 = .ok (.iadd, 1) := by decide +kernel
theorem dL_law_737 : decode cL_law 737 = .ok (.iaload, 1) := by decide +kernel
theorem dL_law_738 : decode cL_law 738 = .ok (.invokevirtual 71, 3) := by decide +kernel
theorem dL_law_741 : decode cL_law 741 = .ok (.aload_n 2, 1) := by decide +kernel
theorem dL_law_742 : decode cL_law 742 = .ok (.aload_n 0, 1) := by decide +kernel
theorem dL_law_743 : decode cL_law 743 = .ok (.iload_n 3, 1) := by decide +kernel
theorem dL_law_744 : decode cL_law 744 = .ok (.iconst 1, 1) := by decide +kernel
theorem dL_law_745 : decode cL_law 745 = .ok (.iadd, 1) := by decide +kernel
theorem dL_law_746 : decode cL_law 746 = .ok (.iaload, 1) := by decide +kernel
theorem dL_law_747 : decode cL_law 747 = .ok (.aload_n 0, 1) := by decide +kernel
theorem dL_law_748 : decode cL_law 748 = .ok (.iload_n 3, 1) := by decide +kernel
theorem dL_law_749 : decode cL_law 749 = .ok (.iconst 2, 1) := by decide +kernel
theorem dL_law_750 : decode cL_law 750 = .ok (.iadd, 1) := by decide +kernel
theorem dL_law_751 : decode cL_law 751 = .ok (.iaload, 1) := by decide +kernel
theorem dL_law_752 : decode cL_law 752 = .ok (.invokevirtual 74, 3) := by decide +kernel
theorem dL_law_755 : decode cL_law 755 = .ok (.if_icmp .eq 450, 3) := by decide +kernel
theorem dL_law_758 : decode cL_law 758 = .ok (.iconst 0, 1) := by decide +kernel
theorem dL_law_759 : decode cL_law 759 = .ok (.ireturn, 1) := by decide +kernel
theorem dL_law_760 : decode cL_law 760 = .ok (.aload_n 1, 1) := by decide +kernel
theorem dL_law_761 : decode cL_law 761 = .ok (.invokevirtual 75, 3) := by decide +kernel
theorem dL_law_764 : decode cL_law 764 = .ok (.aload_n 2, 1) := by decide +kernel
theorem dL_law_765 : decode cL_law 765 = .ok (.invokevirtual 78, 3) := by decide +kernel
theorem dL_law_768 : decode cL_law 768 = .ok (.if_icmp .eq 437, 3) := by decide +kernel
theorem dL_law_771 : decode cL_law 771 = .ok (.iconst 0, 1) := by decide +kernel
theorem dL_law_772 : decode cL_law 772 = .ok (.ireturn, 1) := by decide +kernel
theorem dL_law_773 : decode cL_law 773 = .ok (.aload_n 1, 1) := by decide +kernel
theorem dL_law_774 : decode cL_law 774 = .ok (.aload_n 0, 1) := by decide +kernel
theorem dL_law_775 : decode cL_law 775 = .ok (.iload_n 3, 1) := by decide +kernel
theorem dL_law_776 : decode cL_law 776 = .ok (.iconst 1, 1) := by decide +kernel
theorem dL_law_777 : decode cL_law 777 = .ok (.iadd, 1) := by decide +kernel
theorem dL_law_778 : decode cL_law 778 = .ok (.iaload, 1) := by decide +kernel
theorem dL_law_779 : decode cL_law 779 = .ok (.invokevirtual 79, 3) := by decide +kernel
theorem dL_law_782 : decode cL_law 782 = .ok (.aload_n 2, 1) := by decide +kernel
theorem dL_law_783 : decode cL_law 783 = .ok (.aload_n 0, 1) := by decide +kernel
theorem dL_law_784 : decode cL_law 784 = .ok (.iload_n 3, 1) := by decide +kernel
theorem dL_law_785 : decode cL_law 785 = .ok (.iconst 1, 1) := by decide +kernel
theorem dL_law_786 : decode cL_law 786 = .ok (.iadd, 1) := by decide +kernel
theorem dL_law_787 : decode cL_law 787 = .ok (.iaload, 1) := by decide +kernel
theorem dL_law_788 : decode cL_law 788 = .ok (.invokevirtual 82, 3) := by decide +kernel
theorem dL_law_791 : decode cL_law 791 = .ok (.if_icmp .eq 414, 3) := by decide +kernel
theorem dL_law_794 : decode cL_law 794 = .ok (.iconst 0, 1) := by decide +kernel
theorem dL_law_795 : decode cL_law 795 = .ok (.ireturn, 1) := by decide +kernel
theorem dL_law_796 : decode cL_law 796 = .ok (.aload_n 1, 1) := by decide +kernel
theorem dL_law_797 : decode cL_law 797 = .ok (.aload_n 0, 1) := by decide +kernel
theorem dL_law_798 : decode cL_law 798 = .ok (.iload_n 3, 1) := by decide +kernel
theorem dL_law_799 : decode cL_law 799 = .ok (.iconst 1, 1) := by decide +kernel
theorem dL_law_800 : decode cL_law 800 = .ok (.iadd, 1) := by decide +kernel
theorem dL_law_801 : decode cL_law 801 = .ok (.iaload, 1) := by decide +kernel
theorem dL_law_802 : decode cL_law 802 = .ok (.aload_n 0, 1) := by decide +kernel
theorem dL_law_803 : decode cL_law 803 = .ok (.iload_n 3, 1) := by decide +kernel
theorem dL_law_804 : decode cL_law 804 = .ok (.iconst 2, 1) := by decide +kernel
theorem dL_law_805 : decode cL_law 805 = .ok (.iadd, 1) := by decide +kernel
theorem dL_law_806 : decode cL_law 806 = .ok (.iaload, 1) := by decide +kernel
theorem dL_law_807 : decode cL_law 807 = .ok (.invokevirtual 83, 3) := by decide +kernel
theorem dL_law_810 : decode cL_law 810 = .ok (.aload_n 2, 1) := by decide +kernel
theorem dL_law_811 : decode cL_law 811 = .ok (.aload_n 0, 1) := by decide +kernel
theorem dL_law_812 : decode cL_law 812 = .ok (.iload_n 3, 1) := by decide +kernel
theorem dL_law_813 : decode cL_law 813 = .ok (.iconst 1, 1) := by decide +kernel
theorem dL_law_814 : decode cL_law 814 = .ok (.iadd, 1) := by decide +kernel
theorem dL_law_815 : decode cL_law 815 = .ok (.iaload, 1) := by decide +kernel
theorem dL_law_816 : decode cL_law 816 = .ok (.aload_n 0, 1) := by decide +kernel
theorem dL_law_817 : decode cL_law 817 = .ok (.iload_n 3, 1) := by decide +kernel
theorem dL_law_818 : decode cL_law 818 = .ok (.iconst 2, 1) := by decide +kernel
theorem dL_law_819 : decode cL_law 819 = .ok (.iadd, 1) := by decide +kernel
theorem dL_law_820 : decode cL_law 820 = .ok (.iaload, 1) := by decide +kernel
theorem dL_law_821 : decode cL_law 821 = .ok (.invokevirtual 86, 3) := by decide +kernel
theorem dL_law_824 : decode cL_law 824 = .ok (.if_icmp .eq 381, 3) := by decide +kernel
theorem dL_law_827 : decode cL_law 827 = .ok (.iconst 0, 1) := by decide +kernel
theorem dL_law_828 : decode cL_law 828 = .ok (.ireturn, 1) := by decide +kernel
theorem dL_law_829 : decode cL_law 829 = .ok (.aload_n 1, 1) := by decide +kernel
theorem dL_law_830 : decode cL_law 830 = .ok (.aload_n 0, 1) := by decide +kernel
theorem dL_law_831 : decode cL_law 831 = .ok (.iload_n 3, 1) := by decide +kernel
theorem dL_law_832 : decode cL_law 832 = .ok (.iconst 1, 1) := by decide +kernel
theorem dL_law_833 : decode cL_law 833 = .ok (.iadd, 1) := by decide +kernel
theorem dL_law_834 : decode cL_law 834 = .ok (.iaload, 1) := by decide +kernel
theorem dL_law_835 : decode cL_law 835 = .ok (.aload_n 0, 1) := by decide +kernel
theorem dL_law_836 : decode cL_law 836 = .ok (.iload_n 3, 1) := by decide +kernel
theorem dL_law_837 : decode cL_law 837 = .ok (.iconst 2, 1) := by decide +kernel
theorem dL_law_838 : decode cL_law 838 = .ok (.iadd, 1) := by decide +kernel
theorem dL_law_839 : decode cL_law 839 = .ok (.iaload, 1) := by decide +kernel
theorem dL_law_840 : decode cL_law 840 = .ok (.invokevirtual 87, 3) := by decide +kernel
theorem dL_law_843 : decode cL_law 843 = .ok (.aload_n 2, 1) := by decide +kernel
theorem dL_law_844 : decode cL_law 844 = .ok (.aload_n 0, 1) := by decide +kernel
theorem dL_law_845 : decode cL_law 845 = .ok (.iload_n 3, 1) := by decide +kernel
theorem dL_law_846 : decode cL_law 846 = .ok (.iconst 1, 1) := by decide +kernel
theorem dL_law_847 : decode cL_law 847 = .ok (.iadd, 1) := by decide +kernel
theorem dL_law_848 : decode cL_law 848 = .ok (.iaload, 1) := by decide +kernel
theorem dL_law_849 : decode cL_law 849 = .ok (.aload_n 0, 1) := by decide +kernel
theorem dL_law_850 : decode cL_law 850 = .ok (.iload_n 3, 1) := by decide +kernel
theorem dL_law_851 : decode cL_law 851 = .ok (.iconst 2, 1) := by decide +kernel
theorem dL_law_852 : decode cL_law 852 = .ok (.iadd, 1) := by decide +kernel
theorem dL_law_853 : decode cL_law 853 = .ok (.iaload, 1) := by decide +kernel
theorem dL_law_854 : decode cL_law 854 = .ok (.invokevirtual 90, 3) := by decide +kernel
theorem dL_law_857 : decode cL_law 857 = .ok (.if_icmp .eq 348, 3) := by decide +kernel
theorem dL_law_860 : decode cL_law 860 = .ok (.iconst 0, 1) := by decide +kernel
theorem dL_law_861 : decode cL_law 861 = .ok (.ireturn, 1) := by decide +kernel
theorem dL_law_862 : decode cL_law 862 = .ok (.aload_n 1, 1) := by decide +kernel
theorem dL_law_863 : decode cL_law 863 = .ok (.aload_n 0, 1) := by decide +kernel
theorem dL_law_864 : decode cL_law 864 = .ok (.iload_n 3, 1) := by decide +kernel
theorem dL_law_865 : decode cL_law 865 = .ok (.iconst 1, 1) := by decide +kernel
theorem dL_law_866 : decode cL_law 866 = .ok (.iadd, 1) := by decide +kernel
theorem dL_law_867 : decode cL_law 867 = .ok (.iaload, 1) := by decide +kernel
theorem dL_law_868 : decode cL_law 868 = .ok (.aload_n 0, 1) := by decide +kernel
theorem dL_law_869 : decode cL_law 869 = .ok (.iload_n 3, 1) := by decide +kernel
theorem dL_law_870 : decode cL_law 870 = .ok (.iconst 2, 1) := by decide +kernel
theorem dL_law_871 : decode cL_law 871 = .ok (.iadd, 1) := by decide +kernel
theorem dL_law_872 : decode cL_law 872 = .ok (.iaload, 1) := by decide +kernel
theorem dL_law_873 : decode cL_law 873 = .ok (.invokevirtual 91, 3) := by decide +kernel
theorem dL_law_876 : decode cL_law 876 = .ok (.aload_n 2, 1) := by decide +kernel
theorem dL_law_877 : decode cL_law 877 = .ok (.aload_n 0, 1) := by decide +kernel
theorem dL_law_878 : decode cL_law 878 = .ok (.iload_n 3, 1) := by decide +kernel
theorem dL_law_879 : decode cL_law 879 = .ok (.iconst 1, 1) := by decide +kernel
theorem dL_law_880 : decode cL_law 880 = .ok (.iadd, 1) := by decide +kernel
theorem dL_law_881 : decode cL_law 881 = .ok (.iaload, 1) := by decide +kernel
theorem dL_law_882 : decode cL_law 882 = .ok (.aload_n 0, 1) := by decide +kernel
theorem dL_law_883 : decode cL_law 883 = .ok (.iload_n 3, 1) := by decide +kernel
theorem dL_law_884 : decode cL_law 884 = .ok (.iconst 2, 1) := by decide +kernel
theorem dL_law_885 : decode cL_law 885 = .ok (.iadd, 1) := by decide +kernel
theorem dL_law_886 : decode cL_law 886 = .ok (.iaload, 1) := by decide +kernel
theorem dL_law_887 : decode cL_law 887 = .ok (.invokevirtual 94, 3) := by decide +kernel
theorem dL_law_890 : decode cL_law 890 = .ok (.if_icmp .eq 315, 3) := by decide +kernel
theorem dL_law_893 : decode cL_law 893 = .ok (.iconst 0, 1) := by decide +kernel
theorem dL_law_894 : decode cL_law 894 = .ok (.ireturn, 1) := by decide +kernel
theorem dL_law_895 : decode cL_law 895 = .ok (.aload_n 1, 1) := by decide +kernel
theorem dL_law_896 : decode cL_law 896 = .ok (.aload_n 0, 1) := by decide +kernel
theorem dL_law_897 : decode cL_law 897 = .ok (.iload_n 3, 1) := by decide +kernel
theorem dL_law_898 : decode cL_law 898 = .ok (.iconst 1, 1) := by decide +kernel
theorem dL_law_899 : decode cL_law 899 = .ok (.iadd, 1) := by decide +kernel
theorem dL_law_900 : decode cL_law 900 = .ok (.iaload, 1) := by decide +kernel
theorem dL_law_901 : decode cL_law 901 = .ok (.aload_n 0, 1) := by decide +kernel
theorem dL_law_902 : decode cL_law 902 = .ok (.iload_n 3, 1) := by decide +kernel
theorem dL_law_903 : decode cL_law 903 = .ok (.iconst 2, 1) := by decide +kernel
theorem dL_law_904 : decode cL_law 904 = .ok (.iadd, 1) := by decide +kernel
theorem dL_law_905 : decode cL_law 905 = .ok (.iaload, 1) := by decide +kernel
theorem dL_law_906 : decode cL_law 906 = .ok (.invokevirtual 95, 3) := by decide +kernel
theorem dL_law_909 : decode cL_law 909 = .ok (.aload_n 2, 1) := by decide +kernel
theorem dL_law_910 : decode cL_law 910 = .ok (.aload_n 0, 1) := by decide +kernel
theorem dL_law_911 : decode cL_law 911 = .ok (.iload_n 3, 1) := by decide +kernel
theorem dL_law_912 : decode cL_law 912 = .ok (.iconst 1, 1) := by decide +kernel
theorem dL_law_913 : decode cL_law 913 = .ok (.iadd, 1) := by decide +kernel
theorem dL_law_914 : decode cL_law 914 = .ok (.iaload, 1) := by decide +kernel
theorem dL_law_915 : decode cL_law 915 = .ok (.aload_n 0, 1) := by decide +kernel
theorem dL_law_916 : decode cL_law 916 = .ok (.iload_n 3, 1) := by decide +kernel
theorem dL_law_917 : decode cL_law 917 = .ok (.iconst 2, 1) := by decide +kernel
theorem dL_law_918 : decode cL_law 918 = .ok (.iadd, 1) := by decide +kernel
theorem dL_law_919 : decode cL_law 919 = .ok (.iaload, 1) := by decide +kernel
theorem dL_law_920 : decode cL_law 920 = .ok (.invokevirtual 98, 3) := by decide +kernel
theorem dL_law_923 : decode cL_law 923 = .ok (.if_icmp .eq 282, 3) := by decide +kernel
theorem dL_law_926 : decode cL_law 926 = .ok (.iconst 0, 1) := by decide +kernel
theorem dL_law_927 : decode cL_law 927 = .ok (.ireturn, 1) := by decide +kernel
theorem dL_law_928 : decode cL_law 928 = .ok (.aload_n 1, 1) := by decide +kernel
theorem dL_law_929 : decode cL_law 929 = .ok (.aload_n 0, 1) := by decide +kernel
theorem dL_law_930 : decode cL_law 930 = .ok (.iload_n 3, 1) := by decide +kernel
theorem dL_law_931 : decode cL_law 931 = .ok (.iconst 1, 1) := by decide +kernel
theorem dL_law_932 : decode cL_law 932 = .ok (.iadd, 1) := by decide +kernel
theorem dL_law_933 : decode cL_law 933 = .ok (.iaload, 1) := by decide +kernel
theorem dL_law_934 : decode cL_law 934 = .ok (.aload_n 0, 1) := by decide +kernel
theorem dL_law_935 : decode cL_law 935 = .ok (.iload_n 3, 1) := by decide +kernel
theorem dL_law_936 : decode cL_law 936 = .ok (.iconst 2, 1) := by decide +kernel
theorem dL_law_937 : decode cL_law 937 = .ok (.iadd, 1) := by decide +kernel
theorem dL_law_938 : decode cL_law 938 = .ok (.iaload, 1) := by decide +kernel
theorem dL_law_939 : decode cL_law 939 = .ok (.invokevirtual 99, 3) := by decide +kernel
theorem dL_law_942 : decode cL_law 942 = .ok (.aload_n 2, 1) := by decide +kernel
theorem dL_law_943 : decode cL_law 943 = .ok (.aload_n 0, 1) := by decide +kernel
theorem dL_law_944 : decode cL_law 944 = .ok (.iload_n 3, 1) := by decide +kernel
theorem dL_law_945 : decode cL_law 945 = .ok (.iconst 1, 1) := by decide +kernel
theorem dL_law_946 : decode cL_law 946 = .ok (.iadd, 1) := by decide +kernel
theorem dL_law_947 : decode cL_law 947 = .ok (.iaload, 1) := by decide +kernel
theorem dL_law_948 : decode cL_law 948 = .ok (.aload_n 0, 1) := by decide +kernel
theorem dL_law_949 : decode cL_law 949 = .ok (.iload_n 3, 1) := by decide +kernel
theorem dL_law_950 : decode cL_law 950 = .ok (.iconst 2, 1) := by decide +kernel
theorem dL_law_951 : decode cL_law 951 = .ok (.iadd, 1) := by decide +kernel
theorem dL_law_952 : decode cL_law 952 = .ok (.iaload, 1) := by decide +kernel
theorem dL_law_953 : decode cL_law 953 = .ok (.invokevirtual 102, 3) := by decide +kernel
theorem dL_law_956 : decode cL_law 956 = .ok (.if_icmp .eq 249, 3) := by decide +kernel
theorem dL_law_959 : decode cL_law 959 = .ok (.iconst 0, 1) := by decide +kernel
theorem dL_law_960 : decode cL_law 960 = .ok (.ireturn, 1) := by decide +kernel
theorem dL_law_961 : decode cL_law 961 = .ok (.aload_n 1, 1) := by decide +kernel
theorem dL_law_962 : decode cL_law 962 = .ok (.aload_n 0, 1) := by decide +kernel
theorem dL_law_963 : decode cL_law 963 = .ok (.iload_n 3, 1) := by decide +kernel
theorem dL_law_964 : decode cL_law 964 = .ok (.iconst 1, 1) := by decide +kernel
theorem dL_law_965 : decode cL_law 965 = .ok (.iadd, 1) := by decide +kernel
theorem dL_law_966 : decode cL_law 966 = .ok (.iaload, 1) := by decide +kernel
theorem dL_law_967 : decode cL_law 967 = .ok (.aload_n 0, 1) := by decide +kernel
theorem dL_law_968 : decode cL_law 968 = .ok (.iload_n 3, 1) := by decide +kernel
theorem dL_law_969 : decode cL_law 969 = .ok (.iconst 2, 1) := by decide +kernel
theorem dL_law_970 : decode cL_law 970 = .ok (.iadd, 1) := by decide +kernel
theorem dL_law_971 : decode cL_law 971 = .ok (.iaload, 1) := by decide +kernel
theorem dL_law_972 : decode cL_law 972 = .ok (.invokevirtual 103, 3) := by decide +kernel
theorem dL_law_975 : decode cL_law 975 = .ok (.aload_n 2, 1) := by decide +kernel
theorem dL_law_976 : decode cL_law 976 = .ok (.aload_n 0, 1) := by decide +kernel
theorem dL_law_977 : decode cL_law 977 = .ok (.iload_n 3, 1) := by decide +kernel
theorem dL_law_978 : decode cL_law 978 = .ok (.iconst 1, 1) := by decide +kernel
theorem dL_law_979 : decode cL_law 979 = .ok (.iadd, 1) := by decide +kernel
theorem dL_law_980 : decode cL_law 980 = .ok (.iaload, 1) := by decide +kernel
theorem dL_law_981 : decode cL_law 981 = .ok (.aload_n 0, 1) := by decide +kernel
theorem dL_law_982 : decode cL_law 982 = .ok (.iload_n 3, 1) := by decide +kernel
theorem dL_law_983 : decode cL_law 983 = .ok (.iconst 2, 1) := by decide +kernel
theorem dL_law_984 : decode cL_law 984 = .ok (.iadd, 1) := by decide +kernel
theorem dL_law_985 : decode cL_law 985 = .ok (.iaload, 1) := by decide +kernel
theorem dL_law_986 : decode cL_law 986 = .ok (.invokevirtual 106, 3) := by decide +kernel
theorem dL_law_989 : decode cL_law 989 = .ok (.if_icmp .eq 216, 3) := by decide +kernel
theorem dL_law_992 : decode cL_law 992 = .ok (.iconst 0, 1) := by decide +kernel
theorem dL_law_993 : decode cL_law 993 = .ok (.ireturn, 1) := by decide +kernel
theorem dL_law_994 : decode cL_law 994 = .ok (.aload_n 1, 1) := by decide +kernel
theorem dL_law_995 : decode cL_law 995 = .ok (.aload_n 0, 1) := by decide +kernel
theorem dL_law_996 : decode cL_law 996 = .ok (.iload_n 3, 1) := by decide +kernel
theorem dL_law_997 : decode cL_law 997 = .ok (.iconst 1, 1) := by decide +kernel
theorem dL_law_998 : decode cL_law 998 = .ok (.iadd, 1) := by decide +kernel
theorem dL_law_999 : decode cL_law 999 = .ok (.iaload, 1) := by decide +kernel
theorem dL_law_1000 : decode cL_law 1000 = .ok (.invokevirtual 107, 3) := by decide +kernel
theorem dL_law_1003 : decode cL_law 1003 = .ok (.aload_n 2, 1) := by decide +kernel
theorem dL_law_1004 : decode cL_law 1004 = .ok (.aload_n 0, 1) := by decide +kernel
theorem dL_law_1005 : decode cL_law 1005 = .ok (.iload_n 3, 1) := by decide +kernel
theorem dL_law_1006 : decode cL_law 1006 = .ok (.iconst 1, 1) := by decide +kernel
theorem dL_law_1007 : decode cL_law 1007 = .ok (.iadd, 1) := by decide +kernel
theorem dL_law_1008 : decode cL_law 1008 = .ok (.iaload, 1) := by decide +kernel
theorem dL_law_1009 : decode cL_law 1009 = .ok (.invokevirtual 110, 3) := by decide +kernel
theorem dL_law_1012 : decode cL_law 1012 = .ok (.if_icmp .eq 193, 3) := by decide +kernel
theorem dL_law_1015 : decode cL_law 1015 = .ok (.iconst 0, 1) := by decide +kernel
theorem dL_law_1016 : decode cL_law 1016 = .ok (.ireturn, 1) := by decide +kernel
theorem dL_law_1017 : decode cL_law 1017 = .ok (.aload_n 1, 1) := by decide +kernel
theorem dL_law_1018 : decode cL_law 1018 = .ok (.aload_n 0, 1) := by decide +kernel
theorem dL_law_1019 : decode cL_law 1019 = .ok (.iload_n 3, 1) := by decide +kernel
theorem dL_law_1020 : decode cL_law 1020 = .ok (.iconst 1, 1) := by decide +kernel
theorem dL_law_1021 : decode cL_law 1021 = .ok (.iadd, 1) := by decide +kernel
theorem dL_law_1022 : decode cL_law 1022 = .ok (.iaload, 1) := by decide +kernel
theorem dL_law_1023 : decode cL_law 1023 = .ok (.aload_n 0, 1) := by decide +kernel
theorem dL_law_1024 : decode cL_law 1024 = .ok (.iload_n 3, 1) := by decide +kernel
theorem dL_law_1025 : decode cL_law 1025 = .ok (.iconst 2, 1) := by decide +kernel
theorem dL_law_1026 : decode cL_law 1026 = .ok (.iadd, 1) := by decide +kernel
theorem dL_law_1027 : decode cL_law 1027 = .ok (.iaload, 1) := by decide +kernel
theorem dL_law_1028 : decode cL_law 1028 = .ok (.aload_n 0, 1) := by decide +kernel
theorem dL_law_1029 : decode cL_law 1029 = .ok (.iload_n 3, 1) := by decide +kernel
theorem dL_law_1030 : decode cL_law 1030 = .ok (.iconst 3, 1) := by decide +kernel
theorem dL_law_1031 : decode cL_law 1031 = .ok (.iadd, 1) := by decide +kernel
theorem dL_law_1032 : decode cL_law 1032 = .ok (.iaload, 1) := by decide +kernel
theorem dL_law_1033 : decode cL_law 1033 = .ok (.invokevirtual 111, 3) := by decide +kernel
theorem dL_law_1036 : decode cL_law 1036 = .ok (.aload_n 2, 1) := by decide +kernel
theorem dL_law_1037 : decode cL_law 1037 = .ok (.aload_n 0, 1) := by decide +kernel
theorem dL_law_1038 : decode cL_law 1038 = .ok (.iload_n 3, 1) := by decide +kernel
theorem dL_law_1039 : decode cL_law 1039 = .ok (.iconst 1, 1) := by decide +kernel
theorem dL_law_1040 : decode cL_law 1040 = .ok (.iadd, 1) := by decide +kernel
theorem dL_law_1041 : decode cL_law 1041 = .ok (.iaload, 1) := by decide +kernel
theorem dL_law_1042 : decode cL_law 1042 = .ok (.aload_n 0, 1) := by decide +kernel
theorem dL_law_1043 : decode cL_law 1043 = .ok (.iload_n 3, 1) := by decide +kernel
theorem dL_law_1044 : decode cL_law 1044 = .ok (.iconst 2, 1) := by decide +kernel
theorem dL_law_1045 : decode cL_law 1045 = .ok (.iadd, 1) := by decide +kernel
theorem dL_law_1046 : decode cL_law 1046 = .ok (.iaload, 1) := by decide +kernel
theorem dL_law_1047 : decode cL_law 1047 = .ok (.aload_n 0, 1) := by decide +kernel
theorem dL_law_1048 : decode cL_law 1048 = .ok (.iload_n 3, 1) := by decide +kernel
theorem dL_law_1049 : decode cL_law 1049 = .ok (.iconst 3, 1) := by decide +kernel
theorem dL_law_1050 : decode cL_law 1050 = .ok (.iadd, 1) := by decide +kernel
theorem dL_law_1051 : decode cL_law 1051 = .ok (.iaload, 1) := by decide +kernel
theorem dL_law_1052 : decode cL_law 1052 = .ok (.invokevirtual 114, 3) := by decide +kernel
theorem dL_law_1055 : decode cL_law 1055 = .ok (.if_icmp .eq 150, 3) := by decide +kernel
theorem dL_law_1058 : decode cL_law 1058 = .ok (.iconst 0, 1) := by decide +kernel
theorem dL_law_1059 : decode cL_law 1059 = .ok (.ireturn, 1) := by decide +kernel
theorem dL_law_1060 : decode cL_law 1060 = .ok (.aload_n 1, 1) := by decide +kernel
theorem dL_law_1061 : decode cL_law 1061 = .ok (.aload_n 0, 1) := by decide +kernel
theorem dL_law_1062 : decode cL_law 1062 = .ok (.iload_n 3, 1) := by decide +kernel
theorem dL_law_1063 : decode cL_law 1063 = .ok (.iconst 1, 1) := by decide +kernel
theorem dL_law_1064 : decode cL_law 1064 = .ok (.iadd, 1) := by decide +kernel
theorem dL_law_1065 : decode cL_law 1065 = .ok (.iaload, 1) := by decide +kernel
theorem dL_law_1066 : decode cL_law 1066 = .ok (.aload_n 0, 1) := by decide +kernel
theorem dL_law_1067 : decode cL_law 1067 = .ok (.iload_n 3, 1) := by decide +kernel
theorem dL_law_1068 : decode cL_law 1068 = .ok (.iconst 2, 1) := by decide +kernel
theorem dL_law_1069 : decode cL_law 1069 = .ok (.iadd, 1) := by decide +kernel
theorem dL_law_1070 : decode cL_law 1070 = .ok (.iaload, 1) := by decide +kernel
theorem dL_law_1071 : decode cL_law 1071 = .ok (.invokevirtual 115, 3) := by decide +kernel
theorem dL_law_1074 : decode cL_law 1074 = .ok (.aload_n 2, 1) := by decide +kernel
theorem dL_law_1075 : decode cL_law 1075 = .ok (.aload_n 0, 1) := by decide +kernel
theorem dL_law_1076 : decode cL_law 1076 = .ok (.iload_n 3, 1) := by decide +kernel
theorem dL_law_1077 : decode cL_law 1077 = .ok (.iconst 1, 1) := by decide +kernel
theorem dL_law_1078 : decode cL_law 1078 = .ok (.iadd, 1) := by decide +kernel
theorem dL_law_1079 : decode cL_law 1079 = .ok (.iaload, 1) := by decide +kernel
theorem dL_law_1080 : decode cL_law 1080 = .ok (.aload_n 0, 1) := by decide +kernel
theorem dL_law_1081 : decode cL_law 1081 = .ok (.iload_n 3, 1) := by decide +kernel
theorem dL_law_1082 : decode cL_law 1082 = .ok (.iconst 2, 1) := by decide +kernel
theorem dL_law_1083 : decode cL_law 1083 = .ok (.iadd, 1) := by decide +kernel
theorem dL_law_1084 : decode cL_law 1084 = .ok (.iaload, 1) := by decide +kernel
theorem dL_law_1085 : decode cL_law 1085 = .ok (.invokevirtual 118, 3) := by decide +kernel
theorem dL_law_1088 : decode cL_law 1088 = .ok (.if_icmp .eq 117, 3) := by decide +kernel
theorem dL_law_1091 : decode cL_law 1091 = .ok (.iconst 0, 1) := by decide +kernel
theorem dL_law_1092 : decode cL_law 1092 = .ok (.ireturn, 1) := by decide +kernel
theorem dL_law_1093 : decode cL_law 1093 = .ok (.aload_n 1, 1) := by decide +kernel
theorem dL_law_1094 : decode cL_law 1094 = .ok (.aload_n 0, 1) := by decide +kernel
theorem dL_law_1095 : decode cL_law 1095 = .ok (.iload_n 3, 1) := by decide +kernel
theorem dL_law_1096 : decode cL_law 1096 = .ok (.iconst 1, 1) := by decide +kernel
theorem dL_law_1097 : decode cL_law 1097 = .ok (.iadd, 1) := by decide +kernel
theorem dL_law_1098 : decode cL_law 1098 = .ok (.iaload, 1) := by decide +kernel
theorem dL_law_1099 : decode cL_law 1099 = .ok (.invokevirtual 119, 3) := by decide +kernel
theorem dL_law_1102 : decode cL_law 1102 = .ok (.aload_n 2, 1) := by decide +kernel
theorem dL_law_1103 : decode cL_law 1103 = .ok (.aload_n 0, 1) := by decide +kernel
theorem dL_law_1104 : decode cL_law 1104 = .ok (.iload_n 3, 1) := by decide +kernel
theorem dL_law_1105 : decode cL_law 1105 = .ok (.iconst 1, 1) := by decide +kernel
theorem dL_law_1106 : decode cL_law 1106 = .ok (.iadd, 1) := by decide +kernel
theorem dL_law_1107 : decode cL_law 1107 = .ok (.iaload, 1) := by decide +kernel
theorem dL_law_1108 : decode cL_law 1108 = .ok (.invokevirtual 122, 3) := by decide +kernel
theorem dL_law_1111 : decode cL_law 1111 = .ok (.if_icmp .eq 94, 3) := by decide +kernel
theorem dL_law_1114 : decode cL_law 1114 = .ok (.iconst 0, 1) := by decide +kernel
theorem dL_law_1115 : decode cL_law 1115 = .ok (.ireturn, 1) := by decide +kernel
theorem dL_law_1116 : decode cL_law 1116 = .ok (.aload_n 1, 1) := by decide +kernel
theorem dL_law_1117 : decode cL_law 1117 = .ok (.aload_n 0, 1) := by decide +kernel
theorem dL_law_1118 : decode cL_law 1118 = .ok (.iload_n 3, 1) := by decide +kernel
theorem dL_law_1119 : decode cL_law 1119 = .ok (.iconst 1, 1) := by decide +kernel
theorem dL_law_1120 : decode cL_law 1120 = .ok (.iadd, 1) := by decide +kernel
theorem dL_law_1121 : decode cL_law 1121 = .ok (.iaload, 1) := by decide +kernel
theorem dL_law_1122 : decode cL_law 1122 = .ok (.aload_n 0, 1) := by decide +kernel
theorem dL_law_1123 : decode cL_law 1123 = .ok (.iload_n 3, 1) := by decide +kernel
theorem dL_law_1124 : decode cL_law 1124 = .ok (.iconst 2, 1) := by decide +kernel
theorem dL_law_1125 : decode cL_law 1125 = .ok (.iadd, 1) := by decide +kernel
theorem dL_law_1126 : decode cL_law 1126 = .ok (.iaload, 1) := by decide +kernel
theorem dL_law_1127 : decode cL_law 1127 = .ok (.invokevirtual 123, 3) := by decide +kernel
theorem dL_law_1130 : decode cL_law 1130 = .ok (.aload_n 2, 1) := by decide +kernel
theorem dL_law_1131 : decode cL_law 1131 = .ok (.aload_n 0, 1) := by decide +kernel
theorem dL_law_1132 : decode cL_law 1132 = .ok (.iload_n 3, 1) := by decide +kernel
theorem dL_law_1133 : decode cL_law 1133 = .ok (.iconst 1, 1) := by decide +kernel
theorem dL_law_1134 : decode cL_law 1134 = .ok (.iadd, 1) := by decide +kernel
theorem dL_law_1135 : decode cL_law 1135 = .ok (.iaload, 1) := by decide +kernel
theorem dL_law_1136 : decode cL_law 1136 = .ok (.aload_n 0, 1) := by decide +kernel
theorem dL_law_1137 : decode cL_law 1137 = .ok (.iload_n 3, 1) := by decide +kernel
theorem dL_law_1138 : decode cL_law 1138 = .ok (.iconst 2, 1) := by decide +kernel
theorem dL_law_1139 : decode cL_law 1139 = .ok (.iadd, 1) := by decide +kernel
theorem dL_law_1140 : decode cL_law 1140 = .ok (.iaload, 1) := by decide +kernel
theorem dL_law_1141 : decode cL_law 1141 = .ok (.invokevirtual 126, 3) := by decide +kernel
theorem dL_law_1144 : decode cL_law 1144 = .ok (.if_icmp .eq 61, 3) := by decide +kernel
theorem dL_law_1147 : decode cL_law 1147 = .ok (.iconst 0, 1) := by decide +kernel
theorem dL_law_1148 : decode cL_law 1148 = .ok (.ireturn, 1) := by decide +kernel
theorem dL_law_1149 : decode cL_law 1149 = .ok (.aload_n 1, 1) := by decide +kernel
theorem dL_law_1150 : decode cL_law 1150 = .ok (.aload_n 0, 1) := by decide +kernel
theorem dL_law_1151 : decode cL_law 1151 = .ok (.iload_n 3, 1) := by decide +kernel
theorem dL_law_1152 : decode cL_law 1152 = .ok (.iconst 1, 1) := by decide +kernel
theorem dL_law_1153 : decode cL_law 1153 = .ok (.iadd, 1) := by decide +kernel
theorem dL_law_1154 : decode cL_law 1154 = .ok (.iaload, 1) := by decide +kernel
theorem dL_law_1155 : decode cL_law 1155 = .ok (.aload_n 0, 1) := by decide +kernel
theorem dL_law_1156 : decode cL_law 1156 = .ok (.iload_n 3, 1) := by decide +kernel
theorem dL_law_1157 : decode cL_law 1157 = .ok (.iconst 2, 1) := by decide +kernel
theorem dL_law_1158 : decode cL_law 1158 = .ok (.iadd, 1) := by decide +kernel
theorem dL_law_1159 : decode cL_law 1159 = .ok (.iaload, 1) := by decide +kernel
theorem dL_law_1160 : decode cL_law 1160 = .ok (.invokevirtual 127, 3) := by decide +kernel
theorem dL_law_1163 : decode cL_law 1163 = .ok (.aload_n 2, 1) := by decide +kernel
theorem dL_law_1164 : decode cL_law 1164 = .ok (.aload_n 0, 1) := by decide +kernel
theorem dL_law_1165 : decode cL_law 1165 = .ok (.iload_n 3, 1) := by decide +kernel
theorem dL_law_1166 : decode cL_law 1166 = .ok (.iconst 1, 1) := by decide +kernel
theorem dL_law_1167 : decode cL_law 1167 = .ok (.iadd, 1) := by decide +kernel
theorem dL_law_1168 : decode cL_law 1168 = .ok (.iaload, 1) := by decide +kernel
theorem dL_law_1169 : decode cL_law 1169 = .ok (.aload_n 0, 1) := by decide +kernel
theorem dL_law_1170 : decode cL_law 1170 = .ok (.iload_n 3, 1) := by decide +kernel
theorem dL_law_1171 : decode cL_law 1171 = .ok (.iconst 2, 1) := by decide +kernel
theorem dL_law_1172 : decode cL_law 1172 = .ok (.iadd, 1) := by decide +kernel
theorem dL_law_1173 : decode cL_law 1173 = .ok (.iaload, 1) := by decide +kernel
theorem dL_law_1174 : decode cL_law 1174 = .ok (.invokevirtual 130, 3) := by decide +kernel
theorem dL_law_1177 : decode cL_law 1177 = .ok (.if_icmp .eq 28, 3) := by decide +kernel
theorem dL_law_1180 : decode cL_law 1180 = .ok (.iconst 0, 1) := by decide +kernel
theorem dL_law_1181 : decode cL_law 1181 = .ok (.ireturn, 1) := by decide +kernel
theorem dL_law_1182 : decode cL_law 1182 = .ok (.aload_n 1, 1) := by decide +kernel
theorem dL_law_1183 : decode cL_law 1183 = .ok (.aload_n 0, 1) := by decide +kernel
theorem dL_law_1184 : decode cL_law 1184 = .ok (.iload_n 3, 1) := by decide +kernel
theorem dL_law_1185 : decode cL_law 1185 = .ok (.iconst 1, 1) := by decide +kernel
theorem dL_law_1186 : decode cL_law 1186 = .ok (.iadd, 1) := by decide +kernel
theorem dL_law_1187 : decode cL_law 1187 = .ok (.iaload, 1) := by decide +kernel
theorem dL_law_1188 : decode cL_law 1188 = .ok (.invokevirtual 131, 3) := by decide +kernel
theorem dL_law_1191 : decode cL_law 1191 = .ok (.aload_n 2, 1) := by decide +kernel
theorem dL_law_1192 : decode cL_law 1192 = .ok (.aload_n 0, 1) := by decide +kernel
theorem dL_law_1193 : decode cL_law 1193 = .ok (.iload_n 3, 1) := by decide +kernel
theorem dL_law_1194 : decode cL_law 1194 = .ok (.iconst 1, 1) := by decide +kernel
theorem dL_law_1195 : decode cL_law 1195 = .ok (.iadd, 1) := by decide +kernel
theorem dL_law_1196 : decode cL_law 1196 = .ok (.iaload, 1) := by decide +kernel
theorem dL_law_1197 : decode cL_law 1197 = .ok (.invokevirtual 134, 3) := by decide +kernel
theorem dL_law_1200 : decode cL_law 1200 = .ok (.if_icmp .eq 5, 3) := by decide +kernel
theorem dL_law_1203 : decode cL_law 1203 = .ok (.iconst 0, 1) := by decide +kernel
theorem dL_law_1204 : decode cL_law 1204 = .ok (.ireturn, 1) := by decide +kernel
theorem dL_law_1205 : decode cL_law 1205 = .ok (.iinc 3 8, 3) := by decide +kernel
theorem dL_law_1208 : decode cL_law 1208 = .ok (.goto (-1190), 3) := by decide +kernel
theorem dL_law_1211 : decode cL_law 1211 = .ok (.iconst 1, 1) := by decide +kernel
theorem dL_law_1212 : decode cL_law 1212 = .ok (.ireturn, 1) := by decide +kernel
