/-! THE LAW over the real machine: its own code, contexts (printed by tools/gen_kl1.py) -/
theorem kd_law_0 : decode code 0 = .ok (.new 8, 3) := by decide +kernel
theorem kd_law_3 : decode code 3 = .ok (.dup, 1) := by decide +kernel
theorem kd_law_4 : decode code 4 = .ok (.invokespecial 78, 3) := by decide +kernel
theorem kd_law_7 : decode code 7 = .ok (.astore_n 1, 1) := by decide +kernel
theorem kd_law_8 : decode code 8 = .ok (.new 79, 3) := by decide +kernel
theorem kd_law_11 : decode code 11 = .ok (.dup, 1) := by decide +kernel
theorem kd_law_12 : decode code 12 = .ok (.invokespecial 81, 3) := by decide +kernel
theorem kd_law_15 : decode code 15 = .ok (.astore_n 2, 1) := by decide +kernel
theorem kd_law_16 : decode code 16 = .ok (.iconst 1, 1) := by decide +kernel
theorem kd_law_17 : decode code 17 = .ok (.newarray .long, 2) := by decide +kernel
theorem kd_law_19 : decode code 19 = .ok (.astore_n 3, 1) := by decide +kernel
theorem kd_law_20 : decode code 20 = .ok (.iconst 0, 1) := by decide +kernel
theorem kd_law_21 : decode code 21 = .ok (.istore 4, 2) := by decide +kernel
theorem kd_law_23 : decode code 23 = .ok (.iload 4, 2) := by decide +kernel
theorem kd_law_25 : decode code 25 = .ok (.aload_n 0, 1) := by decide +kernel
theorem kd_law_26 : decode code 26 = .ok (.arraylength, 1) := by decide +kernel
theorem kd_law_27 : decode code 27 = .ok (.iconst 4, 1) := by decide +kernel
theorem kd_law_28 : decode code 28 = .ok (.isub, 1) := by decide +kernel
theorem kd_law_29 : decode code 29 = .ok (.if_icmp .gt 1170, 3) := by decide +kernel
theorem kd_law_32 : decode code 32 = .ok (.aload_n 0, 1) := by decide +kernel
theorem kd_law_33 : decode code 33 = .ok (.iload 4, 2) := by decide +kernel
theorem kd_law_35 : decode code 35 = .ok (.iaload, 1) := by decide +kernel
theorem kd_law_36 : decode code 36 = .ok (.bipush 31, 2) := by decide +kernel
theorem kd_law_38 : decode code 38 = .ok (.iand, 1) := by decide +kernel
theorem kd_law_39 : decode code 39 = .ok (.tableswitch 1154 0 18 #[89, 145, 181, 194, 250, 318, 386, 466, 534, 558, 614, 682, 738, 794, 838, 906, 974, 1042, 1098], 89) := by decide +kernel
theorem kd_law_128 : decode code 128 = .ok (.aload_n 1, 1) := by decide +kernel
theorem kd_law_129 : decode code 129 = .ok (.aload_n 0, 1) := by decide +kernel
theorem kd_law_130 : decode code 130 = .ok (.iload 4, 2) := by decide +kernel
theorem kd_law_132 : decode code 132 = .ok (.iconst 1, 1) := by decide +kernel
theorem kd_law_133 : decode code 133 = .ok (.iadd, 1) := by decide +kernel
theorem kd_law_134 : decode code 134 = .ok (.iaload, 1) := by decide +kernel
theorem kd_law_135 : decode code 135 = .ok (.aload_n 3, 1) := by decide +kernel
theorem kd_law_136 : decode code 136 = .ok (.invokestatic 82, 3) := by decide +kernel
theorem kd_law_139 : decode code 139 = .ok (.istore 5, 2) := by decide +kernel
theorem kd_law_141 : decode code 141 = .ok (.aload_n 2, 1) := by decide +kernel
theorem kd_law_142 : decode code 142 = .ok (.aload_n 0, 1) := by decide +kernel
theorem kd_law_143 : decode code 143 = .ok (.iload 4, 2) := by decide +kernel
theorem kd_law_145 : decode code 145 = .ok (.iconst 1, 1) := by decide +kernel
theorem kd_law_146 : decode code 146 = .ok (.iadd, 1) := by decide +kernel
theorem kd_law_147 : decode code 147 = .ok (.iaload, 1) := by decide +kernel
theorem kd_law_148 : decode code 148 = .ok (.invokevirtual 87, 3) := by decide +kernel
theorem kd_law_151 : decode code 151 = .ok (.istore 6, 2) := by decide +kernel
theorem kd_law_153 : decode code 153 = .ok (.aload_n 2, 1) := by decide +kernel
theorem kd_law_154 : decode code 154 = .ok (.invokevirtual 88, 3) := by decide +kernel
theorem kd_law_157 : decode code 157 = .ok (.iload 5, 2) := by decide +kernel
theorem kd_law_159 : decode code 159 = .ok (.if_icmp .eq 5, 3) := by decide +kernel
theorem kd_law_162 : decode code 162 = .ok (.iconst 0, 1) := by decide +kernel
theorem kd_law_163 : decode code 163 = .ok (.ireturn, 1) := by decide +kernel
theorem kd_law_164 : decode code 164 = .ok (.iload 5, 2) := by decide +kernel
theorem kd_law_166 : decode code 166 = .ok (.ifCond .ne 15, 3) := by decide +kernel
theorem kd_law_169 : decode code 169 = .ok (.aload_n 3, 1) := by decide +kernel
theorem kd_law_170 : decode code 170 = .ok (.iconst 0, 1) := by decide +kernel
theorem kd_law_171 : decode code 171 = .ok (.laload, 1) := by decide +kernel
theorem kd_law_172 : decode code 172 = .ok (.iload 6, 2) := by decide +kernel
theorem kd_law_174 : decode code 174 = .ok (.i2l, 1) := by decide +kernel
theorem kd_law_175 : decode code 175 = .ok (.lcmp, 1) := by decide +kernel
theorem kd_law_176 : decode code 176 = .ok (.ifCond .eq 5, 3) := by decide +kernel
theorem kd_law_179 : decode code 179 = .ok (.iconst 0, 1) := by decide +kernel
theorem kd_law_180 : decode code 180 = .ok (.ireturn, 1) := by decide +kernel
theorem kd_law_181 : decode code 181 = .ok (.goto 1012, 3) := by decide +kernel
theorem kd_law_184 : decode code 184 = .ok (.aload_n 1, 1) := by decide +kernel
theorem kd_law_185 : decode code 185 = .ok (.aload_n 0, 1) := by decide +kernel
theorem kd_law_186 : decode code 186 = .ok (.iload 4, 2) := by decide +kernel
theorem kd_law_188 : decode code 188 = .ok (.iconst 1, 1) := by decide +kernel
theorem kd_law_189 : decode code 189 = .ok (.iadd, 1) := by decide +kernel
theorem kd_law_190 : decode code 190 = .ok (.iaload, 1) := by decide +kernel
theorem kd_law_191 : decode code 191 = .ok (.invokestatic 91, 3) := by decide +kernel
theorem kd_law_194 : decode code 194 = .ok (.istore 5, 2) := by decide +kernel
theorem kd_law_196 : decode code 196 = .ok (.aload_n 2, 1) := by decide +kernel
theorem kd_law_197 : decode code 197 = .ok (.aload_n 0, 1) := by decide +kernel
theorem kd_law_198 : decode code 198 = .ok (.iload 4, 2) := by decide +kernel
theorem kd_law_200 : decode code 200 = .ok (.iconst 1, 1) := by decide +kernel
theorem kd_law_201 : decode code 201 = .ok (.iadd, 1) := by decide +kernel
theorem kd_law_202 : decode code 202 = .ok (.iaload, 1) := by decide +kernel
theorem kd_law_203 : decode code 203 = .ok (.invokevirtual 94, 3) := by decide +kernel
theorem kd_law_206 : decode code 206 = .ok (.aload_n 2, 1) := by decide +kernel
theorem kd_law_207 : decode code 207 = .ok (.invokevirtual 88, 3) := by decide +kernel
theorem kd_law_210 : decode code 210 = .ok (.iload 5, 2) := by decide +kernel
theorem kd_law_212 : decode code 212 = .ok (.if_icmp .eq 5, 3) := by decide +kernel
theorem kd_law_215 : decode code 215 = .ok (.iconst 0, 1) := by decide +kernel
theorem kd_law_216 : decode code 216 = .ok (.ireturn, 1) := by decide +kernel
theorem kd_law_217 : decode code 217 = .ok (.goto 976, 3) := by decide +kernel
theorem kd_law_220 : decode code 220 = .ok (.aload_n 1, 1) := by decide +kernel
theorem kd_law_221 : decode code 221 = .ok (.invokevirtual 95, 3) := by decide +kernel
theorem kd_law_224 : decode code 224 = .ok (.aload_n 2, 1) := by decide +kernel
theorem kd_law_225 : decode code 225 = .ok (.invokevirtual 98, 3) := by decide +kernel
theorem kd_law_228 : decode code 228 = .ok (.if_icmp .eq 965, 3) := by decide +kernel
theorem kd_law_231 : decode code 231 = .ok (.iconst 0, 1) := by decide +kernel
theorem kd_law_232 : decode code 232 = .ok (.ireturn, 1) := by decide +kernel
theorem kd_law_233 : decode code 233 = .ok (.aload_n 1, 1) := by decide +kernel
theorem kd_law_234 : decode code 234 = .ok (.aload_n 0, 1) := by decide +kernel
theorem kd_law_235 : decode code 235 = .ok (.iload 4, 2) := by decide +kernel
theorem kd_law_237 : decode code 237 = .ok (.iconst 1, 1) := by decide +kernel
theorem kd_law_238 : decode code 238 = .ok (.iadd, 1) := by decide +kernel
theorem kd_law_239 : decode code 239 = .ok (.iaload, 1) := by decide +kernel
theorem kd_law_240 : decode code 240 = .ok (.aload_n 3, 1) := by decide +kernel
theorem kd_law_241 : decode code 241 = .ok (.invokestatic 99, 3) := by decide +kernel
theorem kd_law_244 : decode code 244 = .ok (.istore 5, 2) := by decide +kernel
theorem kd_law_246 : decode code 246 = .ok (.aload_n 2, 1) := by decide +kernel
theorem kd_law_247 : decode code 247 = .ok (.aload_n 0, 1) := by decide +kernel
theorem kd_law_248 : decode code 248 = .ok (.iload 4, 2) := by decide +kernel
theorem kd_law_250 : decode code 250 = .ok (.iconst 1, 1) := by decide +kernel
theorem kd_law_251 : decode code 251 = .ok (.iadd, 1) := by decide +kernel
theorem kd_law_252 : decode code 252 = .ok (.iaload, 1) := by decide +kernel
theorem kd_law_253 : decode code 253 = .ok (.invokevirtual 101, 3) := by decide +kernel
theorem kd_law_256 : decode code 256 = .ok (.istore 6, 2) := by decide +kernel
theorem kd_law_258 : decode code 258 = .ok (.aload_n 2, 1) := by decide +kernel
theorem kd_law_259 : decode code 259 = .ok (.invokevirtual 88, 3) := by decide +kernel
theorem kd_law_262 : decode code 262 = .ok (.iload 5, 2) := by decide +kernel
theorem kd_law_264 : decode code 264 = .ok (.if_icmp .eq 5, 3) := by decide +kernel
theorem kd_law_267 : decode code 267 = .ok (.iconst 0, 1) := by decide +kernel
theorem kd_law_268 : decode code 268 = .ok (.ireturn, 1) := by decide +kernel
theorem kd_law_269 : decode code 269 = .ok (.iload 5, 2) := by decide +kernel
theorem kd_law_271 : decode code 271 = .ok (.ifCond .ne 15, 3) := by decide +kernel
theorem kd_law_274 : decode code 274 = .ok (.aload_n 3, 1) := by decide +kernel
theorem kd_law_275 : decode code 275 = .ok (.iconst 0, 1) := by decide +kernel
theorem kd_law_276 : decode code 276 = .ok (.laload, 1) := by decide +kernel
theorem kd_law_277 : decode code 277 = .ok (.iload 6, 2) := by decide +kernel
theorem kd_law_279 : decode code 279 = .ok (.i2l, 1) := by decide +kernel
theorem kd_law_280 : decode code 280 = .ok (.lcmp, 1) := by decide +kernel
theorem kd_law_281 : decode code 281 = .ok (.ifCond .eq 5, 3) := by decide +kernel
theorem kd_law_284 : decode code 284 = .ok (.iconst 0, 1) := by decide +kernel
theorem kd_law_285 : decode code 285 = .ok (.ireturn, 1) := by decide +kernel
theorem kd_law_286 : decode code 286 = .ok (.goto 907, 3) := by decide +kernel
theorem kd_law_289 : decode code 289 = .ok (.aload_n 1, 1) := by decide +kernel
theorem kd_law_290 : decode code 290 = .ok (.aload_n 0, 1) := by decide +kernel
theorem kd_law_291 : decode code 291 = .ok (.iload 4, 2) := by decide +kernel
theorem kd_law_293 : decode code 293 = .ok (.iconst 1, 1) := by decide +kernel
theorem kd_law_294 : decode code 294 = .ok (.iadd, 1) := by decide +kernel
theorem kd_law_295 : decode code 295 = .ok (.iaload, 1) := by decide +kernel
theorem kd_law_296 : decode code 296 = .ok (.aload_n 0, 1) := by decide +kernel
theorem kd_law_297 : decode code 297 = .ok (.iload 4, 2) := by decide +kernel
theorem kd_law_299 : decode code 299 = .ok (.iconst 2, 1) := by decide +kernel
theorem kd_law_300 : decode code 300 = .ok (.iadd, 1) := by decide +kernel
theorem kd_law_301 : decode code 301 = .ok (.iaload, 1) := by decide +kernel
theorem kd_law_302 : decode code 302 = .ok (.aload_n 3, 1) := by decide +kernel
theorem kd_law_303 : decode code 303 = .ok (.invokestatic 102, 3) := by decide +kernel
theorem kd_law_306 : decode code 306 = .ok (.istore 5, 2) := by decide +kernel
theorem kd_law_308 : decode code 308 = .ok (.aload_n 2, 1) := by decide +kernel
theorem kd_law_309 : decode code 309 = .ok (.aload_n 0, 1) := by decide +kernel
theorem kd_law_310 : decode code 310 = .ok (.iload 4, 2) := by decide +kernel
theorem kd_law_312 : decode code 312 = .ok (.iconst 1, 1) := by decide +kernel
theorem kd_law_313 : decode code 313 = .ok (.iadd, 1) := by decide +kernel
theorem kd_law_314 : decode code 314 = .ok (.iaload, 1) := by decide +kernel
theorem kd_law_315 : decode code 315 = .ok (.aload_n 0, 1) := by decide +kernel
theorem kd_law_316 : decode code 316 = .ok (.iload 4, 2) := by decide +kernel
theorem kd_law_318 : decode code 318 = .ok (.iconst 2, 1) := by decide +kernel
theorem kd_law_319 : decode code 319 = .ok (.iadd, 1) := by decide +kernel
theorem kd_law_320 : decode code 320 = .ok (.iaload, 1) := by decide +kernel
theorem kd_law_321 : decode code 321 = .ok (.invokevirtual 105, 3) := by decide +kernel
theorem kd_law_324 : decode code 324 = .ok (.istore 6, 2) := by decide +kernel
theorem kd_law_326 : decode code 326 = .ok (.aload_n 2, 1) := by decide +kernel
theorem kd_law_327 : decode code 327 = .ok (.invokevirtual 88, 3) := by decide +kernel
theorem kd_law_330 : decode code 330 = .ok (.iload 5, 2) := by decide +kernel
theorem kd_law_332 : decode code 332 = .ok (.if_icmp .eq 5, 3) := by decide +kernel
theorem kd_law_335 : decode code 335 = .ok (.iconst 0, 1) := by decide +kernel
theorem kd_law_336 : decode code 336 = .ok (.ireturn, 1) := by decide +kernel
theorem kd_law_337 : decode code 337 = .ok (.iload 5, 2) := by decide +kernel
theorem kd_law_339 : decode code 339 = .ok (.ifCond .ne 15, 3) := by decide +kernel
theorem kd_law_342 : decode code 342 = .ok (.aload_n 3, 1) := by decide +kernel
theorem kd_law_343 : decode code 343 = .ok (.iconst 0, 1) := by decide +kernel
theorem kd_law_344 : decode code 344 = .ok (.laload, 1) := by decide +kernel
theorem kd_law_345 : decode code 345 = .ok (.iload 6, 2) := by decide +kernel
theorem kd_law_347 : decode code 347 = .ok (.i2l, 1) := by decide +kernel
theorem kd_law_348 : decode code 348 = .ok (.lcmp, 1) := by decide +kernel
theorem kd_law_349 : decode code 349 = .ok (.ifCond .eq 5, 3) := by decide +kernel
theorem kd_law_352 : decode code 352 = .ok (.iconst 0, 1) := by decide +kernel
theorem kd_law_353 : decode code 353 = .ok (.ireturn, 1) := by decide +kernel
theorem kd_law_354 : decode code 354 = .ok (.goto 839, 3) := by decide +kernel
theorem kd_law_357 : decode code 357 = .ok (.aload_n 1, 1) := by decide +kernel
theorem kd_law_358 : decode code 358 = .ok (.aload_n 0, 1) := by decide +kernel
theorem kd_law_359 : decode code 359 = .ok (.iload 4, 2) := by decide +kernel
theorem kd_law_361 : decode code 361 = .ok (.iconst 1, 1) := by decide +kernel
theorem kd_law_362 : decode code 362 = .ok (.iadd, 1) := by decide +kernel
theorem kd_law_363 : decode code 363 = .ok (.iaload, 1) := by decide +kernel
theorem kd_law_364 : decode code 364 = .ok (.aload_n 0, 1) := by decide +kernel
theorem kd_law_365 : decode code 365 = .ok (.iload 4, 2) := by decide +kernel
theorem kd_law_367 : decode code 367 = .ok (.iconst 2, 1) := by decide +kernel
theorem kd_law_368 : decode code 368 = .ok (.iadd, 1) := by decide +kernel
theorem kd_law_369 : decode code 369 = .ok (.iaload, 1) := by decide +kernel
theorem kd_law_370 : decode code 370 = .ok (.aload_n 3, 1) := by decide +kernel
theorem kd_law_371 : decode code 371 = .ok (.invokestatic 106, 3) := by decide +kernel
theorem kd_law_374 : decode code 374 = .ok (.istore 5, 2) := by decide +kernel
theorem kd_law_376 : decode code 376 = .ok (.aload_n 2, 1) := by decide +kernel
theorem kd_law_377 : decode code 377 = .ok (.aload_n 0, 1) := by decide +kernel
theorem kd_law_378 : decode code 378 = .ok (.iload 4, 2) := by decide +kernel
theorem kd_law_380 : decode code 380 = .ok (.iconst 1, 1) := by decide +kernel
theorem kd_law_381 : decode code 381 = .ok (.iadd, 1) := by decide +kernel
theorem kd_law_382 : decode code 382 = .ok (.iaload, 1) := by decide +kernel
theorem kd_law_383 : decode code 383 = .ok (.aload_n 0, 1) := by decide +kernel
theorem kd_law_384 : decode code 384 = .ok (.iload 4, 2) := by decide +kernel
theorem kd_law_386 : decode code 386 = .ok (.iconst 2, 1) := by decide +kernel
theorem kd_law_387 : decode code 387 = .ok (.iadd, 1) := by decide +kernel
theorem kd_law_388 : decode code 388 = .ok (.iaload, 1) := by decide +kernel
theorem kd_law_389 : decode code 389 = .ok (.invokevirtual 108, 3) := by decide +kernel
theorem kd_law_392 : decode code 392 = .ok (.istore 6, 2) := by decide +kernel
theorem kd_law_394 : decode code 394 = .ok (.aload_n 2, 1) := by decide +kernel
theorem kd_law_395 : decode code 395 = .ok (.invokevirtual 88, 3) := by decide +kernel
theorem kd_law_398 : decode code 398 = .ok (.iload 5, 2) := by decide +kernel
theorem kd_law_400 : decode code 400 = .ok (.if_icmp .eq 5, 3) := by decide +kernel
theorem kd_law_403 : decode code 403 = .ok (.iconst 0, 1) := by decide +kernel
theorem kd_law_404 : decode code 404 = .ok (.ireturn, 1) := by decide +kernel
theorem kd_law_405 : decode code 405 = .ok (.iload 5, 2) := by decide +kernel
theorem kd_law_407 : decode code 407 = .ok (.ifCond .ne 15, 3) := by decide +kernel
theorem kd_law_410 : decode code 410 = .ok (.aload_n 3, 1) := by decide +kernel
theorem kd_law_411 : decode code 411 = .ok (.iconst 0, 1) := by decide +kernel
theorem kd_law_412 : decode code 412 = .ok (.laload, 1) := by decide +kernel
theorem kd_law_413 : decode code 413 = .ok (.iload 6, 2) := by decide +kernel
theorem kd_law_415 : decode code 415 = .ok (.i2l, 1) := by decide +kernel
theorem kd_law_416 : decode code 416 = .ok (.lcmp, 1) := by decide +kernel
theorem kd_law_417 : decode code 417 = .ok (.ifCond .eq 5, 3) := by decide +kernel
theorem kd_law_420 : decode code 420 = .ok (.iconst 0, 1) := by decide +kernel
theorem kd_law_421 : decode code 421 = .ok (.ireturn, 1) := by decide +kernel
theorem kd_law_422 : decode code 422 = .ok (.goto 771, 3) := by decide +kernel
theorem kd_law_425 : decode code 425 = .ok (.aload_n 1, 1) := by decide +kernel
theorem kd_law_426 : decode code 426 = .ok (.aload_n 0, 1) := by decide +kernel
theorem kd_law_427 : decode code 427 = .ok (.iload 4, 2) := by decide +kernel
theorem kd_law_429 : decode code 429 = .ok (.iconst 1, 1) := by decide +kernel
theorem kd_law_430 : decode code 430 = .ok (.iadd, 1) := by decide +kernel
theorem kd_law_431 : decode code 431 = .ok (.iaload, 1) := by decide +kernel
theorem kd_law_432 : decode code 432 = .ok (.aload_n 0, 1) := by decide +kernel
theorem kd_law_433 : decode code 433 = .ok (.iload 4, 2) := by decide +kernel
theorem kd_law_435 : decode code 435 = .ok (.iconst 2, 1) := by decide +kernel
theorem kd_law_436 : decode code 436 = .ok (.iadd, 1) := by decide +kernel
theorem kd_law_437 : decode code 437 = .ok (.iaload, 1) := by decide +kernel
theorem kd_law_438 : decode code 438 = .ok (.aload_n 0, 1) := by decide +kernel
theorem kd_law_439 : decode code 439 = .ok (.iload 4, 2) := by decide +kernel
theorem kd_law_441 : decode code 441 = .ok (.iconst 3, 1) := by decide +kernel
theorem kd_law_442 : decode code 442 = .ok (.iadd, 1) := by decide +kernel
theorem kd_law_443 : decode code 443 = .ok (.iaload, 1) := by decide +kernel
theorem kd_law_444 : decode code 444 = .ok (.aload_n 3, 1) := by decide +kernel
theorem kd_law_445 : decode code 445 = .ok (.invokestatic 109, 3) := by decide +kernel
theorem kd_law_448 : decode code 448 = .ok (.istore 5, 2) := by decide +kernel
theorem kd_law_450 : decode code 450 = .ok (.aload_n 2, 1) := by decide +kernel
theorem kd_law_451 : decode code 451 = .ok (.aload_n 0, 1) := by decide +kernel
theorem kd_law_452 : decode code 452 = .ok (.iload 4, 2) := by decide +kernel
theorem kd_law_454 : decode code 454 = .ok (.iconst 1, 1) := by decide +kernel
theorem kd_law_455 : decode code 455 = .ok (.iadd, 1) := by decide +kernel
theorem kd_law_456 : decode code 456 = .ok (.iaload, 1) := by decide +kernel
theorem kd_law_457 : decode code 457 = .ok (.aload_n 0, 1) := by decide +kernel
theorem kd_law_458 : decode code 458 = .ok (.iload 4, 2) := by decide +kernel
theorem kd_law_460 : decode code 460 = .ok (.iconst 2, 1) := by decide +kernel
theorem kd_law_461 : decode code 461 = .ok (.iadd, 1) := by decide +kernel
theorem kd_law_462 : decode code 462 = .ok (.iaload, 1) := by decide +kernel
theorem kd_law_463 : decode code 463 = .ok (.aload_n 0, 1) := by decide +kernel
theorem kd_law_464 : decode code 464 = .ok (.iload 4, 2) := by decide +kernel
theorem kd_law_466 : decode code 466 = .ok (.iconst 3, 1) := by decide +kernel
theorem kd_law_467 : decode code 467 = .ok (.iadd, 1) := by decide +kernel
theorem kd_law_468 : decode code 468 = .ok (.iaload, 1) := by decide +kernel
theorem kd_law_469 : decode code 469 = .ok (.invokevirtual 112, 3) := by decide +kernel
theorem kd_law_472 : decode code 472 = .ok (.istore 6, 2) := by decide +kernel
theorem kd_law_474 : decode code 474 = .ok (.aload_n 2, 1) := by decide +kernel
theorem kd_law_475 : decode code 475 = .ok (.invokevirtual 88, 3) := by decide +kernel
theorem kd_law_478 : decode code 478 = .ok (.iload 5, 2) := by decide +kernel
theorem kd_law_480 : decode code 480 = .ok (.if_icmp .eq 5, 3) := by decide +kernel
theorem kd_law_483 : decode code 483 = .ok (.iconst 0, 1) := by decide +kernel
theorem kd_law_484 : decode code 484 = .ok (.ireturn, 1) := by decide +kernel
theorem kd_law_485 : decode code 485 = .ok (.iload 5, 2) := by decide +kernel
theorem kd_law_487 : decode code 487 = .ok (.ifCond .ne 15, 3) := by decide +kernel
theorem kd_law_490 : decode code 490 = .ok (.aload_n 3, 1) := by decide +kernel
theorem kd_law_491 : decode code 491 = .ok (.iconst 0, 1) := by decide +kernel
theorem kd_law_492 : decode code 492 = .ok (.laload, 1) := by decide +kernel
theorem kd_law_493 : decode code 493 = .ok (.iload 6, 2) := by decide +kernel
theorem kd_law_495 : decode code 495 = .ok (.i2l, 1) := by decide +kernel
theorem kd_law_496 : decode code 496 = .ok (.lcmp, 1) := by decide +kernel
theorem kd_law_497 : decode code 497 = .ok (.ifCond .eq 5, 3) := by decide +kernel
theorem kd_law_500 : decode code 500 = .ok (.iconst 0, 1) := by decide +kernel
theorem kd_law_501 : decode code 501 = .ok (.ireturn, 1) := by decide +kernel
theorem kd_law_502 : decode code 502 = .ok (.goto 691, 3) := by decide +kernel
theorem kd_law_505 : decode code 505 = .ok (.aload_n 1, 1) := by decide +kernel
theorem kd_law_506 : decode code 506 = .ok (.aload_n 0, 1) := by decide +kernel
theorem kd_law_507 : decode code 507 = .ok (.iload 4, 2) := by decide +kernel
theorem kd_law_509 : decode code 509 = .ok (.iconst 1, 1) := by decide +kernel
theorem kd_law_510 : decode code 510 = .ok (.iadd, 1) := by decide +kernel
theorem kd_law_511 : decode code 511 = .ok (.iaload, 1) := by decide +kernel
theorem kd_law_512 : decode code 512 = .ok (.aload_n 0, 1) := by decide +kernel
theorem kd_law_513 : decode code 513 = .ok (.iload 4, 2) := by decide +kernel
theorem kd_law_515 : decode code 515 = .ok (.iconst 2, 1) := by decide +kernel
theorem kd_law_516 : decode code 516 = .ok (.iadd, 1) := by decide +kernel
theorem kd_law_517 : decode code 517 = .ok (.iaload, 1) := by decide +kernel
theorem kd_law_518 : decode code 518 = .ok (.aload_n 3, 1) := by decide +kernel
theorem kd_law_519 : decode code 519 = .ok (.invokestatic 113, 3) := by decide +kernel
theorem kd_law_522 : decode code 522 = .ok (.istore 5, 2) := by decide +kernel
theorem kd_law_524 : decode code 524 = .ok (.aload_n 2, 1) := by decide +kernel
theorem kd_law_525 : decode code 525 = .ok (.aload_n 0, 1) := by decide +kernel
theorem kd_law_526 : decode code 526 = .ok (.iload 4, 2) := by decide +kernel
theorem kd_law_528 : decode code 528 = .ok (.iconst 1, 1) := by decide +kernel
theorem kd_law_529 : decode code 529 = .ok (.iadd, 1) := by decide +kernel
theorem kd_law_530 : decode code 530 = .ok (.iaload, 1) := by decide +kernel
theorem kd_law_531 : decode code 531 = .ok (.aload_n 0, 1) := by decide +kernel
theorem kd_law_532 : decode code 532 = .ok (.iload 4, 2) := by decide +kernel
theorem kd_law_534 : decode code 534 = .ok (.iconst 2, 1) := by decide +kernel
theorem kd_law_535 : decode code 535 = .ok (.iadd, 1) := by decide +kernel
theorem kd_law_536 : decode code 536 = .ok (.iaload, 1) := by decide +kernel
theorem kd_law_537 : decode code 537 = .ok (.invokevirtual 115, 3) := by decide +kernel
theorem kd_law_540 : decode code 540 = .ok (.istore 6, 2) := by decide +kernel
theorem kd_law_542 : decode code 542 = .ok (.aload_n 2, 1) := by decide +kernel
theorem kd_law_543 : decode code 543 = .ok (.invokevirtual 88, 3) := by decide +kernel
theorem kd_law_546 : decode code 546 = .ok (.iload 5, 2) := by decide +kernel
theorem kd_law_548 : decode code 548 = .ok (.if_icmp .eq 5, 3) := by decide +kernel
theorem kd_law_551 : decode code 551 = .ok (.iconst 0, 1) := by decide +kernel
theorem kd_law_552 : decode code 552 = .ok (.ireturn, 1) := by decide +kernel
theorem kd_law_553 : decode code 553 = .ok (.iload 5, 2) := by decide +kernel
theorem kd_law_555 : decode code 555 = .ok (.ifCond .ne 15, 3) := by decide +kernel
theorem kd_law_558 : decode code 558 = .ok (.aload_n 3, 1) := by decide +kernel
theorem kd_law_559 : decode code 559 = .ok (.iconst 0, 1) := by decide +kernel
theorem kd_law_560 : decode code 560 = .ok (.laload, 1) := by decide +kernel
theorem kd_law_561 : decode code 561 = .ok (.iload 6, 2) := by decide +kernel
theorem kd_law_563 : decode code 563 = .ok (.i2l, 1) := by decide +kernel
theorem kd_law_564 : decode code 564 = .ok (.lcmp, 1) := by decide +kernel
theorem kd_law_565 : decode code 565 = .ok (.ifCond .eq 5, 3) := by decide +kernel
theorem kd_law_568 : decode code 568 = .ok (.iconst 0, 1) := by decide +kernel
theorem kd_law_569 : decode code 569 = .ok (.ireturn, 1) := by decide +kernel
theorem kd_law_570 : decode code 570 = .ok (.goto 623, 3) := by decide +kernel
theorem kd_law_573 : decode code 573 = .ok (.aload_n 1, 1) := by decide +kernel
theorem kd_law_574 : decode code 574 = .ok (.invokestatic 116, 3) := by decide +kernel
theorem kd_law_577 : decode code 577 = .ok (.istore 5, 2) := by decide +kernel
theorem kd_law_579 : decode code 579 = .ok (.aload_n 2, 1) := by decide +kernel
theorem kd_law_580 : decode code 580 = .ok (.invokevirtual 119, 3) := by decide +kernel
theorem kd_law_583 : decode code 583 = .ok (.aload_n 2, 1) := by decide +kernel
theorem kd_law_584 : decode code 584 = .ok (.invokevirtual 88, 3) := by decide +kernel
theorem kd_law_587 : decode code 587 = .ok (.iload 5, 2) := by decide +kernel
theorem kd_law_589 : decode code 589 = .ok (.if_icmp .eq 5, 3) := by decide +kernel
theorem kd_law_592 : decode code 592 = .ok (.iconst 0, 1) := by decide +kernel
theorem kd_law_593 : decode code 593 = .ok (.ireturn, 1) := by decide +kernel
theorem kd_law_594 : decode code 594 = .ok (.goto 599, 3) := by decide +kernel
theorem kd_law_597 : decode code 597 = .ok (.aload_n 1, 1) := by decide +kernel
theorem kd_law_598 : decode code 598 = .ok (.aload_n 0, 1) := by decide +kernel
theorem kd_law_599 : decode code 599 = .ok (.iload 4, 2) := by decide +kernel
theorem kd_law_601 : decode code 601 = .ok (.iconst 1, 1) := by decide +kernel
theorem kd_law_602 : decode code 602 = .ok (.iadd, 1) := by decide +kernel
theorem kd_law_603 : decode code 603 = .ok (.iaload, 1) := by decide +kernel
theorem kd_law_604 : decode code 604 = .ok (.aload_n 3, 1) := by decide +kernel
theorem kd_law_605 : decode code 605 = .ok (.invokestatic 120, 3) := by decide +kernel
theorem kd_law_608 : decode code 608 = .ok (.istore 5, 2) := by decide +kernel
theorem kd_law_610 : decode code 610 = .ok (.aload_n 2, 1) := by decide +kernel
theorem kd_law_611 : decode code 611 = .ok (.aload_n 0, 1) := by decide +kernel
theorem kd_law_612 : decode code 612 = .ok (.iload 4, 2) := by decide +kernel
theorem kd_law_614 : decode code 614 = .ok (.iconst 1, 1) := by decide +kernel
theorem kd_law_615 : decode code 615 = .ok (.iadd, 1) := by decide +kernel
theorem kd_law_616 : decode code 616 = .ok (.iaload, 1) := by decide +kernel
theorem kd_law_617 : decode code 617 = .ok (.invokevirtual 122, 3) := by decide +kernel
theorem kd_law_620 : decode code 620 = .ok (.istore 6, 2) := by decide +kernel
theorem kd_law_622 : decode code 622 = .ok (.aload_n 2, 1) := by decide +kernel
theorem kd_law_623 : decode code 623 = .ok (.invokevirtual 88, 3) := by decide +kernel
theorem kd_law_626 : decode code 626 = .ok (.iload 5, 2) := by decide +kernel
theorem kd_law_628 : decode code 628 = .ok (.if_icmp .eq 5, 3) := by decide +kernel
theorem kd_law_631 : decode code 631 = .ok (.iconst 0, 1) := by decide +kernel
theorem kd_law_632 : decode code 632 = .ok (.ireturn, 1) := by decide +kernel
theorem kd_law_633 : decode code 633 = .ok (.iload 5, 2) := by decide +kernel
theorem kd_law_635 : decode code 635 = .ok (.ifCond .ne 15, 3) := by decide +kernel
theorem kd_law_638 : decode code 638 = .ok (.aload_n 3, 1) := by decide +kernel
theorem kd_law_639 : decode code 639 = .ok (.iconst 0, 1) := by decide +kernel
theorem kd_law_640 : decode code 640 = .ok (.laload, 1) := by decide +kernel
theorem kd_law_641 : decode code 641 = .ok (.iload 6, 2) := by decide +kernel
theorem kd_law_643 : decode code 643 = .ok (.i2l, 1) := by decide +kernel
theorem kd_law_644 : decode code 644 = .ok (.lcmp, 1) := by decide +kernel
theorem kd_law_645 : decode code 645 = .ok (.ifCond .eq 5, 3) := by decide +kernel
theorem kd_law_648 : decode code 648 = .ok (.iconst 0, 1) := by decide +kernel
theorem kd_law_649 : decode code 649 = .ok (.ireturn, 1) := by decide +kernel
theorem kd_law_650 : decode code 650 = .ok (.goto 543, 3) := by decide +kernel
theorem kd_law_653 : decode code 653 = .ok (.aload_n 1, 1) := by decide +kernel
theorem kd_law_654 : decode code 654 = .ok (.aload_n 0, 1) := by decide +kernel
theorem kd_law_655 : decode code 655 = .ok (.iload 4, 2) := by decide +kernel
theorem kd_law_657 : decode code 657 = .ok (.iconst 1, 1) := by decide +kernel
theorem kd_law_658 : decode code 658 = .ok (.iadd, 1) := by decide +kernel
theorem kd_law_659 : decode code 659 = .ok (.iaload, 1) := by decide +kernel
theorem kd_law_660 : decode code 660 = .ok (.aload_n 0, 1) := by decide +kernel
theorem kd_law_661 : decode code 661 = .ok (.iload 4, 2) := by decide +kernel
theorem kd_law_663 : decode code 663 = .ok (.iconst 2, 1) := by decide +kernel
theorem kd_law_664 : decode code 664 = .ok (.iadd, 1) := by decide +kernel
theorem kd_law_665 : decode code 665 = .ok (.iaload, 1) := by decide +kernel
theorem kd_law_666 : decode code 666 = .ok (.aload_n 3, 1) := by decide +kernel
theorem kd_law_667 : decode code 667 = .ok (.invokestatic 123, 3) := by decide +kernel
theorem kd_law_670 : decode code 670 = .ok (.istore 5, 2) := by decide +kernel
theorem kd_law_672 : decode code 672 = .ok (.aload_n 2, 1) := by decide +kernel
theorem kd_law_673 : decode code 673 = .ok (.aload_n 0, 1) := by decide +kernel
theorem kd_law_674 : decode code 674 = .ok (.iload 4, 2) := by decide +kernel
theorem kd_law_676 : decode code 676 = .ok (.iconst 1, 1) := by decide +kernel
theorem kd_law_677 : decode code 677 = .ok (.iadd, 1) := by decide +kernel
theorem kd_law_678 : decode code 678 = .ok (.iaload, 1) := by decide +kernel
theorem kd_law_679 : decode code 679 = .ok (.aload_n 0, 1) := by decide +kernel
theorem kd_law_680 : decode code 680 = .ok (.iload 4, 2) := by decide +kernel
theorem kd_law_682 : decode code 682 = .ok (.iconst 2, 1) := by decide +kernel
theorem kd_law_683 : decode code 683 = .ok (.iadd, 1) := by decide +kernel
theorem kd_law_684 : decode code 684 = .ok (.iaload, 1) := by decide +kernel
theorem kd_law_685 : decode code 685 = .ok (.invokevirtual 125, 3) := by decide +kernel
theorem kd_law_688 : decode code 688 = .ok (.istore 6, 2) := by decide +kernel
theorem kd_law_690 : decode code 690 = .ok (.aload_n 2, 1) := by decide +kernel
theorem kd_law_691 : decode code 691 = .ok (.invokevirtual 88, 3) := by decide +kernel
theorem kd_law_694 : decode code 694 = .ok (.iload 5, 2) := by decide +kernel
theorem kd_law_696 : decode code 696 = .ok (.if_icmp .eq 5, 3) := by decide +kernel
theorem kd_law_699 : decode code 699 = .ok (.iconst 0, 1) := by decide +kernel
theorem kd_law_700 : decode code 700 = .ok (.ireturn, 1) := by decide +kernel
theorem kd_law_701 : decode code 701 = .ok (.iload 5, 2) := by decide +kernel
theorem kd_law_703 : decode code 703 = .ok (.ifCond .ne 15, 3) := by decide +kernel
theorem kd_law_706 : decode code 706 = .ok (.aload_n 3, 1) := by decide +kernel
theorem kd_law_707 : decode code 707 = .ok (.iconst 0, 1) := by decide +kernel
theorem kd_law_708 : decode code 708 = .ok (.laload, 1) := by decide +kernel
theorem kd_law_709 : decode code 709 = .ok (.iload 6, 2) := by decide +kernel
theorem kd_law_711 : decode code 711 = .ok (.i2l, 1) := by decide +kernel
theorem kd_law_712 : decode code 712 = .ok (.lcmp, 1) := by decide +kernel
theorem kd_law_713 : decode code 713 = .ok (.ifCond .eq 5, 3) := by decide +kernel
theorem kd_law_716 : decode code 716 = .ok (.iconst 0, 1) := by decide +kernel
theorem kd_law_717 : decode code 717 = .ok (.ireturn, 1) := by decide +kernel
theorem kd_law_718 : decode code 718 = .ok (.goto 475, 3) := by decide +kernel
theorem kd_law_721 : decode code 721 = .ok (.aload_n 1, 1) := by decide +kernel
theorem kd_law_722 : decode code 722 = .ok (.aload_n 0, 1) := by decide +kernel
theorem kd_law_723 : decode code 723 = .ok (.iload 4, 2) := by decide +kernel
theorem kd_law_725 : decode code 725 = .ok (.iconst 1, 1) := by decide +kernel
theorem kd_law_726 : decode code 726 = .ok (.iadd, 1) := by decide +kernel
theorem kd_law_727 : decode code 727 = .ok (.iaload, 1) := by decide +kernel
theorem kd_law_728 : decode code 728 = .ok (.aload_n 3, 1) := by decide +kernel
theorem kd_law_729 : decode code 729 = .ok (.invokestatic 126, 3) := by decide +kernel
theorem kd_law_732 : decode code 732 = .ok (.istore 5, 2) := by decide +kernel
theorem kd_law_734 : decode code 734 = .ok (.aload_n 2, 1) := by decide +kernel
theorem kd_law_735 : decode code 735 = .ok (.aload_n 0, 1) := by decide +kernel
theorem kd_law_736 : decode code 736 = .ok (.iload 4, 2) := by decide +kernel
theorem kd_law_738 : decode code 738 = .ok (.iconst 1, 1) := by decide +kernel
theorem kd_law_739 : decode code 739 = .ok (.iadd, 1) := by decide +kernel
theorem kd_law_740 : decode code 740 = .ok (.iaload, 1) := by decide +kernel
theorem kd_law_741 : decode code 741 = .ok (.invokevirtual 128, 3) := by decide +kernel
theorem kd_law_744 : decode code 744 = .ok (.istore 6, 2) := by decide +kernel
theorem kd_law_746 : decode code 746 = .ok (.aload_n 2, 1) := by decide +kernel
theorem kd_law_747 : decode code 747 = .ok (.invokevirtual 88, 3) := by decide +kernel
theorem kd_law_750 : decode code 750 = .ok (.iload 5, 2) := by decide +kernel
theorem kd_law_752 : decode code 752 = .ok (.if_icmp .eq 5, 3) := by decide +kernel
theorem kd_law_755 : decode code 755 = .ok (.iconst 0, 1) := by decide +kernel
theorem kd_law_756 : decode code 756 = .ok (.ireturn, 1) := by decide +kernel
theorem kd_law_757 : decode code 757 = .ok (.iload 5, 2) := by decide +kernel
theorem kd_law_759 : decode code 759 = .ok (.ifCond .ne 15, 3) := by decide +kernel
theorem kd_law_762 : decode code 762 = .ok (.aload_n 3, 1) := by decide +kernel
theorem kd_law_763 : decode code 763 = .ok (.iconst 0, 1) := by decide +kernel
theorem kd_law_764 : decode code 764 = .ok (.laload, 1) := by decide +kernel
theorem kd_law_765 : decode code 765 = .ok (.iload 6, 2) := by decide +kernel
theorem kd_law_767 : decode code 767 = .ok (.i2l, 1) := by decide +kernel
theorem kd_law_768 : decode code 768 = .ok (.lcmp, 1) := by decide +kernel
theorem kd_law_769 : decode code 769 = .ok (.ifCond .eq 5, 3) := by decide +kernel
theorem kd_law_772 : decode code 772 = .ok (.iconst 0, 1) := by decide +kernel
theorem kd_law_773 : decode code 773 = .ok (.ireturn, 1) := by decide +kernel
theorem kd_law_774 : decode code 774 = .ok (.goto 419, 3) := by decide +kernel
theorem kd_law_777 : decode code 777 = .ok (.aload_n 1, 1) := by decide +kernel
theorem kd_law_778 : decode code 778 = .ok (.aload_n 0, 1) := by decide +kernel
theorem kd_law_779 : decode code 779 = .ok (.iload 4, 2) := by decide +kernel
theorem kd_law_781 : decode code 781 = .ok (.iconst 1, 1) := by decide +kernel
theorem kd_law_782 : decode code 782 = .ok (.iadd, 1) := by decide +kernel
theorem kd_law_783 : decode code 783 = .ok (.iaload, 1) := by decide +kernel
theorem kd_law_784 : decode code 784 = .ok (.aload_n 3, 1) := by decide +kernel
theorem kd_law_785 : decode code 785 = .ok (.invokestatic 129, 3) := by decide +kernel
theorem kd_law_788 : decode code 788 = .ok (.istore 5, 2) := by decide +kernel
theorem kd_law_790 : decode code 790 = .ok (.aload_n 2, 1) := by decide +kernel
theorem kd_law_791 : decode code 791 = .ok (.aload_n 0, 1) := by decide +kernel
theorem kd_law_792 : decode code 792 = .ok (.iload 4, 2) := by decide +kernel
theorem kd_law_794 : decode code 794 = .ok (.iconst 1, 1) := by decide +kernel
theorem kd_law_795 : decode code 795 = .ok (.iadd, 1) := by decide +kernel
theorem kd_law_796 : decode code 796 = .ok (.iaload, 1) := by decide +kernel
theorem kd_law_797 : decode code 797 = .ok (.invokevirtual 131, 3) := by decide +kernel
theorem kd_law_800 : decode code 800 = .ok (.istore 6, 2) := by decide +kernel
theorem kd_law_802 : decode code 802 = .ok (.aload_n 2, 1) := by decide +kernel
theorem kd_law_803 : decode code 803 = .ok (.invokevirtual 88, 3) := by decide +kernel
theorem kd_law_806 : decode code 806 = .ok (.iload 5, 2) := by decide +kernel
theorem kd_law_808 : decode code 808 = .ok (.if_icmp .eq 5, 3) := by decide +kernel
theorem kd_law_811 : decode code 811 = .ok (.iconst 0, 1) := by decide +kernel
theorem kd_law_812 : decode code 812 = .ok (.ireturn, 1) := by decide +kernel
theorem kd_law_813 : decode code 813 = .ok (.iload 5, 2) := by decide +kernel
theorem kd_law_815 : decode code 815 = .ok (.ifCond .ne 15, 3) := by decide +kernel
theorem kd_law_818 : decode code 818 = .ok (.aload_n 3, 1) := by decide +kernel
theorem kd_law_819 : decode code 819 = .ok (.iconst 0, 1) := by decide +kernel
theorem kd_law_820 : decode code 820 = .ok (.laload, 1) := by decide +kernel
theorem kd_law_821 : decode code 821 = .ok (.iload 6, 2) := by decide +kernel
theorem kd_law_823 : decode code 823 = .ok (.i2l, 1) := by decide +kernel
theorem kd_law_824 : decode code 824 = .ok (.lcmp, 1) := by decide +kernel
theorem kd_law_825 : decode code 825 = .ok (.ifCond .eq 5, 3) := by decide +kernel
theorem kd_law_828 : decode code 828 = .ok (.iconst 0, 1) := by decide +kernel
theorem kd_law_829 : decode code 829 = .ok (.ireturn, 1) := by decide +kernel
theorem kd_law_830 : decode code 830 = .ok (.goto 363, 3) := by decide +kernel
theorem kd_law_833 : decode code 833 = .ok (.aload_n 1, 1) := by decide +kernel
theorem kd_law_834 : decode code 834 = .ok (.aload_n 3, 1) := by decide +kernel
theorem kd_law_835 : decode code 835 = .ok (.invokestatic 132, 3) := by decide +kernel
theorem kd_law_838 : decode code 838 = .ok (.istore 5, 2) := by decide +kernel
theorem kd_law_840 : decode code 840 = .ok (.aload_n 2, 1) := by decide +kernel
theorem kd_law_841 : decode code 841 = .ok (.invokevirtual 135, 3) := by decide +kernel
theorem kd_law_844 : decode code 844 = .ok (.istore 6, 2) := by decide +kernel
theorem kd_law_846 : decode code 846 = .ok (.aload_n 2, 1) := by decide +kernel
theorem kd_law_847 : decode code 847 = .ok (.invokevirtual 88, 3) := by decide +kernel
theorem kd_law_850 : decode code 850 = .ok (.iload 5, 2) := by decide +kernel
theorem kd_law_852 : decode code 852 = .ok (.if_icmp .eq 5, 3) := by decide +kernel
theorem kd_law_855 : decode code 855 = .ok (.iconst 0, 1) := by decide +kernel
theorem kd_law_856 : decode code 856 = .ok (.ireturn, 1) := by decide +kernel
theorem kd_law_857 : decode code 857 = .ok (.iload 5, 2) := by decide +kernel
theorem kd_law_859 : decode code 859 = .ok (.ifCond .ne 15, 3) := by decide +kernel
theorem kd_law_862 : decode code 862 = .ok (.aload_n 3, 1) := by decide +kernel
theorem kd_law_863 : decode code 863 = .ok (.iconst 0, 1) := by decide +kernel
theorem kd_law_864 : decode code 864 = .ok (.laload, 1) := by decide +kernel
theorem kd_law_865 : decode code 865 = .ok (.iload 6, 2) := by decide +kernel
theorem kd_law_867 : decode code 867 = .ok (.i2l, 1) := by decide +kernel
theorem kd_law_868 : decode code 868 = .ok (.lcmp, 1) := by decide +kernel
theorem kd_law_869 : decode code 869 = .ok (.ifCond .eq 5, 3) := by decide +kernel
theorem kd_law_872 : decode code 872 = .ok (.iconst 0, 1) := by decide +kernel
theorem kd_law_873 : decode code 873 = .ok (.ireturn, 1) := by decide +kernel
theorem kd_law_874 : decode code 874 = .ok (.goto 319, 3) := by decide +kernel
theorem kd_law_877 : decode code 877 = .ok (.aload_n 1, 1) := by decide +kernel
theorem kd_law_878 : decode code 878 = .ok (.aload_n 0, 1) := by decide +kernel
theorem kd_law_879 : decode code 879 = .ok (.iload 4, 2) := by decide +kernel
theorem kd_law_881 : decode code 881 = .ok (.iconst 1, 1) := by decide +kernel
theorem kd_law_882 : decode code 882 = .ok (.iadd, 1) := by decide +kernel
theorem kd_law_883 : decode code 883 = .ok (.iaload, 1) := by decide +kernel
theorem kd_law_884 : decode code 884 = .ok (.aload_n 0, 1) := by decide +kernel
theorem kd_law_885 : decode code 885 = .ok (.iload 4, 2) := by decide +kernel
theorem kd_law_887 : decode code 887 = .ok (.iconst 2, 1) := by decide +kernel
theorem kd_law_888 : decode code 888 = .ok (.iadd, 1) := by decide +kernel
theorem kd_law_889 : decode code 889 = .ok (.iaload, 1) := by decide +kernel
theorem kd_law_890 : decode code 890 = .ok (.aload_n 3, 1) := by decide +kernel
theorem kd_law_891 : decode code 891 = .ok (.invokestatic 136, 3) := by decide +kernel
theorem kd_law_894 : decode code 894 = .ok (.istore 5, 2) := by decide +kernel
theorem kd_law_896 : decode code 896 = .ok (.aload_n 2, 1) := by decide +kernel
theorem kd_law_897 : decode code 897 = .ok (.aload_n 0, 1) := by decide +kernel
theorem kd_law_898 : decode code 898 = .ok (.iload 4, 2) := by decide +kernel
theorem kd_law_900 : decode code 900 = .ok (.iconst 1, 1) := by decide +kernel
theorem kd_law_901 : decode code 901 = .ok (.iadd, 1) := by decide +kernel
theorem kd_law_902 : decode code 902 = .ok (.iaload, 1) := by decide +kernel
theorem kd_law_903 : decode code 903 = .ok (.aload_n 0, 1) := by decide +kernel
theorem kd_law_904 : decode code 904 = .ok (.iload 4, 2) := by decide +kernel
theorem kd_law_906 : decode code 906 = .ok (.iconst 2, 1) := by decide +kernel
theorem kd_law_907 : decode code 907 = .ok (.iadd, 1) := by decide +kernel
theorem kd_law_908 : decode code 908 = .ok (.iaload, 1) := by decide +kernel
theorem kd_law_909 : decode code 909 = .ok (.invokevirtual 138, 3) := by decide +kernel
theorem kd_law_912 : decode code 912 = .ok (.istore 6, 2) := by decide +kernel
theorem kd_law_914 : decode code 914 = .ok (.aload_n 2, 1) := by decide +kernel
theorem kd_law_915 : decode code 915 = .ok (.invokevirtual 88, 3) := by decide +kernel
theorem kd_law_918 : decode code 918 = .ok (.iload 5, 2) := by decide +kernel
theorem kd_law_920 : decode code 920 = .ok (.if_icmp .eq 5, 3) := by decide +kernel
theorem kd_law_923 : decode code 923 = .ok (.iconst 0, 1) := by decide +kernel
theorem kd_law_924 : decode code 924 = .ok (.ireturn, 1) := by decide +kernel
theorem kd_law_925 : decode code 925 = .ok (.iload 5, 2) := by decide +kernel
theorem kd_law_927 : decode code 927 = .ok (.ifCond .ne 15, 3) := by decide +kernel
theorem kd_law_930 : decode code 930 = .ok (.aload_n 3, 1) := by decide +kernel
theorem kd_law_931 : decode code 931 = .ok (.iconst 0, 1) := by decide +kernel
theorem kd_law_932 : decode code 932 = .ok (.laload, 1) := by decide +kernel
theorem kd_law_933 : decode code 933 = .ok (.iload 6, 2) := by decide +kernel
theorem kd_law_935 : decode code 935 = .ok (.i2l, 1) := by decide +kernel
theorem kd_law_936 : decode code 936 = .ok (.lcmp, 1) := by decide +kernel
theorem kd_law_937 : decode code 937 = .ok (.ifCond .eq 5, 3) := by decide +kernel
theorem kd_law_940 : decode code 940 = .ok (.iconst 0, 1) := by decide +kernel
theorem kd_law_941 : decode code 941 = .ok (.ireturn, 1) := by decide +kernel
theorem kd_law_942 : decode code 942 = .ok (.goto 251, 3) := by decide +kernel
theorem kd_law_945 : decode code 945 = .ok (.aload_n 1, 1) := by decide +kernel
theorem kd_law_946 : decode code 946 = .ok (.aload_n 0, 1) := by decide +kernel
theorem kd_law_947 : decode code 947 = .ok (.iload 4, 2) := by decide +kernel
theorem kd_law_949 : decode code 949 = .ok (.iconst 1, 1) := by decide +kernel
theorem kd_law_950 : decode code 950 = .ok (.iadd, 1) := by decide +kernel
theorem kd_law_951 : decode code 951 = .ok (.iaload, 1) := by decide +kernel
theorem kd_law_952 : decode code 952 = .ok (.aload_n 0, 1) := by decide +kernel
theorem kd_law_953 : decode code 953 = .ok (.iload 4, 2) := by decide +kernel
theorem kd_law_955 : decode code 955 = .ok (.iconst 2, 1) := by decide +kernel
theorem kd_law_956 : decode code 956 = .ok (.iadd, 1) := by decide +kernel
theorem kd_law_957 : decode code 957 = .ok (.iaload, 1) := by decide +kernel
theorem kd_law_958 : decode code 958 = .ok (.aload_n 3, 1) := by decide +kernel
theorem kd_law_959 : decode code 959 = .ok (.invokestatic 139, 3) := by decide +kernel
theorem kd_law_962 : decode code 962 = .ok (.istore 5, 2) := by decide +kernel
theorem kd_law_964 : decode code 964 = .ok (.aload_n 2, 1) := by decide +kernel
theorem kd_law_965 : decode code 965 = .ok (.aload_n 0, 1) := by decide +kernel
theorem kd_law_966 : decode code 966 = .ok (.iload 4, 2) := by decide +kernel
theorem kd_law_968 : decode code 968 = .ok (.iconst 1, 1) := by decide +kernel
theorem kd_law_969 : decode code 969 = .ok (.iadd, 1) := by decide +kernel
theorem kd_law_970 : decode code 970 = .ok (.iaload, 1) := by decide +kernel
theorem kd_law_971 : decode code 971 = .ok (.aload_n 0, 1) := by decide +kernel
theorem kd_law_972 : decode code 972 = .ok (.iload 4, 2) := by decide +kernel
theorem kd_law_974 : decode code 974 = .ok (.iconst 2, 1) := by decide +kernel
theorem kd_law_975 : decode code 975 = .ok (.iadd, 1) := by decide +kernel
theorem kd_law_976 : decode code 976 = .ok (.iaload, 1) := by decide +kernel
theorem kd_law_977 : decode code 977 = .ok (.invokevirtual 141, 3) := by decide +kernel
theorem kd_law_980 : decode code 980 = .ok (.istore 6, 2) := by decide +kernel
theorem kd_law_982 : decode code 982 = .ok (.aload_n 2, 1) := by decide +kernel
theorem kd_law_983 : decode code 983 = .ok (.invokevirtual 88, 3) := by decide +kernel
theorem kd_law_986 : decode code 986 = .ok (.iload 5, 2) := by decide +kernel
theorem kd_law_988 : decode code 988 = .ok (.if_icmp .eq 5, 3) := by decide +kernel
theorem kd_law_991 : decode code 991 = .ok (.iconst 0, 1) := by decide +kernel
theorem kd_law_992 : decode code 992 = .ok (.ireturn, 1) := by decide +kernel
theorem kd_law_993 : decode code 993 = .ok (.iload 5, 2) := by decide +kernel
theorem kd_law_995 : decode code 995 = .ok (.ifCond .ne 15, 3) := by decide +kernel
theorem kd_law_998 : decode code 998 = .ok (.aload_n 3, 1) := by decide +kernel
theorem kd_law_999 : decode code 999 = .ok (.iconst 0, 1) := by decide +kernel
theorem kd_law_1000 : decode code 1000 = .ok (.laload, 1) := by decide +kernel
theorem kd_law_1001 : decode code 1001 = .ok (.iload 6, 2) := by decide +kernel
theorem kd_law_1003 : decode code 1003 = .ok (.i2l, 1) := by decide +kernel
theorem kd_law_1004 : decode code 1004 = .ok (.lcmp, 1) := by decide +kernel
theorem kd_law_1005 : decode code 1005 = .ok (.ifCond .eq 5, 3) := by decide +kernel
theorem kd_law_1008 : decode code 1008 = .ok (.iconst 0, 1) := by decide +kernel
theorem kd_law_1009 : decode code 1009 = .ok (.ireturn, 1) := by decide +kernel
theorem kd_law_1010 : decode code 1010 = .ok (.goto 183, 3) := by decide +kernel
theorem kd_law_1013 : decode code 1013 = .ok (.aload_n 1, 1) := by decide +kernel
theorem kd_law_1014 : decode code 1014 = .ok (.aload_n 0, 1) := by decide +kernel
theorem kd_law_1015 : decode code 1015 = .ok (.iload 4, 2) := by decide +kernel
theorem kd_law_1017 : decode code 1017 = .ok (.iconst 1, 1) := by decide +kernel
theorem kd_law_1018 : decode code 1018 = .ok (.iadd, 1) := by decide +kernel
theorem kd_law_1019 : decode code 1019 = .ok (.iaload, 1) := by decide +kernel
theorem kd_law_1020 : decode code 1020 = .ok (.aload_n 0, 1) := by decide +kernel
theorem kd_law_1021 : decode code 1021 = .ok (.iload 4, 2) := by decide +kernel
theorem kd_law_1023 : decode code 1023 = .ok (.iconst 2, 1) := by decide +kernel
theorem kd_law_1024 : decode code 1024 = .ok (.iadd, 1) := by decide +kernel
theorem kd_law_1025 : decode code 1025 = .ok (.iaload, 1) := by decide +kernel
theorem kd_law_1026 : decode code 1026 = .ok (.aload_n 3, 1) := by decide +kernel
theorem kd_law_1027 : decode code 1027 = .ok (.invokestatic 142, 3) := by decide +kernel
theorem kd_law_1030 : decode code 1030 = .ok (.istore 5, 2) := by decide +kernel
theorem kd_law_1032 : decode code 1032 = .ok (.aload_n 2, 1) := by decide +kernel
theorem kd_law_1033 : decode code 1033 = .ok (.aload_n 0, 1) := by decide +kernel
theorem kd_law_1034 : decode code 1034 = .ok (.iload 4, 2) := by decide +kernel
theorem kd_law_1036 : decode code 1036 = .ok (.iconst 1, 1) := by decide +kernel
theorem kd_law_1037 : decode code 1037 = .ok (.iadd, 1) := by decide +kernel
theorem kd_law_1038 : decode code 1038 = .ok (.iaload, 1) := by decide +kernel
theorem kd_law_1039 : decode code 1039 = .ok (.aload_n 0, 1) := by decide +kernel
theorem kd_law_1040 : decode code 1040 = .ok (.iload 4, 2) := by decide +kernel
theorem kd_law_1042 : decode code 1042 = .ok (.iconst 2, 1) := by decide +kernel
theorem kd_law_1043 : decode code 1043 = .ok (.iadd, 1) := by decide +kernel
theorem kd_law_1044 : decode code 1044 = .ok (.iaload, 1) := by decide +kernel
theorem kd_law_1045 : decode code 1045 = .ok (.invokevirtual 144, 3) := by decide +kernel
theorem kd_law_1048 : decode code 1048 = .ok (.istore 6, 2) := by decide +kernel
theorem kd_law_1050 : decode code 1050 = .ok (.aload_n 2, 1) := by decide +kernel
theorem kd_law_1051 : decode code 1051 = .ok (.invokevirtual 88, 3) := by decide +kernel
theorem kd_law_1054 : decode code 1054 = .ok (.iload 5, 2) := by decide +kernel
theorem kd_law_1056 : decode code 1056 = .ok (.if_icmp .eq 5, 3) := by decide +kernel
theorem kd_law_1059 : decode code 1059 = .ok (.iconst 0, 1) := by decide +kernel
theorem kd_law_1060 : decode code 1060 = .ok (.ireturn, 1) := by decide +kernel
theorem kd_law_1061 : decode code 1061 = .ok (.iload 5, 2) := by decide +kernel
theorem kd_law_1063 : decode code 1063 = .ok (.ifCond .ne 15, 3) := by decide +kernel
theorem kd_law_1066 : decode code 1066 = .ok (.aload_n 3, 1) := by decide +kernel
theorem kd_law_1067 : decode code 1067 = .ok (.iconst 0, 1) := by decide +kernel
theorem kd_law_1068 : decode code 1068 = .ok (.laload, 1) := by decide +kernel
theorem kd_law_1069 : decode code 1069 = .ok (.iload 6, 2) := by decide +kernel
theorem kd_law_1071 : decode code 1071 = .ok (.i2l, 1) := by decide +kernel
theorem kd_law_1072 : decode code 1072 = .ok (.lcmp, 1) := by decide +kernel
theorem kd_law_1073 : decode code 1073 = .ok (.ifCond .eq 5, 3) := by decide +kernel
theorem kd_law_1076 : decode code 1076 = .ok (.iconst 0, 1) := by decide +kernel
theorem kd_law_1077 : decode code 1077 = .ok (.ireturn, 1) := by decide +kernel
theorem kd_law_1078 : decode code 1078 = .ok (.goto 115, 3) := by decide +kernel
theorem kd_law_1081 : decode code 1081 = .ok (.aload_n 1, 1) := by decide +kernel
theorem kd_law_1082 : decode code 1082 = .ok (.aload_n 0, 1) := by decide +kernel
theorem kd_law_1083 : decode code 1083 = .ok (.iload 4, 2) := by decide +kernel
theorem kd_law_1085 : decode code 1085 = .ok (.iconst 1, 1) := by decide +kernel
theorem kd_law_1086 : decode code 1086 = .ok (.iadd, 1) := by decide +kernel
theorem kd_law_1087 : decode code 1087 = .ok (.iaload, 1) := by decide +kernel
theorem kd_law_1088 : decode code 1088 = .ok (.aload_n 3, 1) := by decide +kernel
theorem kd_law_1089 : decode code 1089 = .ok (.invokestatic 145, 3) := by decide +kernel
theorem kd_law_1092 : decode code 1092 = .ok (.istore 5, 2) := by decide +kernel
theorem kd_law_1094 : decode code 1094 = .ok (.aload_n 2, 1) := by decide +kernel
theorem kd_law_1095 : decode code 1095 = .ok (.aload_n 0, 1) := by decide +kernel
theorem kd_law_1096 : decode code 1096 = .ok (.iload 4, 2) := by decide +kernel
theorem kd_law_1098 : decode code 1098 = .ok (.iconst 1, 1) := by decide +kernel
theorem kd_law_1099 : decode code 1099 = .ok (.iadd, 1) := by decide +kernel
theorem kd_law_1100 : decode code 1100 = .ok (.iaload, 1) := by decide +kernel
theorem kd_law_1101 : decode code 1101 = .ok (.invokevirtual 147, 3) := by decide +kernel
theorem kd_law_1104 : decode code 1104 = .ok (.istore 6, 2) := by decide +kernel
theorem kd_law_1106 : decode code 1106 = .ok (.aload_n 2, 1) := by decide +kernel
theorem kd_law_1107 : decode code 1107 = .ok (.invokevirtual 88, 3) := by decide +kernel
theorem kd_law_1110 : decode code 1110 = .ok (.iload 5, 2) := by decide +kernel
theorem kd_law_1112 : decode code 1112 = .ok (.if_icmp .eq 5, 3) := by decide +kernel
theorem kd_law_1115 : decode code 1115 = .ok (.iconst 0, 1) := by decide +kernel
theorem kd_law_1116 : decode code 1116 = .ok (.ireturn, 1) := by decide +kernel
theorem kd_law_1117 : decode code 1117 = .ok (.iload 5, 2) := by decide +kernel
theorem kd_law_1119 : decode code 1119 = .ok (.ifCond .ne 15, 3) := by decide +kernel
theorem kd_law_1122 : decode code 1122 = .ok (.aload_n 3, 1) := by decide +kernel
theorem kd_law_1123 : decode code 1123 = .ok (.iconst 0, 1) := by decide +kernel
theorem kd_law_1124 : decode code 1124 = .ok (.laload, 1) := by decide +kernel
theorem kd_law_1125 : decode code 1125 = .ok (.iload 6, 2) := by decide +kernel
theorem kd_law_1127 : decode code 1127 = .ok (.i2l, 1) := by decide +kernel
theorem kd_law_1128 : decode code 1128 = .ok (.lcmp, 1) := by decide +kernel
theorem kd_law_1129 : decode code 1129 = .ok (.ifCond .eq 5, 3) := by decide +kernel
theorem kd_law_1132 : decode code 1132 = .ok (.iconst 0, 1) := by decide +kernel
theorem kd_law_1133 : decode code 1133 = .ok (.ireturn, 1) := by decide +kernel
theorem kd_law_1134 : decode code 1134 = .ok (.goto 59, 3) := by decide +kernel
theorem kd_law_1137 : decode code 1137 = .ok (.aload_n 1, 1) := by decide +kernel
theorem kd_law_1138 : decode code 1138 = .ok (.aload_n 0, 1) := by decide +kernel
theorem kd_law_1139 : decode code 1139 = .ok (.iload 4, 2) := by decide +kernel
theorem kd_law_1141 : decode code 1141 = .ok (.iconst 1, 1) := by decide +kernel
theorem kd_law_1142 : decode code 1142 = .ok (.iadd, 1) := by decide +kernel
theorem kd_law_1143 : decode code 1143 = .ok (.iaload, 1) := by decide +kernel
theorem kd_law_1144 : decode code 1144 = .ok (.aload_n 3, 1) := by decide +kernel
theorem kd_law_1145 : decode code 1145 = .ok (.invokestatic 148, 3) := by decide +kernel
theorem kd_law_1148 : decode code 1148 = .ok (.istore 5, 2) := by decide +kernel
theorem kd_law_1150 : decode code 1150 = .ok (.aload_n 2, 1) := by decide +kernel
theorem kd_law_1151 : decode code 1151 = .ok (.aload_n 0, 1) := by decide +kernel
theorem kd_law_1152 : decode code 1152 = .ok (.iload 4, 2) := by decide +kernel
theorem kd_law_1154 : decode code 1154 = .ok (.iconst 1, 1) := by decide +kernel
theorem kd_law_1155 : decode code 1155 = .ok (.iadd, 1) := by decide +kernel
theorem kd_law_1156 : decode code 1156 = .ok (.iaload, 1) := by decide +kernel
theorem kd_law_1157 : decode code 1157 = .ok (.invokevirtual 150, 3) := by decide +kernel
theorem kd_law_1160 : decode code 1160 = .ok (.istore 6, 2) := by decide +kernel
theorem kd_law_1162 : decode code 1162 = .ok (.aload_n 2, 1) := by decide +kernel
theorem kd_law_1163 : decode code 1163 = .ok (.invokevirtual 88, 3) := by decide +kernel
theorem kd_law_1166 : decode code 1166 = .ok (.iload 5, 2) := by decide +kernel
theorem kd_law_1168 : decode code 1168 = .ok (.if_icmp .eq 5, 3) := by decide +kernel
theorem kd_law_1171 : decode code 1171 = .ok (.iconst 0, 1) := by decide +kernel
theorem kd_law_1172 : decode code 1172 = .ok (.ireturn, 1) := by decide +kernel
theorem kd_law_1173 : decode code 1173 = .ok (.iload 5, 2) := by decide +kernel
theorem kd_law_1175 : decode code 1175 = .ok (.ifCond .ne 15, 3) := by decide +kernel
theorem kd_law_1178 : decode code 1178 = .ok (.aload_n 3, 1) := by decide +kernel
theorem kd_law_1179 : decode code 1179 = .ok (.iconst 0, 1) := by decide +kernel
theorem kd_law_1180 : decode code 1180 = .ok (.laload, 1) := by decide +kernel
theorem kd_law_1181 : decode code 1181 = .ok (.iload 6, 2) := by decide +kernel
theorem kd_law_1183 : decode code 1183 = .ok (.i2l, 1) := by decide +kernel
theorem kd_law_1184 : decode code 1184 = .ok (.lcmp, 1) := by decide +kernel
theorem kd_law_1185 : decode code 1185 = .ok (.ifCond .eq 5, 3) := by decide +kernel
theorem kd_law_1188 : decode code 1188 = .ok (.iconst 0, 1) := by decide +kernel
theorem kd_law_1189 : decode code 1189 = .ok (.ireturn, 1) := by decide +kernel
theorem kd_law_1190 : decode code 1190 = .ok (.goto 3, 3) := by decide +kernel
theorem kd_law_1193 : decode code 1193 = .ok (.iinc 4 4, 3) := by decide +kernel
theorem kd_law_1196 : decode code 1196 = .ok (.goto (-1173), 3) := by decide +kernel
theorem kd_law_1199 : decode code 1199 = .ok (.iconst 1, 1) := by decide +kernel
theorem kd_law_1200 : decode code 1200 = .ok (.ireturn, 1) := by decide +kernel
theorem ki_law : Cond.initialized "LinkedCoresLaw" ∈ mw_good := mw_good_of (mw_tm1 (List.mem_of_getElem? (i := 0) rfl)) rfl
def kCtx (l : Launch) (dC : Nat → ClassId) (dI : Nat → Nat → Nat) (ad : Nat → Nat → Nat) (aV : Nat → Nat) (cA : Nat → ClassId) (qo : Nat) (p : Program) (s : State) (m : MethodId) (meth : Method) (c : Code) (b L : Nat) (xs : Nat → Int32) : Prop := kH l s ad aV ∧ s.heap.size ≤ qo ∧ ¬ mw_A ad qo ∧ kFr dC dI cA p s s m #[.ref b] c code 7 ∧ va_X b L xs s s.heap ∧ b < s.heap.size ∧ kCa s #[.ref b] ∧ L ≤ 16384 ∧ meth.sig.returnType = ret ∧ meth.locks = false
/-- what holds when j steps of the law are done; at the loop's end -/
def kStt (dC : Nat → ClassId) (dI : Nat → Nat → Nat) (ad : Nat → Nat → Nat) (cA : Nat → ClassId) (qo b : Nat) (s : State) (j : Nat) (h : mj_H) (f : Nat → Int64) (H : Heap) (locs : List Loc) (cells slots : Nat) : Prop := va_P (dC, dI) mw_cl (mw_ws ad cA h) H ∧ va_at (dC, dI) mw_cl (kOut cA qo f) H ∧ va_S (kNew s) s.heap H locs ∧ JW (30000 * j) h ∧ mw_hv h ∧ cells ≤ 1000 + j ∧ slots ≤ 3000000 + 6 * j
def kLv (ad : Nat → Nat → Nat) (qo b j : Nat) : List (Nat × Value) := [(4, .int (nI (4 * j))), (3, .ref qo), (2, .ref (ad 15 0)), (1, .ref (ad 2 0)), (0, .ref b)]
theorem kin {a k L : Nat} (h : a + k < L) (hL : L ≤ 16384) : vp_in (nI a + nI k) L := by
  have e : nI a + nI k = nI (a + k) := by rw [nI_add]
  rw [e]
  intro z
  rcases z with z | z
  · exact absurd z (nI_nlt (a := a + k) (b := 0) (by omega) (by omega))
  · rw [nI_clamp (by omega)] at z
    omega
theorem jA.le {EX : List Nat} {K K' : Nat} {R1 R2 : mj_H → Option mj_O} {h : mj_H} (a : jA EX K R1 R2 h) (hk : K ≤ K') : jA EX K' R1 R2 h := by
  rcases a with ⟨v, h1, h2, e1, e2, e3, e4⟩ | ⟨x, i, v, h1, h2, e1, e2, e3, e4, e5⟩
  · exact Or.inl ⟨v, h1, h2, e1, e2, e3, e4.le hk⟩
  · exact Or.inr ⟨x, i, v, h1, h2, e1, e2, e3, e4, e5.le hk⟩
theorem jV.le {EX : List Nat} {K K' : Nat} {R1 R2 : mj_H → Option mj_O} {h : mj_H} (a : jV EX K R1 R2 h) (hk : K ≤ K') : jV EX K' R1 R2 h := by
  rcases a with ⟨h1, h2, e1, e2, e3, e4⟩ | ⟨x, i, h1, h2, e1, e2, e3, e4, e5⟩
  · exact Or.inl ⟨h1, h2, e1, e2, e3, e4.le hk⟩
  · exact Or.inr ⟨x, i, h1, h2, e1, e2, e3, e4, e5.le hk⟩
theorem lg_self (x : Int64) : lg_cmp x x = 0 := by
  unfold lg_cmp
  rw [if_neg (by intro z; simp only [gt_iff_lt, Int64.lt_iff_toInt_lt] at z; omega), if_pos rfl]
