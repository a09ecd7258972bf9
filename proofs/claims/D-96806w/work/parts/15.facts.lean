/-! small facts of the tables, by program (gen_u.py) -/
set_option maxRecDepth 100000
theorem ia0_13 : mx_ina 0 13 = some (1, true, 1) := rfl
theorem ia0_21 : mx_ina 0 21 = some (1, false, 1) := rfl
theorem ia0_34 : mx_ina 0 34 = some (1, false, 1) := rfl
theorem ia0_46 : mx_ina 0 46 = some (2, false, 1) := rfl
theorem ia0_51 : mx_ina 0 51 = some (2, false, 1) := rfl
theorem ia0_54 : mx_ina 0 54 = some (2, false, 1) := rfl
theorem ia0_57 : mx_ina 0 57 = some (2, false, 1) := rfl
theorem ia0_60 : mx_ina 0 60 = some (2, false, 1) := rfl
theorem ia0_63 : mx_ina 0 63 = some (2, false, 1) := rfl
theorem ia0_74 : mx_ina 0 74 = some (2, false, 1) := rfl
theorem ia0_87 : mx_ina 0 87 = some (2, false, 1) := rfl
theorem ia0_100 : mx_ina 0 100 = some (2, false, 1) := rfl
theorem ia0_107 : mx_ina 0 107 = some (2, false, 1) := rfl
theorem ia0_114 : mx_ina 0 114 = some (1, false, 1) := rfl
theorem ia0_121 : mx_ina 0 121 = some (1, false, 1) := rfl
theorem ia0_128 : mx_ina 0 128 = some (1, false, 1) := rfl
theorem ia0_138 : mx_ina 0 138 = some (1, false, 1) := rfl
theorem ia0_143 : mx_ina 0 143 = some (3, true, 0) := rfl
theorem ia0_147 : mx_ina 0 147 = some (3, false, 2) := rfl
theorem ia0_151 : mx_ina 0 151 = some (1, false, 2) := rfl
theorem ia0_162 : mx_ina 0 162 = some (3, false, 2) := rfl
theorem ia0_169 : mx_ina 0 169 = some (3, false, 2) := rfl
theorem ia0_172 : mx_ina 0 172 = some (3, false, 2) := rfl
theorem ia0_182 : mx_ina 0 182 = some (2, false, 2) := rfl
theorem ia0_186 : mx_ina 0 186 = some (2, true, 0) := rfl
theorem ia0_192 : mx_ina 0 192 = some (1, false, 2) := rfl
theorem ia0_196 : mx_ina 0 196 = some (2, true, 0) := rfl
theorem ia0_202 : mx_ina 0 202 = some (3, false, 2) := rfl
theorem ia0_209 : mx_ina 0 209 = some (2, false, 2) := rfl
theorem ia0_215 : mx_ina 0 215 = some (1, true, 0) := rfl
theorem ia0_223 : mx_ina 0 223 = some (1, true, 0) := rfl
theorem ia0_226 : mx_ina 0 226 = some (1, true, 0) := rfl
theorem ia0_229 : mx_ina 0 229 = some (1, true, 0) := rfl
theorem ia0_235 : mx_ina 0 235 = some (2, false, 2) := rfl
theorem ia0_247 : mx_ina 0 247 = some (3, false, 2) := rfl
theorem ia0_251 : mx_ina 0 251 = some (2, false, 2) := rfl
theorem ia0_256 : mx_ina 0 256 = some (1, false, 2) := rfl
theorem ia0_259 : mx_ina 0 259 = some (2, true, 0) := rfl
theorem ia0_262 : mx_ina 0 262 = some (2, false, 2) := rfl
theorem ia0_266 : mx_ina 0 266 = some (2, true, 0) := rfl
theorem ia0_273 : mx_ina 0 273 = some (2, false, 2) := rfl
theorem ia0_279 : mx_ina 0 279 = some (3, false, 2) := rfl
theorem ia0_282 : mx_ina 0 282 = some (2, false, 2) := rfl
theorem ia0_289 : mx_ina 0 289 = some (2, false, 2) := rfl
theorem ia0_301 : mx_ina 0 301 = some (3, false, 2) := rfl
theorem ia0_314 : mx_ina 0 314 = some (2, false, 2) := rfl
theorem ia0_317 : mx_ina 0 317 = some (1, false, 1) := rfl
theorem ia0_321 : mx_ina 0 321 = some (3, false, 2) := rfl
theorem ia0_327 : mx_ina 0 327 = some (2, false, 2) := rfl
theorem ia0_332 : mx_ina 0 332 = some (2, false, 2) := rfl
theorem ia0_336 : mx_ina 0 336 = some (3, false, 2) := rfl
theorem ia0_339 : mx_ina 0 339 = some (1, true, 0) := rfl
theorem ia0_342 : mx_ina 0 342 = some (1, false, 2) := rfl
theorem ia0_346 : mx_ina 0 346 = some (2, false, 2) := rfl
theorem ia0_350 : mx_ina 0 350 = some (1, true, 0) := rfl
theorem ia0_354 : mx_ina 0 354 = some (5, false, 2) := rfl
theorem ia0_364 : mx_ina 0 364 = some (3, false, 2) := rfl
theorem ia0_369 : mx_ina 0 369 = some (1, true, 0) := rfl
theorem ia0_373 : mx_ina 0 373 = some (4, false, 2) := rfl
theorem ia0_377 : mx_ina 0 377 = some (3, false, 2) := rfl
theorem ia0_381 : mx_ina 0 381 = some (3, false, 2) := rfl
theorem ia0_385 : mx_ina 0 385 = some (3, false, 2) := rfl
theorem ia0_389 : mx_ina 0 389 = some (3, false, 2) := rfl
theorem ia0_393 : mx_ina 0 393 = some (4, false, 2) := rfl
theorem ia0_406 : mx_ina 0 406 = some (3, false, 2) := rfl
theorem ia0_413 : mx_ina 0 413 = some (1, true, 0) := rfl
theorem ia0_418 : mx_ina 0 418 = some (1, false, 2) := rfl
theorem ia0_423 : mx_ina 0 423 = some (1, false, 2) := rfl
theorem ia0_426 : mx_ina 0 426 = some (1, false, 2) := rfl
theorem ia0_429 : mx_ina 0 429 = some (1, false, 2) := rfl
theorem ia0_432 : mx_ina 0 432 = some (1, false, 2) := rfl
theorem ia0_435 : mx_ina 0 435 = some (1, false, 2) := rfl
theorem ia0_436 : mx_ina 0 436 = some (2, true, 0) := rfl
theorem ia0_440 : mx_ina 0 440 = some (2, false, 2) := rfl
theorem ia0_444 : mx_ina 0 444 = some (2, true, 0) := rfl
theorem ia0_447 : mx_ina 0 447 = some (2, false, 3) := rfl
theorem ia0_452 : mx_ina 0 452 = some (2, false, 3) := rfl
theorem ia0_455 : mx_ina 0 455 = some (2, false, 3) := rfl
theorem ia0_458 : mx_ina 0 458 = some (2, false, 3) := rfl
theorem ia0_461 : mx_ina 0 461 = some (3, true, 0) := rfl
theorem ia0_467 : mx_ina 0 467 = some (2, false, 2) := rfl
theorem ia1_3 : mx_ina 1 3 = some (1, true, 1) := rfl
theorem ia1_42 : mx_ina 1 42 = some (1, false, 1) := rfl
theorem ia1_47 : mx_ina 1 47 = some (5, true, 0) := rfl
theorem ia1_56 : mx_ina 1 56 = some (2, true, 0) := rfl
theorem ia1_63 : mx_ina 1 63 = some (2, false, 2) := rfl
theorem ia1_67 : mx_ina 1 67 = some (2, false, 2) := rfl
theorem ia1_71 : mx_ina 1 71 = some (3, false, 2) := rfl
theorem ia2_3 : mx_ina 2 3 = some (1, true, 1) := rfl
theorem ia3_7 : mx_ina 3 7 = some (1, true, 1) := rfl
theorem ia4_9 : mx_ina 4 9 = some (2, false, 1) := rfl
theorem ia4_15 : mx_ina 4 15 = some (1, false, 2) := rfl
theorem ia4_25 : mx_ina 4 25 = some (2, false, 2) := rfl
theorem ia4_33 : mx_ina 4 33 = some (4, false, 1) := rfl
theorem ia5_7 : mx_ina 5 7 = some (2, false, 1) := rfl
theorem ia5_13 : mx_ina 5 13 = some (3, false, 1) := rfl
theorem ia5_17 : mx_ina 5 17 = some (2, false, 1) := rfl
theorem ia5_23 : mx_ina 5 23 = some (4, false, 1) := rfl
theorem ia6_7 : mx_ina 6 7 = some (2, false, 1) := rfl
theorem ia6_13 : mx_ina 6 13 = some (3, false, 1) := rfl
theorem ia6_17 : mx_ina 6 17 = some (2, false, 1) := rfl
theorem ia6_23 : mx_ina 6 23 = some (4, false, 1) := rfl
theorem ia7_7 : mx_ina 7 7 = some (2, false, 1) := rfl
theorem ia7_13 : mx_ina 7 13 = some (3, false, 1) := rfl
theorem ia7_17 : mx_ina 7 17 = some (2, false, 1) := rfl
theorem ia7_23 : mx_ina 7 23 = some (4, false, 1) := rfl
theorem ia8_7 : mx_ina 8 7 = some (2, false, 1) := rfl
theorem ia8_13 : mx_ina 8 13 = some (2, false, 1) := rfl
theorem ia8_17 : mx_ina 8 17 = some (1, false, 1) := rfl
theorem ia8_23 : mx_ina 8 23 = some (4, false, 1) := rfl
theorem ia9_7 : mx_ina 9 7 = some (2, false, 1) := rfl
theorem ia9_13 : mx_ina 9 13 = some (2, false, 1) := rfl
theorem ia9_19 : mx_ina 9 19 = some (4, false, 1) := rfl
theorem ia10_3 : mx_ina 10 3 = some (1, true, 1) := rfl
theorem ia10_42 : mx_ina 10 42 = some (1, false, 1) := rfl
theorem ia10_65 : mx_ina 10 65 = some (1, false, 2) := rfl
theorem ia10_69 : mx_ina 10 69 = some (1, true, 0) := rfl
theorem ia10_73 : mx_ina 10 73 = some (1, true, 0) := rfl
theorem ia10_76 : mx_ina 10 76 = some (2, false, 2) := rfl
theorem ia10_80 : mx_ina 10 80 = some (1, true, 2) := rfl
theorem ia10_83 : mx_ina 10 83 = some (2, true, 2) := rfl
theorem ia10_87 : mx_ina 10 87 = some (2, false, 2) := rfl
theorem ia10_91 : mx_ina 10 91 = some (1, false, 2) := rfl
theorem ia10_94 : mx_ina 10 94 = some (2, false, 2) := rfl
theorem ia10_98 : mx_ina 10 98 = some (3, true, 0) := rfl
theorem ia10_102 : mx_ina 10 102 = some (3, false, 2) := rfl
theorem ia10_106 : mx_ina 10 106 = some (3, false, 2) := rfl
theorem ia10_111 : mx_ina 10 111 = some (2, false, 2) := rfl
theorem ia10_119 : mx_ina 10 119 = some (1, false, 2) := rfl
theorem ia10_125 : mx_ina 10 125 = some (2, false, 2) := rfl
theorem ia10_129 : mx_ina 10 129 = some (1, false, 2) := rfl
theorem ia10_134 : mx_ina 10 134 = some (4, false, 1) := rfl
theorem ia10_139 : mx_ina 10 139 = some (2, false, 1) := rfl
theorem ia10_142 : mx_ina 10 142 = some (1, false, 2) := rfl
theorem ia10_149 : mx_ina 10 149 = some (3, false, 1) := rfl
theorem ia10_152 : mx_ina 10 152 = some (1, false, 2) := rfl
theorem ia10_159 : mx_ina 10 159 = some (3, false, 1) := rfl
theorem ia10_178 : mx_ina 10 178 = some (3, false, 2) := rfl
theorem ia10_182 : mx_ina 10 182 = some (1, false, 2) := rfl
theorem ia11_1 : mx_ina 11 1 = some (5, true, 1) := rfl
theorem ia12_9 : mx_ina 12 9 = some (1, true, 1) := rfl
theorem ia12_15 : mx_ina 12 15 = some (1, false, 2) := rfl
theorem ia12_28 : mx_ina 12 28 = some (1, false, 2) := rfl
theorem ia12_32 : mx_ina 12 32 = some (3, false, 2) := rfl
theorem ia12_49 : mx_ina 12 49 = some (3, false, 2) := rfl
theorem ia12_53 : mx_ina 12 53 = some (2, false, 2) := rfl
theorem ia12_57 : mx_ina 12 57 = some (3, false, 2) := rfl
theorem ia13_7 : mx_ina 13 7 = some (2, false, 1) := rfl
theorem ia14_7 : mx_ina 14 7 = some (2, false, 1) := rfl
theorem ia14_17 : mx_ina 14 17 = some (2, false, 2) := rfl
theorem ia14_34 : mx_ina 14 34 = some (1, false, 2) := rfl
theorem ia15_9 : mx_ina 15 9 = some (2, false, 1) := rfl
theorem ia15_37 : mx_ina 15 37 = some (1, false, 2) := rfl
theorem ia16_1 : mx_ina 16 1 = some (1, true, 1) := rfl
theorem ia17_1 : mx_ina 17 1 = some (5, true, 1) := rfl
theorem ia18_1 : mx_ina 18 1 = some (5, true, 1) := rfl
theorem ia19_1 : mx_ina 19 1 = some (1, true, 1) := rfl
theorem ia20_1 : mx_ina 20 1 = some (1, true, 1) := rfl
theorem ia20_100 : mx_ina 20 100 = some (3, true, 0) := rfl
theorem ia20_118 : mx_ina 20 118 = some (2, false, 2) := rfl
theorem ia20_122 : mx_ina 20 122 = some (1, true, 0) := rfl
theorem ia20_126 : mx_ina 20 126 = some (1, true, 0) := rfl
theorem ia20_147 : mx_ina 20 147 = some (2, false, 2) := rfl
theorem ia20_167 : mx_ina 20 167 = some (2, false, 2) := rfl
theorem ia20_170 : mx_ina 20 170 = some (2, false, 2) := rfl
theorem ia20_174 : mx_ina 20 174 = some (1, false, 2) := rfl
theorem ia20_182 : mx_ina 20 182 = some (1, false, 2) := rfl
theorem ia20_185 : mx_ina 20 185 = some (1, false, 2) := rfl
theorem ia20_188 : mx_ina 20 188 = some (2, false, 2) := rfl
theorem ia20_192 : mx_ina 20 192 = some (2, false, 2) := rfl
theorem ia20_198 : mx_ina 20 198 = some (2, false, 2) := rfl
theorem ia20_202 : mx_ina 20 202 = some (1, false, 2) := rfl
theorem ia20_217 : mx_ina 20 217 = some (1, false, 2) := rfl
theorem ia20_228 : mx_ina 20 228 = some (4, false, 2) := rfl
theorem ia20_232 : mx_ina 20 232 = some (2, false, 2) := rfl
theorem ia20_238 : mx_ina 20 238 = some (1, true, 0) := rfl
theorem ia20_242 : mx_ina 20 242 = some (3, false, 2) := rfl
theorem ia20_246 : mx_ina 20 246 = some (1, true, 0) := rfl
theorem ia20_249 : mx_ina 20 249 = some (3, false, 2) := rfl
theorem ia20_252 : mx_ina 20 252 = some (2, false, 2) := rfl
theorem ia20_255 : mx_ina 20 255 = some (2, false, 2) := rfl
theorem ia20_260 : mx_ina 20 260 = some (1, false, 2) := rfl
theorem ia20_263 : mx_ina 20 263 = some (1, false, 2) := rfl
theorem ia20_267 : mx_ina 20 267 = some (2, true, 0) := rfl
theorem ia20_270 : mx_ina 20 270 = some (3, false, 2) := rfl
theorem ia20_273 : mx_ina 20 273 = some (3, false, 2) := rfl
theorem ia20_276 : mx_ina 20 276 = some (1, false, 2) := rfl
theorem ia20_279 : mx_ina 20 279 = some (2, true, 0) := rfl
theorem ia20_282 : mx_ina 20 282 = some (4, false, 2) := rfl
theorem ia20_286 : mx_ina 20 286 = some (2, false, 2) := rfl
theorem ia20_292 : mx_ina 20 292 = some (1, false, 2) := rfl
theorem ia20_295 : mx_ina 20 295 = some (3, false, 2) := rfl
theorem ia20_299 : mx_ina 20 299 = some (3, false, 2) := rfl
theorem ia20_311 : mx_ina 20 311 = some (2, false, 2) := rfl
theorem ia20_318 : mx_ina 20 318 = some (2, false, 2) := rfl
theorem ia20_321 : mx_ina 20 321 = some (1, false, 2) := rfl
theorem ia20_327 : mx_ina 20 327 = some (3, false, 2) := rfl
theorem ia20_331 : mx_ina 20 331 = some (1, true, 0) := rfl
theorem ia20_334 : mx_ina 20 334 = some (3, false, 2) := rfl
theorem ia20_341 : mx_ina 20 341 = some (3, false, 2) := rfl
theorem ia20_344 : mx_ina 20 344 = some (2, false, 2) := rfl
theorem ia20_347 : mx_ina 20 347 = some (2, true, 0) := rfl
theorem ia20_353 : mx_ina 20 353 = some (2, false, 2) := rfl
theorem ia20_359 : mx_ina 20 359 = some (2, false, 2) := rfl
theorem ia20_365 : mx_ina 20 365 = some (2, false, 2) := rfl
theorem ia20_368 : mx_ina 20 368 = some (2, false, 2) := rfl
theorem ia20_371 : mx_ina 20 371 = some (2, false, 2) := rfl
theorem ia20_380 : mx_ina 20 380 = some (2, false, 2) := rfl
theorem ia20_383 : mx_ina 20 383 = some (2, false, 2) := rfl
theorem ia20_386 : mx_ina 20 386 = some (2, false, 2) := rfl
theorem ia20_389 : mx_ina 20 389 = some (2, false, 2) := rfl
theorem ia20_392 : mx_ina 20 392 = some (2, false, 2) := rfl
theorem ia20_398 : mx_ina 20 398 = some (4, false, 2) := rfl
theorem ia20_402 : mx_ina 20 402 = some (2, false, 2) := rfl
theorem ia21_1 : mx_ina 21 1 = some (1, true, 1) := rfl
theorem ia22_1 : mx_ina 22 1 = some (1, false, 1) := rfl
theorem ia22_19 : mx_ina 22 19 = some (2, true, 0) := rfl
theorem ia23_1 : mx_ina 23 1 = some (1, false, 1) := rfl
theorem ia23_13 : mx_ina 23 13 = some (2, false, 2) := rfl
theorem ia24_1 : mx_ina 24 1 = some (1, false, 1) := rfl
theorem ia25_1 : mx_ina 25 1 = some (3, false, 1) := rfl
theorem ia25_13 : mx_ina 25 13 = some (2, false, 2) := rfl
theorem ia26_1 : mx_ina 26 1 = some (3, false, 1) := rfl
theorem ia26_13 : mx_ina 26 13 = some (2, false, 2) := rfl
theorem ia27_1 : mx_ina 27 1 = some (1, true, 1) := rfl
theorem ia28_7 : mx_ina 28 7 = some (1, true, 1) := rfl
theorem ia28_20 : mx_ina 28 20 = some (2, false, 2) := rfl
theorem ia28_26 : mx_ina 28 26 = some (2, false, 1) := rfl
theorem ia28_32 : mx_ina 28 32 = some (2, false, 2) := rfl
theorem ia29_7 : mx_ina 29 7 = some (4, false, 1) := rfl
theorem ia29_13 : mx_ina 29 13 = some (2, false, 2) := rfl
theorem ia29_19 : mx_ina 29 19 = some (2, false, 1) := rfl
theorem ia29_23 : mx_ina 29 23 = some (2, false, 1) := rfl
theorem ia29_30 : mx_ina 29 30 = some (2, false, 2) := rfl
theorem ia30_7 : mx_ina 30 7 = some (4, false, 1) := rfl
theorem ia30_13 : mx_ina 30 13 = some (2, false, 2) := rfl
theorem ia30_19 : mx_ina 30 19 = some (2, false, 1) := rfl
theorem ia30_23 : mx_ina 30 23 = some (2, false, 1) := rfl
theorem ia30_30 : mx_ina 30 30 = some (2, false, 2) := rfl
theorem ia31_7 : mx_ina 31 7 = some (4, false, 1) := rfl
theorem ia31_13 : mx_ina 31 13 = some (2, false, 2) := rfl
theorem ia31_19 : mx_ina 31 19 = some (2, false, 1) := rfl
theorem ia32_7 : mx_ina 32 7 = some (4, false, 1) := rfl
theorem ia32_13 : mx_ina 32 13 = some (2, false, 2) := rfl
theorem ia32_19 : mx_ina 32 19 = some (2, false, 1) := rfl
theorem ia32_23 : mx_ina 32 23 = some (2, false, 1) := rfl
theorem ia32_30 : mx_ina 32 30 = some (2, false, 2) := rfl
theorem ia33_7 : mx_ina 33 7 = some (4, false, 1) := rfl
theorem ia33_13 : mx_ina 33 13 = some (2, false, 2) := rfl
theorem ia33_19 : mx_ina 33 19 = some (2, false, 1) := rfl
theorem ia33_23 : mx_ina 33 23 = some (2, false, 1) := rfl
theorem ia34_1 : mx_ina 34 1 = some (2, false, 3) := rfl
theorem ia37_9 : mx_ina 37 9 = some (1, false, 1) := rfl
theorem ia37_12 : mx_ina 37 12 = some (1, false, 1) := rfl
theorem ia37_15 : mx_ina 37 15 = some (3, false, 2) := rfl
theorem ia37_19 : mx_ina 37 19 = some (3, false, 2) := rfl
theorem ia37_20 : mx_ina 37 20 = some (1, false, 2) := rfl
theorem ia37_24 : mx_ina 37 24 = some (1, false, 2) := rfl
theorem ia37_25 : mx_ina 37 25 = some (3, false, 2) := rfl
theorem ia37_29 : mx_ina 37 29 = some (3, false, 2) := rfl
theorem ia37_30 : mx_ina 37 30 = some (3, false, 2) := rfl
theorem ia37_33 : mx_ina 37 33 = some (3, false, 2) := rfl
theorem ia37_34 : mx_ina 37 34 = some (4, false, 2) := rfl
theorem ia37_38 : mx_ina 37 38 = some (4, false, 2) := rfl
theorem ia37_39 : mx_ina 37 39 = some (3, false, 2) := rfl
theorem ia37_42 : mx_ina 37 42 = some (3, false, 2) := rfl
theorem ia37_43 : mx_ina 37 43 = some (2, false, 2) := rfl
theorem ia37_47 : mx_ina 37 47 = some (2, false, 2) := rfl
theorem ia37_48 : mx_ina 37 48 = some (3, false, 2) := rfl
theorem ia37_51 : mx_ina 37 51 = some (3, false, 2) := rfl
theorem ia37_52 : mx_ina 37 52 = some (2, false, 2) := rfl
theorem ia37_55 : mx_ina 37 55 = some (2, false, 2) := rfl
theorem ia37_56 : mx_ina 37 56 = some (3, false, 2) := rfl
theorem ia37_59 : mx_ina 37 59 = some (3, false, 2) := rfl
theorem ia37_60 : mx_ina 37 60 = some (3, false, 2) := rfl
theorem ia37_63 : mx_ina 37 63 = some (3, false, 2) := rfl
theorem ia37_64 : mx_ina 37 64 = some (2, false, 2) := rfl
theorem ia37_67 : mx_ina 37 67 = some (2, false, 2) := rfl
theorem ia37_68 : mx_ina 37 68 = some (2, false, 2) := rfl
theorem ia37_71 : mx_ina 37 71 = some (2, false, 2) := rfl
theorem ia37_72 : mx_ina 37 72 = some (1, false, 2) := rfl
theorem ia37_75 : mx_ina 37 75 = some (1, false, 2) := rfl
theorem ia37_76 : mx_ina 37 76 = some (1, false, 2) := rfl
theorem ia37_79 : mx_ina 37 79 = some (1, false, 2) := rfl
theorem ia37_80 : mx_ina 37 80 = some (2, false, 2) := rfl
theorem ia37_83 : mx_ina 37 83 = some (2, false, 2) := rfl
theorem ia37_84 : mx_ina 37 84 = some (2, false, 2) := rfl
theorem ia37_87 : mx_ina 37 87 = some (2, false, 2) := rfl
theorem ia37_88 : mx_ina 37 88 = some (3, false, 2) := rfl
theorem ia37_91 : mx_ina 37 91 = some (3, false, 2) := rfl
theorem ia37_92 : mx_ina 37 92 = some (3, false, 2) := rfl
theorem ia37_95 : mx_ina 37 95 = some (3, false, 2) := rfl
theorem ia37_96 : mx_ina 37 96 = some (2, false, 2) := rfl
theorem ia37_99 : mx_ina 37 99 = some (2, false, 2) := rfl
theorem ia37_100 : mx_ina 37 100 = some (2, false, 2) := rfl
theorem ia37_103 : mx_ina 37 103 = some (2, false, 2) := rfl
theorem ia37_104 : mx_ina 37 104 = some (3, false, 2) := rfl
theorem ia37_107 : mx_ina 37 107 = some (3, false, 2) := rfl
theorem ia37_108 : mx_ina 37 108 = some (1, false, 2) := rfl
theorem ia37_111 : mx_ina 37 111 = some (1, false, 2) := rfl
theorem ia37_112 : mx_ina 37 112 = some (2, false, 2) := rfl
theorem ia37_115 : mx_ina 37 115 = some (2, false, 2) := rfl
theorem ia37_116 : mx_ina 37 116 = some (1, false, 2) := rfl
theorem ia37_119 : mx_ina 37 119 = some (1, false, 2) := rfl
theorem ia37_120 : mx_ina 37 120 = some (3, false, 2) := rfl
theorem ia37_123 : mx_ina 37 123 = some (3, false, 2) := rfl
theorem ia37_124 : mx_ina 37 124 = some (4, false, 2) := rfl
theorem ia37_127 : mx_ina 37 127 = some (4, false, 2) := rfl
theorem ia37_128 : mx_ina 37 128 = some (1, false, 2) := rfl
theorem ia37_131 : mx_ina 37 131 = some (1, false, 2) := rfl
theorem ia37_132 : mx_ina 37 132 = some (5, false, 2) := rfl
theorem ia37_136 : mx_ina 37 136 = some (5, false, 2) := rfl
theorem ia37_137 : mx_ina 37 137 = some (4, false, 2) := rfl
theorem ia37_140 : mx_ina 37 140 = some (4, false, 2) := rfl
theorem ia37_141 : mx_ina 37 141 = some (4, false, 2) := rfl
theorem ia37_144 : mx_ina 37 144 = some (4, false, 2) := rfl
theorem ia37_145 : mx_ina 37 145 = some (4, false, 2) := rfl
theorem ia37_148 : mx_ina 37 148 = some (4, false, 2) := rfl
theorem ia37_149 : mx_ina 37 149 = some (4, false, 2) := rfl
theorem ia37_152 : mx_ina 37 152 = some (4, false, 2) := rfl
theorem ia37_153 : mx_ina 37 153 = some (3, false, 2) := rfl
theorem ia37_156 : mx_ina 37 156 = some (3, false, 2) := rfl
theorem ia37_157 : mx_ina 37 157 = some (4, false, 2) := rfl
theorem ia37_160 : mx_ina 37 160 = some (4, false, 2) := rfl
theorem ia37_161 : mx_ina 37 161 = some (2, false, 2) := rfl
theorem ia37_164 : mx_ina 37 164 = some (2, false, 2) := rfl
theorem ia37_165 : mx_ina 37 165 = some (2, false, 2) := rfl
theorem ia37_168 : mx_ina 37 168 = some (2, false, 2) := rfl
theorem ia37_169 : mx_ina 37 169 = some (1, false, 2) := rfl
theorem ia37_172 : mx_ina 37 172 = some (1, false, 2) := rfl
theorem ia37_173 : mx_ina 37 173 = some (1, false, 2) := rfl
theorem ia37_176 : mx_ina 37 176 = some (1, false, 2) := rfl
theorem iv0_13_0 : mx_inv 0 13 0 = some (20, 0) := rfl
theorem iv0_21_1 : mx_inv 0 21 1 = some (1, 74) := rfl
theorem iv0_34_2 : mx_inv 0 34 2 = some (2, 81) := rfl
theorem iv0_46_4 : mx_inv 0 46 4 = some (2, 87) := rfl
theorem iv0_46_5 : mx_inv 0 46 5 = some (2, 87) := rfl
theorem iv0_46_6 : mx_inv 0 46 6 = some (2, 87) := rfl
theorem iv0_46_7 : mx_inv 0 46 7 = some (2, 87) := rfl
theorem iv0_46_8 : mx_inv 0 46 8 = some (2, 87) := rfl
theorem iv0_46_9 : mx_inv 0 46 9 = some (2, 87) := rfl
theorem iv0_51_5 : mx_inv 0 51 5 = some (2, 91) := rfl
theorem iv0_51_8 : mx_inv 0 51 8 = some (2, 91) := rfl
theorem iv0_54_6 : mx_inv 0 54 6 = some (2, 95) := rfl
theorem iv0_54_7 : mx_inv 0 54 7 = some (2, 95) := rfl
theorem iv0_57_7 : mx_inv 0 57 7 = some (2, 99) := rfl
theorem iv0_60_8 : mx_inv 0 60 8 = some (2, 103) := rfl
theorem iv0_63_9 : mx_inv 0 63 9 = some (2, 107) := rfl
theorem iv0_74_10 : mx_inv 0 74 10 = some (1, 110) := rfl
theorem iv0_87_13 : mx_inv 0 87 13 = some (2, 132) := rfl
theorem iv0_100_14 : mx_inv 0 100 14 = some (2, 134) := rfl
theorem iv0_107_15 : mx_inv 0 107 15 = some (2, 136) := rfl
theorem iv0_114_16 : mx_inv 0 114 16 = some (2, 138) := rfl
theorem iv0_121_17 : mx_inv 0 121 17 = some (1, 141) := rfl
theorem iv0_128_18 : mx_inv 0 128 18 = some (1, 142) := rfl
theorem iv0_138_19 : mx_inv 0 138 19 = some (2, 143) := rfl
theorem iv0_143_0 : mx_inv 0 143 0 = some (0, 2) := rfl
theorem iv0_147_1 : mx_inv 0 147 1 = some (3, 78) := rfl
theorem iv0_151_2 : mx_inv 0 151 2 = some (3, 83) := rfl
theorem iv0_162_0 : mx_inv 0 162 0 = some (3, 19) := rfl
theorem iv0_169_1 : mx_inv 0 169 1 = some (3, 77) := rfl
theorem iv0_172_4 : mx_inv 0 172 4 = some (4, 88) := rfl
theorem iv0_172_5 : mx_inv 0 172 5 = some (4, 92) := rfl
theorem iv0_172_6 : mx_inv 0 172 6 = some (4, 96) := rfl
theorem iv0_172_7 : mx_inv 0 172 7 = some (4, 100) := rfl
theorem iv0_172_8 : mx_inv 0 172 8 = some (4, 92) := rfl
theorem iv0_172_9 : mx_inv 0 172 9 = some (4, 88) := rfl
theorem iv0_182_4 : mx_inv 0 182 4 = some (4, 89) := rfl
theorem iv0_182_5 : mx_inv 0 182 5 = some (4, 93) := rfl
theorem iv0_182_6 : mx_inv 0 182 6 = some (4, 97) := rfl
theorem iv0_182_7 : mx_inv 0 182 7 = some (4, 101) := rfl
theorem iv0_182_8 : mx_inv 0 182 8 = some (4, 104) := rfl
theorem iv0_182_9 : mx_inv 0 182 9 = some (4, 108) := rfl
theorem iv0_186_0 : mx_inv 0 186 0 = some (21, 0) := rfl
theorem iv0_192_4 : mx_inv 0 192 4 = some (4, 86) := rfl
theorem iv0_192_5 : mx_inv 0 192 5 = some (4, 86) := rfl
theorem iv0_192_6 : mx_inv 0 192 6 = some (4, 86) := rfl
theorem iv0_192_7 : mx_inv 0 192 7 = some (4, 86) := rfl
theorem iv0_192_8 : mx_inv 0 192 8 = some (4, 105) := rfl
theorem iv0_192_9 : mx_inv 0 192 9 = some (4, 86) := rfl
theorem iv0_196_0 : mx_inv 0 196 0 = some (22, 0) := rfl
theorem iv0_202_10 : mx_inv 0 202 10 = some (3, 111) := rfl
theorem iv0_209_1 : mx_inv 0 209 1 = some (3, 75) := rfl
theorem iv0_215_0 : mx_inv 0 215 0 = some (0, 5) := rfl
theorem iv0_223_0 : mx_inv 0 223 0 = some (0, 8) := rfl
theorem iv0_226_0 : mx_inv 0 226 0 = some (0, 10) := rfl
theorem iv0_229_0 : mx_inv 0 229 0 = some (0, 11) := rfl
theorem iv0_235_1 : mx_inv 0 235 1 = some (3, 79) := rfl
theorem iv0_247_0 : mx_inv 0 247 0 = some (3, 14) := rfl
theorem iv0_251_0 : mx_inv 0 251 0 = some (3, 15) := rfl
theorem iv0_256_2 : mx_inv 0 256 2 = some (3, 82) := rfl
theorem iv0_259_0 : mx_inv 0 259 0 = some (0, 17) := rfl
theorem iv0_262_0 : mx_inv 0 262 0 = some (3, 22) := rfl
theorem iv0_266_0 : mx_inv 0 266 0 = some (0, 26) := rfl
theorem iv0_273_22 : mx_inv 0 273 22 = some (4, 242) := rfl
theorem iv0_273_23 : mx_inv 0 273 23 = some (4, 245) := rfl
theorem iv0_273_25 : mx_inv 0 273 25 = some (4, 248) := rfl
theorem iv0_273_26 : mx_inv 0 273 26 = some (4, 250) := rfl
theorem iv0_279_0 : mx_inv 0 279 0 = some (3, 25) := rfl
theorem iv0_282_13 : mx_inv 0 282 13 = some (4, 131) := rfl
theorem iv0_289_2 : mx_inv 0 289 2 = some (3, 84) := rfl
theorem iv0_301_0 : mx_inv 0 301 0 = some (3, 32) := rfl
theorem iv0_314_0 : mx_inv 0 314 0 = some (3, 38) := rfl
theorem iv0_317_27 : mx_inv 0 317 27 = some (2, 251) := rfl
theorem iv0_321_0 : mx_inv 0 321 0 = some (3, 41) := rfl
theorem iv0_327_14 : mx_inv 0 327 14 = some (4, 131) := rfl
theorem iv0_332_15 : mx_inv 0 332 15 = some (4, 131) := rfl
theorem iv0_336_0 : mx_inv 0 336 0 = some (3, 50) := rfl
theorem iv0_339_0 : mx_inv 0 339 0 = some (0, 46) := rfl
theorem iv0_342_16 : mx_inv 0 342 16 = some (3, 139) := rfl
theorem iv0_346_0 : mx_inv 0 346 0 = some (3, 47) := rfl
theorem iv0_350_0 : mx_inv 0 350 0 = some (0, 48) := rfl
theorem iv0_354_0 : mx_inv 0 354 0 = some (3, 49) := rfl
theorem iv0_364_16 : mx_inv 0 364 16 = some (3, 140) := rfl
theorem iv0_369_0 : mx_inv 0 369 0 = some (0, 54) := rfl
theorem iv0_373_0 : mx_inv 0 373 0 = some (3, 53) := rfl
theorem iv0_377_0 : mx_inv 0 377 0 = some (3, 57) := rfl
theorem iv0_381_0 : mx_inv 0 381 0 = some (3, 58) := rfl
theorem iv0_385_0 : mx_inv 0 385 0 = some (3, 59) := rfl
theorem iv0_389_0 : mx_inv 0 389 0 = some (3, 60) := rfl
theorem iv0_393_0 : mx_inv 0 393 0 = some (3, 56) := rfl
theorem iv0_406_4 : mx_inv 0 406 4 = some (4, 90) := rfl
theorem iv0_406_5 : mx_inv 0 406 5 = some (4, 94) := rfl
theorem iv0_406_6 : mx_inv 0 406 6 = some (4, 98) := rfl
theorem iv0_406_7 : mx_inv 0 406 7 = some (4, 102) := rfl
theorem iv0_406_8 : mx_inv 0 406 8 = some (4, 106) := rfl
theorem iv0_406_9 : mx_inv 0 406 9 = some (4, 109) := rfl
theorem iv0_413_0 : mx_inv 0 413 0 = some (0, 62) := rfl
theorem iv0_418_28 : mx_inv 0 418 28 = some (3, 253) := rfl
theorem iv0_418_29 : mx_inv 0 418 29 = some (4, 253) := rfl
theorem iv0_418_30 : mx_inv 0 418 30 = some (4, 253) := rfl
theorem iv0_418_31 : mx_inv 0 418 31 = some (4, 253) := rfl
theorem iv0_418_32 : mx_inv 0 418 32 = some (4, 253) := rfl
theorem iv0_418_33 : mx_inv 0 418 33 = some (4, 253) := rfl
theorem iv0_423_31 : mx_inv 0 423 31 = some (4, 253) := rfl
theorem iv0_423_33 : mx_inv 0 423 33 = some (4, 253) := rfl
theorem iv0_426_29 : mx_inv 0 426 29 = some (4, 253) := rfl
theorem iv0_426_30 : mx_inv 0 426 30 = some (4, 253) := rfl
theorem iv0_429_30 : mx_inv 0 429 30 = some (4, 253) := rfl
theorem iv0_432_33 : mx_inv 0 432 33 = some (4, 253) := rfl
theorem iv0_435_32 : mx_inv 0 435 32 = some (4, 253) := rfl
theorem iv0_436_0 : mx_inv 0 436 0 = some (0, 66) := rfl
theorem iv0_440_0 : mx_inv 0 440 0 = some (3, 64) := rfl
theorem iv0_444_0 : mx_inv 0 444 0 = some (0, 65) := rfl
theorem iv0_447_28 : mx_inv 0 447 28 = some (11, 254) := rfl
theorem iv0_447_29 : mx_inv 0 447 29 = some (11, 259) := rfl
theorem iv0_447_30 : mx_inv 0 447 30 = some (11, 262) := rfl
theorem iv0_447_31 : mx_inv 0 447 31 = some (11, 254) := rfl
theorem iv0_447_32 : mx_inv 0 447 32 = some (11, 254) := rfl
theorem iv0_447_33 : mx_inv 0 447 33 = some (11, 270) := rfl
theorem iv0_452_28 : mx_inv 0 452 28 = some (11, 255) := rfl
theorem iv0_452_29 : mx_inv 0 452 29 = some (11, 255) := rfl
theorem iv0_452_30 : mx_inv 0 452 30 = some (11, 263) := rfl
theorem iv0_452_31 : mx_inv 0 452 31 = some (11, 265) := rfl
theorem iv0_452_32 : mx_inv 0 452 32 = some (11, 255) := rfl
theorem iv0_452_33 : mx_inv 0 452 33 = some (11, 265) := rfl
theorem iv0_455_28 : mx_inv 0 455 28 = some (11, 256) := rfl
theorem iv0_455_29 : mx_inv 0 455 29 = some (11, 256) := rfl
theorem iv0_455_30 : mx_inv 0 455 30 = some (11, 256) := rfl
theorem iv0_455_31 : mx_inv 0 455 31 = some (11, 256) := rfl
theorem iv0_455_32 : mx_inv 0 455 32 = some (11, 267) := rfl
theorem iv0_455_33 : mx_inv 0 455 33 = some (11, 271) := rfl
theorem iv0_458_28 : mx_inv 0 458 28 = some (8, 257) := rfl
theorem iv0_458_29 : mx_inv 0 458 29 = some (8, 260) := rfl
theorem iv0_458_30 : mx_inv 0 458 30 = some (8, 260) := rfl
theorem iv0_458_31 : mx_inv 0 458 31 = some (8, 257) := rfl
theorem iv0_458_32 : mx_inv 0 458 32 = some (8, 268) := rfl
theorem iv0_458_33 : mx_inv 0 458 33 = some (8, 257) := rfl
theorem iv0_461_0 : mx_inv 0 461 0 = some (0, 68) := rfl
theorem iv0_467_1 : mx_inv 0 467 1 = some (3, 80) := rfl
theorem iv1_3_0 : mx_inv 1 3 0 = some (20, 0) := rfl
theorem iv1_42_2 : mx_inv 1 42 2 = some (2, 81) := rfl
theorem iv1_47_0 : mx_inv 1 47 0 = some (23, 0) := rfl
theorem iv1_56_0 : mx_inv 1 56 0 = some (0, 76) := rfl
theorem iv1_63_1 : mx_inv 1 63 1 = some (3, 75) := rfl
theorem iv1_67_2 : mx_inv 1 67 2 = some (3, 84) := rfl
theorem iv1_71_1 : mx_inv 1 71 1 = some (3, 77) := rfl
theorem iv2_3_0 : mx_inv 2 3 0 = some (20, 0) := rfl
theorem iv3_7_0 : mx_inv 3 7 0 = some (20, 0) := rfl
theorem iv4_9_4 : mx_inv 4 9 4 = some (2, 85) := rfl
theorem iv4_9_5 : mx_inv 4 9 5 = some (2, 85) := rfl
theorem iv4_9_6 : mx_inv 4 9 6 = some (2, 85) := rfl
theorem iv4_9_7 : mx_inv 4 9 7 = some (2, 85) := rfl
theorem iv4_9_8 : mx_inv 4 9 8 = some (2, 85) := rfl
theorem iv4_9_9 : mx_inv 4 9 9 = some (2, 85) := rfl
theorem iv4_15_2 : mx_inv 4 15 2 = some (3, 82) := rfl
theorem iv4_25_1 : mx_inv 4 25 1 = some (3, 79) := rfl
theorem iv4_33_28 : mx_inv 4 33 28 = some (1, 252) := rfl
theorem iv4_33_29 : mx_inv 4 33 29 = some (1, 252) := rfl
theorem iv4_33_30 : mx_inv 4 33 30 = some (1, 252) := rfl
theorem iv4_33_31 : mx_inv 4 33 31 = some (1, 252) := rfl
theorem iv4_33_32 : mx_inv 4 33 32 = some (1, 252) := rfl
theorem iv4_33_33 : mx_inv 4 33 33 = some (1, 252) := rfl
theorem iv5_7_4 : mx_inv 5 7 4 = some (2, 87) := rfl
theorem iv5_7_5 : mx_inv 5 7 5 = some (2, 87) := rfl
theorem iv5_7_6 : mx_inv 5 7 6 = some (2, 87) := rfl
theorem iv5_7_7 : mx_inv 5 7 7 = some (2, 87) := rfl
theorem iv5_7_8 : mx_inv 5 7 8 = some (2, 87) := rfl
theorem iv5_7_9 : mx_inv 5 7 9 = some (2, 87) := rfl
theorem iv5_13_5 : mx_inv 5 13 5 = some (7, 88) := rfl
theorem iv5_13_8 : mx_inv 5 13 8 = some (7, 88) := rfl
theorem iv5_17_5 : mx_inv 5 17 5 = some (7, 89) := rfl
theorem iv5_17_8 : mx_inv 5 17 8 = some (7, 89) := rfl
theorem iv5_23_31 : mx_inv 5 23 31 = some (1, 264) := rfl
theorem iv5_23_33 : mx_inv 5 23 33 = some (1, 264) := rfl
theorem iv6_7_4 : mx_inv 6 7 4 = some (2, 87) := rfl
theorem iv6_7_5 : mx_inv 6 7 5 = some (2, 87) := rfl
theorem iv6_7_6 : mx_inv 6 7 6 = some (2, 87) := rfl
theorem iv6_7_7 : mx_inv 6 7 7 = some (2, 87) := rfl
theorem iv6_7_8 : mx_inv 6 7 8 = some (2, 87) := rfl
theorem iv6_7_9 : mx_inv 6 7 9 = some (2, 87) := rfl
theorem iv6_13_6 : mx_inv 6 13 6 = some (7, 88) := rfl
theorem iv6_13_7 : mx_inv 6 13 7 = some (7, 88) := rfl
theorem iv6_17_6 : mx_inv 6 17 6 = some (7, 89) := rfl
theorem iv6_17_7 : mx_inv 6 17 7 = some (7, 89) := rfl
theorem iv6_23_29 : mx_inv 6 23 29 = some (1, 258) := rfl
theorem iv6_23_30 : mx_inv 6 23 30 = some (1, 258) := rfl
theorem iv7_7_6 : mx_inv 7 7 6 = some (2, 95) := rfl
theorem iv7_7_7 : mx_inv 7 7 7 = some (2, 95) := rfl
theorem iv7_13_7 : mx_inv 7 13 7 = some (7, 96) := rfl
theorem iv7_17_7 : mx_inv 7 17 7 = some (7, 97) := rfl
theorem iv7_23_30 : mx_inv 7 23 30 = some (1, 261) := rfl
theorem iv8_7_5 : mx_inv 8 7 5 = some (2, 91) := rfl
theorem iv8_7_8 : mx_inv 8 7 8 = some (2, 91) := rfl
theorem iv8_13_8 : mx_inv 8 13 8 = some (7, 93) := rfl
theorem iv8_17_8 : mx_inv 8 17 8 = some (9, 86) := rfl
theorem iv8_23_33 : mx_inv 8 23 33 = some (1, 269) := rfl
theorem iv9_7_4 : mx_inv 9 7 4 = some (2, 87) := rfl
theorem iv9_7_5 : mx_inv 9 7 5 = some (2, 87) := rfl
theorem iv9_7_6 : mx_inv 9 7 6 = some (2, 87) := rfl
theorem iv9_7_7 : mx_inv 9 7 7 = some (2, 87) := rfl
theorem iv9_7_8 : mx_inv 9 7 8 = some (2, 87) := rfl
theorem iv9_7_9 : mx_inv 9 7 9 = some (2, 87) := rfl
theorem iv9_13_9 : mx_inv 9 13 9 = some (7, 89) := rfl
theorem iv9_19_32 : mx_inv 9 19 32 = some (1, 266) := rfl
theorem iv10_3_0 : mx_inv 10 3 0 = some (20, 0) := rfl
theorem iv10_42_11 : mx_inv 10 42 11 = some (1, 128) := rfl
theorem iv10_65_10 : mx_inv 10 65 10 = some (3, 114) := rfl
theorem iv10_69_0 : mx_inv 10 69 0 = some (0, 115) := rfl
theorem iv10_73_0 : mx_inv 10 73 0 = some (0, 116) := rfl
theorem iv10_76_11 : mx_inv 10 76 11 = some (3, 129) := rfl
theorem iv10_80_0 : mx_inv 10 80 0 = some (24, 0) := rfl
theorem iv10_83_0 : mx_inv 10 83 0 = some (25, 0) := rfl
theorem iv10_87_10 : mx_inv 10 87 10 = some (3, 118) := rfl
theorem iv10_91_10 : mx_inv 10 91 10 = some (3, 113) := rfl
theorem iv10_94_10 : mx_inv 10 94 10 = some (3, 119) := rfl
theorem iv10_98_0 : mx_inv 10 98 0 = some (6, 2) := rfl
theorem iv10_102_10 : mx_inv 10 102 10 = some (3, 127) := rfl
theorem iv10_106_10 : mx_inv 10 106 10 = some (3, 126) := rfl
theorem iv10_111_10 : mx_inv 10 111 10 = some (3, 124) := rfl
theorem iv10_119_10 : mx_inv 10 119 10 = some (3, 121) := rfl
theorem iv10_125_10 : mx_inv 10 125 10 = some (3, 120) := rfl
theorem iv10_129_10 : mx_inv 10 129 10 = some (3, 125) := rfl
theorem iv10_134_22 : mx_inv 10 134 22 = some (1, 241) := rfl
theorem iv10_139_23 : mx_inv 10 139 23 = some (1, 244) := rfl
theorem iv10_142_10 : mx_inv 10 142 10 = some (3, 123) := rfl
theorem iv10_149_25 : mx_inv 10 149 25 = some (1, 247) := rfl
theorem iv10_152_10 : mx_inv 10 152 10 = some (3, 122) := rfl
theorem iv10_159_26 : mx_inv 10 159 26 = some (1, 249) := rfl
theorem iv10_178_10 : mx_inv 10 178 10 = some (3, 112) := rfl
theorem iv10_182_10 : mx_inv 10 182 10 = some (3, 117) := rfl
theorem iv11_1_0 : mx_inv 11 1 0 = some (26, 0) := rfl
theorem iv12_9_0 : mx_inv 12 9 0 = some (20, 0) := rfl
theorem iv12_15_2 : mx_inv 12 15 2 = some (3, 82) := rfl
theorem iv12_28_2 : mx_inv 12 28 2 = some (3, 83) := rfl
theorem iv12_32_0 : mx_inv 12 32 0 = some (5, 25) := rfl
theorem iv12_49_1 : mx_inv 12 49 1 = some (3, 78) := rfl
theorem iv12_53_0 : mx_inv 12 53 0 = some (5, 22) := rfl
theorem iv12_57_13 : mx_inv 12 57 13 = some (4, 133) := rfl
theorem iv12_57_14 : mx_inv 12 57 14 = some (4, 135) := rfl
theorem iv12_57_15 : mx_inv 12 57 15 = some (4, 137) := rfl
theorem iv13_7_13 : mx_inv 13 7 13 = some (2, 130) := rfl
theorem iv13_7_14 : mx_inv 13 7 14 = some (2, 130) := rfl
theorem iv13_7_15 : mx_inv 13 7 15 = some (2, 130) := rfl
theorem iv14_7_13 : mx_inv 14 7 13 = some (2, 130) := rfl
theorem iv14_7_14 : mx_inv 14 7 14 = some (2, 130) := rfl
theorem iv14_7_15 : mx_inv 14 7 15 = some (2, 130) := rfl
theorem iv14_17_0 : mx_inv 14 17 0 = some (5, 28) := rfl
theorem iv14_34_2 : mx_inv 14 34 2 = some (3, 82) := rfl
theorem iv15_9_13 : mx_inv 15 9 13 = some (2, 130) := rfl
theorem iv15_9_14 : mx_inv 15 9 14 = some (2, 130) := rfl
theorem iv15_9_15 : mx_inv 15 9 15 = some (2, 130) := rfl
theorem iv15_37_2 : mx_inv 15 37 2 = some (3, 82) := rfl
theorem iv16_1_0 : mx_inv 16 1 0 = some (20, 0) := rfl
theorem iv17_1_0 : mx_inv 17 1 0 = some (26, 0) := rfl
theorem iv18_1_0 : mx_inv 18 1 0 = some (26, 0) := rfl
theorem iv19_1_0 : mx_inv 19 1 0 = some (20, 0) := rfl
theorem iv20_1_0 : mx_inv 20 1 0 = some (20, 0) := rfl
theorem iv20_100_0 : mx_inv 20 100 0 = some (0, 146) := rfl
theorem iv20_118_20 : mx_inv 20 118 20 = some (3, 149) := rfl
theorem iv20_122_0 : mx_inv 20 122 0 = some (0, 150) := rfl
theorem iv20_126_0 : mx_inv 20 126 0 = some (0, 151) := rfl
theorem iv20_147_20 : mx_inv 20 147 20 = some (3, 154) := rfl
theorem iv20_167_20 : mx_inv 20 167 20 = some (3, 163) := rfl
theorem iv20_170_20 : mx_inv 20 170 20 = some (3, 161) := rfl
theorem iv20_174_20 : mx_inv 20 174 20 = some (3, 160) := rfl
theorem iv20_182_20 : mx_inv 20 182 20 = some (3, 148) := rfl
theorem iv20_185_20 : mx_inv 20 185 20 = some (3, 159) := rfl
theorem iv20_188_20 : mx_inv 20 188 20 = some (3, 157) := rfl
theorem iv20_192_20 : mx_inv 20 192 20 = some (3, 162) := rfl
theorem iv20_198_20 : mx_inv 20 198 20 = some (3, 156) := rfl
theorem iv20_202_20 : mx_inv 20 202 20 = some (3, 158) := rfl
theorem iv20_217_20 : mx_inv 20 217 20 = some (3, 153) := rfl
theorem iv20_228_20 : mx_inv 20 228 20 = some (3, 155) := rfl
theorem iv20_232_20 : mx_inv 20 232 20 = some (3, 152) := rfl
theorem iv20_238_0 : mx_inv 20 238 0 = some (0, 165) := rfl
theorem iv20_242_20 : mx_inv 20 242 20 = some (3, 169) := rfl
theorem iv20_246_0 : mx_inv 20 246 0 = some (0, 168) := rfl
theorem iv20_249_20 : mx_inv 20 249 20 = some (3, 170) := rfl
theorem iv20_252_20 : mx_inv 20 252 20 = some (3, 173) := rfl
theorem iv20_255_20 : mx_inv 20 255 20 = some (3, 177) := rfl
theorem iv20_260_20 : mx_inv 20 260 20 = some (3, 176) := rfl
theorem iv20_263_20 : mx_inv 20 263 20 = some (3, 178) := rfl
theorem iv20_267_0 : mx_inv 20 267 0 = some (0, 179) := rfl
theorem iv20_270_20 : mx_inv 20 270 20 = some (3, 181) := rfl
theorem iv20_273_20 : mx_inv 20 273 20 = some (3, 183) := rfl
theorem iv20_276_20 : mx_inv 20 276 20 = some (3, 185) := rfl
theorem iv20_279_0 : mx_inv 20 279 0 = some (0, 189) := rfl
theorem iv20_282_20 : mx_inv 20 282 20 = some (3, 190) := rfl
theorem iv20_286_20 : mx_inv 20 286 20 = some (3, 188) := rfl
theorem iv20_292_20 : mx_inv 20 292 20 = some (3, 192) := rfl
theorem iv20_295_20 : mx_inv 20 295 20 = some (3, 194) := rfl
theorem iv20_299_20 : mx_inv 20 299 20 = some (3, 198) := rfl
theorem iv20_311_20 : mx_inv 20 311 20 = some (3, 197) := rfl
theorem iv20_318_20 : mx_inv 20 318 20 = some (3, 204) := rfl
theorem iv20_321_20 : mx_inv 20 321 20 = some (3, 207) := rfl
theorem iv20_327_20 : mx_inv 20 327 20 = some (3, 209) := rfl
theorem iv20_331_0 : mx_inv 20 331 0 = some (0, 213) := rfl
theorem iv20_334_20 : mx_inv 20 334 20 = some (3, 214) := rfl
theorem iv20_341_20 : mx_inv 20 341 20 = some (3, 219) := rfl
theorem iv20_344_20 : mx_inv 20 344 20 = some (3, 221) := rfl
theorem iv20_347_0 : mx_inv 20 347 0 = some (0, 222) := rfl
theorem iv20_353_20 : mx_inv 20 353 20 = some (3, 226) := rfl
theorem iv20_359_20 : mx_inv 20 359 20 = some (3, 227) := rfl
theorem iv20_365_20 : mx_inv 20 365 20 = some (3, 225) := rfl
theorem iv20_368_20 : mx_inv 20 368 20 = some (3, 224) := rfl
theorem iv20_371_20 : mx_inv 20 371 20 = some (3, 229) := rfl
theorem iv20_380_20 : mx_inv 20 380 20 = some (3, 231) := rfl
theorem iv20_383_20 : mx_inv 20 383 20 = some (3, 228) := rfl
theorem iv20_386_20 : mx_inv 20 386 20 = some (3, 233) := rfl
theorem iv20_389_20 : mx_inv 20 389 20 = some (3, 230) := rfl
theorem iv20_392_20 : mx_inv 20 392 20 = some (3, 232) := rfl
theorem iv20_398_20 : mx_inv 20 398 20 = some (3, 238) := rfl
theorem iv20_402_20 : mx_inv 20 402 20 = some (3, 237) := rfl
theorem iv21_1_0 : mx_inv 21 1 0 = some (20, 0) := rfl
theorem iv22_1_22 : mx_inv 22 1 22 = some (2, 240) := rfl
theorem iv22_1_23 : mx_inv 22 1 23 = some (2, 240) := rfl
theorem iv22_1_25 : mx_inv 22 1 25 = some (2, 240) := rfl
theorem iv22_1_26 : mx_inv 22 1 26 = some (2, 240) := rfl
theorem iv22_19_0 : mx_inv 22 19 0 = some (0, 243) := rfl
theorem iv23_1_22 : mx_inv 23 1 22 = some (2, 240) := rfl
theorem iv23_1_23 : mx_inv 23 1 23 = some (2, 240) := rfl
theorem iv23_1_25 : mx_inv 23 1 25 = some (2, 240) := rfl
theorem iv23_1_26 : mx_inv 23 1 26 = some (2, 240) := rfl
theorem iv23_13_22 : mx_inv 23 13 22 = some (4, 242) := rfl
theorem iv23_13_23 : mx_inv 23 13 23 = some (4, 245) := rfl
theorem iv23_13_25 : mx_inv 23 13 25 = some (4, 248) := rfl
theorem iv23_13_26 : mx_inv 23 13 26 = some (4, 250) := rfl
theorem iv24_1_22 : mx_inv 24 1 22 = some (2, 240) := rfl
theorem iv24_1_23 : mx_inv 24 1 23 = some (2, 240) := rfl
theorem iv24_1_25 : mx_inv 24 1 25 = some (2, 240) := rfl
theorem iv24_1_26 : mx_inv 24 1 26 = some (2, 240) := rfl
theorem iv25_1_25 : mx_inv 25 1 25 = some (1, 246) := rfl
theorem iv25_1_26 : mx_inv 25 1 26 = some (1, 246) := rfl
theorem iv25_13_22 : mx_inv 25 13 22 = some (4, 242) := rfl
theorem iv25_13_23 : mx_inv 25 13 23 = some (4, 245) := rfl
theorem iv25_13_25 : mx_inv 25 13 25 = some (4, 248) := rfl
theorem iv25_13_26 : mx_inv 25 13 26 = some (4, 250) := rfl
theorem iv26_1_25 : mx_inv 26 1 25 = some (1, 246) := rfl
theorem iv26_1_26 : mx_inv 26 1 26 = some (1, 246) := rfl
theorem iv26_13_22 : mx_inv 26 13 22 = some (4, 242) := rfl
theorem iv26_13_23 : mx_inv 26 13 23 = some (4, 245) := rfl
theorem iv26_13_25 : mx_inv 26 13 25 = some (4, 248) := rfl
theorem iv26_13_26 : mx_inv 26 13 26 = some (4, 250) := rfl
theorem iv27_1_0 : mx_inv 27 1 0 = some (20, 0) := rfl
theorem iv28_7_0 : mx_inv 28 7 0 = some (20, 0) := rfl
theorem iv28_20_0 : mx_inv 28 20 0 = some (5, 69) := rfl
theorem iv28_26_28 : mx_inv 28 26 28 = some (10, 272) := rfl
theorem iv28_26_29 : mx_inv 28 26 29 = some (10, 272) := rfl
theorem iv28_26_30 : mx_inv 28 26 30 = some (10, 272) := rfl
theorem iv28_26_31 : mx_inv 28 26 31 = some (10, 272) := rfl
theorem iv28_26_32 : mx_inv 28 26 32 = some (10, 272) := rfl
theorem iv28_26_33 : mx_inv 28 26 33 = some (10, 272) := rfl
theorem iv28_32_28 : mx_inv 28 32 28 = some (3, 255) := rfl
theorem iv28_32_29 : mx_inv 28 32 29 = some (4, 255) := rfl
theorem iv28_32_30 : mx_inv 28 32 30 = some (4, 263) := rfl
theorem iv28_32_31 : mx_inv 28 32 31 = some (4, 265) := rfl
theorem iv28_32_32 : mx_inv 28 32 32 = some (4, 255) := rfl
theorem iv28_32_33 : mx_inv 28 32 33 = some (4, 265) := rfl
theorem iv29_7_28 : mx_inv 29 7 28 = some (1, 252) := rfl
theorem iv29_7_29 : mx_inv 29 7 29 = some (1, 252) := rfl
theorem iv29_7_30 : mx_inv 29 7 30 = some (1, 252) := rfl
theorem iv29_7_31 : mx_inv 29 7 31 = some (1, 252) := rfl
theorem iv29_7_32 : mx_inv 29 7 32 = some (1, 252) := rfl
theorem iv29_7_33 : mx_inv 29 7 33 = some (1, 252) := rfl
theorem iv29_13_0 : mx_inv 29 13 0 = some (5, 69) := rfl
theorem iv29_19_29 : mx_inv 29 19 29 = some (7, 254) := rfl
theorem iv29_19_30 : mx_inv 29 19 30 = some (7, 254) := rfl
theorem iv29_23_29 : mx_inv 29 23 29 = some (7, 257) := rfl
theorem iv29_23_30 : mx_inv 29 23 30 = some (7, 257) := rfl
theorem iv29_30_29 : mx_inv 29 30 29 = some (4, 256) := rfl
theorem iv29_30_30 : mx_inv 29 30 30 = some (4, 256) := rfl
theorem iv30_7_29 : mx_inv 30 7 29 = some (1, 258) := rfl
theorem iv30_7_30 : mx_inv 30 7 30 = some (1, 258) := rfl
theorem iv30_13_0 : mx_inv 30 13 0 = some (5, 69) := rfl
theorem iv30_19_30 : mx_inv 30 19 30 = some (7, 259) := rfl
theorem iv30_23_30 : mx_inv 30 23 30 = some (9, 255) := rfl
theorem iv30_30_30 : mx_inv 30 30 30 = some (3, 262) := rfl
theorem iv31_7_28 : mx_inv 31 7 28 = some (1, 252) := rfl
theorem iv31_7_29 : mx_inv 31 7 29 = some (1, 252) := rfl
theorem iv31_7_30 : mx_inv 31 7 30 = some (1, 252) := rfl
theorem iv31_7_31 : mx_inv 31 7 31 = some (1, 252) := rfl
theorem iv31_7_32 : mx_inv 31 7 32 = some (1, 252) := rfl
theorem iv31_7_33 : mx_inv 31 7 33 = some (1, 252) := rfl
theorem iv31_13_0 : mx_inv 31 13 0 = some (5, 69) := rfl
theorem iv31_19_31 : mx_inv 31 19 31 = some (7, 255) := rfl
theorem iv31_19_33 : mx_inv 31 19 33 = some (7, 255) := rfl
theorem iv32_7_28 : mx_inv 32 7 28 = some (1, 252) := rfl
theorem iv32_7_29 : mx_inv 32 7 29 = some (1, 252) := rfl
theorem iv32_7_30 : mx_inv 32 7 30 = some (1, 252) := rfl
theorem iv32_7_31 : mx_inv 32 7 31 = some (1, 252) := rfl
theorem iv32_7_32 : mx_inv 32 7 32 = some (1, 252) := rfl
theorem iv32_7_33 : mx_inv 32 7 33 = some (1, 252) := rfl
theorem iv32_13_0 : mx_inv 32 13 0 = some (5, 69) := rfl
theorem iv32_19_32 : mx_inv 32 19 32 = some (7, 257) := rfl
theorem iv32_23_32 : mx_inv 32 23 32 = some (7, 256) := rfl
theorem iv32_30_32 : mx_inv 32 30 32 = some (4, 254) := rfl
theorem iv33_7_31 : mx_inv 33 7 31 = some (1, 264) := rfl
theorem iv33_7_33 : mx_inv 33 7 33 = some (1, 264) := rfl
theorem iv33_13_0 : mx_inv 33 13 0 = some (5, 69) := rfl
theorem iv33_19_33 : mx_inv 33 19 33 = some (9, 256) := rfl
theorem iv33_23_33 : mx_inv 33 23 33 = some (9, 254) := rfl
theorem iv34_1_28 : mx_inv 34 1 28 = some (8, 254) := rfl
theorem iv34_1_29 : mx_inv 34 1 29 = some (8, 259) := rfl
theorem iv34_1_30 : mx_inv 34 1 30 = some (8, 262) := rfl
theorem iv34_1_31 : mx_inv 34 1 31 = some (8, 254) := rfl
theorem iv34_1_32 : mx_inv 34 1 32 = some (8, 254) := rfl
theorem iv34_1_33 : mx_inv 34 1 33 = some (8, 270) := rfl
theorem iv37_9_0 : mx_inv 37 9 0 = some (1, 0) := rfl
theorem iv37_12_20 : mx_inv 37 12 20 = some (1, 144) := rfl
theorem iv37_15_0 : mx_inv 37 15 0 = some (3, 1) := rfl
theorem iv37_19_20 : mx_inv 37 19 20 = some (3, 145) := rfl
theorem iv37_20_0 : mx_inv 37 20 0 = some (3, 3) := rfl
theorem iv37_24_20 : mx_inv 37 24 20 = some (3, 147) := rfl
theorem iv37_25_0 : mx_inv 37 25 0 = some (3, 4) := rfl
theorem iv37_29_20 : mx_inv 37 29 20 = some (3, 164) := rfl
theorem iv37_30_0 : mx_inv 37 30 0 = some (3, 6) := rfl
theorem iv37_33_20 : mx_inv 37 33 20 = some (3, 166) := rfl
theorem iv37_34_0 : mx_inv 37 34 0 = some (3, 7) := rfl
theorem iv37_38_20 : mx_inv 37 38 20 = some (3, 167) := rfl
theorem iv37_39_0 : mx_inv 37 39 0 = some (3, 9) := rfl
theorem iv37_42_20 : mx_inv 37 42 20 = some (3, 171) := rfl
theorem iv37_43_0 : mx_inv 37 43 0 = some (3, 12) := rfl
theorem iv37_47_20 : mx_inv 37 47 20 = some (3, 172) := rfl
theorem iv37_48_0 : mx_inv 37 48 0 = some (3, 13) := rfl
theorem iv37_51_20 : mx_inv 37 51 20 = some (3, 174) := rfl
theorem iv37_52_0 : mx_inv 37 52 0 = some (3, 16) := rfl
theorem iv37_55_20 : mx_inv 37 55 20 = some (3, 175) := rfl
theorem iv37_56_0 : mx_inv 37 56 0 = some (3, 18) := rfl
theorem iv37_59_20 : mx_inv 37 59 20 = some (3, 180) := rfl
theorem iv37_60_0 : mx_inv 37 60 0 = some (3, 20) := rfl
theorem iv37_63_20 : mx_inv 37 63 20 = some (3, 182) := rfl
theorem iv37_64_0 : mx_inv 37 64 0 = some (3, 21) := rfl
theorem iv37_67_20 : mx_inv 37 67 20 = some (3, 184) := rfl
theorem iv37_68_0 : mx_inv 37 68 0 = some (3, 23) := rfl
theorem iv37_71_20 : mx_inv 37 71 20 = some (3, 186) := rfl
theorem iv37_72_0 : mx_inv 37 72 0 = some (3, 24) := rfl
theorem iv37_75_20 : mx_inv 37 75 20 = some (3, 187) := rfl
theorem iv37_76_0 : mx_inv 37 76 0 = some (3, 27) := rfl
theorem iv37_79_20 : mx_inv 37 79 20 = some (3, 191) := rfl
theorem iv37_80_0 : mx_inv 37 80 0 = some (3, 29) := rfl
theorem iv37_83_20 : mx_inv 37 83 20 = some (3, 193) := rfl
theorem iv37_84_0 : mx_inv 37 84 0 = some (3, 30) := rfl
theorem iv37_87_20 : mx_inv 37 87 20 = some (3, 195) := rfl
theorem iv37_88_0 : mx_inv 37 88 0 = some (3, 31) := rfl
theorem iv37_91_20 : mx_inv 37 91 20 = some (3, 196) := rfl
theorem iv37_92_0 : mx_inv 37 92 0 = some (3, 33) := rfl
theorem iv37_95_20 : mx_inv 37 95 20 = some (3, 199) := rfl
theorem iv37_96_0 : mx_inv 37 96 0 = some (3, 34) := rfl
theorem iv37_99_20 : mx_inv 37 99 20 = some (3, 200) := rfl
theorem iv37_100_0 : mx_inv 37 100 0 = some (3, 35) := rfl
theorem iv37_103_20 : mx_inv 37 103 20 = some (3, 201) := rfl
theorem iv37_104_0 : mx_inv 37 104 0 = some (3, 36) := rfl
theorem iv37_107_20 : mx_inv 37 107 20 = some (3, 202) := rfl
theorem iv37_108_0 : mx_inv 37 108 0 = some (3, 37) := rfl
theorem iv37_111_20 : mx_inv 37 111 20 = some (3, 203) := rfl
theorem iv37_112_0 : mx_inv 37 112 0 = some (3, 39) := rfl
theorem iv37_115_20 : mx_inv 37 115 20 = some (3, 205) := rfl
theorem iv37_116_0 : mx_inv 37 116 0 = some (3, 43) := rfl
theorem iv37_119_20 : mx_inv 37 119 20 = some (3, 206) := rfl
theorem iv37_120_0 : mx_inv 37 120 0 = some (3, 40) := rfl
theorem iv37_123_20 : mx_inv 37 123 20 = some (3, 208) := rfl
theorem iv37_124_0 : mx_inv 37 124 0 = some (3, 42) := rfl
theorem iv37_127_20 : mx_inv 37 127 20 = some (3, 210) := rfl
theorem iv37_128_0 : mx_inv 37 128 0 = some (3, 44) := rfl
theorem iv37_131_20 : mx_inv 37 131 20 = some (3, 211) := rfl
theorem iv37_132_0 : mx_inv 37 132 0 = some (3, 45) := rfl
theorem iv37_136_20 : mx_inv 37 136 20 = some (3, 212) := rfl
theorem iv37_137_0 : mx_inv 37 137 0 = some (3, 51) := rfl
theorem iv37_140_20 : mx_inv 37 140 20 = some (3, 215) := rfl
theorem iv37_141_0 : mx_inv 37 141 0 = some (3, 52) := rfl
theorem iv37_144_20 : mx_inv 37 144 20 = some (3, 216) := rfl
theorem iv37_145_0 : mx_inv 37 145 0 = some (3, 55) := rfl
theorem iv37_148_20 : mx_inv 37 148 20 = some (3, 217) := rfl
theorem iv37_149_0 : mx_inv 37 149 0 = some (3, 61) := rfl
theorem iv37_152_20 : mx_inv 37 152 20 = some (3, 218) := rfl
theorem iv37_153_0 : mx_inv 37 153 0 = some (3, 63) := rfl
theorem iv37_156_20 : mx_inv 37 156 20 = some (3, 220) := rfl
theorem iv37_157_0 : mx_inv 37 157 0 = some (3, 67) := rfl
theorem iv37_160_20 : mx_inv 37 160 20 = some (3, 223) := rfl
theorem iv37_161_0 : mx_inv 37 161 0 = some (3, 70) := rfl
theorem iv37_164_20 : mx_inv 37 164 20 = some (3, 234) := rfl
theorem iv37_165_0 : mx_inv 37 165 0 = some (3, 71) := rfl
theorem iv37_168_20 : mx_inv 37 168 20 = some (3, 235) := rfl
theorem iv37_169_0 : mx_inv 37 169 0 = some (3, 72) := rfl
theorem iv37_172_20 : mx_inv 37 172 20 = some (3, 236) := rfl
theorem iv37_173_0 : mx_inv 37 173 0 = some (3, 73) := rfl
theorem iv37_176_20 : mx_inv 37 176 20 = some (3, 239) := rfl
theorem fl0_22_0 : mx_fld 0 22 0 = some 0 := rfl
theorem fl0_26_0 : mx_fld 0 26 0 = some 1 := rfl
theorem fl0_29_0 : mx_fld 0 29 0 = some 2 := rfl
theorem fl0_35_0 : mx_fld 0 35 0 = some 3 := rfl
theorem fl0_39_0 : mx_fld 0 39 0 = some 4 := rfl
theorem fl0_64_0 : mx_fld 0 64 0 = some 6 := rfl
theorem fl0_68_0 : mx_fld 0 68 0 = some 7 := rfl
theorem fl0_77_0 : mx_fld 0 77 0 = some 9 := rfl
theorem fl0_81_0 : mx_fld 0 81 0 = some 10 := rfl
theorem fl0_88_0 : mx_fld 0 88 0 = some 11 := rfl
theorem fl0_94_0 : mx_fld 0 94 0 = some 15 := rfl
theorem fl0_101_0 : mx_fld 0 101 0 = some 17 := rfl
theorem fl0_108_0 : mx_fld 0 108 0 = some 18 := rfl
theorem fl0_115_0 : mx_fld 0 115 0 = some 19 := rfl
theorem fl0_122_0 : mx_fld 0 122 0 = some 20 := rfl
theorem fl0_129_0 : mx_fld 0 129 0 = some 21 := rfl
theorem fl0_133_0 : mx_fld 0 133 0 = some 22 := rfl
theorem fl0_139_0 : mx_fld 0 139 0 = some 24 := rfl
theorem fl0_155_2 : mx_fld 0 155 2 = some 6 := rfl
theorem fl0_159_2 : mx_fld 0 159 2 = some 5 := rfl
theorem fl0_166_2 : mx_fld 0 166 2 = some 1 := rfl
theorem fl0_176_2 : mx_fld 0 176 2 = some 2 := rfl
theorem fl0_179_1 : mx_fld 0 179 1 = some 4 := rfl
theorem fl0_189_2 : mx_fld 0 189 2 = some 4 := rfl
theorem fl0_199_0 : mx_fld 0 199 0 = some 8 := rfl
theorem fl0_208_11 : mx_fld 0 208 11 = some 6 := rfl
theorem fl0_212_1 : mx_fld 0 212 1 = some 0 := rfl
theorem fl0_220_1 : mx_fld 0 220 1 = some 3 := rfl
theorem fl0_232_1 : mx_fld 0 232 1 = some 5 := rfl
theorem fl0_238_1 : mx_fld 0 238 1 = some 10 := rfl
theorem fl0_241_2 : mx_fld 0 241 2 = some 0 := rfl
theorem fl0_244_2 : mx_fld 0 244 2 = some 3 := rfl
theorem fl0_269_1 : mx_fld 0 269 1 = some 9 := rfl
theorem fl0_286_13 : mx_fld 0 286 13 = some 0 := rfl
theorem fl0_286_14 : mx_fld 0 286 14 = some 0 := rfl
theorem fl0_286_15 : mx_fld 0 286 15 = some 0 := rfl
theorem fl0_292_0 : mx_fld 0 292 0 = some 14 := rfl
theorem fl0_295_0 : mx_fld 0 295 0 = some 13 := rfl
theorem fl0_298_0 : mx_fld 0 298 0 = some 12 := rfl
theorem fl0_305_1 : mx_fld 0 305 1 = some 2 := rfl
theorem fl0_309_1 : mx_fld 0 309 1 = some 1 := rfl
theorem fl0_310_1 : mx_fld 0 310 1 = some 6 := rfl
theorem fl0_312_1 : mx_fld 0 312 1 = some 7 := rfl
theorem fl0_318_0 : mx_fld 0 318 0 = some 16 := rfl
theorem fl0_324_27 : mx_fld 0 324 27 = some 0 := rfl
theorem fl0_328_13 : mx_fld 0 328 13 = some 0 := rfl
theorem fl0_328_14 : mx_fld 0 328 14 = some 0 := rfl
theorem fl0_328_15 : mx_fld 0 328 15 = some 0 := rfl
theorem fl0_329_15 : mx_fld 0 329 15 = some 2 := rfl
theorem fl0_333_13 : mx_fld 0 333 13 = some 0 := rfl
theorem fl0_333_14 : mx_fld 0 333 14 = some 0 := rfl
theorem fl0_333_15 : mx_fld 0 333 15 = some 0 := rfl
theorem fl0_397_0 : mx_fld 0 397 0 = some 23 := rfl
theorem fl0_400_19 : mx_fld 0 400 19 = some 0 := rfl
theorem fl0_403_19 : mx_fld 0 403 19 = some 1 := rfl
theorem fl0_410_19 : mx_fld 0 410 19 = some 2 := rfl
theorem fl0_469_0 : mx_fld 0 469 0 = some 5 := rfl
theorem fl1_9_1 : mx_fld 1 9 1 = some 2 := rfl
theorem fl1_15_1 : mx_fld 1 15 1 = some 3 := rfl
theorem fl1_19_1 : mx_fld 1 19 1 = some 4 := rfl
theorem fl1_22_1 : mx_fld 1 22 1 = some 5 := rfl
theorem fl1_25_1 : mx_fld 1 25 1 = some 6 := rfl
theorem fl1_28_1 : mx_fld 1 28 1 = some 7 := rfl
theorem fl1_31_1 : mx_fld 1 31 1 = some 8 := rfl
theorem fl1_36_1 : mx_fld 1 36 1 = some 9 := rfl
theorem fl1_43_1 : mx_fld 1 43 1 = some 10 := rfl
theorem fl1_53_1 : mx_fld 1 53 1 = some 0 := rfl
theorem fl1_60_1 : mx_fld 1 60 1 = some 1 := rfl
theorem fl2_9_2 : mx_fld 2 9 2 = some 0 := rfl
theorem fl2_15_2 : mx_fld 2 15 2 = some 1 := rfl
theorem fl2_18_2 : mx_fld 2 18 2 = some 2 := rfl
theorem fl2_21_2 : mx_fld 2 21 2 = some 3 := rfl
theorem fl2_24_2 : mx_fld 2 24 2 = some 5 := rfl
theorem fl2_27_2 : mx_fld 2 27 2 = some 4 := rfl
theorem fl2_30_2 : mx_fld 2 30 2 = some 6 := rfl
theorem fl3_1_4 : mx_fld 3 1 4 = some 0 := rfl
theorem fl3_1_5 : mx_fld 3 1 5 = some 0 := rfl
theorem fl3_1_6 : mx_fld 3 1 6 = some 0 := rfl
theorem fl3_1_7 : mx_fld 3 1 7 = some 0 := rfl
theorem fl3_1_8 : mx_fld 3 1 8 = some 0 := rfl
theorem fl3_1_9 : mx_fld 3 1 9 = some 0 := rfl
theorem fl4_3_4 : mx_fld 4 3 4 = some 1 := rfl
theorem fl4_3_5 : mx_fld 4 3 5 = some 1 := rfl
theorem fl4_3_6 : mx_fld 4 3 6 = some 1 := rfl
theorem fl4_3_7 : mx_fld 4 3 7 = some 1 := rfl
theorem fl4_3_8 : mx_fld 4 3 8 = some 1 := rfl
theorem fl4_3_9 : mx_fld 4 3 9 = some 1 := rfl
theorem fl4_21_0 : mx_fld 4 21 0 = some 0 := rfl
theorem fl5_1_5 : mx_fld 5 1 5 = some 2 := rfl
theorem fl5_1_8 : mx_fld 5 1 8 = some 2 := rfl
theorem fl6_1_6 : mx_fld 6 1 6 = some 2 := rfl
theorem fl6_1_7 : mx_fld 6 1 7 = some 2 := rfl
theorem fl7_1_7 : mx_fld 7 1 7 = some 3 := rfl
theorem fl8_1_8 : mx_fld 8 1 8 = some 3 := rfl
theorem fl9_1_9 : mx_fld 9 1 9 = some 2 := rfl
theorem fl10_23_10 : mx_fld 10 23 10 = some 0 := rfl
theorem fl10_37_10 : mx_fld 10 37 10 = some 1 := rfl
theorem fl10_43_10 : mx_fld 10 43 10 = some 3 := rfl
theorem fl10_47_10 : mx_fld 10 47 10 = some 4 := rfl
theorem fl10_51_10 : mx_fld 10 51 10 = some 7 := rfl
theorem fl10_55_10 : mx_fld 10 55 10 = some 6 := rfl
theorem fl10_58_10 : mx_fld 10 58 10 = some 5 := rfl
theorem fl10_62_10 : mx_fld 10 62 10 = some 8 := rfl
theorem fl10_116_10 : mx_fld 10 116 10 = some 2 := rfl
theorem fl10_162_1 : mx_fld 10 162 1 = some 0 := rfl
theorem fl10_169_1 : mx_fld 10 169 1 = some 8 := rfl
theorem fl10_172_1 : mx_fld 10 172 1 = some 9 := rfl
theorem fl11_7_11 : mx_fld 11 7 11 = some 6 := rfl
theorem fl12_3_13 : mx_fld 12 3 13 = some 1 := rfl
theorem fl12_3_14 : mx_fld 12 3 14 = some 1 := rfl
theorem fl12_3_15 : mx_fld 12 3 15 = some 1 := rfl
theorem fl12_21_13 : mx_fld 12 21 13 = some 0 := rfl
theorem fl12_21_14 : mx_fld 12 21 14 = some 0 := rfl
theorem fl12_21_15 : mx_fld 12 21 15 = some 0 := rfl
theorem fl12_25_2 : mx_fld 12 25 2 = some 6 := rfl
theorem fl12_36_0 : mx_fld 12 36 0 = some 0 := rfl
theorem fl12_40_1 : mx_fld 12 40 1 = some 8 := rfl
theorem fl12_46_2 : mx_fld 12 46 2 = some 5 := rfl
theorem fl13_1_13 : mx_fld 13 1 13 = some 2 := rfl
theorem fl14_1_14 : mx_fld 14 1 14 = some 2 := rfl
theorem fl14_13_13 : mx_fld 14 13 13 = some 0 := rfl
theorem fl14_13_14 : mx_fld 14 13 14 = some 0 := rfl
theorem fl14_13_15 : mx_fld 14 13 15 = some 0 := rfl
theorem fl14_23_27 : mx_fld 14 23 27 = some 0 := rfl
theorem fl14_29_2 : mx_fld 14 29 2 = some 5 := rfl
theorem fl15_3_15 : mx_fld 15 3 15 = some 3 := rfl
theorem fl15_15_13 : mx_fld 15 15 13 = some 0 := rfl
theorem fl15_15_14 : mx_fld 15 15 14 = some 0 := rfl
theorem fl15_15_15 : mx_fld 15 15 15 = some 0 := rfl
theorem fl15_19_0 : mx_fld 15 19 0 = some 16 := rfl
theorem fl15_22_0 : mx_fld 15 22 0 = some 15 := rfl
theorem fl15_26_27 : mx_fld 15 26 27 = some 0 := rfl
theorem fl15_32_2 : mx_fld 15 32 2 = some 5 := rfl
theorem fl15_41_15 : mx_fld 15 41 15 = some 2 := rfl
theorem fl16_7_16 : mx_fld 16 7 16 = some 4 := rfl
theorem fl16_13_16 : mx_fld 16 13 16 = some 0 := rfl
theorem fl16_17_16 : mx_fld 16 17 16 = some 1 := rfl
theorem fl16_21_16 : mx_fld 16 21 16 = some 2 := rfl
theorem fl16_25_16 : mx_fld 16 25 16 = some 3 := rfl
theorem fl19_7_19 : mx_fld 19 7 19 = some 0 := rfl
theorem fl20_7_20 : mx_fld 20 7 20 = some 0 := rfl
theorem fl20_13_20 : mx_fld 20 13 20 = some 2 := rfl
theorem fl20_16_20 : mx_fld 20 16 20 = some 3 := rfl
theorem fl20_19_20 : mx_fld 20 19 20 = some 4 := rfl
theorem fl20_22_20 : mx_fld 20 22 20 = some 5 := rfl
theorem fl20_25_20 : mx_fld 20 25 20 = some 6 := rfl
theorem fl20_28_20 : mx_fld 20 28 20 = some 7 := rfl
theorem fl20_31_20 : mx_fld 20 31 20 = some 8 := rfl
theorem fl20_34_20 : mx_fld 20 34 20 = some 10 := rfl
theorem fl20_37_20 : mx_fld 20 37 20 = some 12 := rfl
theorem fl20_40_20 : mx_fld 20 40 20 = some 13 := rfl
theorem fl20_43_20 : mx_fld 20 43 20 = some 14 := rfl
theorem fl20_47_20 : mx_fld 20 47 20 = some 15 := rfl
theorem fl20_50_20 : mx_fld 20 50 20 = some 23 := rfl
theorem fl20_53_20 : mx_fld 20 53 20 = some 24 := rfl
theorem fl20_56_20 : mx_fld 20 56 20 = some 25 := rfl
theorem fl20_59_20 : mx_fld 20 59 20 = some 29 := rfl
theorem fl20_63_20 : mx_fld 20 63 20 = some 30 := rfl
theorem fl20_66_20 : mx_fld 20 66 20 = some 31 := rfl
theorem fl20_69_20 : mx_fld 20 69 20 = some 36 := rfl
theorem fl20_72_20 : mx_fld 20 72 20 = some 38 := rfl
theorem fl20_75_20 : mx_fld 20 75 20 = some 39 := rfl
theorem fl20_78_20 : mx_fld 20 78 20 = some 40 := rfl
theorem fl20_82_20 : mx_fld 20 82 20 = some 41 := rfl
theorem fl20_85_20 : mx_fld 20 85 20 = some 42 := rfl
theorem fl20_88_20 : mx_fld 20 88 20 = some 43 := rfl
theorem fl20_91_20 : mx_fld 20 91 20 = some 47 := rfl
theorem fl20_94_20 : mx_fld 20 94 20 = some 51 := rfl
theorem fl20_97_20 : mx_fld 20 97 20 = some 53 := rfl
theorem fl20_104_20 : mx_fld 20 104 20 = some 1 := rfl
theorem fl20_107_20 : mx_fld 20 107 20 = some 16 := rfl
theorem fl20_112_20 : mx_fld 20 112 20 = some 19 := rfl
theorem fl20_115_20 : mx_fld 20 115 20 = some 18 := rfl
theorem fl20_129_20 : mx_fld 20 129 20 = some 17 := rfl
theorem fl20_132_20 : mx_fld 20 132 20 = some 20 := rfl
theorem fl20_136_20 : mx_fld 20 136 20 = some 21 := rfl
theorem fl20_161_20 : mx_fld 20 161 20 = some 26 := rfl
theorem fl20_164_20 : mx_fld 20 164 20 = some 27 := rfl
theorem fl20_178_20 : mx_fld 20 178 20 = some 22 := rfl
theorem fl20_195_20 : mx_fld 20 195 20 = some 28 := rfl
theorem fl20_235_20 : mx_fld 20 235 20 = some 11 := rfl
theorem fl20_289_20 : mx_fld 20 289 20 = some 32 := rfl
theorem fl20_302_20 : mx_fld 20 302 20 = some 33 := rfl
theorem fl20_305_20 : mx_fld 20 305 20 = some 34 := rfl
theorem fl20_308_20 : mx_fld 20 308 20 = some 35 := rfl
theorem fl20_315_20 : mx_fld 20 315 20 = some 9 := rfl
theorem fl20_324_20 : mx_fld 20 324 20 = some 37 := rfl
theorem fl20_350_20 : mx_fld 20 350 20 = some 48 := rfl
theorem fl20_356_20 : mx_fld 20 356 20 = some 45 := rfl
theorem fl20_362_20 : mx_fld 20 362 20 = some 44 := rfl
theorem fl20_374_20 : mx_fld 20 374 20 = some 46 := rfl
theorem fl20_377_20 : mx_fld 20 377 20 = some 49 := rfl
theorem fl20_395_20 : mx_fld 20 395 20 = some 52 := rfl
theorem fl20_406_20 : mx_fld 20 406 20 = some 50 := rfl
theorem fl22_7_22 : mx_fld 22 7 22 = some 0 := rfl
theorem fl22_13_22 : mx_fld 22 13 22 = some 1 := rfl
theorem fl22_16_22 : mx_fld 22 16 22 = some 2 := rfl
theorem fl23_7_23 : mx_fld 23 7 23 = some 0 := rfl
theorem fl24_7_25 : mx_fld 24 7 25 = some 0 := rfl
theorem fl24_7_26 : mx_fld 24 7 26 = some 0 := rfl
theorem fl24_13_25 : mx_fld 24 13 25 = some 1 := rfl
theorem fl24_13_26 : mx_fld 24 13 26 = some 1 := rfl
theorem fl25_7_25 : mx_fld 25 7 25 = some 0 := rfl
theorem fl25_7_26 : mx_fld 25 7 26 = some 0 := rfl
theorem fl25_19_25 : mx_fld 25 19 25 = some 1 := rfl
theorem fl25_19_26 : mx_fld 25 19 26 = some 1 := rfl
theorem fl26_7_25 : mx_fld 26 7 25 = some 0 := rfl
theorem fl26_7_26 : mx_fld 26 7 26 = some 0 := rfl
theorem fl26_19_25 : mx_fld 26 19 25 = some 1 := rfl
theorem fl26_19_26 : mx_fld 26 19 26 = some 1 := rfl
theorem fl27_7_27 : mx_fld 27 7 27 = some 0 := rfl
theorem fl28_1_28 : mx_fld 28 1 28 = some 2 := rfl
theorem fl28_1_29 : mx_fld 28 1 29 = some 2 := rfl
theorem fl28_1_30 : mx_fld 28 1 30 = some 2 := rfl
theorem fl28_1_31 : mx_fld 28 1 31 = some 2 := rfl
theorem fl28_1_32 : mx_fld 28 1 32 = some 2 := rfl
theorem fl28_1_33 : mx_fld 28 1 33 = some 2 := rfl
theorem fl28_13_28 : mx_fld 28 13 28 = some 0 := rfl
theorem fl28_13_29 : mx_fld 28 13 29 = some 0 := rfl
theorem fl28_13_30 : mx_fld 28 13 30 = some 0 := rfl
theorem fl28_13_31 : mx_fld 28 13 31 = some 0 := rfl
theorem fl28_13_32 : mx_fld 28 13 32 = some 0 := rfl
theorem fl28_13_33 : mx_fld 28 13 33 = some 0 := rfl
theorem fl28_17_28 : mx_fld 28 17 28 = some 1 := rfl
theorem fl28_17_29 : mx_fld 28 17 29 = some 1 := rfl
theorem fl28_17_30 : mx_fld 28 17 30 = some 1 := rfl
theorem fl28_17_31 : mx_fld 28 17 31 = some 1 := rfl
theorem fl28_17_32 : mx_fld 28 17 32 = some 1 := rfl
theorem fl28_17_33 : mx_fld 28 17 33 = some 1 := rfl
theorem fl29_1_29 : mx_fld 29 1 29 = some 3 := rfl
theorem fl29_1_30 : mx_fld 29 1 30 = some 3 := rfl
theorem fl29_26_28 : mx_fld 29 26 28 = some 0 := rfl
theorem fl29_26_29 : mx_fld 29 26 29 = some 0 := rfl
theorem fl29_26_30 : mx_fld 29 26 30 = some 0 := rfl
theorem fl29_26_31 : mx_fld 29 26 31 = some 0 := rfl
theorem fl29_26_32 : mx_fld 29 26 32 = some 0 := rfl
theorem fl29_26_33 : mx_fld 29 26 33 = some 0 := rfl
theorem fl30_1_30 : mx_fld 30 1 30 = some 4 := rfl
theorem fl30_26_28 : mx_fld 30 26 28 = some 0 := rfl
theorem fl30_26_29 : mx_fld 30 26 29 = some 0 := rfl
theorem fl30_26_30 : mx_fld 30 26 30 = some 0 := rfl
theorem fl30_26_31 : mx_fld 30 26 31 = some 0 := rfl
theorem fl30_26_32 : mx_fld 30 26 32 = some 0 := rfl
theorem fl30_26_33 : mx_fld 30 26 33 = some 0 := rfl
theorem fl31_1_31 : mx_fld 31 1 31 = some 3 := rfl
theorem fl31_1_33 : mx_fld 31 1 33 = some 3 := rfl
theorem fl31_23_28 : mx_fld 31 23 28 = some 1 := rfl
theorem fl31_23_29 : mx_fld 31 23 29 = some 1 := rfl
theorem fl31_23_30 : mx_fld 31 23 30 = some 1 := rfl
theorem fl31_23_31 : mx_fld 31 23 31 = some 1 := rfl
theorem fl31_23_32 : mx_fld 31 23 32 = some 1 := rfl
theorem fl31_23_33 : mx_fld 31 23 33 = some 1 := rfl
theorem fl32_1_32 : mx_fld 32 1 32 = some 3 := rfl
theorem fl32_26_28 : mx_fld 32 26 28 = some 1 := rfl
theorem fl32_26_29 : mx_fld 32 26 29 = some 1 := rfl
theorem fl32_26_30 : mx_fld 32 26 30 = some 1 := rfl
theorem fl32_26_31 : mx_fld 32 26 31 = some 1 := rfl
theorem fl32_26_32 : mx_fld 32 26 32 = some 1 := rfl
theorem fl32_26_33 : mx_fld 32 26 33 = some 1 := rfl
theorem fl33_1_33 : mx_fld 33 1 33 = some 4 := rfl
theorem fl33_26_28 : mx_fld 33 26 28 = some 0 := rfl
theorem fl33_26_29 : mx_fld 33 26 29 = some 0 := rfl
theorem fl33_26_30 : mx_fld 33 26 30 = some 0 := rfl
theorem fl33_26_31 : mx_fld 33 26 31 = some 0 := rfl
theorem fl33_26_32 : mx_fld 33 26 32 = some 0 := rfl
theorem fl33_26_33 : mx_fld 33 26 33 = some 0 := rfl
theorem nw0_19 : mx_newc 0 19 = some 1 := rfl
theorem nw0_32 : mx_newc 0 32 = some 2 := rfl
theorem nw0_44 : mx_newc 0 44 = some 4 := rfl
theorem nw0_49 : mx_newc 0 49 = some 5 := rfl
theorem nw0_52 : mx_newc 0 52 = some 6 := rfl
theorem nw0_55 : mx_newc 0 55 = some 7 := rfl
theorem nw0_58 : mx_newc 0 58 = some 8 := rfl
theorem nw0_61 : mx_newc 0 61 = some 9 := rfl
theorem nw0_72 : mx_newc 0 72 = some 10 := rfl
theorem nw0_85 : mx_newc 0 85 = some 13 := rfl
theorem nw0_92 : mx_newc 0 92 = some 27 := rfl
theorem nw0_98 : mx_newc 0 98 = some 14 := rfl
theorem nw0_105 : mx_newc 0 105 = some 15 := rfl
theorem nw0_112 : mx_newc 0 112 = some 16 := rfl
theorem nw0_119 : mx_newc 0 119 = some 17 := rfl
theorem nw0_126 : mx_newc 0 126 = some 18 := rfl
theorem nw0_136 : mx_newc 0 136 = some 19 := rfl
theorem nw1_40 : mx_newc 1 40 = some 2 := rfl
theorem nw4_31 : mx_newc 4 31 = some 28 := rfl
theorem nw5_21 : mx_newc 5 21 = some 31 := rfl
theorem nw6_21 : mx_newc 6 21 = some 29 := rfl
theorem nw7_21 : mx_newc 7 21 = some 30 := rfl
theorem nw8_21 : mx_newc 8 21 = some 33 := rfl
theorem nw9_17 : mx_newc 9 17 = some 32 := rfl
theorem nw10_40 : mx_newc 10 40 = some 11 := rfl
theorem nw10_132 : mx_newc 10 132 = some 22 := rfl
theorem nw10_137 : mx_newc 10 137 = some 23 := rfl
theorem nw10_147 : mx_newc 10 147 = some 25 := rfl
theorem nw10_157 : mx_newc 10 157 = some 26 := rfl
theorem nw37_7 : mx_newc 37 7 = some 0 := rfl
theorem nw37_10 : mx_newc 37 10 = some 20 := rfl
theorem an0_42 : mx_anewc 0 42 = some 6 := rfl
theorem an0_92 : mx_anewc 0 92 = some 8 := rfl
theorem an0_112 : mx_anewc 0 112 = some 9 := rfl
theorem an0_136 : mx_anewc 0 136 = some 10 := rfl
theorem an1_34 : mx_anewc 1 34 = some 5 := rfl
theorem an10_9 : mx_anewc 10 9 = some 7 := rfl
theorem tg0_334 : mx_tgt 0 334 = some 102 := rfl
theorem tg0_360 : mx_tgt 0 360 = some 101 := rfl
theorem tg0_361 : mx_tgt 0 361 = some 103 := rfl
theorem tg0_363 : mx_tgt 0 363 = some 100 := rfl
theorem tg0_416 : mx_tgt 0 416 = some 28 := rfl
theorem tg0_421 : mx_tgt 0 421 = some 31 := rfl
theorem tg0_424 : mx_tgt 0 424 = some 29 := rfl
theorem tg0_427 : mx_tgt 0 427 = some 30 := rfl
theorem tg0_430 : mx_tgt 0 430 = some 33 := rfl
theorem tg0_433 : mx_tgt 0 433 = some 32 := rfl
theorem tg0_448 : mx_tgt 0 448 = some 36 := rfl
theorem ct28_28 : mx_cast 28 28 = some true := rfl
theorem ct28_29 : mx_cast 28 29 = some false := rfl
theorem ct28_30 : mx_cast 28 30 = some false := rfl
theorem ct28_31 : mx_cast 28 31 = some false := rfl
theorem ct28_32 : mx_cast 28 32 = some false := rfl
theorem ct28_33 : mx_cast 28 33 = some false := rfl
theorem ct28_36 : mx_cast 28 36 = some true := rfl
theorem ct28_100 : mx_cast 28 100 = some false := rfl
theorem ct28_101 : mx_cast 28 101 = some false := rfl
theorem ct28_102 : mx_cast 28 102 = some false := rfl
theorem ct28_103 : mx_cast 28 103 = some false := rfl
theorem ct29_28 : mx_cast 29 28 = some true := rfl
theorem ct29_29 : mx_cast 29 29 = some true := rfl
theorem ct29_30 : mx_cast 29 30 = some false := rfl
theorem ct29_31 : mx_cast 29 31 = some false := rfl
theorem ct29_32 : mx_cast 29 32 = some false := rfl
theorem ct29_33 : mx_cast 29 33 = some false := rfl
theorem ct29_36 : mx_cast 29 36 = some true := rfl
theorem ct29_100 : mx_cast 29 100 = some false := rfl
theorem ct29_101 : mx_cast 29 101 = some false := rfl
theorem ct29_102 : mx_cast 29 102 = some false := rfl
theorem ct29_103 : mx_cast 29 103 = some false := rfl
theorem ct30_28 : mx_cast 30 28 = some true := rfl
theorem ct30_29 : mx_cast 30 29 = some true := rfl
theorem ct30_30 : mx_cast 30 30 = some true := rfl
theorem ct30_31 : mx_cast 30 31 = some false := rfl
theorem ct30_32 : mx_cast 30 32 = some false := rfl
theorem ct30_33 : mx_cast 30 33 = some false := rfl
theorem ct30_36 : mx_cast 30 36 = some true := rfl
theorem ct30_100 : mx_cast 30 100 = some false := rfl
theorem ct30_101 : mx_cast 30 101 = some false := rfl
theorem ct30_102 : mx_cast 30 102 = some false := rfl
theorem ct30_103 : mx_cast 30 103 = some false := rfl
theorem ct31_28 : mx_cast 31 28 = some true := rfl
theorem ct31_29 : mx_cast 31 29 = some false := rfl
theorem ct31_30 : mx_cast 31 30 = some false := rfl
theorem ct31_31 : mx_cast 31 31 = some true := rfl
theorem ct31_32 : mx_cast 31 32 = some false := rfl
theorem ct31_33 : mx_cast 31 33 = some false := rfl
theorem ct31_36 : mx_cast 31 36 = some true := rfl
theorem ct31_100 : mx_cast 31 100 = some false := rfl
theorem ct31_101 : mx_cast 31 101 = some false := rfl
theorem ct31_102 : mx_cast 31 102 = some false := rfl
theorem ct31_103 : mx_cast 31 103 = some false := rfl
theorem ct32_28 : mx_cast 32 28 = some true := rfl
theorem ct32_29 : mx_cast 32 29 = some false := rfl
theorem ct32_30 : mx_cast 32 30 = some false := rfl
theorem ct32_31 : mx_cast 32 31 = some false := rfl
theorem ct32_32 : mx_cast 32 32 = some true := rfl
theorem ct32_33 : mx_cast 32 33 = some false := rfl
theorem ct32_36 : mx_cast 32 36 = some true := rfl
theorem ct32_100 : mx_cast 32 100 = some false := rfl
theorem ct32_101 : mx_cast 32 101 = some false := rfl
theorem ct32_102 : mx_cast 32 102 = some false := rfl
theorem ct32_103 : mx_cast 32 103 = some false := rfl
theorem ct33_28 : mx_cast 33 28 = some true := rfl
theorem ct33_29 : mx_cast 33 29 = some false := rfl
theorem ct33_30 : mx_cast 33 30 = some false := rfl
theorem ct33_31 : mx_cast 33 31 = some true := rfl
theorem ct33_32 : mx_cast 33 32 = some false := rfl
theorem ct33_33 : mx_cast 33 33 = some true := rfl
theorem ct33_36 : mx_cast 33 36 = some true := rfl
theorem ct33_100 : mx_cast 33 100 = some false := rfl
theorem ct33_101 : mx_cast 33 101 = some false := rfl
theorem ct33_102 : mx_cast 33 102 = some false := rfl
theorem ct33_103 : mx_cast 33 103 = some false := rfl
theorem ct100_28 : mx_cast 100 28 = some false := rfl
theorem ct100_29 : mx_cast 100 29 = some false := rfl
theorem ct100_30 : mx_cast 100 30 = some false := rfl
theorem ct100_31 : mx_cast 100 31 = some false := rfl
theorem ct100_32 : mx_cast 100 32 = some false := rfl
theorem ct100_33 : mx_cast 100 33 = some false := rfl
theorem ct100_36 : mx_cast 100 36 = some false := rfl
theorem ct100_100 : mx_cast 100 100 = some true := rfl
theorem ct100_101 : mx_cast 100 101 = some false := rfl
theorem ct100_102 : mx_cast 100 102 = some false := rfl
theorem ct100_103 : mx_cast 100 103 = some false := rfl
theorem ct101_28 : mx_cast 101 28 = some false := rfl
theorem ct101_29 : mx_cast 101 29 = some false := rfl
theorem ct101_30 : mx_cast 101 30 = some false := rfl
theorem ct101_31 : mx_cast 101 31 = some false := rfl
theorem ct101_32 : mx_cast 101 32 = some false := rfl
theorem ct101_33 : mx_cast 101 33 = some false := rfl
theorem ct101_36 : mx_cast 101 36 = some false := rfl
theorem ct101_100 : mx_cast 101 100 = some false := rfl
theorem ct101_101 : mx_cast 101 101 = some true := rfl
theorem ct101_102 : mx_cast 101 102 = some false := rfl
theorem ct101_103 : mx_cast 101 103 = some false := rfl
theorem ct102_28 : mx_cast 102 28 = some false := rfl
theorem ct102_29 : mx_cast 102 29 = some false := rfl
theorem ct102_30 : mx_cast 102 30 = some false := rfl
theorem ct102_31 : mx_cast 102 31 = some false := rfl
theorem ct102_32 : mx_cast 102 32 = some false := rfl
theorem ct102_33 : mx_cast 102 33 = some false := rfl
theorem ct102_36 : mx_cast 102 36 = some false := rfl
theorem ct102_100 : mx_cast 102 100 = some false := rfl
theorem ct102_101 : mx_cast 102 101 = some false := rfl
theorem ct102_102 : mx_cast 102 102 = some true := rfl
theorem ct102_103 : mx_cast 102 103 = some false := rfl
theorem ct103_28 : mx_cast 103 28 = some false := rfl
theorem ct103_29 : mx_cast 103 29 = some false := rfl
theorem ct103_30 : mx_cast 103 30 = some false := rfl
theorem ct103_31 : mx_cast 103 31 = some false := rfl
theorem ct103_32 : mx_cast 103 32 = some false := rfl
theorem ct103_33 : mx_cast 103 33 = some false := rfl
theorem ct103_36 : mx_cast 103 36 = some false := rfl
theorem ct103_100 : mx_cast 103 100 = some false := rfl
theorem ct103_101 : mx_cast 103 101 = some false := rfl
theorem ct103_102 : mx_cast 103 102 = some false := rfl
theorem ct103_103 : mx_cast 103 103 = some true := rfl
