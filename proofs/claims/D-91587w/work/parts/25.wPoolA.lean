/-! walks -/
set_option maxRecDepth 100000
theorem dX0_init_0 : decode mi_X0_init.2.1 0 = .ok (.aload_n 0, 1) := by decide +kernel
theorem dX0_init_1 : decode mi_X0_init.2.1 1 = .ok (.invokespecial 1, 3) := by decide +kernel
theorem dX0_init_4 : decode mi_X0_init.2.1 4 = .ok (.aload_n 0, 1) := by decide +kernel
theorem dX0_init_5 : decode mi_X0_init.2.1 5 = .ok (.iconst 4, 1) := by decide +kernel
theorem dX0_init_6 : decode mi_X0_init.2.1 6 = .ok (.anewarray 9, 3) := by decide +kernel
theorem dX0_init_9 : decode mi_X0_init.2.1 9 = .ok (.putfield 11, 3) := by decide +kernel
theorem dX0_init_12 : decode mi_X0_init.2.1 12 = .ok (.aload_n 0, 1) := by decide +kernel
theorem dX0_init_13 : decode mi_X0_init.2.1 13 = .ok (.bipush 20, 2) := by decide +kernel
theorem dX0_init_15 : decode mi_X0_init.2.1 15 = .ok (.anewarray 15, 3) := by decide +kernel
theorem dX0_init_18 : decode mi_X0_init.2.1 18 = .ok (.putfield 17, 3) := by decide +kernel
theorem dX0_init_21 : decode mi_X0_init.2.1 21 = .ok (.aload_n 0, 1) := by decide +kernel
theorem dX0_init_22 : decode mi_X0_init.2.1 22 = .ok (.bipush 8, 2) := by decide +kernel
theorem dX0_init_24 : decode mi_X0_init.2.1 24 = .ok (.anewarray 21, 3) := by decide +kernel
theorem dX0_init_27 : decode mi_X0_init.2.1 27 = .ok (.putfield 23, 3) := by decide +kernel
theorem dX0_init_30 : decode mi_X0_init.2.1 30 = .ok (.aload_n 0, 1) := by decide +kernel
theorem dX0_init_31 : decode mi_X0_init.2.1 31 = .ok (.bipush 120, 2) := by decide +kernel
theorem dX0_init_33 : decode mi_X0_init.2.1 33 = .ok (.anewarray 27, 3) := by decide +kernel
theorem dX0_init_36 : decode mi_X0_init.2.1 36 = .ok (.putfield 29, 3) := by decide +kernel
theorem dX0_init_39 : decode mi_X0_init.2.1 39 = .ok (.aload_n 0, 1) := by decide +kernel
theorem dX0_init_40 : decode mi_X0_init.2.1 40 = .ok (.bipush 100, 2) := by decide +kernel
theorem dX0_init_42 : decode mi_X0_init.2.1 42 = .ok (.newarray .int, 2) := by decide +kernel
theorem dX0_init_44 : decode mi_X0_init.2.1 44 = .ok (.putfield 33, 3) := by decide +kernel
theorem dX0_init_47 : decode mi_X0_init.2.1 47 = .ok (.aload_n 0, 1) := by decide +kernel
theorem dX0_init_48 : decode mi_X0_init.2.1 48 = .ok (.bipush 100, 2) := by decide +kernel
theorem dX0_init_50 : decode mi_X0_init.2.1 50 = .ok (.newarray .int, 2) := by decide +kernel
theorem dX0_init_52 : decode mi_X0_init.2.1 52 = .ok (.putfield 37, 3) := by decide +kernel
theorem dX0_init_55 : decode mi_X0_init.2.1 55 = .ok (.aload_n 0, 1) := by decide +kernel
theorem dX0_init_56 : decode mi_X0_init.2.1 56 = .ok (.bipush 100, 2) := by decide +kernel
theorem dX0_init_58 : decode mi_X0_init.2.1 58 = .ok (.newarray .int, 2) := by decide +kernel
theorem dX0_init_60 : decode mi_X0_init.2.1 60 = .ok (.putfield 40, 3) := by decide +kernel
theorem dX0_init_63 : decode mi_X0_init.2.1 63 = .ok (.aload_n 0, 1) := by decide +kernel
theorem dX0_init_64 : decode mi_X0_init.2.1 64 = .ok (.bipush 100, 2) := by decide +kernel
theorem dX0_init_66 : decode mi_X0_init.2.1 66 = .ok (.newarray .int, 2) := by decide +kernel
theorem dX0_init_68 : decode mi_X0_init.2.1 68 = .ok (.putfield 43, 3) := by decide +kernel
theorem dX0_init_71 : decode mi_X0_init.2.1 71 = .ok (.aload_n 0, 1) := by decide +kernel
theorem dX0_init_72 : decode mi_X0_init.2.1 72 = .ok (.new 46, 3) := by decide +kernel
theorem dX0_init_75 : decode mi_X0_init.2.1 75 = .ok (.dup, 1) := by decide +kernel
theorem dX0_init_76 : decode mi_X0_init.2.1 76 = .ok (.invokespecial 48, 3) := by decide +kernel
theorem dX0_init_79 : decode mi_X0_init.2.1 79 = .ok (.putfield 49, 3) := by decide +kernel
theorem dX0_init_82 : decode mi_X0_init.2.1 82 = .ok (.aload_n 0, 1) := by decide +kernel
theorem dX0_init_83 : decode mi_X0_init.2.1 83 = .ok (.new 53, 3) := by decide +kernel
theorem dX0_init_86 : decode mi_X0_init.2.1 86 = .ok (.dup, 1) := by decide +kernel
theorem dX0_init_87 : decode mi_X0_init.2.1 87 = .ok (.invokespecial 55, 3) := by decide +kernel
theorem dX0_init_90 : decode mi_X0_init.2.1 90 = .ok (.putfield 56, 3) := by decide +kernel
theorem dX0_init_93 : decode mi_X0_init.2.1 93 = .ok (.aload_n 0, 1) := by decide +kernel
theorem dX0_init_94 : decode mi_X0_init.2.1 94 = .ok (.new 60, 3) := by decide +kernel
theorem dX0_init_97 : decode mi_X0_init.2.1 97 = .ok (.dup, 1) := by decide +kernel
theorem dX0_init_98 : decode mi_X0_init.2.1 98 = .ok (.invokespecial 62, 3) := by decide +kernel
theorem dX0_init_101 : decode mi_X0_init.2.1 101 = .ok (.putfield 63, 3) := by decide +kernel
theorem dX0_init_104 : decode mi_X0_init.2.1 104 = .ok (.aload_n 0, 1) := by decide +kernel
theorem dX0_init_105 : decode mi_X0_init.2.1 105 = .ok (.new 67, 3) := by decide +kernel
theorem dX0_init_108 : decode mi_X0_init.2.1 108 = .ok (.dup, 1) := by decide +kernel
theorem dX0_init_109 : decode mi_X0_init.2.1 109 = .ok (.aload_n 0, 1) := by decide +kernel
theorem dX0_init_110 : decode mi_X0_init.2.1 110 = .ok (.getfield 63, 3) := by decide +kernel
theorem dX0_init_113 : decode mi_X0_init.2.1 113 = .ok (.invokespecial 69, 3) := by decide +kernel
theorem dX0_init_116 : decode mi_X0_init.2.1 116 = .ok (.putfield 72, 3) := by decide +kernel
theorem dX0_init_119 : decode mi_X0_init.2.1 119 = .ok (.aload_n 0, 1) := by decide +kernel
theorem dX0_init_120 : decode mi_X0_init.2.1 120 = .ok (.new 76, 3) := by decide +kernel
theorem dX0_init_123 : decode mi_X0_init.2.1 123 = .ok (.dup, 1) := by decide +kernel
theorem dX0_init_124 : decode mi_X0_init.2.1 124 = .ok (.aload_n 0, 1) := by decide +kernel
theorem dX0_init_125 : decode mi_X0_init.2.1 125 = .ok (.getfield 63, 3) := by decide +kernel
theorem dX0_init_128 : decode mi_X0_init.2.1 128 = .ok (.invokespecial 78, 3) := by decide +kernel
theorem dX0_init_131 : decode mi_X0_init.2.1 131 = .ok (.putfield 79, 3) := by decide +kernel
theorem dX0_init_134 : decode mi_X0_init.2.1 134 = .ok (.aload_n 0, 1) := by decide +kernel
theorem dX0_init_135 : decode mi_X0_init.2.1 135 = .ok (.iconst 4, 1) := by decide +kernel
theorem dX0_init_136 : decode mi_X0_init.2.1 136 = .ok (.anewarray 83, 3) := by decide +kernel
theorem dX0_init_139 : decode mi_X0_init.2.1 139 = .ok (.putfield 85, 3) := by decide +kernel
theorem dX0_init_142 : decode mi_X0_init.2.1 142 = .ok (.aload_n 0, 1) := by decide +kernel
theorem dX0_init_143 : decode mi_X0_init.2.1 143 = .ok (.iconst (-1), 1) := by decide +kernel
theorem dX0_init_144 : decode mi_X0_init.2.1 144 = .ok (.putfield 89, 3) := by decide +kernel
theorem dX0_init_147 : decode mi_X0_init.2.1 147 = .ok (.aload_n 0, 1) := by decide +kernel
theorem dX0_init_148 : decode mi_X0_init.2.1 148 = .ok (.iconst (-1), 1) := by decide +kernel
theorem dX0_init_149 : decode mi_X0_init.2.1 149 = .ok (.putfield 93, 3) := by decide +kernel
theorem dX0_init_152 : decode mi_X0_init.2.1 152 = .ok (.aload_n 0, 1) := by decide +kernel
theorem dX0_init_153 : decode mi_X0_init.2.1 153 = .ok (.bipush 20, 2) := by decide +kernel
theorem dX0_init_155 : decode mi_X0_init.2.1 155 = .ok (.newarray .long, 2) := by decide +kernel
theorem dX0_init_157 : decode mi_X0_init.2.1 157 = .ok (.putfield 96, 3) := by decide +kernel
theorem dX0_init_160 : decode mi_X0_init.2.1 160 = .ok (.aload_n 0, 1) := by decide +kernel
theorem dX0_init_161 : decode mi_X0_init.2.1 161 = .ok (.bipush 20, 2) := by decide +kernel
theorem dX0_init_163 : decode mi_X0_init.2.1 163 = .ok (.newarray .long, 2) := by decide +kernel
theorem dX0_init_165 : decode mi_X0_init.2.1 165 = .ok (.putfield 100, 3) := by decide +kernel
theorem dX0_init_168 : decode mi_X0_init.2.1 168 = .ok (.aload_n 0, 1) := by decide +kernel
theorem dX0_init_169 : decode mi_X0_init.2.1 169 = .ok (.bipush 20, 2) := by decide +kernel
theorem dX0_init_171 : decode mi_X0_init.2.1 171 = .ok (.newarray .long, 2) := by decide +kernel
theorem dX0_init_173 : decode mi_X0_init.2.1 173 = .ok (.putfield 103, 3) := by decide +kernel
theorem dX0_init_176 : decode mi_X0_init.2.1 176 = .ok (.aload_n 0, 1) := by decide +kernel
theorem dX0_init_177 : decode mi_X0_init.2.1 177 = .ok (.bipush 8, 2) := by decide +kernel
theorem dX0_init_179 : decode mi_X0_init.2.1 179 = .ok (.newarray .int, 2) := by decide +kernel
theorem dX0_init_181 : decode mi_X0_init.2.1 181 = .ok (.putfield 106, 3) := by decide +kernel
theorem dX0_init_184 : decode mi_X0_init.2.1 184 = .ok (.aload_n 0, 1) := by decide +kernel
theorem dX0_init_185 : decode mi_X0_init.2.1 185 = .ok (.bipush 8, 2) := by decide +kernel
theorem dX0_init_187 : decode mi_X0_init.2.1 187 = .ok (.newarray .int, 2) := by decide +kernel
theorem dX0_init_189 : decode mi_X0_init.2.1 189 = .ok (.putfield 109, 3) := by decide +kernel
theorem dX0_init_192 : decode mi_X0_init.2.1 192 = .ok (.aload_n 0, 1) := by decide +kernel
theorem dX0_init_193 : decode mi_X0_init.2.1 193 = .ok (.bipush 60, 2) := by decide +kernel
theorem dX0_init_195 : decode mi_X0_init.2.1 195 = .ok (.newarray .int, 2) := by decide +kernel
theorem dX0_init_197 : decode mi_X0_init.2.1 197 = .ok (.putfield 112, 3) := by decide +kernel
theorem dX0_init_200 : decode mi_X0_init.2.1 200 = .ok (.aload_n 0, 1) := by decide +kernel
theorem dX0_init_201 : decode mi_X0_init.2.1 201 = .ok (.bipush 60, 2) := by decide +kernel
theorem dX0_init_203 : decode mi_X0_init.2.1 203 = .ok (.newarray .int, 2) := by decide +kernel
theorem dX0_init_205 : decode mi_X0_init.2.1 205 = .ok (.putfield 115, 3) := by decide +kernel
theorem dX0_init_208 : decode mi_X0_init.2.1 208 = .ok (.aload_n 0, 1) := by decide +kernel
theorem dX0_init_209 : decode mi_X0_init.2.1 209 = .ok (.bipush 60, 2) := by decide +kernel
theorem dX0_init_211 : decode mi_X0_init.2.1 211 = .ok (.newarray .int, 2) := by decide +kernel
theorem dX0_init_213 : decode mi_X0_init.2.1 213 = .ok (.putfield 118, 3) := by decide +kernel
theorem dX0_init_216 : decode mi_X0_init.2.1 216 = .ok (.aload_n 0, 1) := by decide +kernel
theorem dX0_init_217 : decode mi_X0_init.2.1 217 = .ok (.bipush 60, 2) := by decide +kernel
theorem dX0_init_219 : decode mi_X0_init.2.1 219 = .ok (.newarray .int, 2) := by decide +kernel
theorem dX0_init_221 : decode mi_X0_init.2.1 221 = .ok (.putfield 121, 3) := by decide +kernel
theorem dX0_init_224 : decode mi_X0_init.2.1 224 = .ok (.aload_n 0, 1) := by decide +kernel
theorem dX0_init_225 : decode mi_X0_init.2.1 225 = .ok (.sipush 520, 3) := by decide +kernel
theorem dX0_init_228 : decode mi_X0_init.2.1 228 = .ok (.newarray .int, 2) := by decide +kernel
theorem dX0_init_230 : decode mi_X0_init.2.1 230 = .ok (.putfield 124, 3) := by decide +kernel
theorem dX0_init_233 : decode mi_X0_init.2.1 233 = .ok (.aload_n 0, 1) := by decide +kernel
theorem dX0_init_234 : decode mi_X0_init.2.1 234 = .ok (.bipush 10, 2) := by decide +kernel
theorem dX0_init_236 : decode mi_X0_init.2.1 236 = .ok (.putfield 127, 3) := by decide +kernel
theorem dX0_init_239 : decode mi_X0_init.2.1 239 = .ok (.aload_n 0, 1) := by decide +kernel
theorem dX0_init_240 : decode mi_X0_init.2.1 240 = .ok (.iconst 2, 1) := by decide +kernel
theorem dX0_init_241 : decode mi_X0_init.2.1 241 = .ok (.putfield 130, 3) := by decide +kernel
theorem dX0_init_244 : decode mi_X0_init.2.1 244 = .ok (.aload_n 0, 1) := by decide +kernel
theorem dX0_init_245 : decode mi_X0_init.2.1 245 = .ok (.bipush 120, 2) := by decide +kernel
theorem dX0_init_247 : decode mi_X0_init.2.1 247 = .ok (.newarray .int, 2) := by decide +kernel
theorem dX0_init_249 : decode mi_X0_init.2.1 249 = .ok (.putfield 133, 3) := by decide +kernel
theorem dX0_init_252 : decode mi_X0_init.2.1 252 = .ok (.aload_n 0, 1) := by decide +kernel
theorem dX0_init_253 : decode mi_X0_init.2.1 253 = .ok (.bipush 20, 2) := by decide +kernel
theorem dX0_init_255 : decode mi_X0_init.2.1 255 = .ok (.newarray .int, 2) := by decide +kernel
theorem dX0_init_257 : decode mi_X0_init.2.1 257 = .ok (.putfield 136, 3) := by decide +kernel
theorem dX0_init_260 : decode mi_X0_init.2.1 260 = .ok (.aload_n 0, 1) := by decide +kernel
theorem dX0_init_261 : decode mi_X0_init.2.1 261 = .ok (.bipush 6, 2) := by decide +kernel
theorem dX0_init_263 : decode mi_X0_init.2.1 263 = .ok (.newarray .int, 2) := by decide +kernel
theorem dX0_init_265 : decode mi_X0_init.2.1 265 = .ok (.putfield 139, 3) := by decide +kernel
theorem dX0_init_268 : decode mi_X0_init.2.1 268 = .ok (.aload_n 0, 1) := by decide +kernel
theorem dX0_init_269 : decode mi_X0_init.2.1 269 = .ok (.bipush 8, 2) := by decide +kernel
theorem dX0_init_271 : decode mi_X0_init.2.1 271 = .ok (.newarray .int, 2) := by decide +kernel
theorem dX0_init_273 : decode mi_X0_init.2.1 273 = .ok (.putfield 142, 3) := by decide +kernel
theorem dX0_init_276 : decode mi_X0_init.2.1 276 = .ok (.aload_n 0, 1) := by decide +kernel
theorem dX0_init_277 : decode mi_X0_init.2.1 277 = .ok (.bipush 8, 2) := by decide +kernel
theorem dX0_init_279 : decode mi_X0_init.2.1 279 = .ok (.newarray .int, 2) := by decide +kernel
theorem dX0_init_281 : decode mi_X0_init.2.1 281 = .ok (.putfield 145, 3) := by decide +kernel
theorem dX0_init_284 : decode mi_X0_init.2.1 284 = .ok (.aload_n 0, 1) := by decide +kernel
theorem dX0_init_285 : decode mi_X0_init.2.1 285 = .ok (.bipush 20, 2) := by decide +kernel
theorem dX0_init_287 : decode mi_X0_init.2.1 287 = .ok (.newarray .int, 2) := by decide +kernel
theorem dX0_init_289 : decode mi_X0_init.2.1 289 = .ok (.putfield 148, 3) := by decide +kernel
theorem dX0_init_292 : decode mi_X0_init.2.1 292 = .ok (.aload_n 0, 1) := by decide +kernel
theorem dX0_init_293 : decode mi_X0_init.2.1 293 = .ok (.bipush 21, 2) := by decide +kernel
theorem dX0_init_295 : decode mi_X0_init.2.1 295 = .ok (.sipush 256, 3) := by decide +kernel
theorem dX0_init_298 : decode mi_X0_init.2.1 298 = .ok (.multianewarray 151 2, 4) := by decide +kernel
theorem dX0_init_302 : decode mi_X0_init.2.1 302 = .ok (.putfield 153, 3) := by decide +kernel
theorem dX0_init_305 : decode mi_X0_init.2.1 305 = .ok (.aload_n 0, 1) := by decide +kernel
theorem dX0_init_306 : decode mi_X0_init.2.1 306 = .ok (.iconst 5, 1) := by decide +kernel
theorem dX0_init_307 : decode mi_X0_init.2.1 307 = .ok (.iconst 4, 1) := by decide +kernel
theorem dX0_init_308 : decode mi_X0_init.2.1 308 = .ok (.multianewarray 151 2, 4) := by decide +kernel
theorem dX0_init_312 : decode mi_X0_init.2.1 312 = .ok (.putfield 156, 3) := by decide +kernel
theorem dX0_init_315 : decode mi_X0_init.2.1 315 = .ok (.aload_n 0, 1) := by decide +kernel
theorem dX0_init_316 : decode mi_X0_init.2.1 316 = .ok (.iconst 5, 1) := by decide +kernel
theorem dX0_init_317 : decode mi_X0_init.2.1 317 = .ok (.iconst 4, 1) := by decide +kernel
theorem dX0_init_318 : decode mi_X0_init.2.1 318 = .ok (.multianewarray 151 2, 4) := by decide +kernel
theorem dX0_init_322 : decode mi_X0_init.2.1 322 = .ok (.putfield 159, 3) := by decide +kernel
theorem dX0_init_325 : decode mi_X0_init.2.1 325 = .ok (.aload_n 0, 1) := by decide +kernel
theorem dX0_init_326 : decode mi_X0_init.2.1 326 = .ok (.iconst 5, 1) := by decide +kernel
theorem dX0_init_327 : decode mi_X0_init.2.1 327 = .ok (.newarray .int, 2) := by decide +kernel
theorem dX0_init_329 : decode mi_X0_init.2.1 329 = .ok (.putfield 162, 3) := by decide +kernel
theorem dX0_init_332 : decode mi_X0_init.2.1 332 = .ok (.aload_n 0, 1) := by decide +kernel
theorem dX0_init_333 : decode mi_X0_init.2.1 333 = .ok (.iconst 4, 1) := by decide +kernel
theorem dX0_init_334 : decode mi_X0_init.2.1 334 = .ok (.newarray .int, 2) := by decide +kernel
theorem dX0_init_336 : decode mi_X0_init.2.1 336 = .ok (.putfield 165, 3) := by decide +kernel
theorem dX0_init_339 : decode mi_X0_init.2.1 339 = .ok (.aload_n 0, 1) := by decide +kernel
theorem dX0_init_340 : decode mi_X0_init.2.1 340 = .ok (.iconst 5, 1) := by decide +kernel
theorem dX0_init_341 : decode mi_X0_init.2.1 341 = .ok (.newarray .int, 2) := by decide +kernel
theorem dX0_init_343 : decode mi_X0_init.2.1 343 = .ok (.putfield 168, 3) := by decide +kernel
theorem dX0_init_346 : decode mi_X0_init.2.1 346 = .ok (.aload_n 0, 1) := by decide +kernel
theorem dX0_init_347 : decode mi_X0_init.2.1 347 = .ok (.iconst 4, 1) := by decide +kernel
theorem dX0_init_348 : decode mi_X0_init.2.1 348 = .ok (.newarray .int, 2) := by decide +kernel
theorem dX0_init_350 : decode mi_X0_init.2.1 350 = .ok (.putfield 171, 3) := by decide +kernel
theorem dX0_init_353 : decode mi_X0_init.2.1 353 = .ok (.aload_n 0, 1) := by decide +kernel
theorem dX0_init_354 : decode mi_X0_init.2.1 354 = .ok (.iconst 5, 1) := by decide +kernel
theorem dX0_init_355 : decode mi_X0_init.2.1 355 = .ok (.newarray .int, 2) := by decide +kernel
theorem dX0_init_357 : decode mi_X0_init.2.1 357 = .ok (.putfield 174, 3) := by decide +kernel
theorem dX0_init_360 : decode mi_X0_init.2.1 360 = .ok (.aload_n 0, 1) := by decide +kernel
theorem dX0_init_361 : decode mi_X0_init.2.1 361 = .ok (.iconst 4, 1) := by decide +kernel
theorem dX0_init_362 : decode mi_X0_init.2.1 362 = .ok (.newarray .int, 2) := by decide +kernel
theorem dX0_init_364 : decode mi_X0_init.2.1 364 = .ok (.putfield 177, 3) := by decide +kernel
theorem dX0_init_367 : decode mi_X0_init.2.1 367 = .ok (.iconst 0, 1) := by decide +kernel
theorem dX0_init_368 : decode mi_X0_init.2.1 368 = .ok (.istore_n 1, 1) := by decide +kernel
theorem dX0_init_369 : decode mi_X0_init.2.1 369 = .ok (.iload_n 1, 1) := by decide +kernel
theorem dX0_init_370 : decode mi_X0_init.2.1 370 = .ok (.iconst 4, 1) := by decide +kernel
theorem dX0_init_371 : decode mi_X0_init.2.1 371 = .ok (.if_icmp .ge 22, 3) := by decide +kernel
theorem dX0_init_374 : decode mi_X0_init.2.1 374 = .ok (.aload_n 0, 1) := by decide +kernel
theorem dX0_init_375 : decode mi_X0_init.2.1 375 = .ok (.getfield 11, 3) := by decide +kernel
theorem dX0_init_378 : decode mi_X0_init.2.1 378 = .ok (.iload_n 1, 1) := by decide +kernel
theorem dX0_init_379 : decode mi_X0_init.2.1 379 = .ok (.new 9, 3) := by decide +kernel
theorem dX0_init_382 : decode mi_X0_init.2.1 382 = .ok (.dup, 1) := by decide +kernel
theorem dX0_init_383 : decode mi_X0_init.2.1 383 = .ok (.invokespecial 180, 3) := by decide +kernel
theorem dX0_init_386 : decode mi_X0_init.2.1 386 = .ok (.aastore, 1) := by decide +kernel
theorem dX0_init_387 : decode mi_X0_init.2.1 387 = .ok (.iinc 1 1, 3) := by decide +kernel
theorem dX0_init_390 : decode mi_X0_init.2.1 390 = .ok (.goto (-21), 3) := by decide +kernel
theorem dX0_init_393 : decode mi_X0_init.2.1 393 = .ok (.return_, 1) := by decide +kernel
theorem v_X0_init {G : ma_G} {d : Nat} {a0 : Nat} {h : ah_T} {Q : Option ma_V → ah_T → Prop} {E : Nat → ah_T → Prop}  (H : ah_kd h a0 ≠ 0 ∧ (1 ≤ ah_rc h ∧ 4 ≤ ah_rs h) ∧ ∀ h3 : ah_T, h3 = ah_new h 45 4 4 → ah_ext h h3 → ah_liv h → ah_kd h3 a0 = 1 ∧ ah_R h3 a0 0 = 0 ∧ ∀ h7 : ah_T, h7 = ah_wR h3 a0 0 (ah_sz h) → ah_ext h3 h7 → (1 ≤ ah_rc h7 ∧ 20 ≤ ah_rs h7) ∧ ∀ h9 : ah_T, h9 = ah_new h7 46 20 20 → ah_ext h7 h9 → ah_liv h7 → ah_R h9 a0 1 = 0 ∧ ∀ h14 : ah_T, h14 = ah_wR h9 a0 1 (ah_sz h7) → ah_ext h9 h14 → (1 ≤ ah_rc h14 ∧ 8 ≤ ah_rs h14) ∧ ∀ h16 : ah_T, h16 = ah_new h14 47 8 8 → ah_ext h14 h16 → ah_liv h14 → ah_R h16 a0 2 = 0 ∧ ∀ h22 : ah_T, h22 = ah_wR h16 a0 2 (ah_sz h14) → ah_ext h16 h22 → (1 ≤ ah_rc h22 ∧ 120 ≤ ah_rs h22) ∧ ∀ h24 : ah_T, h24 = ah_new h22 48 120 120 → ah_ext h22 h24 → ah_liv h22 → ah_R h24 a0 3 = 0 ∧ ∀ h31 : ah_T, h31 = ah_wR h24 a0 3 (ah_sz h22) → ah_ext h24 h31 → (1 ≤ ah_rc h31 ∧ 100 ≤ ah_rs h31) ∧ ∀ h33 : ah_T, h33 = ah_new h31 40 100 100 → ah_ext h31 h33 → ah_liv h31 → ah_R h33 a0 4 = 0 ∧ ∀ h41 : ah_T, h41 = ah_wR h33 a0 4 (ah_sz h31) → ah_ext h33 h41 → (1 ≤ ah_rc h41 ∧ 100 ≤ ah_rs h41) ∧ ∀ h43 : ah_T, h43 = ah_new h41 40 100 100 → ah_ext h41 h43 → ah_liv h41 → ah_R h43 a0 5 = 0 ∧ ∀ h52 : ah_T, h52 = ah_wR h43 a0 5 (ah_sz h41) → ah_ext h43 h52 → (1 ≤ ah_rc h52 ∧ 100 ≤ ah_rs h52) ∧ ∀ h54 : ah_T, h54 = ah_new h52 40 100 100 → ah_ext h52 h54 → ah_liv h52 → ah_R h54 a0 6 = 0 ∧ ∀ h64 : ah_T, h64 = ah_wR h54 a0 6 (ah_sz h52) → ah_ext h54 h64 → (1 ≤ ah_rc h64 ∧ 100 ≤ ah_rs h64) ∧ ∀ h66 : ah_T, h66 = ah_new h64 40 100 100 → ah_ext h64 h66 → ah_liv h64 → ah_R h66 a0 7 = 0 ∧ ∀ h77 : ah_T, h77 = ah_wR h66 a0 7 (ah_sz h64) → ah_ext h66 h77 → (1 ≤ ah_rc h77 ∧ 12 ≤ ah_rs h77) ∧ ∀ h79 : ah_T, h79 = ah_new h77 2 0 12 → ah_ext h77 h79 → ah_liv h77 → MX G mi_X1_init d 0 [some (rv (ah_sz h77)), none, none, none] [] h79 (Qv fun h90 => ah_ext h79 h90 → ah_R h90 a0 8 = 0 ∧ ∀ h103 : ah_T, h103 = ah_wR h90 a0 8 (ah_sz h77) → ah_ext h90 h103 → (1 ≤ ah_rc h103 ∧ 3 ≤ ah_rs h103) ∧ ∀ h105 : ah_T, h105 = ah_new h103 3 0 3 → ah_ext h103 h105 → ah_liv h103 → MX G mi_X2_init d 0 [some (rv (ah_sz h103))] [] h105 (Qv fun h117 => ah_ext h105 h117 → ah_R h117 a0 9 = 0 ∧ ∀ h131 : ah_T, h131 = ah_wR h117 a0 9 (ah_sz h103) → ah_ext h117 h131 → (1 ≤ ah_rc h131 ∧ 8 ≤ ah_rs h131) ∧ ∀ h133 : ah_T, h133 = ah_new h131 5 0 8 → ah_ext h131 h133 → ah_liv h131 → MX G mi_X4_init d 0 [some (rv (ah_sz h131))] [] h133 (Qv fun h146 => ah_ext h133 h146 → ah_R h146 a0 10 = 0 ∧ ∀ h161 : ah_T, h161 = ah_wR h146 a0 10 (ah_sz h131) → ah_ext h146 h161 → (1 ≤ ah_rc h161 ∧ 9 ≤ ah_rs h161) ∧ ∀ h163 : ah_T, h163 = ah_new h161 6 0 9 → ah_ext h161 h163 → ah_liv h161 → MX G mi_X5_init d 0 [some (rv (ah_sz h161)), some (rv (ah_R h163 a0 10))] [] h163 (Qv fun h177 => ah_ext h163 h177 → ah_R h177 a0 11 = 0 ∧ ∀ h193 : ah_T, h193 = ah_wR h177 a0 11 (ah_sz h161) → ah_ext h177 h193 → (1 ≤ ah_rc h193 ∧ 4 ≤ ah_rs h193) ∧ ∀ h195 : ah_T, h195 = ah_new h193 7 0 4 → ah_ext h193 h195 → ah_liv h193 → MX G mi_X6_init d 0 [some (rv (ah_sz h193)), some (rv (ah_R h195 a0 10))] [] h195 (Qv fun h210 => ah_ext h195 h210 → ah_R h210 a0 12 = 0 ∧ ∀ h227 : ah_T, h227 = ah_wR h210 a0 12 (ah_sz h193) → ah_ext h210 h227 → (1 ≤ ah_rc h227 ∧ 4 ≤ ah_rs h227) ∧ ∀ h229 : ah_T, h229 = ah_new h227 49 4 4 → ah_ext h227 h229 → ah_liv h227 → ah_R h229 a0 13 = 0 ∧ ∀ h246 : ah_T, h246 = ah_wR h229 a0 13 (ah_sz h227) → ah_ext h229 h246 → ∀ h247 : ah_T, h247 = ah_wI h246 a0 21 (-1 : Int32) → ah_ext h246 h247 → ∀ h248 : ah_T, h248 = ah_wI h247 a0 22 (-1 : Int32) → ah_ext h247 h248 → (1 ≤ ah_rc h248 ∧ 20 ≤ ah_rs h248) ∧ ∀ h250 : ah_T, h250 = ah_new h248 41 20 20 → ah_ext h248 h250 → ah_liv h248 → ah_R h250 a0 24 = 0 ∧ ∀ h268 : ah_T, h268 = ah_wR h250 a0 24 (ah_sz h248) → ah_ext h250 h268 → (1 ≤ ah_rc h268 ∧ 20 ≤ ah_rs h268) ∧ ∀ h270 : ah_T, h270 = ah_new h268 41 20 20 → ah_ext h268 h270 → ah_liv h268 → ah_R h270 a0 25 = 0 ∧ ∀ h289 : ah_T, h289 = ah_wR h270 a0 25 (ah_sz h268) → ah_ext h270 h289 → (1 ≤ ah_rc h289 ∧ 20 ≤ ah_rs h289) ∧ ∀ h291 : ah_T, h291 = ah_new h289 41 20 20 → ah_ext h289 h291 → ah_liv h289 → ah_R h291 a0 26 = 0 ∧ ∀ h311 : ah_T, h311 = ah_wR h291 a0 26 (ah_sz h289) → ah_ext h291 h311 → (1 ≤ ah_rc h311 ∧ 8 ≤ ah_rs h311) ∧ ∀ h313 : ah_T, h313 = ah_new h311 40 8 8 → ah_ext h311 h313 → ah_liv h311 → ah_R h313 a0 29 = 0 ∧ ∀ h334 : ah_T, h334 = ah_wR h313 a0 29 (ah_sz h311) → ah_ext h313 h334 → (1 ≤ ah_rc h334 ∧ 8 ≤ ah_rs h334) ∧ ∀ h336 : ah_T, h336 = ah_new h334 40 8 8 → ah_ext h334 h336 → ah_liv h334 → ah_R h336 a0 30 = 0 ∧ ∀ h358 : ah_T, h358 = ah_wR h336 a0 30 (ah_sz h334) → ah_ext h336 h358 → (1 ≤ ah_rc h358 ∧ 60 ≤ ah_rs h358) ∧ ∀ h360 : ah_T, h360 = ah_new h358 40 60 60 → ah_ext h358 h360 → ah_liv h358 → ah_R h360 a0 31 = 0 ∧ ∀ h383 : ah_T, h383 = ah_wR h360 a0 31 (ah_sz h358) → ah_ext h360 h383 → (1 ≤ ah_rc h383 ∧ 60 ≤ ah_rs h383) ∧ ∀ h385 : ah_T, h385 = ah_new h383 40 60 60 → ah_ext h383 h385 → ah_liv h383 → ah_R h385 a0 32 = 0 ∧ ∀ h409 : ah_T, h409 = ah_wR h385 a0 32 (ah_sz h383) → ah_ext h385 h409 → (1 ≤ ah_rc h409 ∧ 60 ≤ ah_rs h409) ∧ ∀ h411 : ah_T, h411 = ah_new h409 40 60 60 → ah_ext h409 h411 → ah_liv h409 → ah_R h411 a0 33 = 0 ∧ ∀ h436 : ah_T, h436 = ah_wR h411 a0 33 (ah_sz h409) → ah_ext h411 h436 → (1 ≤ ah_rc h436 ∧ 60 ≤ ah_rs h436) ∧ ∀ h438 : ah_T, h438 = ah_new h436 40 60 60 → ah_ext h436 h438 → ah_liv h436 → ah_R h438 a0 34 = 0 ∧ ∀ h464 : ah_T, h464 = ah_wR h438 a0 34 (ah_sz h436) → ah_ext h438 h464 → (1 ≤ ah_rc h464 ∧ 520 ≤ ah_rs h464) ∧ ∀ h466 : ah_T, h466 = ah_new h464 40 520 520 → ah_ext h464 h466 → ah_liv h464 → ah_R h466 a0 35 = 0 ∧ ∀ h493 : ah_T, h493 = ah_wR h466 a0 35 (ah_sz h464) → ah_ext h466 h493 → ∀ h494 : ah_T, h494 = ah_wI h493 a0 37 (10 : Int32) → ah_ext h493 h494 → ∀ h495 : ah_T, h495 = ah_wI h494 a0 38 (2 : Int32) → ah_ext h494 h495 → (1 ≤ ah_rc h495 ∧ 120 ≤ ah_rs h495) ∧ ∀ h497 : ah_T, h497 = ah_new h495 40 120 120 → ah_ext h495 h497 → ah_liv h495 → ah_R h497 a0 39 = 0 ∧ ∀ h525 : ah_T, h525 = ah_wR h497 a0 39 (ah_sz h495) → ah_ext h497 h525 → (1 ≤ ah_rc h525 ∧ 20 ≤ ah_rs h525) ∧ ∀ h527 : ah_T, h527 = ah_new h525 40 20 20 → ah_ext h525 h527 → ah_liv h525 → ah_R h527 a0 40 = 0 ∧ ∀ h556 : ah_T, h556 = ah_wR h527 a0 40 (ah_sz h525) → ah_ext h527 h556 → (1 ≤ ah_rc h556 ∧ 6 ≤ ah_rs h556) ∧ ∀ h558 : ah_T, h558 = ah_new h556 40 6 6 → ah_ext h556 h558 → ah_liv h556 → ah_R h558 a0 41 = 0 ∧ ∀ h588 : ah_T, h588 = ah_wR h558 a0 41 (ah_sz h556) → ah_ext h558 h588 → (1 ≤ ah_rc h588 ∧ 8 ≤ ah_rs h588) ∧ ∀ h590 : ah_T, h590 = ah_new h588 40 8 8 → ah_ext h588 h590 → ah_liv h588 → ah_R h590 a0 42 = 0 ∧ ∀ h621 : ah_T, h621 = ah_wR h590 a0 42 (ah_sz h588) → ah_ext h590 h621 → (1 ≤ ah_rc h621 ∧ 8 ≤ ah_rs h621) ∧ ∀ h623 : ah_T, h623 = ah_new h621 40 8 8 → ah_ext h621 h623 → ah_liv h621 → ah_R h623 a0 43 = 0 ∧ ∀ h655 : ah_T, h655 = ah_wR h623 a0 43 (ah_sz h621) → ah_ext h623 h655 → (1 ≤ ah_rc h655 ∧ 20 ≤ ah_rs h655) ∧ ∀ h657 : ah_T, h657 = ah_new h655 40 20 20 → ah_ext h655 h657 → ah_liv h655 → ah_R h657 a0 44 = 0 ∧ ∀ h690 : ah_T, h690 = ah_wR h657 a0 44 (ah_sz h655) → ah_ext h657 h690 → (1 + 21 ≤ ah_rc h690 ∧ 21 + 21 * 256 ≤ ah_rs h690) ∧ ∀ h692 : ah_T, h692 = ah_mk2 h690 14 21 0 256 21 → ah_ext h690 h692 → ah_liv h690 → ah_R h692 a0 45 = 0 ∧ ∀ h726 : ah_T, h726 = ah_wR h692 a0 45 (ah_sz h690) → ah_ext h692 h726 → (1 + 5 ≤ ah_rc h726 ∧ 5 + 5 * 4 ≤ ah_rs h726) ∧ ∀ h728 : ah_T, h728 = ah_mk2 h726 14 5 0 4 5 → ah_ext h726 h728 → ah_liv h726 → ah_R h728 a0 47 = 0 ∧ ∀ h763 : ah_T, h763 = ah_wR h728 a0 47 (ah_sz h726) → ah_ext h728 h763 → (1 + 5 ≤ ah_rc h763 ∧ 5 + 5 * 4 ≤ ah_rs h763) ∧ ∀ h765 : ah_T, h765 = ah_mk2 h763 14 5 0 4 5 → ah_ext h763 h765 → ah_liv h763 → ah_R h765 a0 48 = 0 ∧ ∀ h801 : ah_T, h801 = ah_wR h765 a0 48 (ah_sz h763) → ah_ext h765 h801 → (1 ≤ ah_rc h801 ∧ 5 ≤ ah_rs h801) ∧ ∀ h803 : ah_T, h803 = ah_new h801 40 5 5 → ah_ext h801 h803 → ah_liv h801 → ah_R h803 a0 49 = 0 ∧ ∀ h840 : ah_T, h840 = ah_wR h803 a0 49 (ah_sz h801) → ah_ext h803 h840 → (1 ≤ ah_rc h840 ∧ 4 ≤ ah_rs h840) ∧ ∀ h842 : ah_T, h842 = ah_new h840 40 4 4 → ah_ext h840 h842 → ah_liv h840 → ah_R h842 a0 50 = 0 ∧ ∀ h880 : ah_T, h880 = ah_wR h842 a0 50 (ah_sz h840) → ah_ext h842 h880 → (1 ≤ ah_rc h880 ∧ 5 ≤ ah_rs h880) ∧ ∀ h882 : ah_T, h882 = ah_new h880 40 5 5 → ah_ext h880 h882 → ah_liv h880 → ah_R h882 a0 51 = 0 ∧ ∀ h921 : ah_T, h921 = ah_wR h882 a0 51 (ah_sz h880) → ah_ext h882 h921 → (1 ≤ ah_rc h921 ∧ 4 ≤ ah_rs h921) ∧ ∀ h923 : ah_T, h923 = ah_new h921 40 4 4 → ah_ext h921 h923 → ah_liv h921 → ah_R h923 a0 52 = 0 ∧ ∀ h963 : ah_T, h963 = ah_wR h923 a0 52 (ah_sz h921) → ah_ext h923 h963 → (1 ≤ ah_rc h963 ∧ 5 ≤ ah_rs h963) ∧ ∀ h965 : ah_T, h965 = ah_new h963 40 5 5 → ah_ext h963 h965 → ah_liv h963 → ah_R h965 a0 53 = 0 ∧ ∀ h1006 : ah_T, h1006 = ah_wR h965 a0 53 (ah_sz h963) → ah_ext h965 h1006 → (1 ≤ ah_rc h1006 ∧ 4 ≤ ah_rs h1006) ∧ ∀ h1008 : ah_T, h1008 = ah_new h1006 40 4 4 → ah_ext h1006 h1008 → ah_liv h1006 → ah_R h1008 a0 54 = 0 ∧ ∀ h1050 : ah_T, h1050 = ah_wR h1008 a0 54 (ah_sz h1006) → ah_ext h1008 h1050 → MX G mi_X0_init (d + 1) 369 [some (rv a0), some (iv (0 : Int32))] [] h1050 Q E) E) E) E) E) E) : MX G mi_X0_init (d + 1) 0 [some (rv a0), none] [] h Q E := by
  refine mx_aload_n dX0_init_0 rfl rfl ?_
  obtain ⟨k1, H⟩ := H
  refine mx_objInit q162 qobj1 qobj2 dX0_init_1 (Nat.le_of_ble_eq_true rfl) k1 ?_
  refine mx_aload_n dX0_init_4 rfl rfl ?_
  refine mx_iconst dX0_init_5 ic_4 ?_
  obtain ⟨k2, H⟩ := H
  refine mx_anew 5 (by decide) rfl q165 q166 dX0_init_6 cn_4 (by decide) k2.1 k2.2 (by decide) (fun x_ lv_ => ?_)
  refine mx_nmN x_ lv_ (fun h3 eh3 Xh3 lv_ => ?_)
  have H := H h3 eh3 Xh3 lv_
  have k4 : ah_kd h3 (ah_sz h) = 45 := by rw [eh3]; exact if_pos rfl
  obtain ⟨k5, H⟩ := H
  obtain ⟨k6, H⟩ := H
  refine mx_putA 0 0 (ref := "PrairiePool") cl_0 (Nat.le_of_ble_eq_true rfl) (Or.inl q460) (Or.inl rfl) dX0_init_9 (Or.inr ⟨rfl, rfl, rfl, q460⟩) rfl (Or.inr k6) k5 ?_
  refine mx_nmR (ah_ext.wR (Or.inr (Or.inl k6))) (fun h7 eh7 Xh7 Kh7 Lh7 => ?_)
  have H := H h7 eh7 Xh7
  refine mx_aload_n dX0_init_12 rfl rfl ?_
  refine mx_bipush dX0_init_13 ib_20 ?_
  obtain ⟨k8, H⟩ := H
  refine mx_anew 6 (by decide) rfl q167 q168 dX0_init_15 cn_20 (by decide) k8.1 k8.2 (by decide) (fun x_ lv_ => ?_)
  refine mx_nmN x_ lv_ (fun h9 eh9 Xh9 lv_ => ?_)
  have H := H h9 eh9 Xh9 lv_
  have k10 := Xh9.kd ((ma_kde Kh7 (k4)))
  have k11 := Xh9.kd ((ma_kde Kh7 (k5)))
  have k12 : ah_kd h9 (ah_sz h7) = 46 := by rw [eh9]; exact if_pos rfl
  obtain ⟨k13, H⟩ := H
  refine mx_putA 0 1 (ref := "PrairiePool") cl_0 (Nat.le_of_ble_eq_true rfl) (Or.inl q461) (Or.inl rfl) dX0_init_18 (Or.inr ⟨rfl, rfl, rfl, q461⟩) rfl (Or.inr k13) k11 ?_
  refine mx_nmR (ah_ext.wR (Or.inr (Or.inl k13))) (fun h14 eh14 Xh14 Kh14 Lh14 => ?_)
  have H := H h14 eh14 Xh14
  refine mx_aload_n dX0_init_21 rfl rfl ?_
  refine mx_bipush dX0_init_22 ib_8 ?_
  obtain ⟨k15, H⟩ := H
  refine mx_anew 7 (by decide) rfl q169 q170 dX0_init_24 cn_8 (by decide) k15.1 k15.2 (by decide) (fun x_ lv_ => ?_)
  refine mx_nmN x_ lv_ (fun h16 eh16 Xh16 lv_ => ?_)
  have H := H h16 eh16 Xh16 lv_
  have k17 := Xh16.kd ((ma_kde Kh14 (k10)))
  have k18 := Xh16.kd ((ma_kde Kh14 (k11)))
  have k19 := Xh16.kd ((ma_kde Kh14 (k12)))
  have k20 : ah_kd h16 (ah_sz h14) = 47 := by rw [eh16]; exact if_pos rfl
  obtain ⟨k21, H⟩ := H
  refine mx_putA 0 2 (ref := "PrairiePool") cl_0 (Nat.le_of_ble_eq_true rfl) (Or.inl q462) (Or.inl rfl) dX0_init_27 (Or.inr ⟨rfl, rfl, rfl, q462⟩) rfl (Or.inr k21) k18 ?_
  refine mx_nmR (ah_ext.wR (Or.inr (Or.inl k21))) (fun h22 eh22 Xh22 Kh22 Lh22 => ?_)
  have H := H h22 eh22 Xh22
  refine mx_aload_n dX0_init_30 rfl rfl ?_
  refine mx_bipush dX0_init_31 ib_120 ?_
  obtain ⟨k23, H⟩ := H
  refine mx_anew 8 (by decide) rfl q171 q172 dX0_init_33 cn_120 (by decide) k23.1 k23.2 (by decide) (fun x_ lv_ => ?_)
  refine mx_nmN x_ lv_ (fun h24 eh24 Xh24 lv_ => ?_)
  have H := H h24 eh24 Xh24 lv_
  have k25 := Xh24.kd ((ma_kde Kh22 (k17)))
  have k26 := Xh24.kd ((ma_kde Kh22 (k18)))
  have k27 := Xh24.kd ((ma_kde Kh22 (k19)))
  have k28 := Xh24.kd ((ma_kde Kh22 (k20)))
  have k29 : ah_kd h24 (ah_sz h22) = 48 := by rw [eh24]; exact if_pos rfl
  obtain ⟨k30, H⟩ := H
  refine mx_putA 0 3 (ref := "PrairiePool") cl_0 (Nat.le_of_ble_eq_true rfl) (Or.inl q463) (Or.inl rfl) dX0_init_36 (Or.inr ⟨rfl, rfl, rfl, q463⟩) rfl (Or.inr k30) k26 ?_
  refine mx_nmR (ah_ext.wR (Or.inr (Or.inl k30))) (fun h31 eh31 Xh31 Kh31 Lh31 => ?_)
  have H := H h31 eh31 Xh31
  refine mx_aload_n dX0_init_39 rfl rfl ?_
  refine mx_bipush dX0_init_40 ib_100 ?_
  obtain ⟨k32, H⟩ := H
  refine mx_newa 0 rfl (by decide) q205 dX0_init_42 cn_100 (by decide) k32.1 k32.2 (by decide) (fun x_ lv_ => ?_)
  refine mx_nmN x_ lv_ (fun h33 eh33 Xh33 lv_ => ?_)
  have H := H h33 eh33 Xh33 lv_
  have k34 := Xh33.kd ((ma_kde Kh31 (k25)))
  have k35 := Xh33.kd ((ma_kde Kh31 (k26)))
  have k36 := Xh33.kd ((ma_kde Kh31 (k27)))
  have k37 := Xh33.kd ((ma_kde Kh31 (k28)))
  have k38 := Xh33.kd ((ma_kde Kh31 (k29)))
  have k39 : ah_kd h33 (ah_sz h31) = 40 := by rw [eh33]; exact if_pos rfl
  obtain ⟨k40, H⟩ := H
  refine mx_putA 0 4 (ref := "PrairiePool") cl_0 (Nat.le_of_ble_eq_true rfl) (Or.inl q464) (Or.inl rfl) dX0_init_44 (Or.inr ⟨rfl, rfl, rfl, q464⟩) rfl (Or.inr k40) k35 ?_
  refine mx_nmR (ah_ext.wR (Or.inr (Or.inl k40))) (fun h41 eh41 Xh41 Kh41 Lh41 => ?_)
  have H := H h41 eh41 Xh41
  refine mx_aload_n dX0_init_47 rfl rfl ?_
  refine mx_bipush dX0_init_48 ib_100 ?_
  obtain ⟨k42, H⟩ := H
  refine mx_newa 0 rfl (by decide) q205 dX0_init_50 cn_100 (by decide) k42.1 k42.2 (by decide) (fun x_ lv_ => ?_)
  refine mx_nmN x_ lv_ (fun h43 eh43 Xh43 lv_ => ?_)
  have H := H h43 eh43 Xh43 lv_
  have k44 := Xh43.kd ((ma_kde Kh41 (k34)))
  have k45 := Xh43.kd ((ma_kde Kh41 (k35)))
  have k46 := Xh43.kd ((ma_kde Kh41 (k36)))
  have k47 := Xh43.kd ((ma_kde Kh41 (k37)))
  have k48 := Xh43.kd ((ma_kde Kh41 (k38)))
  have k49 := Xh43.kd ((ma_kde Kh41 (k39)))
  have k50 : ah_kd h43 (ah_sz h41) = 40 := by rw [eh43]; exact if_pos rfl
  obtain ⟨k51, H⟩ := H
  refine mx_putA 0 5 (ref := "PrairiePool") cl_0 (Nat.le_of_ble_eq_true rfl) (Or.inl q465) (Or.inl rfl) dX0_init_52 (Or.inr ⟨rfl, rfl, rfl, q465⟩) rfl (Or.inr k51) k45 ?_
  refine mx_nmR (ah_ext.wR (Or.inr (Or.inl k51))) (fun h52 eh52 Xh52 Kh52 Lh52 => ?_)
  have H := H h52 eh52 Xh52
  refine mx_aload_n dX0_init_55 rfl rfl ?_
  refine mx_bipush dX0_init_56 ib_100 ?_
  obtain ⟨k53, H⟩ := H
  refine mx_newa 0 rfl (by decide) q205 dX0_init_58 cn_100 (by decide) k53.1 k53.2 (by decide) (fun x_ lv_ => ?_)
  refine mx_nmN x_ lv_ (fun h54 eh54 Xh54 lv_ => ?_)
  have H := H h54 eh54 Xh54 lv_
  have k55 := Xh54.kd ((ma_kde Kh52 (k44)))
  have k56 := Xh54.kd ((ma_kde Kh52 (k45)))
  have k57 := Xh54.kd ((ma_kde Kh52 (k46)))
  have k58 := Xh54.kd ((ma_kde Kh52 (k47)))
  have k59 := Xh54.kd ((ma_kde Kh52 (k48)))
  have k60 := Xh54.kd ((ma_kde Kh52 (k49)))
  have k61 := Xh54.kd ((ma_kde Kh52 (k50)))
  have k62 : ah_kd h54 (ah_sz h52) = 40 := by rw [eh54]; exact if_pos rfl
  obtain ⟨k63, H⟩ := H
  refine mx_putA 0 6 (ref := "PrairiePool") cl_0 (Nat.le_of_ble_eq_true rfl) (Or.inl q466) (Or.inl rfl) dX0_init_60 (Or.inr ⟨rfl, rfl, rfl, q466⟩) rfl (Or.inr k63) k56 ?_
  refine mx_nmR (ah_ext.wR (Or.inr (Or.inl k63))) (fun h64 eh64 Xh64 Kh64 Lh64 => ?_)
  have H := H h64 eh64 Xh64
  refine mx_aload_n dX0_init_63 rfl rfl ?_
  refine mx_bipush dX0_init_64 ib_100 ?_
  obtain ⟨k65, H⟩ := H
  refine mx_newa 0 rfl (by decide) q205 dX0_init_66 cn_100 (by decide) k65.1 k65.2 (by decide) (fun x_ lv_ => ?_)
  refine mx_nmN x_ lv_ (fun h66 eh66 Xh66 lv_ => ?_)
  have H := H h66 eh66 Xh66 lv_
  have k67 := Xh66.kd ((ma_kde Kh64 (k55)))
  have k68 := Xh66.kd ((ma_kde Kh64 (k56)))
  have k69 := Xh66.kd ((ma_kde Kh64 (k57)))
  have k70 := Xh66.kd ((ma_kde Kh64 (k58)))
  have k71 := Xh66.kd ((ma_kde Kh64 (k59)))
  have k72 := Xh66.kd ((ma_kde Kh64 (k60)))
  have k73 := Xh66.kd ((ma_kde Kh64 (k61)))
  have k74 := Xh66.kd ((ma_kde Kh64 (k62)))
  have k75 : ah_kd h66 (ah_sz h64) = 40 := by rw [eh66]; exact if_pos rfl
  obtain ⟨k76, H⟩ := H
  refine mx_putA 0 7 (ref := "PrairiePool") cl_0 (Nat.le_of_ble_eq_true rfl) (Or.inl q467) (Or.inl rfl) dX0_init_68 (Or.inr ⟨rfl, rfl, rfl, q467⟩) rfl (Or.inr k76) k68 ?_
  refine mx_nmR (ah_ext.wR (Or.inr (Or.inl k76))) (fun h77 eh77 Xh77 Kh77 Lh77 => ?_)
  have H := H h77 eh77 Xh77
  refine mx_aload_n dX0_init_71 rfl rfl ?_
  obtain ⟨k78, H⟩ := H
  refine mx_new 1 cl_1 dk_1 q173 q174 q120 dX0_init_72 k78.1 k78.2 (fun x_ lv_ => ?_)
  refine mx_nmN x_ lv_ (fun h79 eh79 Xh79 lv_ => ?_)
  have H := H h79 eh79 Xh79 lv_
  have k80 := Xh79.kd ((ma_kde Kh77 (k67)))
  have k81 := Xh79.kd ((ma_kde Kh77 (k68)))
  have k82 := Xh79.kd ((ma_kde Kh77 (k69)))
  have k83 := Xh79.kd ((ma_kde Kh77 (k70)))
  have k84 := Xh79.kd ((ma_kde Kh77 (k71)))
  have k85 := Xh79.kd ((ma_kde Kh77 (k72)))
  have k86 := Xh79.kd ((ma_kde Kh77 (k73)))
  have k87 := Xh79.kd ((ma_kde Kh77 (k74)))
  have k88 := Xh79.kd ((ma_kde Kh77 (k75)))
  have k89 : ah_kd h79 (ah_sz h77) = 2 := by rw [eh79]; exact if_pos rfl
  refine mx_dup_r dX0_init_75 ?_
  refine mx_callI (y' := mi_X1_init) (vs := []) (st := [rv (ah_sz h77), rv a0]) (al' := [some (rv (ah_sz h77)), none, none, none]) I_X1_init (Or.inl q175) dX0_init_76 rfl rfl (Nat.le_of_ble_eq_true rfl) (Nat.le_of_ble_eq_true rfl) (by rw [k89]; decide) ?_
  refine ma_kv H (fun h90 Xh90 H => ?_) (fun x1 h1 X1 H => mt_out rfl H)
  have H := H Xh90
  have k92 := Xh90.kd (k80)
  have k93 := Xh90.kd (k81)
  have k94 := Xh90.kd (k82)
  have k95 := Xh90.kd (k83)
  have k96 := Xh90.kd (k84)
  have k97 := Xh90.kd (k85)
  have k98 := Xh90.kd (k86)
  have k99 := Xh90.kd (k87)
  have k100 := Xh90.kd (k88)
  have k101 := Xh90.kd (k89)
  obtain ⟨k102, H⟩ := H
  refine mx_putO 0 8 (ref := "PrairiePool") cl_0 (Nat.le_of_ble_eq_true rfl) (Or.inl q468) (Or.inl rfl) dX0_init_79 (Or.inr ⟨rfl, rfl, rfl, q468⟩) rfl (Or.inr k102) k93 ?_
  refine mx_nmR (ah_ext.wR (Or.inr (Or.inl k102))) (fun h103 eh103 Xh103 Kh103 Lh103 => ?_)
  have H := H h103 eh103 Xh103
  refine mx_aload_n dX0_init_82 rfl rfl ?_
  obtain ⟨k104, H⟩ := H
  refine mx_new 2 cl_2 dk_2 q287 q187 q121 dX0_init_83 k104.1 k104.2 (fun x_ lv_ => ?_)
  refine mx_nmN x_ lv_ (fun h105 eh105 Xh105 lv_ => ?_)
  have H := H h105 eh105 Xh105 lv_
  have k106 := Xh105.kd ((ma_kde Kh103 (k92)))
  have k107 := Xh105.kd ((ma_kde Kh103 (k93)))
  have k108 := Xh105.kd ((ma_kde Kh103 (k94)))
  have k109 := Xh105.kd ((ma_kde Kh103 (k95)))
  have k110 := Xh105.kd ((ma_kde Kh103 (k96)))
  have k111 := Xh105.kd ((ma_kde Kh103 (k97)))
  have k112 := Xh105.kd ((ma_kde Kh103 (k98)))
  have k113 := Xh105.kd ((ma_kde Kh103 (k99)))
  have k114 := Xh105.kd ((ma_kde Kh103 (k100)))
  have k115 := Xh105.kd ((ma_kde Kh103 (k101)))
  have k116 : ah_kd h105 (ah_sz h103) = 3 := by rw [eh105]; exact if_pos rfl
  refine mx_dup_r dX0_init_86 ?_
  refine mx_callI (y' := mi_X2_init) (vs := []) (st := [rv (ah_sz h103), rv a0]) (al' := [some (rv (ah_sz h103))]) I_X2_init (Or.inr ⟨_, q288⟩) dX0_init_87 rfl rfl (Nat.le_of_ble_eq_true rfl) (Nat.le_of_ble_eq_true rfl) (by rw [k116]; decide) ?_
  refine ma_kv H (fun h117 Xh117 H => ?_) (fun x1 h1 X1 H => mt_out rfl H)
  have H := H Xh117
  have k119 := Xh117.kd (k106)
  have k120 := Xh117.kd (k107)
  have k121 := Xh117.kd (k108)
  have k122 := Xh117.kd (k109)
  have k123 := Xh117.kd (k110)
  have k124 := Xh117.kd (k111)
  have k125 := Xh117.kd (k112)
  have k126 := Xh117.kd (k113)
  have k127 := Xh117.kd (k114)
  have k128 := Xh117.kd (k115)
  have k129 := Xh117.kd (k116)
  obtain ⟨k130, H⟩ := H
  refine mx_putO 0 9 (ref := "PrairiePool") cl_0 (Nat.le_of_ble_eq_true rfl) (Or.inl q469) (Or.inl rfl) dX0_init_90 (Or.inr ⟨rfl, rfl, rfl, q469⟩) rfl (Or.inr k130) k120 ?_
  refine mx_nmR (ah_ext.wR (Or.inr (Or.inl k130))) (fun h131 eh131 Xh131 Kh131 Lh131 => ?_)
  have H := H h131 eh131 Xh131
  refine mx_aload_n dX0_init_93 rfl rfl ?_
  obtain ⟨k132, H⟩ := H
  refine mx_new 4 cl_4 dk_4 q289 q290 q126 dX0_init_94 k132.1 k132.2 (fun x_ lv_ => ?_)
  refine mx_nmN x_ lv_ (fun h133 eh133 Xh133 lv_ => ?_)
  have H := H h133 eh133 Xh133 lv_
  have k134 := Xh133.kd ((ma_kde Kh131 (k119)))
  have k135 := Xh133.kd ((ma_kde Kh131 (k120)))
  have k136 := Xh133.kd ((ma_kde Kh131 (k121)))
  have k137 := Xh133.kd ((ma_kde Kh131 (k122)))
  have k138 := Xh133.kd ((ma_kde Kh131 (k123)))
  have k139 := Xh133.kd ((ma_kde Kh131 (k124)))
  have k140 := Xh133.kd ((ma_kde Kh131 (k125)))
  have k141 := Xh133.kd ((ma_kde Kh131 (k126)))
  have k142 := Xh133.kd ((ma_kde Kh131 (k127)))
  have k143 := Xh133.kd ((ma_kde Kh131 (k128)))
  have k144 := Xh133.kd ((ma_kde Kh131 (k129)))
  have k145 : ah_kd h133 (ah_sz h131) = 5 := by rw [eh133]; exact if_pos rfl
  refine mx_dup_r dX0_init_97 ?_
  refine mx_callI (y' := mi_X4_init) (vs := []) (st := [rv (ah_sz h131), rv a0]) (al' := [some (rv (ah_sz h131))]) I_X4_init (Or.inl q344) dX0_init_98 rfl rfl (Nat.le_of_ble_eq_true rfl) (Nat.le_of_ble_eq_true rfl) (by rw [k145]; decide) ?_
  refine ma_kv H (fun h146 Xh146 H => ?_) (fun x1 h1 X1 H => mt_out rfl H)
  have H := H Xh146
  have k148 := Xh146.kd (k134)
  have k149 := Xh146.kd (k135)
  have k150 := Xh146.kd (k136)
  have k151 := Xh146.kd (k137)
  have k152 := Xh146.kd (k138)
  have k153 := Xh146.kd (k139)
  have k154 := Xh146.kd (k140)
  have k155 := Xh146.kd (k141)
  have k156 := Xh146.kd (k142)
  have k157 := Xh146.kd (k143)
  have k158 := Xh146.kd (k144)
  have k159 := Xh146.kd (k145)
  obtain ⟨k160, H⟩ := H
  refine mx_putO 0 10 (ref := "PrairiePool") cl_0 (Nat.le_of_ble_eq_true rfl) (Or.inl q470) (Or.inl rfl) dX0_init_101 (Or.inr ⟨rfl, rfl, rfl, q470⟩) rfl (Or.inr k160) k149 ?_
  refine mx_nmR (ah_ext.wR (Or.inr (Or.inl k160))) (fun h161 eh161 Xh161 Kh161 Lh161 => ?_)
  have H := H h161 eh161 Xh161
  refine mx_aload_n dX0_init_104 rfl rfl ?_
  obtain ⟨k162, H⟩ := H
  refine mx_new 5 cl_5 dk_5 q377 q378 q127 dX0_init_105 k162.1 k162.2 (fun x_ lv_ => ?_)
  refine mx_nmN x_ lv_ (fun h163 eh163 Xh163 lv_ => ?_)
  have H := H h163 eh163 Xh163 lv_
  have k164 := Xh163.kd ((ma_kde Kh161 (k148)))
  have k165 := Xh163.kd ((ma_kde Kh161 (k149)))
  have k166 := Xh163.kd ((ma_kde Kh161 (k150)))
  have k167 := Xh163.kd ((ma_kde Kh161 (k151)))
  have k168 := Xh163.kd ((ma_kde Kh161 (k152)))
  have k169 := Xh163.kd ((ma_kde Kh161 (k153)))
  have k170 := Xh163.kd ((ma_kde Kh161 (k154)))
  have k171 := Xh163.kd ((ma_kde Kh161 (k155)))
  have k172 := Xh163.kd ((ma_kde Kh161 (k156)))
  have k173 := Xh163.kd ((ma_kde Kh161 (k157)))
  have k174 := Xh163.kd ((ma_kde Kh161 (k158)))
  have k175 := Xh163.kd ((ma_kde Kh161 (k159)))
  have k176 : ah_kd h163 (ah_sz h161) = 6 := by rw [eh163]; exact if_pos rfl
  refine mx_dup_r dX0_init_108 ?_
  refine mx_aload_n dX0_init_109 rfl rfl ?_
  refine mx_get 0 10 (ref := "PrairiePool") cl_0 (Nat.le_of_ble_eq_true rfl) (Or.inl q470) (Or.inl rfl) dX0_init_110 (fv_0_10 _ _) k165 ?_
  refine mx_callI (y' := mi_X5_init) (vs := [rv (ah_R h163 a0 10)]) (st := [rv (ah_sz h161), rv a0]) (al' := [some (rv (ah_sz h161)), some (rv (ah_R h163 a0 10))]) I_X5_init (Or.inl q379) dX0_init_113 rfl rfl (Nat.le_of_ble_eq_true rfl) (Nat.le_of_ble_eq_true rfl) (by rw [k176]; decide) ?_
  refine ma_kv H (fun h177 Xh177 H => ?_) (fun x1 h1 X1 H => mt_out rfl H)
  have H := H Xh177
  have k179 := Xh177.kd (k164)
  have k180 := Xh177.kd (k165)
  have k181 := Xh177.kd (k166)
  have k182 := Xh177.kd (k167)
  have k183 := Xh177.kd (k168)
  have k184 := Xh177.kd (k169)
  have k185 := Xh177.kd (k170)
  have k186 := Xh177.kd (k171)
  have k187 := Xh177.kd (k172)
  have k188 := Xh177.kd (k173)
  have k189 := Xh177.kd (k174)
  have k190 := Xh177.kd (k175)
  have k191 := Xh177.kd (k176)
  obtain ⟨k192, H⟩ := H
  refine mx_putO 0 11 (ref := "PrairiePool") cl_0 (Nat.le_of_ble_eq_true rfl) (Or.inl q471) (Or.inl rfl) dX0_init_116 (Or.inr ⟨rfl, rfl, rfl, q471⟩) rfl (Or.inr k192) k180 ?_
  refine mx_nmR (ah_ext.wR (Or.inr (Or.inl k192))) (fun h193 eh193 Xh193 Kh193 Lh193 => ?_)
  have H := H h193 eh193 Xh193
  refine mx_aload_n dX0_init_119 rfl rfl ?_
  obtain ⟨k194, H⟩ := H
  refine mx_new 6 cl_6 dk_6 q413 q414 q128 dX0_init_120 k194.1 k194.2 (fun x_ lv_ => ?_)
  refine mx_nmN x_ lv_ (fun h195 eh195 Xh195 lv_ => ?_)
  have H := H h195 eh195 Xh195 lv_
  have k196 := Xh195.kd ((ma_kde Kh193 (k179)))
  have k197 := Xh195.kd ((ma_kde Kh193 (k180)))
  have k198 := Xh195.kd ((ma_kde Kh193 (k181)))
  have k199 := Xh195.kd ((ma_kde Kh193 (k182)))
  have k200 := Xh195.kd ((ma_kde Kh193 (k183)))
  have k201 := Xh195.kd ((ma_kde Kh193 (k184)))
  have k202 := Xh195.kd ((ma_kde Kh193 (k185)))
  have k203 := Xh195.kd ((ma_kde Kh193 (k186)))
  have k204 := Xh195.kd ((ma_kde Kh193 (k187)))
  have k205 := Xh195.kd ((ma_kde Kh193 (k188)))
  have k206 := Xh195.kd ((ma_kde Kh193 (k189)))
  have k207 := Xh195.kd ((ma_kde Kh193 (k190)))
  have k208 := Xh195.kd ((ma_kde Kh193 (k191)))
  have k209 : ah_kd h195 (ah_sz h193) = 7 := by rw [eh195]; exact if_pos rfl
  refine mx_dup_r dX0_init_123 ?_
  refine mx_aload_n dX0_init_124 rfl rfl ?_
  refine mx_get 0 10 (ref := "PrairiePool") cl_0 (Nat.le_of_ble_eq_true rfl) (Or.inl q470) (Or.inl rfl) dX0_init_125 (fv_0_10 _ _) k197 ?_
  refine mx_callI (y' := mi_X6_init) (vs := [rv (ah_R h195 a0 10)]) (st := [rv (ah_sz h193), rv a0]) (al' := [some (rv (ah_sz h193)), some (rv (ah_R h195 a0 10))]) I_X6_init (Or.inl q415) dX0_init_128 rfl rfl (Nat.le_of_ble_eq_true rfl) (Nat.le_of_ble_eq_true rfl) (by rw [k209]; decide) ?_
  refine ma_kv H (fun h210 Xh210 H => ?_) (fun x1 h1 X1 H => mt_out rfl H)
  have H := H Xh210
  have k212 := Xh210.kd (k196)
  have k213 := Xh210.kd (k197)
  have k214 := Xh210.kd (k198)
  have k215 := Xh210.kd (k199)
  have k216 := Xh210.kd (k200)
  have k217 := Xh210.kd (k201)
  have k218 := Xh210.kd (k202)
  have k219 := Xh210.kd (k203)
  have k220 := Xh210.kd (k204)
  have k221 := Xh210.kd (k205)
  have k222 := Xh210.kd (k206)
  have k223 := Xh210.kd (k207)
  have k224 := Xh210.kd (k208)
  have k225 := Xh210.kd (k209)
  obtain ⟨k226, H⟩ := H
  refine mx_putO 0 12 (ref := "PrairiePool") cl_0 (Nat.le_of_ble_eq_true rfl) (Or.inl q472) (Or.inl rfl) dX0_init_131 (Or.inr ⟨rfl, rfl, rfl, q472⟩) rfl (Or.inr k226) k213 ?_
  refine mx_nmR (ah_ext.wR (Or.inr (Or.inl k226))) (fun h227 eh227 Xh227 Kh227 Lh227 => ?_)
  have H := H h227 eh227 Xh227
  refine mx_aload_n dX0_init_134 rfl rfl ?_
  refine mx_iconst dX0_init_135 ic_4 ?_
  obtain ⟨k228, H⟩ := H
  refine mx_anew 9 (by decide) rfl q442 q443 dX0_init_136 cn_4 (by decide) k228.1 k228.2 (by decide) (fun x_ lv_ => ?_)
  refine mx_nmN x_ lv_ (fun h229 eh229 Xh229 lv_ => ?_)
  have H := H h229 eh229 Xh229 lv_
  have k230 := Xh229.kd ((ma_kde Kh227 (k212)))
  have k231 := Xh229.kd ((ma_kde Kh227 (k213)))
  have k232 := Xh229.kd ((ma_kde Kh227 (k214)))
  have k233 := Xh229.kd ((ma_kde Kh227 (k215)))
  have k234 := Xh229.kd ((ma_kde Kh227 (k216)))
  have k235 := Xh229.kd ((ma_kde Kh227 (k217)))
  have k236 := Xh229.kd ((ma_kde Kh227 (k218)))
  have k237 := Xh229.kd ((ma_kde Kh227 (k219)))
  have k238 := Xh229.kd ((ma_kde Kh227 (k220)))
  have k239 := Xh229.kd ((ma_kde Kh227 (k221)))
  have k240 := Xh229.kd ((ma_kde Kh227 (k222)))
  have k241 := Xh229.kd ((ma_kde Kh227 (k223)))
  have k242 := Xh229.kd ((ma_kde Kh227 (k224)))
  have k243 := Xh229.kd ((ma_kde Kh227 (k225)))
  have k244 : ah_kd h229 (ah_sz h227) = 49 := by rw [eh229]; exact if_pos rfl
  obtain ⟨k245, H⟩ := H
  refine mx_putA 0 13 (ref := "PrairiePool") cl_0 (Nat.le_of_ble_eq_true rfl) (Or.inl q473) (Or.inl rfl) dX0_init_139 (Or.inr ⟨rfl, rfl, rfl, q473⟩) rfl (Or.inr k245) k231 ?_
  refine mx_nmR (ah_ext.wR (Or.inr (Or.inl k245))) (fun h246 eh246 Xh246 Kh246 Lh246 => ?_)
  have H := H h246 eh246 Xh246
  refine mx_aload_n dX0_init_142 rfl rfl ?_
  refine mx_iconst dX0_init_143 ic_m1 ?_
  refine mx_putI 0 21 (ref := "PrairiePool") cl_0 (Nat.le_of_ble_eq_true rfl) (Or.inl q481) (Or.inl rfl) dX0_init_144 (Or.inl rfl) rfl (ma_kde Kh246 (k231)) ?_
  refine mx_nmI  (fun h247 eh247 Xh247 Kh247 Lh247 => ?_)
  have H := H h247 eh247 Xh247
  have Kh247 := Kh247.trans Kh246
  have Lh247 := Lh247.trans Lh246
  refine mx_aload_n dX0_init_147 rfl rfl ?_
  refine mx_iconst dX0_init_148 ic_m1 ?_
  refine mx_putI 0 22 (ref := "PrairiePool") cl_0 (Nat.le_of_ble_eq_true rfl) (Or.inl q482) (Or.inl rfl) dX0_init_149 (Or.inl rfl) rfl (ma_kde Kh247 (k231)) ?_
  refine mx_nmI  (fun h248 eh248 Xh248 Kh248 Lh248 => ?_)
  have H := H h248 eh248 Xh248
  have Kh248 := Kh248.trans Kh247
  have Lh248 := Lh248.trans Lh247
  refine mx_aload_n dX0_init_152 rfl rfl ?_
  refine mx_bipush dX0_init_153 ib_20 ?_
  obtain ⟨k249, H⟩ := H
  refine mx_newa 1 rfl (by decide) q206 dX0_init_155 cn_20 (by decide) k249.1 k249.2 (by decide) (fun x_ lv_ => ?_)
  refine mx_nmN x_ lv_ (fun h250 eh250 Xh250 lv_ => ?_)
  have H := H h250 eh250 Xh250 lv_
  have k251 := Xh250.kd ((ma_kde Kh248 (k230)))
  have k252 := Xh250.kd ((ma_kde Kh248 (k231)))
  have k253 := Xh250.kd ((ma_kde Kh248 (k232)))
  have k254 := Xh250.kd ((ma_kde Kh248 (k233)))
  have k255 := Xh250.kd ((ma_kde Kh248 (k234)))
  have k256 := Xh250.kd ((ma_kde Kh248 (k235)))
  have k257 := Xh250.kd ((ma_kde Kh248 (k236)))
  have k258 := Xh250.kd ((ma_kde Kh248 (k237)))
  have k259 := Xh250.kd ((ma_kde Kh248 (k238)))
  have k260 := Xh250.kd ((ma_kde Kh248 (k239)))
  have k261 := Xh250.kd ((ma_kde Kh248 (k240)))
  have k262 := Xh250.kd ((ma_kde Kh248 (k241)))
  have k263 := Xh250.kd ((ma_kde Kh248 (k242)))
  have k264 := Xh250.kd ((ma_kde Kh248 (k243)))
  have k265 := Xh250.kd ((ma_kde Kh248 (k244)))
  have k266 : ah_kd h250 (ah_sz h248) = 41 := by rw [eh250]; exact if_pos rfl
  obtain ⟨k267, H⟩ := H
  refine mx_putA 0 24 (ref := "PrairiePool") cl_0 (Nat.le_of_ble_eq_true rfl) (Or.inl q484) (Or.inl rfl) dX0_init_157 (Or.inr ⟨rfl, rfl, rfl, q484⟩) rfl (Or.inr k267) k252 ?_
  refine mx_nmR (ah_ext.wR (Or.inr (Or.inl k267))) (fun h268 eh268 Xh268 Kh268 Lh268 => ?_)
  have H := H h268 eh268 Xh268
  refine mx_aload_n dX0_init_160 rfl rfl ?_
  refine mx_bipush dX0_init_161 ib_20 ?_
  obtain ⟨k269, H⟩ := H
  refine mx_newa 1 rfl (by decide) q206 dX0_init_163 cn_20 (by decide) k269.1 k269.2 (by decide) (fun x_ lv_ => ?_)
  refine mx_nmN x_ lv_ (fun h270 eh270 Xh270 lv_ => ?_)
  have H := H h270 eh270 Xh270 lv_
  have k271 := Xh270.kd ((ma_kde Kh268 (k251)))
  have k272 := Xh270.kd ((ma_kde Kh268 (k252)))
  have k273 := Xh270.kd ((ma_kde Kh268 (k253)))
  have k274 := Xh270.kd ((ma_kde Kh268 (k254)))
  have k275 := Xh270.kd ((ma_kde Kh268 (k255)))
  have k276 := Xh270.kd ((ma_kde Kh268 (k256)))
  have k277 := Xh270.kd ((ma_kde Kh268 (k257)))
  have k278 := Xh270.kd ((ma_kde Kh268 (k258)))
  have k279 := Xh270.kd ((ma_kde Kh268 (k259)))
  have k280 := Xh270.kd ((ma_kde Kh268 (k260)))
  have k281 := Xh270.kd ((ma_kde Kh268 (k261)))
  have k282 := Xh270.kd ((ma_kde Kh268 (k262)))
  have k283 := Xh270.kd ((ma_kde Kh268 (k263)))
  have k284 := Xh270.kd ((ma_kde Kh268 (k264)))
  have k285 := Xh270.kd ((ma_kde Kh268 (k265)))
  have k286 := Xh270.kd ((ma_kde Kh268 (k266)))
  have k287 : ah_kd h270 (ah_sz h268) = 41 := by rw [eh270]; exact if_pos rfl
  obtain ⟨k288, H⟩ := H
  refine mx_putA 0 25 (ref := "PrairiePool") cl_0 (Nat.le_of_ble_eq_true rfl) (Or.inl q485) (Or.inl rfl) dX0_init_165 (Or.inr ⟨rfl, rfl, rfl, q485⟩) rfl (Or.inr k288) k272 ?_
  refine mx_nmR (ah_ext.wR (Or.inr (Or.inl k288))) (fun h289 eh289 Xh289 Kh289 Lh289 => ?_)
  have H := H h289 eh289 Xh289
  refine mx_aload_n dX0_init_168 rfl rfl ?_
  refine mx_bipush dX0_init_169 ib_20 ?_
  obtain ⟨k290, H⟩ := H
  refine mx_newa 1 rfl (by decide) q206 dX0_init_171 cn_20 (by decide) k290.1 k290.2 (by decide) (fun x_ lv_ => ?_)
  refine mx_nmN x_ lv_ (fun h291 eh291 Xh291 lv_ => ?_)
  have H := H h291 eh291 Xh291 lv_
  have k292 := Xh291.kd ((ma_kde Kh289 (k271)))
  have k293 := Xh291.kd ((ma_kde Kh289 (k272)))
  have k294 := Xh291.kd ((ma_kde Kh289 (k273)))
  have k295 := Xh291.kd ((ma_kde Kh289 (k274)))
  have k296 := Xh291.kd ((ma_kde Kh289 (k275)))
  have k297 := Xh291.kd ((ma_kde Kh289 (k276)))
  have k298 := Xh291.kd ((ma_kde Kh289 (k277)))
  have k299 := Xh291.kd ((ma_kde Kh289 (k278)))
  have k300 := Xh291.kd ((ma_kde Kh289 (k279)))
  have k301 := Xh291.kd ((ma_kde Kh289 (k280)))
  have k302 := Xh291.kd ((ma_kde Kh289 (k281)))
  have k303 := Xh291.kd ((ma_kde Kh289 (k282)))
  have k304 := Xh291.kd ((ma_kde Kh289 (k283)))
  have k305 := Xh291.kd ((ma_kde Kh289 (k284)))
  have k306 := Xh291.kd ((ma_kde Kh289 (k285)))
  have k307 := Xh291.kd ((ma_kde Kh289 (k286)))
  have k308 := Xh291.kd ((ma_kde Kh289 (k287)))
  have k309 : ah_kd h291 (ah_sz h289) = 41 := by rw [eh291]; exact if_pos rfl
  obtain ⟨k310, H⟩ := H
  refine mx_putA 0 26 (ref := "PrairiePool") cl_0 (Nat.le_of_ble_eq_true rfl) (Or.inl q486) (Or.inl rfl) dX0_init_173 (Or.inr ⟨rfl, rfl, rfl, q486⟩) rfl (Or.inr k310) k293 ?_
  refine mx_nmR (ah_ext.wR (Or.inr (Or.inl k310))) (fun h311 eh311 Xh311 Kh311 Lh311 => ?_)
  have H := H h311 eh311 Xh311
  refine mx_aload_n dX0_init_176 rfl rfl ?_
  refine mx_bipush dX0_init_177 ib_8 ?_
  obtain ⟨k312, H⟩ := H
  refine mx_newa 0 rfl (by decide) q205 dX0_init_179 cn_8 (by decide) k312.1 k312.2 (by decide) (fun x_ lv_ => ?_)
  refine mx_nmN x_ lv_ (fun h313 eh313 Xh313 lv_ => ?_)
  have H := H h313 eh313 Xh313 lv_
  have k314 := Xh313.kd ((ma_kde Kh311 (k292)))
  have k315 := Xh313.kd ((ma_kde Kh311 (k293)))
  have k316 := Xh313.kd ((ma_kde Kh311 (k294)))
  have k317 := Xh313.kd ((ma_kde Kh311 (k295)))
  have k318 := Xh313.kd ((ma_kde Kh311 (k296)))
  have k319 := Xh313.kd ((ma_kde Kh311 (k297)))
  have k320 := Xh313.kd ((ma_kde Kh311 (k298)))
  have k321 := Xh313.kd ((ma_kde Kh311 (k299)))
  have k322 := Xh313.kd ((ma_kde Kh311 (k300)))
  have k323 := Xh313.kd ((ma_kde Kh311 (k301)))
  have k324 := Xh313.kd ((ma_kde Kh311 (k302)))
  have k325 := Xh313.kd ((ma_kde Kh311 (k303)))
  have k326 := Xh313.kd ((ma_kde Kh311 (k304)))
  have k327 := Xh313.kd ((ma_kde Kh311 (k305)))
  have k328 := Xh313.kd ((ma_kde Kh311 (k306)))
  have k329 := Xh313.kd ((ma_kde Kh311 (k307)))
  have k330 := Xh313.kd ((ma_kde Kh311 (k308)))
  have k331 := Xh313.kd ((ma_kde Kh311 (k309)))
  have k332 : ah_kd h313 (ah_sz h311) = 40 := by rw [eh313]; exact if_pos rfl
  obtain ⟨k333, H⟩ := H
  refine mx_putA 0 29 (ref := "PrairiePool") cl_0 (Nat.le_of_ble_eq_true rfl) (Or.inl q489) (Or.inl rfl) dX0_init_181 (Or.inr ⟨rfl, rfl, rfl, q489⟩) rfl (Or.inr k333) k315 ?_
  refine mx_nmR (ah_ext.wR (Or.inr (Or.inl k333))) (fun h334 eh334 Xh334 Kh334 Lh334 => ?_)
  have H := H h334 eh334 Xh334
  refine mx_aload_n dX0_init_184 rfl rfl ?_
  refine mx_bipush dX0_init_185 ib_8 ?_
  obtain ⟨k335, H⟩ := H
  refine mx_newa 0 rfl (by decide) q205 dX0_init_187 cn_8 (by decide) k335.1 k335.2 (by decide) (fun x_ lv_ => ?_)
  refine mx_nmN x_ lv_ (fun h336 eh336 Xh336 lv_ => ?_)
  have H := H h336 eh336 Xh336 lv_
  have k337 := Xh336.kd ((ma_kde Kh334 (k314)))
  have k338 := Xh336.kd ((ma_kde Kh334 (k315)))
  have k339 := Xh336.kd ((ma_kde Kh334 (k316)))
  have k340 := Xh336.kd ((ma_kde Kh334 (k317)))
  have k341 := Xh336.kd ((ma_kde Kh334 (k318)))
  have k342 := Xh336.kd ((ma_kde Kh334 (k319)))
  have k343 := Xh336.kd ((ma_kde Kh334 (k320)))
  have k344 := Xh336.kd ((ma_kde Kh334 (k321)))
  have k345 := Xh336.kd ((ma_kde Kh334 (k322)))
  have k346 := Xh336.kd ((ma_kde Kh334 (k323)))
  have k347 := Xh336.kd ((ma_kde Kh334 (k324)))
  have k348 := Xh336.kd ((ma_kde Kh334 (k325)))
  have k349 := Xh336.kd ((ma_kde Kh334 (k326)))
  have k350 := Xh336.kd ((ma_kde Kh334 (k327)))
  have k351 := Xh336.kd ((ma_kde Kh334 (k328)))
  have k352 := Xh336.kd ((ma_kde Kh334 (k329)))
  have k353 := Xh336.kd ((ma_kde Kh334 (k330)))
  have k354 := Xh336.kd ((ma_kde Kh334 (k331)))
  have k355 := Xh336.kd ((ma_kde Kh334 (k332)))
  have k356 : ah_kd h336 (ah_sz h334) = 40 := by rw [eh336]; exact if_pos rfl
  obtain ⟨k357, H⟩ := H
  refine mx_putA 0 30 (ref := "PrairiePool") cl_0 (Nat.le_of_ble_eq_true rfl) (Or.inl q490) (Or.inl rfl) dX0_init_189 (Or.inr ⟨rfl, rfl, rfl, q490⟩) rfl (Or.inr k357) k338 ?_
  refine mx_nmR (ah_ext.wR (Or.inr (Or.inl k357))) (fun h358 eh358 Xh358 Kh358 Lh358 => ?_)
  have H := H h358 eh358 Xh358
  refine mx_aload_n dX0_init_192 rfl rfl ?_
  refine mx_bipush dX0_init_193 ib_60 ?_
  obtain ⟨k359, H⟩ := H
  refine mx_newa 0 rfl (by decide) q205 dX0_init_195 cn_60 (by decide) k359.1 k359.2 (by decide) (fun x_ lv_ => ?_)
  refine mx_nmN x_ lv_ (fun h360 eh360 Xh360 lv_ => ?_)
  have H := H h360 eh360 Xh360 lv_
  have k361 := Xh360.kd ((ma_kde Kh358 (k337)))
  have k362 := Xh360.kd ((ma_kde Kh358 (k338)))
  have k363 := Xh360.kd ((ma_kde Kh358 (k339)))
  have k364 := Xh360.kd ((ma_kde Kh358 (k340)))
  have k365 := Xh360.kd ((ma_kde Kh358 (k341)))
  have k366 := Xh360.kd ((ma_kde Kh358 (k342)))
  have k367 := Xh360.kd ((ma_kde Kh358 (k343)))
  have k368 := Xh360.kd ((ma_kde Kh358 (k344)))
  have k369 := Xh360.kd ((ma_kde Kh358 (k345)))
  have k370 := Xh360.kd ((ma_kde Kh358 (k346)))
  have k371 := Xh360.kd ((ma_kde Kh358 (k347)))
  have k372 := Xh360.kd ((ma_kde Kh358 (k348)))
  have k373 := Xh360.kd ((ma_kde Kh358 (k349)))
  have k374 := Xh360.kd ((ma_kde Kh358 (k350)))
  have k375 := Xh360.kd ((ma_kde Kh358 (k351)))
  have k376 := Xh360.kd ((ma_kde Kh358 (k352)))
  have k377 := Xh360.kd ((ma_kde Kh358 (k353)))
  have k378 := Xh360.kd ((ma_kde Kh358 (k354)))
  have k379 := Xh360.kd ((ma_kde Kh358 (k355)))
  have k380 := Xh360.kd ((ma_kde Kh358 (k356)))
  have k381 : ah_kd h360 (ah_sz h358) = 40 := by rw [eh360]; exact if_pos rfl
  obtain ⟨k382, H⟩ := H
  refine mx_putA 0 31 (ref := "PrairiePool") cl_0 (Nat.le_of_ble_eq_true rfl) (Or.inl q491) (Or.inl rfl) dX0_init_197 (Or.inr ⟨rfl, rfl, rfl, q491⟩) rfl (Or.inr k382) k362 ?_
  refine mx_nmR (ah_ext.wR (Or.inr (Or.inl k382))) (fun h383 eh383 Xh383 Kh383 Lh383 => ?_)
  have H := H h383 eh383 Xh383
  refine mx_aload_n dX0_init_200 rfl rfl ?_
  refine mx_bipush dX0_init_201 ib_60 ?_
  obtain ⟨k384, H⟩ := H
  refine mx_newa 0 rfl (by decide) q205 dX0_init_203 cn_60 (by decide) k384.1 k384.2 (by decide) (fun x_ lv_ => ?_)
  refine mx_nmN x_ lv_ (fun h385 eh385 Xh385 lv_ => ?_)
  have H := H h385 eh385 Xh385 lv_
  have k386 := Xh385.kd ((ma_kde Kh383 (k361)))
  have k387 := Xh385.kd ((ma_kde Kh383 (k362)))
  have k388 := Xh385.kd ((ma_kde Kh383 (k363)))
  have k389 := Xh385.kd ((ma_kde Kh383 (k364)))
  have k390 := Xh385.kd ((ma_kde Kh383 (k365)))
  have k391 := Xh385.kd ((ma_kde Kh383 (k366)))
  have k392 := Xh385.kd ((ma_kde Kh383 (k367)))
  have k393 := Xh385.kd ((ma_kde Kh383 (k368)))
  have k394 := Xh385.kd ((ma_kde Kh383 (k369)))
  have k395 := Xh385.kd ((ma_kde Kh383 (k370)))
  have k396 := Xh385.kd ((ma_kde Kh383 (k371)))
  have k397 := Xh385.kd ((ma_kde Kh383 (k372)))
  have k398 := Xh385.kd ((ma_kde Kh383 (k373)))
  have k399 := Xh385.kd ((ma_kde Kh383 (k374)))
  have k400 := Xh385.kd ((ma_kde Kh383 (k375)))
  have k401 := Xh385.kd ((ma_kde Kh383 (k376)))
  have k402 := Xh385.kd ((ma_kde Kh383 (k377)))
  have k403 := Xh385.kd ((ma_kde Kh383 (k378)))
  have k404 := Xh385.kd ((ma_kde Kh383 (k379)))
  have k405 := Xh385.kd ((ma_kde Kh383 (k380)))
  have k406 := Xh385.kd ((ma_kde Kh383 (k381)))
  have k407 : ah_kd h385 (ah_sz h383) = 40 := by rw [eh385]; exact if_pos rfl
  obtain ⟨k408, H⟩ := H
  refine mx_putA 0 32 (ref := "PrairiePool") cl_0 (Nat.le_of_ble_eq_true rfl) (Or.inl q492) (Or.inl rfl) dX0_init_205 (Or.inr ⟨rfl, rfl, rfl, q492⟩) rfl (Or.inr k408) k387 ?_
  refine mx_nmR (ah_ext.wR (Or.inr (Or.inl k408))) (fun h409 eh409 Xh409 Kh409 Lh409 => ?_)
  have H := H h409 eh409 Xh409
  refine mx_aload_n dX0_init_208 rfl rfl ?_
  refine mx_bipush dX0_init_209 ib_60 ?_
  obtain ⟨k410, H⟩ := H
  refine mx_newa 0 rfl (by decide) q205 dX0_init_211 cn_60 (by decide) k410.1 k410.2 (by decide) (fun x_ lv_ => ?_)
  refine mx_nmN x_ lv_ (fun h411 eh411 Xh411 lv_ => ?_)
  have H := H h411 eh411 Xh411 lv_
  have k412 := Xh411.kd ((ma_kde Kh409 (k386)))
  have k413 := Xh411.kd ((ma_kde Kh409 (k387)))
  have k414 := Xh411.kd ((ma_kde Kh409 (k388)))
  have k415 := Xh411.kd ((ma_kde Kh409 (k389)))
  have k416 := Xh411.kd ((ma_kde Kh409 (k390)))
  have k417 := Xh411.kd ((ma_kde Kh409 (k391)))
  have k418 := Xh411.kd ((ma_kde Kh409 (k392)))
  have k419 := Xh411.kd ((ma_kde Kh409 (k393)))
  have k420 := Xh411.kd ((ma_kde Kh409 (k394)))
  have k421 := Xh411.kd ((ma_kde Kh409 (k395)))
  have k422 := Xh411.kd ((ma_kde Kh409 (k396)))
  have k423 := Xh411.kd ((ma_kde Kh409 (k397)))
  have k424 := Xh411.kd ((ma_kde Kh409 (k398)))
  have k425 := Xh411.kd ((ma_kde Kh409 (k399)))
  have k426 := Xh411.kd ((ma_kde Kh409 (k400)))
  have k427 := Xh411.kd ((ma_kde Kh409 (k401)))
  have k428 := Xh411.kd ((ma_kde Kh409 (k402)))
  have k429 := Xh411.kd ((ma_kde Kh409 (k403)))
  have k430 := Xh411.kd ((ma_kde Kh409 (k404)))
  have k431 := Xh411.kd ((ma_kde Kh409 (k405)))
  have k432 := Xh411.kd ((ma_kde Kh409 (k406)))
  have k433 := Xh411.kd ((ma_kde Kh409 (k407)))
  have k434 : ah_kd h411 (ah_sz h409) = 40 := by rw [eh411]; exact if_pos rfl
  obtain ⟨k435, H⟩ := H
  refine mx_putA 0 33 (ref := "PrairiePool") cl_0 (Nat.le_of_ble_eq_true rfl) (Or.inl q493) (Or.inl rfl) dX0_init_213 (Or.inr ⟨rfl, rfl, rfl, q493⟩) rfl (Or.inr k435) k413 ?_
  refine mx_nmR (ah_ext.wR (Or.inr (Or.inl k435))) (fun h436 eh436 Xh436 Kh436 Lh436 => ?_)
  have H := H h436 eh436 Xh436
  refine mx_aload_n dX0_init_216 rfl rfl ?_
  refine mx_bipush dX0_init_217 ib_60 ?_
  obtain ⟨k437, H⟩ := H
  refine mx_newa 0 rfl (by decide) q205 dX0_init_219 cn_60 (by decide) k437.1 k437.2 (by decide) (fun x_ lv_ => ?_)
  refine mx_nmN x_ lv_ (fun h438 eh438 Xh438 lv_ => ?_)
  have H := H h438 eh438 Xh438 lv_
  have k439 := Xh438.kd ((ma_kde Kh436 (k412)))
  have k440 := Xh438.kd ((ma_kde Kh436 (k413)))
  have k441 := Xh438.kd ((ma_kde Kh436 (k414)))
  have k442 := Xh438.kd ((ma_kde Kh436 (k415)))
  have k443 := Xh438.kd ((ma_kde Kh436 (k416)))
  have k444 := Xh438.kd ((ma_kde Kh436 (k417)))
  have k445 := Xh438.kd ((ma_kde Kh436 (k418)))
  have k446 := Xh438.kd ((ma_kde Kh436 (k419)))
  have k447 := Xh438.kd ((ma_kde Kh436 (k420)))
  have k448 := Xh438.kd ((ma_kde Kh436 (k421)))
  have k449 := Xh438.kd ((ma_kde Kh436 (k422)))
  have k450 := Xh438.kd ((ma_kde Kh436 (k423)))
  have k451 := Xh438.kd ((ma_kde Kh436 (k424)))
  have k452 := Xh438.kd ((ma_kde Kh436 (k425)))
  have k453 := Xh438.kd ((ma_kde Kh436 (k426)))
  have k454 := Xh438.kd ((ma_kde Kh436 (k427)))
  have k455 := Xh438.kd ((ma_kde Kh436 (k428)))
  have k456 := Xh438.kd ((ma_kde Kh436 (k429)))
  have k457 := Xh438.kd ((ma_kde Kh436 (k430)))
  have k458 := Xh438.kd ((ma_kde Kh436 (k431)))
  have k459 := Xh438.kd ((ma_kde Kh436 (k432)))
  have k460 := Xh438.kd ((ma_kde Kh436 (k433)))
  have k461 := Xh438.kd ((ma_kde Kh436 (k434)))
  have k462 : ah_kd h438 (ah_sz h436) = 40 := by rw [eh438]; exact if_pos rfl
  obtain ⟨k463, H⟩ := H
  refine mx_putA 0 34 (ref := "PrairiePool") cl_0 (Nat.le_of_ble_eq_true rfl) (Or.inl q494) (Or.inl rfl) dX0_init_221 (Or.inr ⟨rfl, rfl, rfl, q494⟩) rfl (Or.inr k463) k440 ?_
  refine mx_nmR (ah_ext.wR (Or.inr (Or.inl k463))) (fun h464 eh464 Xh464 Kh464 Lh464 => ?_)
  have H := H h464 eh464 Xh464
  refine mx_aload_n dX0_init_224 rfl rfl ?_
  refine mx_sipush dX0_init_225 is_520 ?_
  obtain ⟨k465, H⟩ := H
  refine mx_newa 0 rfl (by decide) q205 dX0_init_228 cn_520 (by decide) k465.1 k465.2 (by decide) (fun x_ lv_ => ?_)
  refine mx_nmN x_ lv_ (fun h466 eh466 Xh466 lv_ => ?_)
  have H := H h466 eh466 Xh466 lv_
  have k467 := Xh466.kd ((ma_kde Kh464 (k439)))
  have k468 := Xh466.kd ((ma_kde Kh464 (k440)))
  have k469 := Xh466.kd ((ma_kde Kh464 (k441)))
  have k470 := Xh466.kd ((ma_kde Kh464 (k442)))
  have k471 := Xh466.kd ((ma_kde Kh464 (k443)))
  have k472 := Xh466.kd ((ma_kde Kh464 (k444)))
  have k473 := Xh466.kd ((ma_kde Kh464 (k445)))
  have k474 := Xh466.kd ((ma_kde Kh464 (k446)))
  have k475 := Xh466.kd ((ma_kde Kh464 (k447)))
  have k476 := Xh466.kd ((ma_kde Kh464 (k448)))
  have k477 := Xh466.kd ((ma_kde Kh464 (k449)))
  have k478 := Xh466.kd ((ma_kde Kh464 (k450)))
  have k479 := Xh466.kd ((ma_kde Kh464 (k451)))
  have k480 := Xh466.kd ((ma_kde Kh464 (k452)))
  have k481 := Xh466.kd ((ma_kde Kh464 (k453)))
  have k482 := Xh466.kd ((ma_kde Kh464 (k454)))
  have k483 := Xh466.kd ((ma_kde Kh464 (k455)))
  have k484 := Xh466.kd ((ma_kde Kh464 (k456)))
  have k485 := Xh466.kd ((ma_kde Kh464 (k457)))
  have k486 := Xh466.kd ((ma_kde Kh464 (k458)))
  have k487 := Xh466.kd ((ma_kde Kh464 (k459)))
  have k488 := Xh466.kd ((ma_kde Kh464 (k460)))
  have k489 := Xh466.kd ((ma_kde Kh464 (k461)))
  have k490 := Xh466.kd ((ma_kde Kh464 (k462)))
  have k491 : ah_kd h466 (ah_sz h464) = 40 := by rw [eh466]; exact if_pos rfl
  obtain ⟨k492, H⟩ := H
  refine mx_putA 0 35 (ref := "PrairiePool") cl_0 (Nat.le_of_ble_eq_true rfl) (Or.inl q495) (Or.inl rfl) dX0_init_230 (Or.inr ⟨rfl, rfl, rfl, q495⟩) rfl (Or.inr k492) k468 ?_
  refine mx_nmR (ah_ext.wR (Or.inr (Or.inl k492))) (fun h493 eh493 Xh493 Kh493 Lh493 => ?_)
  have H := H h493 eh493 Xh493
  refine mx_aload_n dX0_init_233 rfl rfl ?_
  refine mx_bipush dX0_init_234 ib_10 ?_
  refine mx_putI 0 37 (ref := "PrairiePool") cl_0 (Nat.le_of_ble_eq_true rfl) (Or.inl q497) (Or.inl rfl) dX0_init_236 (Or.inl rfl) rfl (ma_kde Kh493 (k468)) ?_
  refine mx_nmI  (fun h494 eh494 Xh494 Kh494 Lh494 => ?_)
  have H := H h494 eh494 Xh494
  have Kh494 := Kh494.trans Kh493
  have Lh494 := Lh494.trans Lh493
  refine mx_aload_n dX0_init_239 rfl rfl ?_
  refine mx_iconst dX0_init_240 ic_2 ?_
  refine mx_putI 0 38 (ref := "PrairiePool") cl_0 (Nat.le_of_ble_eq_true rfl) (Or.inl q498) (Or.inl rfl) dX0_init_241 (Or.inl rfl) rfl (ma_kde Kh494 (k468)) ?_
  refine mx_nmI  (fun h495 eh495 Xh495 Kh495 Lh495 => ?_)
  have H := H h495 eh495 Xh495
  have Kh495 := Kh495.trans Kh494
  have Lh495 := Lh495.trans Lh494
  refine mx_aload_n dX0_init_244 rfl rfl ?_
  refine mx_bipush dX0_init_245 ib_120 ?_
  obtain ⟨k496, H⟩ := H
  refine mx_newa 0 rfl (by decide) q205 dX0_init_247 cn_120 (by decide) k496.1 k496.2 (by decide) (fun x_ lv_ => ?_)
  refine mx_nmN x_ lv_ (fun h497 eh497 Xh497 lv_ => ?_)
  have H := H h497 eh497 Xh497 lv_
  have k498 := Xh497.kd ((ma_kde Kh495 (k467)))
  have k499 := Xh497.kd ((ma_kde Kh495 (k468)))
  have k500 := Xh497.kd ((ma_kde Kh495 (k469)))
  have k501 := Xh497.kd ((ma_kde Kh495 (k470)))
  have k502 := Xh497.kd ((ma_kde Kh495 (k471)))
  have k503 := Xh497.kd ((ma_kde Kh495 (k472)))
  have k504 := Xh497.kd ((ma_kde Kh495 (k473)))
  have k505 := Xh497.kd ((ma_kde Kh495 (k474)))
  have k506 := Xh497.kd ((ma_kde Kh495 (k475)))
  have k507 := Xh497.kd ((ma_kde Kh495 (k476)))
  have k508 := Xh497.kd ((ma_kde Kh495 (k477)))
  have k509 := Xh497.kd ((ma_kde Kh495 (k478)))
  have k510 := Xh497.kd ((ma_kde Kh495 (k479)))
  have k511 := Xh497.kd ((ma_kde Kh495 (k480)))
  have k512 := Xh497.kd ((ma_kde Kh495 (k481)))
  have k513 := Xh497.kd ((ma_kde Kh495 (k482)))
  have k514 := Xh497.kd ((ma_kde Kh495 (k483)))
  have k515 := Xh497.kd ((ma_kde Kh495 (k484)))
  have k516 := Xh497.kd ((ma_kde Kh495 (k485)))
  have k517 := Xh497.kd ((ma_kde Kh495 (k486)))
  have k518 := Xh497.kd ((ma_kde Kh495 (k487)))
  have k519 := Xh497.kd ((ma_kde Kh495 (k488)))
  have k520 := Xh497.kd ((ma_kde Kh495 (k489)))
  have k521 := Xh497.kd ((ma_kde Kh495 (k490)))
  have k522 := Xh497.kd ((ma_kde Kh495 (k491)))
  have k523 : ah_kd h497 (ah_sz h495) = 40 := by rw [eh497]; exact if_pos rfl
  obtain ⟨k524, H⟩ := H
  refine mx_putA 0 39 (ref := "PrairiePool") cl_0 (Nat.le_of_ble_eq_true rfl) (Or.inl q499) (Or.inl rfl) dX0_init_249 (Or.inr ⟨rfl, rfl, rfl, q499⟩) rfl (Or.inr k524) k499 ?_
  refine mx_nmR (ah_ext.wR (Or.inr (Or.inl k524))) (fun h525 eh525 Xh525 Kh525 Lh525 => ?_)
  have H := H h525 eh525 Xh525
  refine mx_aload_n dX0_init_252 rfl rfl ?_
  refine mx_bipush dX0_init_253 ib_20 ?_
  obtain ⟨k526, H⟩ := H
  refine mx_newa 0 rfl (by decide) q205 dX0_init_255 cn_20 (by decide) k526.1 k526.2 (by decide) (fun x_ lv_ => ?_)
  refine mx_nmN x_ lv_ (fun h527 eh527 Xh527 lv_ => ?_)
  have H := H h527 eh527 Xh527 lv_
  have k528 := Xh527.kd ((ma_kde Kh525 (k498)))
  have k529 := Xh527.kd ((ma_kde Kh525 (k499)))
  have k530 := Xh527.kd ((ma_kde Kh525 (k500)))
  have k531 := Xh527.kd ((ma_kde Kh525 (k501)))
  have k532 := Xh527.kd ((ma_kde Kh525 (k502)))
  have k533 := Xh527.kd ((ma_kde Kh525 (k503)))
  have k534 := Xh527.kd ((ma_kde Kh525 (k504)))
  have k535 := Xh527.kd ((ma_kde Kh525 (k505)))
  have k536 := Xh527.kd ((ma_kde Kh525 (k506)))
  have k537 := Xh527.kd ((ma_kde Kh525 (k507)))
  have k538 := Xh527.kd ((ma_kde Kh525 (k508)))
  have k539 := Xh527.kd ((ma_kde Kh525 (k509)))
  have k540 := Xh527.kd ((ma_kde Kh525 (k510)))
  have k541 := Xh527.kd ((ma_kde Kh525 (k511)))
  have k542 := Xh527.kd ((ma_kde Kh525 (k512)))
  have k543 := Xh527.kd ((ma_kde Kh525 (k513)))
  have k544 := Xh527.kd ((ma_kde Kh525 (k514)))
  have k545 := Xh527.kd ((ma_kde Kh525 (k515)))
  have k546 := Xh527.kd ((ma_kde Kh525 (k516)))
  have k547 := Xh527.kd ((ma_kde Kh525 (k517)))
  have k548 := Xh527.kd ((ma_kde Kh525 (k518)))
  have k549 := Xh527.kd ((ma_kde Kh525 (k519)))
  have k550 := Xh527.kd ((ma_kde Kh525 (k520)))
  have k551 := Xh527.kd ((ma_kde Kh525 (k521)))
  have k552 := Xh527.kd ((ma_kde Kh525 (k522)))
  have k553 := Xh527.kd ((ma_kde Kh525 (k523)))
  have k554 : ah_kd h527 (ah_sz h525) = 40 := by rw [eh527]; exact if_pos rfl
  obtain ⟨k555, H⟩ := H
  refine mx_putA 0 40 (ref := "PrairiePool") cl_0 (Nat.le_of_ble_eq_true rfl) (Or.inl q500) (Or.inl rfl) dX0_init_257 (Or.inr ⟨rfl, rfl, rfl, q500⟩) rfl (Or.inr k555) k529 ?_
  refine mx_nmR (ah_ext.wR (Or.inr (Or.inl k555))) (fun h556 eh556 Xh556 Kh556 Lh556 => ?_)
  have H := H h556 eh556 Xh556
  refine mx_aload_n dX0_init_260 rfl rfl ?_
  refine mx_bipush dX0_init_261 ib_6 ?_
  obtain ⟨k557, H⟩ := H
  refine mx_newa 0 rfl (by decide) q205 dX0_init_263 cn_6 (by decide) k557.1 k557.2 (by decide) (fun x_ lv_ => ?_)
  refine mx_nmN x_ lv_ (fun h558 eh558 Xh558 lv_ => ?_)
  have H := H h558 eh558 Xh558 lv_
  have k559 := Xh558.kd ((ma_kde Kh556 (k528)))
  have k560 := Xh558.kd ((ma_kde Kh556 (k529)))
  have k561 := Xh558.kd ((ma_kde Kh556 (k530)))
  have k562 := Xh558.kd ((ma_kde Kh556 (k531)))
  have k563 := Xh558.kd ((ma_kde Kh556 (k532)))
  have k564 := Xh558.kd ((ma_kde Kh556 (k533)))
  have k565 := Xh558.kd ((ma_kde Kh556 (k534)))
  have k566 := Xh558.kd ((ma_kde Kh556 (k535)))
  have k567 := Xh558.kd ((ma_kde Kh556 (k536)))
  have k568 := Xh558.kd ((ma_kde Kh556 (k537)))
  have k569 := Xh558.kd ((ma_kde Kh556 (k538)))
  have k570 := Xh558.kd ((ma_kde Kh556 (k539)))
  have k571 := Xh558.kd ((ma_kde Kh556 (k540)))
  have k572 := Xh558.kd ((ma_kde Kh556 (k541)))
  have k573 := Xh558.kd ((ma_kde Kh556 (k542)))
  have k574 := Xh558.kd ((ma_kde Kh556 (k543)))
  have k575 := Xh558.kd ((ma_kde Kh556 (k544)))
  have k576 := Xh558.kd ((ma_kde Kh556 (k545)))
  have k577 := Xh558.kd ((ma_kde Kh556 (k546)))
  have k578 := Xh558.kd ((ma_kde Kh556 (k547)))
  have k579 := Xh558.kd ((ma_kde Kh556 (k548)))
  have k580 := Xh558.kd ((ma_kde Kh556 (k549)))
  have k581 := Xh558.kd ((ma_kde Kh556 (k550)))
  have k582 := Xh558.kd ((ma_kde Kh556 (k551)))
  have k583 := Xh558.kd ((ma_kde Kh556 (k552)))
  have k584 := Xh558.kd ((ma_kde Kh556 (k553)))
  have k585 := Xh558.kd ((ma_kde Kh556 (k554)))
  have k586 : ah_kd h558 (ah_sz h556) = 40 := by rw [eh558]; exact if_pos rfl
  obtain ⟨k587, H⟩ := H
  refine mx_putA 0 41 (ref := "PrairiePool") cl_0 (Nat.le_of_ble_eq_true rfl) (Or.inl q501) (Or.inl rfl) dX0_init_265 (Or.inr ⟨rfl, rfl, rfl, q501⟩) rfl (Or.inr k587) k560 ?_
  refine mx_nmR (ah_ext.wR (Or.inr (Or.inl k587))) (fun h588 eh588 Xh588 Kh588 Lh588 => ?_)
  have H := H h588 eh588 Xh588
  refine mx_aload_n dX0_init_268 rfl rfl ?_
  refine mx_bipush dX0_init_269 ib_8 ?_
  obtain ⟨k589, H⟩ := H
  refine mx_newa 0 rfl (by decide) q205 dX0_init_271 cn_8 (by decide) k589.1 k589.2 (by decide) (fun x_ lv_ => ?_)
  refine mx_nmN x_ lv_ (fun h590 eh590 Xh590 lv_ => ?_)
  have H := H h590 eh590 Xh590 lv_
  have k591 := Xh590.kd ((ma_kde Kh588 (k559)))
  have k592 := Xh590.kd ((ma_kde Kh588 (k560)))
  have k593 := Xh590.kd ((ma_kde Kh588 (k561)))
  have k594 := Xh590.kd ((ma_kde Kh588 (k562)))
  have k595 := Xh590.kd ((ma_kde Kh588 (k563)))
  have k596 := Xh590.kd ((ma_kde Kh588 (k564)))
  have k597 := Xh590.kd ((ma_kde Kh588 (k565)))
  have k598 := Xh590.kd ((ma_kde Kh588 (k566)))
  have k599 := Xh590.kd ((ma_kde Kh588 (k567)))
  have k600 := Xh590.kd ((ma_kde Kh588 (k568)))
  have k601 := Xh590.kd ((ma_kde Kh588 (k569)))
  have k602 := Xh590.kd ((ma_kde Kh588 (k570)))
  have k603 := Xh590.kd ((ma_kde Kh588 (k571)))
  have k604 := Xh590.kd ((ma_kde Kh588 (k572)))
  have k605 := Xh590.kd ((ma_kde Kh588 (k573)))
  have k606 := Xh590.kd ((ma_kde Kh588 (k574)))
  have k607 := Xh590.kd ((ma_kde Kh588 (k575)))
  have k608 := Xh590.kd ((ma_kde Kh588 (k576)))
  have k609 := Xh590.kd ((ma_kde Kh588 (k577)))
  have k610 := Xh590.kd ((ma_kde Kh588 (k578)))
  have k611 := Xh590.kd ((ma_kde Kh588 (k579)))
  have k612 := Xh590.kd ((ma_kde Kh588 (k580)))
  have k613 := Xh590.kd ((ma_kde Kh588 (k581)))
  have k614 := Xh590.kd ((ma_kde Kh588 (k582)))
  have k615 := Xh590.kd ((ma_kde Kh588 (k583)))
  have k616 := Xh590.kd ((ma_kde Kh588 (k584)))
  have k617 := Xh590.kd ((ma_kde Kh588 (k585)))
  have k618 := Xh590.kd ((ma_kde Kh588 (k586)))
  have k619 : ah_kd h590 (ah_sz h588) = 40 := by rw [eh590]; exact if_pos rfl
  obtain ⟨k620, H⟩ := H
  refine mx_putA 0 42 (ref := "PrairiePool") cl_0 (Nat.le_of_ble_eq_true rfl) (Or.inl q502) (Or.inl rfl) dX0_init_273 (Or.inr ⟨rfl, rfl, rfl, q502⟩) rfl (Or.inr k620) k592 ?_
  refine mx_nmR (ah_ext.wR (Or.inr (Or.inl k620))) (fun h621 eh621 Xh621 Kh621 Lh621 => ?_)
  have H := H h621 eh621 Xh621
  refine mx_aload_n dX0_init_276 rfl rfl ?_
  refine mx_bipush dX0_init_277 ib_8 ?_
  obtain ⟨k622, H⟩ := H
  refine mx_newa 0 rfl (by decide) q205 dX0_init_279 cn_8 (by decide) k622.1 k622.2 (by decide) (fun x_ lv_ => ?_)
  refine mx_nmN x_ lv_ (fun h623 eh623 Xh623 lv_ => ?_)
  have H := H h623 eh623 Xh623 lv_
  have k624 := Xh623.kd ((ma_kde Kh621 (k591)))
  have k625 := Xh623.kd ((ma_kde Kh621 (k592)))
  have k626 := Xh623.kd ((ma_kde Kh621 (k593)))
  have k627 := Xh623.kd ((ma_kde Kh621 (k594)))
  have k628 := Xh623.kd ((ma_kde Kh621 (k595)))
  have k629 := Xh623.kd ((ma_kde Kh621 (k596)))
  have k630 := Xh623.kd ((ma_kde Kh621 (k597)))
  have k631 := Xh623.kd ((ma_kde Kh621 (k598)))
  have k632 := Xh623.kd ((ma_kde Kh621 (k599)))
  have k633 := Xh623.kd ((ma_kde Kh621 (k600)))
  have k634 := Xh623.kd ((ma_kde Kh621 (k601)))
  have k635 := Xh623.kd ((ma_kde Kh621 (k602)))
  have k636 := Xh623.kd ((ma_kde Kh621 (k603)))
  have k637 := Xh623.kd ((ma_kde Kh621 (k604)))
  have k638 := Xh623.kd ((ma_kde Kh621 (k605)))
  have k639 := Xh623.kd ((ma_kde Kh621 (k606)))
  have k640 := Xh623.kd ((ma_kde Kh621 (k607)))
  have k641 := Xh623.kd ((ma_kde Kh621 (k608)))
  have k642 := Xh623.kd ((ma_kde Kh621 (k609)))
  have k643 := Xh623.kd ((ma_kde Kh621 (k610)))
  have k644 := Xh623.kd ((ma_kde Kh621 (k611)))
  have k645 := Xh623.kd ((ma_kde Kh621 (k612)))
  have k646 := Xh623.kd ((ma_kde Kh621 (k613)))
  have k647 := Xh623.kd ((ma_kde Kh621 (k614)))
  have k648 := Xh623.kd ((ma_kde Kh621 (k615)))
  have k649 := Xh623.kd ((ma_kde Kh621 (k616)))
  have k650 := Xh623.kd ((ma_kde Kh621 (k617)))
  have k651 := Xh623.kd ((ma_kde Kh621 (k618)))
  have k652 := Xh623.kd ((ma_kde Kh621 (k619)))
  have k653 : ah_kd h623 (ah_sz h621) = 40 := by rw [eh623]; exact if_pos rfl
  obtain ⟨k654, H⟩ := H
  refine mx_putA 0 43 (ref := "PrairiePool") cl_0 (Nat.le_of_ble_eq_true rfl) (Or.inl q503) (Or.inl rfl) dX0_init_281 (Or.inr ⟨rfl, rfl, rfl, q503⟩) rfl (Or.inr k654) k625 ?_
  refine mx_nmR (ah_ext.wR (Or.inr (Or.inl k654))) (fun h655 eh655 Xh655 Kh655 Lh655 => ?_)
  have H := H h655 eh655 Xh655
  refine mx_aload_n dX0_init_284 rfl rfl ?_
  refine mx_bipush dX0_init_285 ib_20 ?_
  obtain ⟨k656, H⟩ := H
  refine mx_newa 0 rfl (by decide) q205 dX0_init_287 cn_20 (by decide) k656.1 k656.2 (by decide) (fun x_ lv_ => ?_)
  refine mx_nmN x_ lv_ (fun h657 eh657 Xh657 lv_ => ?_)
  have H := H h657 eh657 Xh657 lv_
  have k658 := Xh657.kd ((ma_kde Kh655 (k624)))
  have k659 := Xh657.kd ((ma_kde Kh655 (k625)))
  have k660 := Xh657.kd ((ma_kde Kh655 (k626)))
  have k661 := Xh657.kd ((ma_kde Kh655 (k627)))
  have k662 := Xh657.kd ((ma_kde Kh655 (k628)))
  have k663 := Xh657.kd ((ma_kde Kh655 (k629)))
  have k664 := Xh657.kd ((ma_kde Kh655 (k630)))
  have k665 := Xh657.kd ((ma_kde Kh655 (k631)))
  have k666 := Xh657.kd ((ma_kde Kh655 (k632)))
  have k667 := Xh657.kd ((ma_kde Kh655 (k633)))
  have k668 := Xh657.kd ((ma_kde Kh655 (k634)))
  have k669 := Xh657.kd ((ma_kde Kh655 (k635)))
  have k670 := Xh657.kd ((ma_kde Kh655 (k636)))
  have k671 := Xh657.kd ((ma_kde Kh655 (k637)))
  have k672 := Xh657.kd ((ma_kde Kh655 (k638)))
  have k673 := Xh657.kd ((ma_kde Kh655 (k639)))
  have k674 := Xh657.kd ((ma_kde Kh655 (k640)))
  have k675 := Xh657.kd ((ma_kde Kh655 (k641)))
  have k676 := Xh657.kd ((ma_kde Kh655 (k642)))
  have k677 := Xh657.kd ((ma_kde Kh655 (k643)))
  have k678 := Xh657.kd ((ma_kde Kh655 (k644)))
  have k679 := Xh657.kd ((ma_kde Kh655 (k645)))
  have k680 := Xh657.kd ((ma_kde Kh655 (k646)))
  have k681 := Xh657.kd ((ma_kde Kh655 (k647)))
  have k682 := Xh657.kd ((ma_kde Kh655 (k648)))
  have k683 := Xh657.kd ((ma_kde Kh655 (k649)))
  have k684 := Xh657.kd ((ma_kde Kh655 (k650)))
  have k685 := Xh657.kd ((ma_kde Kh655 (k651)))
  have k686 := Xh657.kd ((ma_kde Kh655 (k652)))
  have k687 := Xh657.kd ((ma_kde Kh655 (k653)))
  have k688 : ah_kd h657 (ah_sz h655) = 40 := by rw [eh657]; exact if_pos rfl
  obtain ⟨k689, H⟩ := H
  refine mx_putA 0 44 (ref := "PrairiePool") cl_0 (Nat.le_of_ble_eq_true rfl) (Or.inl q504) (Or.inl rfl) dX0_init_289 (Or.inr ⟨rfl, rfl, rfl, q504⟩) rfl (Or.inr k689) k659 ?_
  refine mx_nmR (ah_ext.wR (Or.inr (Or.inl k689))) (fun h690 eh690 Xh690 Kh690 Lh690 => ?_)
  have H := H h690 eh690 Xh690
  refine mx_aload_n dX0_init_292 rfl rfl ?_
  refine mx_bipush dX0_init_293 ib_21 ?_
  refine mx_sipush dX0_init_295 is_256 ?_
  obtain ⟨k691, H⟩ := H
  refine mx_multi2 14 0 (by decide) (by decide) rfl rfl q445 q444 rfl dX0_init_298 (by decide) (by decide) (by decide) (by decide) k691.1 k691.2 (by decide) (by decide) (fun x_ lv_ => ?_)
  refine mx_nmG x_ lv_ (fun h692 eh692 Xh692 lv_ => ?_)
  have H := H h692 eh692 Xh692 lv_
  have k693 := Xh692.kd ((ma_kde Kh690 (k658)))
  have k694 := Xh692.kd ((ma_kde Kh690 (k659)))
  have k695 := Xh692.kd ((ma_kde Kh690 (k660)))
  have k696 := Xh692.kd ((ma_kde Kh690 (k661)))
  have k697 := Xh692.kd ((ma_kde Kh690 (k662)))
  have k698 := Xh692.kd ((ma_kde Kh690 (k663)))
  have k699 := Xh692.kd ((ma_kde Kh690 (k664)))
  have k700 := Xh692.kd ((ma_kde Kh690 (k665)))
  have k701 := Xh692.kd ((ma_kde Kh690 (k666)))
  have k702 := Xh692.kd ((ma_kde Kh690 (k667)))
  have k703 := Xh692.kd ((ma_kde Kh690 (k668)))
  have k704 := Xh692.kd ((ma_kde Kh690 (k669)))
  have k705 := Xh692.kd ((ma_kde Kh690 (k670)))
  have k706 := Xh692.kd ((ma_kde Kh690 (k671)))
  have k707 := Xh692.kd ((ma_kde Kh690 (k672)))
  have k708 := Xh692.kd ((ma_kde Kh690 (k673)))
  have k709 := Xh692.kd ((ma_kde Kh690 (k674)))
  have k710 := Xh692.kd ((ma_kde Kh690 (k675)))
  have k711 := Xh692.kd ((ma_kde Kh690 (k676)))
  have k712 := Xh692.kd ((ma_kde Kh690 (k677)))
  have k713 := Xh692.kd ((ma_kde Kh690 (k678)))
  have k714 := Xh692.kd ((ma_kde Kh690 (k679)))
  have k715 := Xh692.kd ((ma_kde Kh690 (k680)))
  have k716 := Xh692.kd ((ma_kde Kh690 (k681)))
  have k717 := Xh692.kd ((ma_kde Kh690 (k682)))
  have k718 := Xh692.kd ((ma_kde Kh690 (k683)))
  have k719 := Xh692.kd ((ma_kde Kh690 (k684)))
  have k720 := Xh692.kd ((ma_kde Kh690 (k685)))
  have k721 := Xh692.kd ((ma_kde Kh690 (k686)))
  have k722 := Xh692.kd ((ma_kde Kh690 (k687)))
  have k723 := Xh692.kd ((ma_kde Kh690 (k688)))
  have k724 : ah_kd h692 (ah_sz h690) = 54 := by rw [eh692]; exact (mk2_1 _ _ _ _ _ _).2.2.2.1
  obtain ⟨k725, H⟩ := H
  refine mx_putA 0 45 (ref := "PrairiePool") cl_0 (Nat.le_of_ble_eq_true rfl) (Or.inl q505) (Or.inl rfl) dX0_init_302 (Or.inr ⟨rfl, rfl, rfl, q505⟩) rfl (Or.inr k725) k694 ?_
  refine mx_nmR (ah_ext.wR (Or.inr (Or.inl k725))) (fun h726 eh726 Xh726 Kh726 Lh726 => ?_)
  have H := H h726 eh726 Xh726
  refine mx_aload_n dX0_init_305 rfl rfl ?_
  refine mx_iconst dX0_init_306 ic_5 ?_
  refine mx_iconst dX0_init_307 ic_4 ?_
  obtain ⟨k727, H⟩ := H
  refine mx_multi2 14 0 (by decide) (by decide) rfl rfl q445 q444 rfl dX0_init_308 (by decide) (by decide) (by decide) (by decide) k727.1 k727.2 (by decide) (by decide) (fun x_ lv_ => ?_)
  refine mx_nmG x_ lv_ (fun h728 eh728 Xh728 lv_ => ?_)
  have H := H h728 eh728 Xh728 lv_
  have k729 := Xh728.kd ((ma_kde Kh726 (k693)))
  have k730 := Xh728.kd ((ma_kde Kh726 (k694)))
  have k731 := Xh728.kd ((ma_kde Kh726 (k695)))
  have k732 := Xh728.kd ((ma_kde Kh726 (k696)))
  have k733 := Xh728.kd ((ma_kde Kh726 (k697)))
  have k734 := Xh728.kd ((ma_kde Kh726 (k698)))
  have k735 := Xh728.kd ((ma_kde Kh726 (k699)))
  have k736 := Xh728.kd ((ma_kde Kh726 (k700)))
  have k737 := Xh728.kd ((ma_kde Kh726 (k701)))
  have k738 := Xh728.kd ((ma_kde Kh726 (k702)))
  have k739 := Xh728.kd ((ma_kde Kh726 (k703)))
  have k740 := Xh728.kd ((ma_kde Kh726 (k704)))
  have k741 := Xh728.kd ((ma_kde Kh726 (k705)))
  have k742 := Xh728.kd ((ma_kde Kh726 (k706)))
  have k743 := Xh728.kd ((ma_kde Kh726 (k707)))
  have k744 := Xh728.kd ((ma_kde Kh726 (k708)))
  have k745 := Xh728.kd ((ma_kde Kh726 (k709)))
  have k746 := Xh728.kd ((ma_kde Kh726 (k710)))
  have k747 := Xh728.kd ((ma_kde Kh726 (k711)))
  have k748 := Xh728.kd ((ma_kde Kh726 (k712)))
  have k749 := Xh728.kd ((ma_kde Kh726 (k713)))
  have k750 := Xh728.kd ((ma_kde Kh726 (k714)))
  have k751 := Xh728.kd ((ma_kde Kh726 (k715)))
  have k752 := Xh728.kd ((ma_kde Kh726 (k716)))
  have k753 := Xh728.kd ((ma_kde Kh726 (k717)))
  have k754 := Xh728.kd ((ma_kde Kh726 (k718)))
  have k755 := Xh728.kd ((ma_kde Kh726 (k719)))
  have k756 := Xh728.kd ((ma_kde Kh726 (k720)))
  have k757 := Xh728.kd ((ma_kde Kh726 (k721)))
  have k758 := Xh728.kd ((ma_kde Kh726 (k722)))
  have k759 := Xh728.kd ((ma_kde Kh726 (k723)))
  have k760 := Xh728.kd ((ma_kde Kh726 (k724)))
  have k761 : ah_kd h728 (ah_sz h726) = 54 := by rw [eh728]; exact (mk2_1 _ _ _ _ _ _).2.2.2.1
  obtain ⟨k762, H⟩ := H
  refine mx_putA 0 47 (ref := "PrairiePool") cl_0 (Nat.le_of_ble_eq_true rfl) (Or.inl q507) (Or.inl rfl) dX0_init_312 (Or.inr ⟨rfl, rfl, rfl, q507⟩) rfl (Or.inr k762) k730 ?_
  refine mx_nmR (ah_ext.wR (Or.inr (Or.inl k762))) (fun h763 eh763 Xh763 Kh763 Lh763 => ?_)
  have H := H h763 eh763 Xh763
  refine mx_aload_n dX0_init_315 rfl rfl ?_
  refine mx_iconst dX0_init_316 ic_5 ?_
  refine mx_iconst dX0_init_317 ic_4 ?_
  obtain ⟨k764, H⟩ := H
  refine mx_multi2 14 0 (by decide) (by decide) rfl rfl q445 q444 rfl dX0_init_318 (by decide) (by decide) (by decide) (by decide) k764.1 k764.2 (by decide) (by decide) (fun x_ lv_ => ?_)
  refine mx_nmG x_ lv_ (fun h765 eh765 Xh765 lv_ => ?_)
  have H := H h765 eh765 Xh765 lv_
  have k766 := Xh765.kd ((ma_kde Kh763 (k729)))
  have k767 := Xh765.kd ((ma_kde Kh763 (k730)))
  have k768 := Xh765.kd ((ma_kde Kh763 (k731)))
  have k769 := Xh765.kd ((ma_kde Kh763 (k732)))
  have k770 := Xh765.kd ((ma_kde Kh763 (k733)))
  have k771 := Xh765.kd ((ma_kde Kh763 (k734)))
  have k772 := Xh765.kd ((ma_kde Kh763 (k735)))
  have k773 := Xh765.kd ((ma_kde Kh763 (k736)))
  have k774 := Xh765.kd ((ma_kde Kh763 (k737)))
  have k775 := Xh765.kd ((ma_kde Kh763 (k738)))
  have k776 := Xh765.kd ((ma_kde Kh763 (k739)))
  have k777 := Xh765.kd ((ma_kde Kh763 (k740)))
  have k778 := Xh765.kd ((ma_kde Kh763 (k741)))
  have k779 := Xh765.kd ((ma_kde Kh763 (k742)))
  have k780 := Xh765.kd ((ma_kde Kh763 (k743)))
  have k781 := Xh765.kd ((ma_kde Kh763 (k744)))
  have k782 := Xh765.kd ((ma_kde Kh763 (k745)))
  have k783 := Xh765.kd ((ma_kde Kh763 (k746)))
  have k784 := Xh765.kd ((ma_kde Kh763 (k747)))
  have k785 := Xh765.kd ((ma_kde Kh763 (k748)))
  have k786 := Xh765.kd ((ma_kde Kh763 (k749)))
  have k787 := Xh765.kd ((ma_kde Kh763 (k750)))
  have k788 := Xh765.kd ((ma_kde Kh763 (k751)))
  have k789 := Xh765.kd ((ma_kde Kh763 (k752)))
  have k790 := Xh765.kd ((ma_kde Kh763 (k753)))
  have k791 := Xh765.kd ((ma_kde Kh763 (k754)))
  have k792 := Xh765.kd ((ma_kde Kh763 (k755)))
  have k793 := Xh765.kd ((ma_kde Kh763 (k756)))
  have k794 := Xh765.kd ((ma_kde Kh763 (k757)))
  have k795 := Xh765.kd ((ma_kde Kh763 (k758)))
  have k796 := Xh765.kd ((ma_kde Kh763 (k759)))
  have k797 := Xh765.kd ((ma_kde Kh763 (k760)))
  have k798 := Xh765.kd ((ma_kde Kh763 (k761)))
  have k799 : ah_kd h765 (ah_sz h763) = 54 := by rw [eh765]; exact (mk2_1 _ _ _ _ _ _).2.2.2.1
  obtain ⟨k800, H⟩ := H
  refine mx_putA 0 48 (ref := "PrairiePool") cl_0 (Nat.le_of_ble_eq_true rfl) (Or.inl q508) (Or.inl rfl) dX0_init_322 (Or.inr ⟨rfl, rfl, rfl, q508⟩) rfl (Or.inr k800) k767 ?_
  refine mx_nmR (ah_ext.wR (Or.inr (Or.inl k800))) (fun h801 eh801 Xh801 Kh801 Lh801 => ?_)
  have H := H h801 eh801 Xh801
  refine mx_aload_n dX0_init_325 rfl rfl ?_
  refine mx_iconst dX0_init_326 ic_5 ?_
  obtain ⟨k802, H⟩ := H
  refine mx_newa 0 rfl (by decide) q205 dX0_init_327 cn_5 (by decide) k802.1 k802.2 (by decide) (fun x_ lv_ => ?_)
  refine mx_nmN x_ lv_ (fun h803 eh803 Xh803 lv_ => ?_)
  have H := H h803 eh803 Xh803 lv_
  have k804 := Xh803.kd ((ma_kde Kh801 (k766)))
  have k805 := Xh803.kd ((ma_kde Kh801 (k767)))
  have k806 := Xh803.kd ((ma_kde Kh801 (k768)))
  have k807 := Xh803.kd ((ma_kde Kh801 (k769)))
  have k808 := Xh803.kd ((ma_kde Kh801 (k770)))
  have k809 := Xh803.kd ((ma_kde Kh801 (k771)))
  have k810 := Xh803.kd ((ma_kde Kh801 (k772)))
  have k811 := Xh803.kd ((ma_kde Kh801 (k773)))
  have k812 := Xh803.kd ((ma_kde Kh801 (k774)))
  have k813 := Xh803.kd ((ma_kde Kh801 (k775)))
  have k814 := Xh803.kd ((ma_kde Kh801 (k776)))
  have k815 := Xh803.kd ((ma_kde Kh801 (k777)))
  have k816 := Xh803.kd ((ma_kde Kh801 (k778)))
  have k817 := Xh803.kd ((ma_kde Kh801 (k779)))
  have k818 := Xh803.kd ((ma_kde Kh801 (k780)))
  have k819 := Xh803.kd ((ma_kde Kh801 (k781)))
  have k820 := Xh803.kd ((ma_kde Kh801 (k782)))
  have k821 := Xh803.kd ((ma_kde Kh801 (k783)))
  have k822 := Xh803.kd ((ma_kde Kh801 (k784)))
  have k823 := Xh803.kd ((ma_kde Kh801 (k785)))
  have k824 := Xh803.kd ((ma_kde Kh801 (k786)))
  have k825 := Xh803.kd ((ma_kde Kh801 (k787)))
  have k826 := Xh803.kd ((ma_kde Kh801 (k788)))
  have k827 := Xh803.kd ((ma_kde Kh801 (k789)))
  have k828 := Xh803.kd ((ma_kde Kh801 (k790)))
  have k829 := Xh803.kd ((ma_kde Kh801 (k791)))
  have k830 := Xh803.kd ((ma_kde Kh801 (k792)))
  have k831 := Xh803.kd ((ma_kde Kh801 (k793)))
  have k832 := Xh803.kd ((ma_kde Kh801 (k794)))
  have k833 := Xh803.kd ((ma_kde Kh801 (k795)))
  have k834 := Xh803.kd ((ma_kde Kh801 (k796)))
  have k835 := Xh803.kd ((ma_kde Kh801 (k797)))
  have k836 := Xh803.kd ((ma_kde Kh801 (k798)))
  have k837 := Xh803.kd ((ma_kde Kh801 (k799)))
  have k838 : ah_kd h803 (ah_sz h801) = 40 := by rw [eh803]; exact if_pos rfl
  obtain ⟨k839, H⟩ := H
  refine mx_putA 0 49 (ref := "PrairiePool") cl_0 (Nat.le_of_ble_eq_true rfl) (Or.inl q509) (Or.inl rfl) dX0_init_329 (Or.inr ⟨rfl, rfl, rfl, q509⟩) rfl (Or.inr k839) k805 ?_
  refine mx_nmR (ah_ext.wR (Or.inr (Or.inl k839))) (fun h840 eh840 Xh840 Kh840 Lh840 => ?_)
  have H := H h840 eh840 Xh840
  refine mx_aload_n dX0_init_332 rfl rfl ?_
  refine mx_iconst dX0_init_333 ic_4 ?_
  obtain ⟨k841, H⟩ := H
  refine mx_newa 0 rfl (by decide) q205 dX0_init_334 cn_4 (by decide) k841.1 k841.2 (by decide) (fun x_ lv_ => ?_)
  refine mx_nmN x_ lv_ (fun h842 eh842 Xh842 lv_ => ?_)
  have H := H h842 eh842 Xh842 lv_
  have k843 := Xh842.kd ((ma_kde Kh840 (k804)))
  have k844 := Xh842.kd ((ma_kde Kh840 (k805)))
  have k845 := Xh842.kd ((ma_kde Kh840 (k806)))
  have k846 := Xh842.kd ((ma_kde Kh840 (k807)))
  have k847 := Xh842.kd ((ma_kde Kh840 (k808)))
  have k848 := Xh842.kd ((ma_kde Kh840 (k809)))
  have k849 := Xh842.kd ((ma_kde Kh840 (k810)))
  have k850 := Xh842.kd ((ma_kde Kh840 (k811)))
  have k851 := Xh842.kd ((ma_kde Kh840 (k812)))
  have k852 := Xh842.kd ((ma_kde Kh840 (k813)))
  have k853 := Xh842.kd ((ma_kde Kh840 (k814)))
  have k854 := Xh842.kd ((ma_kde Kh840 (k815)))
  have k855 := Xh842.kd ((ma_kde Kh840 (k816)))
  have k856 := Xh842.kd ((ma_kde Kh840 (k817)))
  have k857 := Xh842.kd ((ma_kde Kh840 (k818)))
  have k858 := Xh842.kd ((ma_kde Kh840 (k819)))
  have k859 := Xh842.kd ((ma_kde Kh840 (k820)))
  have k860 := Xh842.kd ((ma_kde Kh840 (k821)))
  have k861 := Xh842.kd ((ma_kde Kh840 (k822)))
  have k862 := Xh842.kd ((ma_kde Kh840 (k823)))
  have k863 := Xh842.kd ((ma_kde Kh840 (k824)))
  have k864 := Xh842.kd ((ma_kde Kh840 (k825)))
  have k865 := Xh842.kd ((ma_kde Kh840 (k826)))
  have k866 := Xh842.kd ((ma_kde Kh840 (k827)))
  have k867 := Xh842.kd ((ma_kde Kh840 (k828)))
  have k868 := Xh842.kd ((ma_kde Kh840 (k829)))
  have k869 := Xh842.kd ((ma_kde Kh840 (k830)))
  have k870 := Xh842.kd ((ma_kde Kh840 (k831)))
  have k871 := Xh842.kd ((ma_kde Kh840 (k832)))
  have k872 := Xh842.kd ((ma_kde Kh840 (k833)))
  have k873 := Xh842.kd ((ma_kde Kh840 (k834)))
  have k874 := Xh842.kd ((ma_kde Kh840 (k835)))
  have k875 := Xh842.kd ((ma_kde Kh840 (k836)))
  have k876 := Xh842.kd ((ma_kde Kh840 (k837)))
  have k877 := Xh842.kd ((ma_kde Kh840 (k838)))
  have k878 : ah_kd h842 (ah_sz h840) = 40 := by rw [eh842]; exact if_pos rfl
  obtain ⟨k879, H⟩ := H
  refine mx_putA 0 50 (ref := "PrairiePool") cl_0 (Nat.le_of_ble_eq_true rfl) (Or.inl q510) (Or.inl rfl) dX0_init_336 (Or.inr ⟨rfl, rfl, rfl, q510⟩) rfl (Or.inr k879) k844 ?_
  refine mx_nmR (ah_ext.wR (Or.inr (Or.inl k879))) (fun h880 eh880 Xh880 Kh880 Lh880 => ?_)
  have H := H h880 eh880 Xh880
  refine mx_aload_n dX0_init_339 rfl rfl ?_
  refine mx_iconst dX0_init_340 ic_5 ?_
  obtain ⟨k881, H⟩ := H
  refine mx_newa 0 rfl (by decide) q205 dX0_init_341 cn_5 (by decide) k881.1 k881.2 (by decide) (fun x_ lv_ => ?_)
  refine mx_nmN x_ lv_ (fun h882 eh882 Xh882 lv_ => ?_)
  have H := H h882 eh882 Xh882 lv_
  have k883 := Xh882.kd ((ma_kde Kh880 (k843)))
  have k884 := Xh882.kd ((ma_kde Kh880 (k844)))
  have k885 := Xh882.kd ((ma_kde Kh880 (k845)))
  have k886 := Xh882.kd ((ma_kde Kh880 (k846)))
  have k887 := Xh882.kd ((ma_kde Kh880 (k847)))
  have k888 := Xh882.kd ((ma_kde Kh880 (k848)))
  have k889 := Xh882.kd ((ma_kde Kh880 (k849)))
  have k890 := Xh882.kd ((ma_kde Kh880 (k850)))
  have k891 := Xh882.kd ((ma_kde Kh880 (k851)))
  have k892 := Xh882.kd ((ma_kde Kh880 (k852)))
  have k893 := Xh882.kd ((ma_kde Kh880 (k853)))
  have k894 := Xh882.kd ((ma_kde Kh880 (k854)))
  have k895 := Xh882.kd ((ma_kde Kh880 (k855)))
  have k896 := Xh882.kd ((ma_kde Kh880 (k856)))
  have k897 := Xh882.kd ((ma_kde Kh880 (k857)))
  have k898 := Xh882.kd ((ma_kde Kh880 (k858)))
  have k899 := Xh882.kd ((ma_kde Kh880 (k859)))
  have k900 := Xh882.kd ((ma_kde Kh880 (k860)))
  have k901 := Xh882.kd ((ma_kde Kh880 (k861)))
  have k902 := Xh882.kd ((ma_kde Kh880 (k862)))
  have k903 := Xh882.kd ((ma_kde Kh880 (k863)))
  have k904 := Xh882.kd ((ma_kde Kh880 (k864)))
  have k905 := Xh882.kd ((ma_kde Kh880 (k865)))
  have k906 := Xh882.kd ((ma_kde Kh880 (k866)))
  have k907 := Xh882.kd ((ma_kde Kh880 (k867)))
  have k908 := Xh882.kd ((ma_kde Kh880 (k868)))
  have k909 := Xh882.kd ((ma_kde Kh880 (k869)))
  have k910 := Xh882.kd ((ma_kde Kh880 (k870)))
  have k911 := Xh882.kd ((ma_kde Kh880 (k871)))
  have k912 := Xh882.kd ((ma_kde Kh880 (k872)))
  have k913 := Xh882.kd ((ma_kde Kh880 (k873)))
  have k914 := Xh882.kd ((ma_kde Kh880 (k874)))
  have k915 := Xh882.kd ((ma_kde Kh880 (k875)))
  have k916 := Xh882.kd ((ma_kde Kh880 (k876)))
  have k917 := Xh882.kd ((ma_kde Kh880 (k877)))
  have k918 := Xh882.kd ((ma_kde Kh880 (k878)))
  have k919 : ah_kd h882 (ah_sz h880) = 40 := by rw [eh882]; exact if_pos rfl
  obtain ⟨k920, H⟩ := H
  refine mx_putA 0 51 (ref := "PrairiePool") cl_0 (Nat.le_of_ble_eq_true rfl) (Or.inl q511) (Or.inl rfl) dX0_init_343 (Or.inr ⟨rfl, rfl, rfl, q511⟩) rfl (Or.inr k920) k884 ?_
  refine mx_nmR (ah_ext.wR (Or.inr (Or.inl k920))) (fun h921 eh921 Xh921 Kh921 Lh921 => ?_)
  have H := H h921 eh921 Xh921
  refine mx_aload_n dX0_init_346 rfl rfl ?_
  refine mx_iconst dX0_init_347 ic_4 ?_
  obtain ⟨k922, H⟩ := H
  refine mx_newa 0 rfl (by decide) q205 dX0_init_348 cn_4 (by decide) k922.1 k922.2 (by decide) (fun x_ lv_ => ?_)
  refine mx_nmN x_ lv_ (fun h923 eh923 Xh923 lv_ => ?_)
  have H := H h923 eh923 Xh923 lv_
  have k924 := Xh923.kd ((ma_kde Kh921 (k883)))
  have k925 := Xh923.kd ((ma_kde Kh921 (k884)))
  have k926 := Xh923.kd ((ma_kde Kh921 (k885)))
  have k927 := Xh923.kd ((ma_kde Kh921 (k886)))
  have k928 := Xh923.kd ((ma_kde Kh921 (k887)))
  have k929 := Xh923.kd ((ma_kde Kh921 (k888)))
  have k930 := Xh923.kd ((ma_kde Kh921 (k889)))
  have k931 := Xh923.kd ((ma_kde Kh921 (k890)))
  have k932 := Xh923.kd ((ma_kde Kh921 (k891)))
  have k933 := Xh923.kd ((ma_kde Kh921 (k892)))
  have k934 := Xh923.kd ((ma_kde Kh921 (k893)))
  have k935 := Xh923.kd ((ma_kde Kh921 (k894)))
  have k936 := Xh923.kd ((ma_kde Kh921 (k895)))
  have k937 := Xh923.kd ((ma_kde Kh921 (k896)))
  have k938 := Xh923.kd ((ma_kde Kh921 (k897)))
  have k939 := Xh923.kd ((ma_kde Kh921 (k898)))
  have k940 := Xh923.kd ((ma_kde Kh921 (k899)))
  have k941 := Xh923.kd ((ma_kde Kh921 (k900)))
  have k942 := Xh923.kd ((ma_kde Kh921 (k901)))
  have k943 := Xh923.kd ((ma_kde Kh921 (k902)))
  have k944 := Xh923.kd ((ma_kde Kh921 (k903)))
  have k945 := Xh923.kd ((ma_kde Kh921 (k904)))
  have k946 := Xh923.kd ((ma_kde Kh921 (k905)))
  have k947 := Xh923.kd ((ma_kde Kh921 (k906)))
  have k948 := Xh923.kd ((ma_kde Kh921 (k907)))
  have k949 := Xh923.kd ((ma_kde Kh921 (k908)))
  have k950 := Xh923.kd ((ma_kde Kh921 (k909)))
  have k951 := Xh923.kd ((ma_kde Kh921 (k910)))
  have k952 := Xh923.kd ((ma_kde Kh921 (k911)))
  have k953 := Xh923.kd ((ma_kde Kh921 (k912)))
  have k954 := Xh923.kd ((ma_kde Kh921 (k913)))
  have k955 := Xh923.kd ((ma_kde Kh921 (k914)))
  have k956 := Xh923.kd ((ma_kde Kh921 (k915)))
  have k957 := Xh923.kd ((ma_kde Kh921 (k916)))
  have k958 := Xh923.kd ((ma_kde Kh921 (k917)))
  have k959 := Xh923.kd ((ma_kde Kh921 (k918)))
  have k960 := Xh923.kd ((ma_kde Kh921 (k919)))
  have k961 : ah_kd h923 (ah_sz h921) = 40 := by rw [eh923]; exact if_pos rfl
  obtain ⟨k962, H⟩ := H
  refine mx_putA 0 52 (ref := "PrairiePool") cl_0 (Nat.le_of_ble_eq_true rfl) (Or.inl q512) (Or.inl rfl) dX0_init_350 (Or.inr ⟨rfl, rfl, rfl, q512⟩) rfl (Or.inr k962) k925 ?_
  refine mx_nmR (ah_ext.wR (Or.inr (Or.inl k962))) (fun h963 eh963 Xh963 Kh963 Lh963 => ?_)
  have H := H h963 eh963 Xh963
  refine mx_aload_n dX0_init_353 rfl rfl ?_
  refine mx_iconst dX0_init_354 ic_5 ?_
  obtain ⟨k964, H⟩ := H
  refine mx_newa 0 rfl (by decide) q205 dX0_init_355 cn_5 (by decide) k964.1 k964.2 (by decide) (fun x_ lv_ => ?_)
  refine mx_nmN x_ lv_ (fun h965 eh965 Xh965 lv_ => ?_)
  have H := H h965 eh965 Xh965 lv_
  have k966 := Xh965.kd ((ma_kde Kh963 (k924)))
  have k967 := Xh965.kd ((ma_kde Kh963 (k925)))
  have k968 := Xh965.kd ((ma_kde Kh963 (k926)))
  have k969 := Xh965.kd ((ma_kde Kh963 (k927)))
  have k970 := Xh965.kd ((ma_kde Kh963 (k928)))
  have k971 := Xh965.kd ((ma_kde Kh963 (k929)))
  have k972 := Xh965.kd ((ma_kde Kh963 (k930)))
  have k973 := Xh965.kd ((ma_kde Kh963 (k931)))
  have k974 := Xh965.kd ((ma_kde Kh963 (k932)))
  have k975 := Xh965.kd ((ma_kde Kh963 (k933)))
  have k976 := Xh965.kd ((ma_kde Kh963 (k934)))
  have k977 := Xh965.kd ((ma_kde Kh963 (k935)))
  have k978 := Xh965.kd ((ma_kde Kh963 (k936)))
  have k979 := Xh965.kd ((ma_kde Kh963 (k937)))
  have k980 := Xh965.kd ((ma_kde Kh963 (k938)))
  have k981 := Xh965.kd ((ma_kde Kh963 (k939)))
  have k982 := Xh965.kd ((ma_kde Kh963 (k940)))
  have k983 := Xh965.kd ((ma_kde Kh963 (k941)))
  have k984 := Xh965.kd ((ma_kde Kh963 (k942)))
  have k985 := Xh965.kd ((ma_kde Kh963 (k943)))
  have k986 := Xh965.kd ((ma_kde Kh963 (k944)))
  have k987 := Xh965.kd ((ma_kde Kh963 (k945)))
  have k988 := Xh965.kd ((ma_kde Kh963 (k946)))
  have k989 := Xh965.kd ((ma_kde Kh963 (k947)))
  have k990 := Xh965.kd ((ma_kde Kh963 (k948)))
  have k991 := Xh965.kd ((ma_kde Kh963 (k949)))
  have k992 := Xh965.kd ((ma_kde Kh963 (k950)))
  have k993 := Xh965.kd ((ma_kde Kh963 (k951)))
  have k994 := Xh965.kd ((ma_kde Kh963 (k952)))
  have k995 := Xh965.kd ((ma_kde Kh963 (k953)))
  have k996 := Xh965.kd ((ma_kde Kh963 (k954)))
  have k997 := Xh965.kd ((ma_kde Kh963 (k955)))
  have k998 := Xh965.kd ((ma_kde Kh963 (k956)))
  have k999 := Xh965.kd ((ma_kde Kh963 (k957)))
  have k1000 := Xh965.kd ((ma_kde Kh963 (k958)))
  have k1001 := Xh965.kd ((ma_kde Kh963 (k959)))
  have k1002 := Xh965.kd ((ma_kde Kh963 (k960)))
  have k1003 := Xh965.kd ((ma_kde Kh963 (k961)))
  have k1004 : ah_kd h965 (ah_sz h963) = 40 := by rw [eh965]; exact if_pos rfl
  obtain ⟨k1005, H⟩ := H
  refine mx_putA 0 53 (ref := "PrairiePool") cl_0 (Nat.le_of_ble_eq_true rfl) (Or.inl q513) (Or.inl rfl) dX0_init_357 (Or.inr ⟨rfl, rfl, rfl, q513⟩) rfl (Or.inr k1005) k967 ?_
  refine mx_nmR (ah_ext.wR (Or.inr (Or.inl k1005))) (fun h1006 eh1006 Xh1006 Kh1006 Lh1006 => ?_)
  have H := H h1006 eh1006 Xh1006
  refine mx_aload_n dX0_init_360 rfl rfl ?_
  refine mx_iconst dX0_init_361 ic_4 ?_
  obtain ⟨k1007, H⟩ := H
  refine mx_newa 0 rfl (by decide) q205 dX0_init_362 cn_4 (by decide) k1007.1 k1007.2 (by decide) (fun x_ lv_ => ?_)
  refine mx_nmN x_ lv_ (fun h1008 eh1008 Xh1008 lv_ => ?_)
  have H := H h1008 eh1008 Xh1008 lv_
  have k1009 := Xh1008.kd ((ma_kde Kh1006 (k966)))
  have k1010 := Xh1008.kd ((ma_kde Kh1006 (k967)))
  have k1011 := Xh1008.kd ((ma_kde Kh1006 (k968)))
  have k1012 := Xh1008.kd ((ma_kde Kh1006 (k969)))
  have k1013 := Xh1008.kd ((ma_kde Kh1006 (k970)))
  have k1014 := Xh1008.kd ((ma_kde Kh1006 (k971)))
  have k1015 := Xh1008.kd ((ma_kde Kh1006 (k972)))
  have k1016 := Xh1008.kd ((ma_kde Kh1006 (k973)))
  have k1017 := Xh1008.kd ((ma_kde Kh1006 (k974)))
  have k1018 := Xh1008.kd ((ma_kde Kh1006 (k975)))
  have k1019 := Xh1008.kd ((ma_kde Kh1006 (k976)))
  have k1020 := Xh1008.kd ((ma_kde Kh1006 (k977)))
  have k1021 := Xh1008.kd ((ma_kde Kh1006 (k978)))
  have k1022 := Xh1008.kd ((ma_kde Kh1006 (k979)))
  have k1023 := Xh1008.kd ((ma_kde Kh1006 (k980)))
  have k1024 := Xh1008.kd ((ma_kde Kh1006 (k981)))
  have k1025 := Xh1008.kd ((ma_kde Kh1006 (k982)))
  have k1026 := Xh1008.kd ((ma_kde Kh1006 (k983)))
  have k1027 := Xh1008.kd ((ma_kde Kh1006 (k984)))
  have k1028 := Xh1008.kd ((ma_kde Kh1006 (k985)))
  have k1029 := Xh1008.kd ((ma_kde Kh1006 (k986)))
  have k1030 := Xh1008.kd ((ma_kde Kh1006 (k987)))
  have k1031 := Xh1008.kd ((ma_kde Kh1006 (k988)))
  have k1032 := Xh1008.kd ((ma_kde Kh1006 (k989)))
  have k1033 := Xh1008.kd ((ma_kde Kh1006 (k990)))
  have k1034 := Xh1008.kd ((ma_kde Kh1006 (k991)))
  have k1035 := Xh1008.kd ((ma_kde Kh1006 (k992)))
  have k1036 := Xh1008.kd ((ma_kde Kh1006 (k993)))
  have k1037 := Xh1008.kd ((ma_kde Kh1006 (k994)))
  have k1038 := Xh1008.kd ((ma_kde Kh1006 (k995)))
  have k1039 := Xh1008.kd ((ma_kde Kh1006 (k996)))
  have k1040 := Xh1008.kd ((ma_kde Kh1006 (k997)))
  have k1041 := Xh1008.kd ((ma_kde Kh1006 (k998)))
  have k1042 := Xh1008.kd ((ma_kde Kh1006 (k999)))
  have k1043 := Xh1008.kd ((ma_kde Kh1006 (k1000)))
  have k1044 := Xh1008.kd ((ma_kde Kh1006 (k1001)))
  have k1045 := Xh1008.kd ((ma_kde Kh1006 (k1002)))
  have k1046 := Xh1008.kd ((ma_kde Kh1006 (k1003)))
  have k1047 := Xh1008.kd ((ma_kde Kh1006 (k1004)))
  have k1048 : ah_kd h1008 (ah_sz h1006) = 40 := by rw [eh1008]; exact if_pos rfl
  obtain ⟨k1049, H⟩ := H
  refine mx_putA 0 54 (ref := "PrairiePool") cl_0 (Nat.le_of_ble_eq_true rfl) (Or.inl q514) (Or.inl rfl) dX0_init_364 (Or.inr ⟨rfl, rfl, rfl, q514⟩) rfl (Or.inr k1049) k1010 ?_
  refine mx_nmR (ah_ext.wR (Or.inr (Or.inl k1049))) (fun h1050 eh1050 Xh1050 Kh1050 Lh1050 => ?_)
  have H := H h1050 eh1050 Xh1050
  refine mx_iconst dX0_init_367 ic_0 ?_
  refine mx_istore_n (al' := [some (rv a0), some (iv (0 : Int32))]) dX0_init_368 rfl (Nat.le_of_ble_eq_true rfl) rfl ?_
  exact mx_weak (al' := [some (rv a0), some (iv (0 : Int32))]) ⟨rfl, ⟨rfl, trivial⟩⟩ H
theorem v_X0_init_369 {G : ma_G} {d : Nat} {a0 : Nat} {x1 : Int32} {h : ah_T} {Q : Option ma_V → ah_T → Prop} {E : Nat → ah_T → Prop}  (H : ((4 : Int32) ≤ x1 → Q none h) ∧ (¬ (4 : Int32) ≤ x1 → ah_kd h a0 = 1 ∧ (1 ≤ ah_rc h ∧ 2 ≤ ah_rs h) ∧ ∀ h4 : ah_T, h4 = ah_new h 8 0 2 → ah_ext h h4 → ah_liv h → MX G mi_X7_init d 0 [some (rv (ah_sz h))] [] h4 (Qv fun h7 => ah_ext h4 h7 → aok h7 45 (ah_R h a0 0) x1 ∧ ah_R h7 (ah_R h a0 0) x1.toNatClampNeg = 0 ∧ ∀ h13 : ah_T, h13 = ah_wR h7 (ah_R h a0 0) x1.toNatClampNeg (ah_sz h) → ah_ext h7 h13 → MX G mi_X0_init (d + 1) 369 [some (rv a0), some (iv (x1 + (1 : Int32)))] [] h13 Q E) E)) : MX G mi_X0_init (d + 1) 369 [some (rv a0), some (iv x1)] [] h Q E := by
  refine mx_iload_n dX0_init_369 rfl rfl ?_
  refine mx_iconst dX0_init_370 ic_4 ?_
  refine mx_icmp_ge (tgt := 393) dX0_init_371 rfl (fun c1 => ?_) (fun c1 => ?_)
  · have H := H.1 c1
    exact mx_vret rfl dX0_init_393 H
  · have H := H.2 c1
    refine mx_aload_n dX0_init_374 rfl rfl ?_
    obtain ⟨k2, H⟩ := H
    refine mx_get 0 0 (ref := "PrairiePool") cl_0 (Nat.le_of_ble_eq_true rfl) (Or.inl q460) (Or.inl rfl) dX0_init_375 (fv_0_0 _ _) k2 ?_
    refine mx_iload_n dX0_init_378 rfl rfl ?_
    obtain ⟨k3, H⟩ := H
    refine mx_new 7 cl_7 dk_7 q165 q446 q129 dX0_init_379 k3.1 k3.2 (fun x_ lv_ => ?_)
    refine mx_nmN x_ lv_ (fun h4 eh4 Xh4 lv_ => ?_)
    have H := H h4 eh4 Xh4 lv_
    have k5 := Xh4.kd (k2)
    have k6 : ah_kd h4 (ah_sz h) = 8 := by rw [eh4]; exact if_pos rfl
    refine mx_dup_r dX0_init_382 ?_
    refine mx_callI (y' := mi_X7_init) (vs := []) (st := [rv (ah_sz h), iv x1, rv (ah_R h a0 0)]) (al' := [some (rv (ah_sz h))]) I_X7_init (Or.inr ⟨_, q447⟩) dX0_init_383 rfl rfl (Nat.le_of_ble_eq_true rfl) (Nat.le_of_ble_eq_true rfl) (by rw [k6]; decide) ?_
    refine ma_kv H (fun h7 Xh7 H => ?_) (fun x1 h1 X1 H => mt_out rfl H)
    have H := H Xh7
    have k9 := Xh7.kd (k5)
    have k10 := Xh7.kd (k6)
    obtain ⟨k11, H⟩ := H
    obtain ⟨k12, H⟩ := H
    refine mx_astq 5 7 (by decide) rfl cl_7 (Or.inl rfl) dX0_init_386 rfl k11 k10 k12 ?_
    refine mx_nmR (ah_ext.wR (Or.inr (Or.inl k12))) (fun h13 eh13 Xh13 Kh13 Lh13 => ?_)
    have H := H h13 eh13 Xh13
    refine mx_iinc (al' := [some (rv a0), some (iv (x1 + (1 : Int32)))]) dX0_init_387 rfl ic_1 rfl ?_
    refine mx_goto (tgt := 369) dX0_init_390 rfl ?_
    exact mx_weak (al' := [some (rv a0), some (iv (x1 + (1 : Int32)))]) ⟨rfl, ⟨rfl, trivial⟩⟩ H
theorem dX0_status_0 : decode mi_X0_status.2.1 0 = .ok (.aload_n 0, 1) := by decide +kernel
theorem dX0_status_1 : decode mi_X0_status.2.1 1 = .ok (.getfield 181, 3) := by decide +kernel
theorem dX0_status_4 : decode mi_X0_status.2.1 4 = .ok (.ireturn, 1) := by decide +kernel
theorem v_X0_status {G : ma_G} {d : Nat} {a0 : Nat} {h : ah_T} {Q : Option ma_V → ah_T → Prop} {E : Nat → ah_T → Prop} (La0_h : LY0 h a0) (H : Q (some (iv (ah_I h a0 20))) h) : MX G mi_X0_status d 0 [some (rv a0)] [] h Q E := by
  refine mx_aload_n dX0_status_0 rfl rfl ?_
  refine mx_get 0 20 (ref := "PrairiePool") cl_0 (Nat.le_of_ble_eq_true rfl) (Or.inl q480) (Or.inl rfl) dX0_status_1 (fv_0_20 _ _) (ly0_k La0_h) ?_
  exact mx_iret rfl dX0_status_4 H
theorem v_X0_isTray {G : ma_G} {d : Nat} {x0 : Int32} {h : ah_T} {Q : Option ma_V → ah_T → Prop} {E : Nat → ah_T → Prop}  (H : (x0 < 0 → Q (some (iv (0 : Int32))) h) ∧ (¬ x0 < 0 → ((4 : Int32) ≤ x0 → Q (some (iv (0 : Int32))) h) ∧ (¬ (4 : Int32) ≤ x0 → Q (some (iv (1 : Int32))) h))) : MX G mi_X0_isTray d 0 [some (iv x0)] [] h Q E := by
  refine mx_iload_n dX0_isTray_0 rfl rfl ?_
  refine mx_if_lt (tgt := 13) dX0_isTray_1 rfl (fun c1 => ?_) (fun c1 => ?_)
  · have H := H.1 c1
    refine mx_iconst dX0_isTray_13 ic_0 ?_
    exact mx_zret rfl dX0_isTray_14 (Or.inl rfl) H
  · have H := H.2 c1
    refine mx_iload_n dX0_isTray_4 rfl rfl ?_
    refine mx_iconst dX0_isTray_5 ic_4 ?_
    refine mx_icmp_ge (tgt := 13) dX0_isTray_6 rfl (fun c2 => ?_) (fun c2 => ?_)
    · have H := H.1 c2
      refine mx_iconst dX0_isTray_13 ic_0 ?_
      exact mx_zret rfl dX0_isTray_14 (Or.inl rfl) H
    · have H := H.2 c2
      refine mx_iconst dX0_isTray_9 ic_1 ?_
      refine mx_goto (tgt := 14) dX0_isTray_10 rfl ?_
      exact mx_zret rfl dX0_isTray_14 (Or.inr rfl) H
theorem v_X0_is {G : ma_G} {d : Nat} {a0 : Nat} {x1 : Int32} {h : ah_T} {Q : Option ma_V → ah_T → Prop} {E : Nat → ah_T → Prop} (La0_h : LY0 h a0) (H : ∀ h1 : ah_T, h1 = ah_wI h a0 20 x1 → ah_ext h h1 → (¬ x1 = 0 → Q (some (iv (0 : Int32))) h1) ∧ (x1 = 0 → Q (some (iv (1 : Int32))) h1)) : MX G mi_X0_is d 0 [some (rv a0), some (iv x1)] [] h Q E := by
  refine mx_aload_n dX0_is_0 rfl rfl ?_
  refine mx_iload_n dX0_is_1 rfl rfl ?_
  refine mx_putI 0 20 (ref := "PrairiePool") cl_0 (Nat.le_of_ble_eq_true rfl) (Or.inl q480) (Or.inl rfl) dX0_is_2 (Or.inl rfl) rfl (ly0_k La0_h) ?_
  refine mx_nmI  (fun h1 eh1 Xh1 Kh1 Lh1 => ?_)
  have H := H h1 eh1 Xh1
  have La0_h1 := La0_h.ext Xh1
  refine mx_iload_n dX0_is_5 rfl rfl ?_
  refine mx_if_ne (tgt := 13) dX0_is_6 rfl (fun c2 => ?_) (fun c2 => ?_)
  · have H := H.1 c2
    refine mx_iconst dX0_is_13 ic_0 ?_
    exact mx_zret rfl dX0_is_14 (Or.inl rfl) H
  · have H := H.2 c2
    refine mx_iconst dX0_is_9 ic_1 ?_
    refine mx_goto (tgt := 14) dX0_is_10 rfl ?_
    exact mx_zret rfl dX0_is_14 (Or.inr rfl) H
theorem v_X0_none {G : ma_G} {d : Nat} {a0 : Nat} {x1 : Int32} {h : ah_T} {Q : Option ma_V → ah_T → Prop} {E : Nat → ah_T → Prop} (La0_h : LY0 h a0) (H : ∀ h1 : ah_T, h1 = ah_wI h a0 20 x1 → ah_ext h h1 → Q (some (iv (-1 : Int32))) h1) : MX G mi_X0_none d 0 [some (rv a0), some (iv x1)] [] h Q E := by
  refine mx_aload_n dX0_none_0 rfl rfl ?_
  refine mx_iload_n dX0_none_1 rfl rfl ?_
  refine mx_putI 0 20 (ref := "PrairiePool") cl_0 (Nat.le_of_ble_eq_true rfl) (Or.inl q480) (Or.inl rfl) dX0_none_2 (Or.inl rfl) rfl (ly0_k La0_h) ?_
  refine mx_nmI  (fun h1 eh1 Xh1 Kh1 Lh1 => ?_)
  have H := H h1 eh1 Xh1
  have La0_h1 := La0_h.ext Xh1
  refine mx_iconst dX0_none_5 ic_m1 ?_
  exact mx_iret rfl dX0_none_6 H
theorem dX0_farm_0 : decode mi_X0_farm.2.1 0 = .ok (.iload_n 1, 1) := by decide +kernel
theorem dX0_farm_1 : decode mi_X0_farm.2.1 1 = .ok (.invokestatic 236, 3) := by decide +kernel
theorem dX0_farm_4 : decode mi_X0_farm.2.1 4 = .ok (.ifCond .ne 9, 3) := by decide +kernel
theorem dX0_farm_7 : decode mi_X0_farm.2.1 7 = .ok (.aload_n 0, 1) := by decide +kernel
theorem dX0_farm_8 : decode mi_X0_farm.2.1 8 = .ok (.iconst 2, 1) := by decide +kernel
theorem dX0_farm_9 : decode mi_X0_farm.2.1 9 = .ok (.invokevirtual 205, 3) := by decide +kernel
theorem dX0_farm_12 : decode mi_X0_farm.2.1 12 = .ok (.ireturn, 1) := by decide +kernel
theorem dX0_farm_13 : decode mi_X0_farm.2.1 13 = .ok (.iload_n 2, 1) := by decide +kernel
theorem dX0_farm_14 : decode mi_X0_farm.2.1 14 = .ok (.i2l, 1) := by decide +kernel
theorem dX0_farm_15 : decode mi_X0_farm.2.1 15 = .ok (.lconst 1, 1) := by decide +kernel
theorem dX0_farm_16 : decode mi_X0_farm.2.1 16 = .ok (.ldc2_w 239, 3) := by decide +kernel
theorem dX0_farm_19 : decode mi_X0_farm.2.1 19 = .ok (.invokestatic 241, 3) := by decide +kernel
theorem dX0_farm_22 : decode mi_X0_farm.2.1 22 = .ok (.ifCond .eq 15, 3) := by decide +kernel
theorem dX0_farm_25 : decode mi_X0_farm.2.1 25 = .ok (.iload_n 3, 1) := by decide +kernel
theorem dX0_farm_26 : decode mi_X0_farm.2.1 26 = .ok (.i2l, 1) := by decide +kernel
theorem dX0_farm_27 : decode mi_X0_farm.2.1 27 = .ok (.lconst 0, 1) := by decide +kernel
theorem dX0_farm_28 : decode mi_X0_farm.2.1 28 = .ok (.ldc2_w 245, 3) := by decide +kernel
theorem dX0_farm_31 : decode mi_X0_farm.2.1 31 = .ok (.invokestatic 241, 3) := by decide +kernel
theorem dX0_farm_34 : decode mi_X0_farm.2.1 34 = .ok (.ifCond .ne 9, 3) := by decide +kernel
theorem dX0_farm_37 : decode mi_X0_farm.2.1 37 = .ok (.aload_n 0, 1) := by decide +kernel
theorem dX0_farm_38 : decode mi_X0_farm.2.1 38 = .ok (.iconst 5, 1) := by decide +kernel
theorem dX0_farm_39 : decode mi_X0_farm.2.1 39 = .ok (.invokevirtual 205, 3) := by decide +kernel
theorem dX0_farm_42 : decode mi_X0_farm.2.1 42 = .ok (.ireturn, 1) := by decide +kernel
theorem dX0_farm_43 : decode mi_X0_farm.2.1 43 = .ok (.aload_n 0, 1) := by decide +kernel
theorem dX0_farm_44 : decode mi_X0_farm.2.1 44 = .ok (.getfield 230, 3) := by decide +kernel
theorem dX0_farm_47 : decode mi_X0_farm.2.1 47 = .ok (.bipush 20, 2) := by decide +kernel
theorem dX0_farm_49 : decode mi_X0_farm.2.1 49 = .ok (.if_icmp .ne 10, 3) := by decide +kernel
theorem dX0_farm_52 : decode mi_X0_farm.2.1 52 = .ok (.aload_n 0, 1) := by decide +kernel
theorem dX0_farm_53 : decode mi_X0_farm.2.1 53 = .ok (.bipush 7, 2) := by decide +kernel
theorem dX0_farm_55 : decode mi_X0_farm.2.1 55 = .ok (.invokevirtual 205, 3) := by decide +kernel
theorem dX0_farm_58 : decode mi_X0_farm.2.1 58 = .ok (.ireturn, 1) := by decide +kernel
theorem dX0_farm_59 : decode mi_X0_farm.2.1 59 = .ok (.aload_n 0, 1) := by decide +kernel
theorem dX0_farm_60 : decode mi_X0_farm.2.1 60 = .ok (.getfield 17, 3) := by decide +kernel
theorem dX0_farm_63 : decode mi_X0_farm.2.1 63 = .ok (.aload_n 0, 1) := by decide +kernel
theorem dX0_farm_64 : decode mi_X0_farm.2.1 64 = .ok (.getfield 230, 3) := by decide +kernel
theorem dX0_farm_67 : decode mi_X0_farm.2.1 67 = .ok (.new 15, 3) := by decide +kernel
theorem dX0_farm_70 : decode mi_X0_farm.2.1 70 = .ok (.dup, 1) := by decide +kernel
theorem dX0_farm_71 : decode mi_X0_farm.2.1 71 = .ok (.aload_n 0, 1) := by decide +kernel
theorem dX0_farm_72 : decode mi_X0_farm.2.1 72 = .ok (.getfield 230, 3) := by decide +kernel
theorem dX0_farm_75 : decode mi_X0_farm.2.1 75 = .ok (.iload_n 1, 1) := by decide +kernel
theorem dX0_farm_76 : decode mi_X0_farm.2.1 76 = .ok (.iload_n 2, 1) := by decide +kernel
theorem dX0_farm_77 : decode mi_X0_farm.2.1 77 = .ok (.iload_n 3, 1) := by decide +kernel
theorem dX0_farm_78 : decode mi_X0_farm.2.1 78 = .ok (.invokespecial 247, 3) := by decide +kernel
theorem dX0_farm_81 : decode mi_X0_farm.2.1 81 = .ok (.aastore, 1) := by decide +kernel
theorem dX0_farm_82 : decode mi_X0_farm.2.1 82 = .ok (.aload_n 0, 1) := by decide +kernel
theorem dX0_farm_83 : decode mi_X0_farm.2.1 83 = .ok (.dup, 1) := by decide +kernel
theorem dX0_farm_84 : decode mi_X0_farm.2.1 84 = .ok (.getfield 230, 3) := by decide +kernel
theorem dX0_farm_87 : decode mi_X0_farm.2.1 87 = .ok (.iconst 1, 1) := by decide +kernel
theorem dX0_farm_88 : decode mi_X0_farm.2.1 88 = .ok (.iadd, 1) := by decide +kernel
theorem dX0_farm_89 : decode mi_X0_farm.2.1 89 = .ok (.putfield 230, 3) := by decide +kernel
theorem dX0_farm_92 : decode mi_X0_farm.2.1 92 = .ok (.aload_n 0, 1) := by decide +kernel
theorem dX0_farm_93 : decode mi_X0_farm.2.1 93 = .ok (.aload_n 0, 1) := by decide +kernel
theorem dX0_farm_94 : decode mi_X0_farm.2.1 94 = .ok (.getfield 230, 3) := by decide +kernel
theorem dX0_farm_97 : decode mi_X0_farm.2.1 97 = .ok (.iconst 1, 1) := by decide +kernel
theorem dX0_farm_98 : decode mi_X0_farm.2.1 98 = .ok (.isub, 1) := by decide +kernel
theorem dX0_farm_99 : decode mi_X0_farm.2.1 99 = .ok (.invokevirtual 250, 3) := by decide +kernel
theorem dX0_farm_102 : decode mi_X0_farm.2.1 102 = .ok (.ireturn, 1) := by decide +kernel
theorem v_X0_farm {G : ma_G} {d : Nat} {a0 : Nat} {x1 : Int32} {x2 : Int32} {x3 : Int32} {h : ah_T} {Q : Option ma_V → ah_T → Prop} {E : Nat → ah_T → Prop} (La0_h : LY0 h a0) (H : (x1 < 0 → ∀ h2 : ah_T, h2 = ah_wI h a0 20 (2 : Int32) → ah_ext h h2 → Q (some (iv (-1 : Int32))) h2) ∧ (¬ x1 < 0 → ((6 : Int32) ≤ x1 → ∀ h4 : ah_T, h4 = ah_wI h a0 20 (2 : Int32) → ah_ext h h4 → Q (some (iv (-1 : Int32))) h4) ∧ (¬ (6 : Int32) ≤ x1 → (x2.toInt64 < (1 : Int64) → ∀ h6 : ah_T, h6 = ah_wI h a0 20 (5 : Int32) → ah_ext h h6 → Q (some (iv (-1 : Int32))) h6) ∧ (¬ x2.toInt64 < (1 : Int64) → ((5000 : Int64) < x2.toInt64 → ∀ h8 : ah_T, h8 = ah_wI h a0 20 (5 : Int32) → ah_ext h h8 → Q (some (iv (-1 : Int32))) h8) ∧ (¬ (5000 : Int64) < x2.toInt64 → (x3.toInt64 < (0 : Int64) → ∀ h10 : ah_T, h10 = ah_wI h a0 20 (5 : Int32) → ah_ext h h10 → Q (some (iv (-1 : Int32))) h10) ∧ (¬ x3.toInt64 < (0 : Int64) → ((100000 : Int64) < x3.toInt64 → ∀ h12 : ah_T, h12 = ah_wI h a0 20 (5 : Int32) → ah_ext h h12 → Q (some (iv (-1 : Int32))) h12) ∧ (¬ (100000 : Int64) < x3.toInt64 → (¬ (ah_I h a0 14) = (20 : Int32) → (1 ≤ ah_rc h ∧ 8 ≤ ah_rs h) ∧ ∀ h15 : ah_T, h15 = ah_new h 10 0 8 → ah_ext h h15 → ah_liv h → MX G mi_X9_init d 0 [some (rv (ah_sz h)), some (iv (ah_I h15 a0 14)), some (iv x1), some (iv x2), some (iv x3)] [] h15 (Qv fun h17 => ah_ext h15 h17 → vp_in (ah_I h a0 14) 20 ∧ ah_R h17 (a0 + 2) (ah_I h a0 14).toNatClampNeg = 0 ∧ ∀ h22 : ah_T, h22 = ah_wR h17 (a0 + 2) (ah_I h a0 14).toNatClampNeg (ah_sz h) → ah_ext h17 h22 → ∀ h23 : ah_T, h23 = ah_wI h22 a0 14 ((ah_I h17 a0 14) + (1 : Int32)) → ah_ext h22 h23 → ∀ h24 : ah_T, h24 = ah_wI h23 a0 20 (0 : Int32) → ah_ext h23 h24 → Q (some (iv (((ah_I h17 a0 14) + (1 : Int32)) - (1 : Int32)))) h24) E) ∧ ((ah_I h a0 14) = (20 : Int32) → ∀ h25 : ah_T, h25 = ah_wI h a0 20 (7 : Int32) → ah_ext h h25 → Q (some (iv (-1 : Int32))) h25)))))))) : MX G mi_X0_farm (d + 1) 0 [some (rv a0), some (iv x1), some (iv x2), some (iv x3)] [] h Q E := by
  refine mx_iload_n dX0_farm_0 rfl rfl ?_
  refine mx_callS (y' := mi_X0_isDistrict) (vs := [iv x1]) (st := []) (al' := [some (iv x1)]) S_X0_isDistrict q754 dX0_farm_1 rfl rfl (Nat.le_of_ble_eq_true rfl) (Nat.le_of_ble_eq_true rfl) ?_
  refine mx_iload_n dX0_isDistrict_0 rfl rfl ?_
  refine mx_if_lt (tgt := 14) dX0_isDistrict_1 rfl (fun c1 => ?_) (fun c1 => ?_)
  · have H := H.1 c1
    refine mx_iconst dX0_isDistrict_14 ic_0 ?_
    refine mx_zretK rfl dX0_isDistrict_15 (Or.inl rfl) ?_
    refine mx_if_ne (tgt := 13) dX0_farm_4 rfl (fun _ => absurd ‹_› (by decide)) (fun _ => ?_)
    refine mx_aload_n dX0_farm_7 rfl rfl ?_
    refine mx_iconst dX0_farm_8 ic_2 ?_
    refine mx_callV 0 (y' := mi_X0_none) (vs := [iv (2 : Int32)]) (st := []) (al' := [some (rv a0), some (iv (2 : Int32))]) cl_0 V_X0_none (Or.inl q733) dX0_farm_9 rfl rfl (Nat.le_of_ble_eq_true rfl) (Nat.le_of_ble_eq_true rfl) (ly0_k La0_h) ?_
    refine mx_aload_n dX0_none_0 rfl rfl ?_
    refine mx_iload_n dX0_none_1 rfl rfl ?_
    refine mx_putI 0 20 (ref := "PrairiePool") cl_0 (Nat.le_of_ble_eq_true rfl) (Or.inl q480) (Or.inl rfl) dX0_none_2 (Or.inl rfl) rfl (ly0_k La0_h) ?_
    refine mx_nmI  (fun h2 eh2 Xh2 Kh2 Lh2 => ?_)
    have H := H h2 eh2 Xh2
    have La0_h2 := La0_h.ext Xh2
    refine mx_iconst dX0_none_5 ic_m1 ?_
    refine mx_iretK rfl dX0_none_6 ?_
    exact mx_iret rfl dX0_farm_12 H
  · have H := H.2 c1
    refine mx_iload_n dX0_isDistrict_4 rfl rfl ?_
    refine mx_bipush dX0_isDistrict_5 ib_6 ?_
    refine mx_icmp_ge (tgt := 14) dX0_isDistrict_7 rfl (fun c3 => ?_) (fun c3 => ?_)
    · have H := H.1 c3
      refine mx_iconst dX0_isDistrict_14 ic_0 ?_
      refine mx_zretK rfl dX0_isDistrict_15 (Or.inl rfl) ?_
      refine mx_if_ne (tgt := 13) dX0_farm_4 rfl (fun _ => absurd ‹_› (by decide)) (fun _ => ?_)
      refine mx_aload_n dX0_farm_7 rfl rfl ?_
      refine mx_iconst dX0_farm_8 ic_2 ?_
      refine mx_callV 0 (y' := mi_X0_none) (vs := [iv (2 : Int32)]) (st := []) (al' := [some (rv a0), some (iv (2 : Int32))]) cl_0 V_X0_none (Or.inl q733) dX0_farm_9 rfl rfl (Nat.le_of_ble_eq_true rfl) (Nat.le_of_ble_eq_true rfl) (ly0_k La0_h) ?_
      refine mx_aload_n dX0_none_0 rfl rfl ?_
      refine mx_iload_n dX0_none_1 rfl rfl ?_
      refine mx_putI 0 20 (ref := "PrairiePool") cl_0 (Nat.le_of_ble_eq_true rfl) (Or.inl q480) (Or.inl rfl) dX0_none_2 (Or.inl rfl) rfl (ly0_k La0_h) ?_
      refine mx_nmI  (fun h4 eh4 Xh4 Kh4 Lh4 => ?_)
      have H := H h4 eh4 Xh4
      have La0_h4 := La0_h.ext Xh4
      refine mx_iconst dX0_none_5 ic_m1 ?_
      refine mx_iretK rfl dX0_none_6 ?_
      exact mx_iret rfl dX0_farm_12 H
    · have H := H.2 c3
      refine mx_iconst dX0_isDistrict_10 ic_1 ?_
      refine mx_goto (tgt := 15) dX0_isDistrict_11 rfl ?_
      refine mx_zretK rfl dX0_isDistrict_15 (Or.inr rfl) ?_
      refine mx_if_ne (tgt := 13) dX0_farm_4 rfl (fun _ => ?_) (fun _ => absurd ‹_› (by decide))
      refine mx_iload_n dX0_farm_13 rfl rfl ?_
      refine mx_i2l dX0_farm_14 ?_
      refine mx_lconst dX0_farm_15 lc_1 ?_
      refine mx_ldc2 q757 dX0_farm_16 ?_
      refine mx_callS (y' := mi_X0_isFrom) (vs := [jv x2.toInt64, jv (1 : Int64), jv (5000 : Int64)]) (st := []) (al' := [some (jv x2.toInt64), none, some (jv (1 : Int64)), none, some (jv (5000 : Int64)), none]) S_X0_isFrom q758 dX0_farm_19 rfl rfl (Nat.le_of_ble_eq_true rfl) (Nat.le_of_ble_eq_true rfl) ?_
      refine mx_lload_n dX0_isFrom_0 rfl rfl ?_
      refine mx_lload_n dX0_isFrom_1 rfl rfl ?_
      refine mx_lif_lt (tgt := 17) dX0_isFrom_2 dX0_isFrom_3 rfl (fun c5 => ?_) (fun c5 => ?_)
      · have H := H.1 c5
        refine mx_iconst dX0_isFrom_17 ic_0 ?_
        refine mx_zretK rfl dX0_isFrom_18 (Or.inl rfl) ?_
        refine mx_if_eq (tgt := 37) dX0_farm_22 rfl (fun _ => ?_) (fun _ => absurd ‹_› (by decide))
        refine mx_aload_n dX0_farm_37 rfl rfl ?_
        refine mx_iconst dX0_farm_38 ic_5 ?_
        refine mx_callV 0 (y' := mi_X0_none) (vs := [iv (5 : Int32)]) (st := []) (al' := [some (rv a0), some (iv (5 : Int32))]) cl_0 V_X0_none (Or.inl q733) dX0_farm_39 rfl rfl (Nat.le_of_ble_eq_true rfl) (Nat.le_of_ble_eq_true rfl) (ly0_k La0_h) ?_
        refine mx_aload_n dX0_none_0 rfl rfl ?_
        refine mx_iload_n dX0_none_1 rfl rfl ?_
        refine mx_putI 0 20 (ref := "PrairiePool") cl_0 (Nat.le_of_ble_eq_true rfl) (Or.inl q480) (Or.inl rfl) dX0_none_2 (Or.inl rfl) rfl (ly0_k La0_h) ?_
        refine mx_nmI  (fun h6 eh6 Xh6 Kh6 Lh6 => ?_)
        have H := H h6 eh6 Xh6
        have La0_h6 := La0_h.ext Xh6
        refine mx_iconst dX0_none_5 ic_m1 ?_
        refine mx_iretK rfl dX0_none_6 ?_
        exact mx_iret rfl dX0_farm_42 H
      · have H := H.2 c5
        refine mx_lload_n dX0_isFrom_6 rfl rfl ?_
        refine mx_lload dX0_isFrom_7 rfl ?_
        refine mx_lif_gt (tgt := 17) dX0_isFrom_9 dX0_isFrom_10 rfl (fun c7 => ?_) (fun c7 => ?_)
        · have H := H.1 c7
          refine mx_iconst dX0_isFrom_17 ic_0 ?_
          refine mx_zretK rfl dX0_isFrom_18 (Or.inl rfl) ?_
          refine mx_if_eq (tgt := 37) dX0_farm_22 rfl (fun _ => ?_) (fun _ => absurd ‹_› (by decide))
          refine mx_aload_n dX0_farm_37 rfl rfl ?_
          refine mx_iconst dX0_farm_38 ic_5 ?_
          refine mx_callV 0 (y' := mi_X0_none) (vs := [iv (5 : Int32)]) (st := []) (al' := [some (rv a0), some (iv (5 : Int32))]) cl_0 V_X0_none (Or.inl q733) dX0_farm_39 rfl rfl (Nat.le_of_ble_eq_true rfl) (Nat.le_of_ble_eq_true rfl) (ly0_k La0_h) ?_
          refine mx_aload_n dX0_none_0 rfl rfl ?_
          refine mx_iload_n dX0_none_1 rfl rfl ?_
          refine mx_putI 0 20 (ref := "PrairiePool") cl_0 (Nat.le_of_ble_eq_true rfl) (Or.inl q480) (Or.inl rfl) dX0_none_2 (Or.inl rfl) rfl (ly0_k La0_h) ?_
          refine mx_nmI  (fun h8 eh8 Xh8 Kh8 Lh8 => ?_)
          have H := H h8 eh8 Xh8
          have La0_h8 := La0_h.ext Xh8
          refine mx_iconst dX0_none_5 ic_m1 ?_
          refine mx_iretK rfl dX0_none_6 ?_
          exact mx_iret rfl dX0_farm_42 H
        · have H := H.2 c7
          refine mx_iconst dX0_isFrom_13 ic_1 ?_
          refine mx_goto (tgt := 18) dX0_isFrom_14 rfl ?_
          refine mx_zretK rfl dX0_isFrom_18 (Or.inr rfl) ?_
          refine mx_if_eq (tgt := 37) dX0_farm_22 rfl (fun _ => absurd ‹_› (by decide)) (fun _ => ?_)
          refine mx_iload_n dX0_farm_25 rfl rfl ?_
          refine mx_i2l dX0_farm_26 ?_
          refine mx_lconst dX0_farm_27 lc_0 ?_
          refine mx_ldc2 q761 dX0_farm_28 ?_
          refine mx_callS (y' := mi_X0_isFrom) (vs := [jv x3.toInt64, jv (0 : Int64), jv (100000 : Int64)]) (st := []) (al' := [some (jv x3.toInt64), none, some (jv (0 : Int64)), none, some (jv (100000 : Int64)), none]) S_X0_isFrom q758 dX0_farm_31 rfl rfl (Nat.le_of_ble_eq_true rfl) (Nat.le_of_ble_eq_true rfl) ?_
          refine mx_lload_n dX0_isFrom_0 rfl rfl ?_
          refine mx_lload_n dX0_isFrom_1 rfl rfl ?_
          refine mx_lif_lt (tgt := 17) dX0_isFrom_2 dX0_isFrom_3 rfl (fun c9 => ?_) (fun c9 => ?_)
          · have H := H.1 c9
            refine mx_iconst dX0_isFrom_17 ic_0 ?_
            refine mx_zretK rfl dX0_isFrom_18 (Or.inl rfl) ?_
            refine mx_if_ne (tgt := 43) dX0_farm_34 rfl (fun _ => absurd ‹_› (by decide)) (fun _ => ?_)
            refine mx_aload_n dX0_farm_37 rfl rfl ?_
            refine mx_iconst dX0_farm_38 ic_5 ?_
            refine mx_callV 0 (y' := mi_X0_none) (vs := [iv (5 : Int32)]) (st := []) (al' := [some (rv a0), some (iv (5 : Int32))]) cl_0 V_X0_none (Or.inl q733) dX0_farm_39 rfl rfl (Nat.le_of_ble_eq_true rfl) (Nat.le_of_ble_eq_true rfl) (ly0_k La0_h) ?_
            refine mx_aload_n dX0_none_0 rfl rfl ?_
            refine mx_iload_n dX0_none_1 rfl rfl ?_
            refine mx_putI 0 20 (ref := "PrairiePool") cl_0 (Nat.le_of_ble_eq_true rfl) (Or.inl q480) (Or.inl rfl) dX0_none_2 (Or.inl rfl) rfl (ly0_k La0_h) ?_
            refine mx_nmI  (fun h10 eh10 Xh10 Kh10 Lh10 => ?_)
            have H := H h10 eh10 Xh10
            have La0_h10 := La0_h.ext Xh10
            refine mx_iconst dX0_none_5 ic_m1 ?_
            refine mx_iretK rfl dX0_none_6 ?_
            exact mx_iret rfl dX0_farm_42 H
          · have H := H.2 c9
            refine mx_lload_n dX0_isFrom_6 rfl rfl ?_
            refine mx_lload dX0_isFrom_7 rfl ?_
            refine mx_lif_gt (tgt := 17) dX0_isFrom_9 dX0_isFrom_10 rfl (fun c11 => ?_) (fun c11 => ?_)
            · have H := H.1 c11
              refine mx_iconst dX0_isFrom_17 ic_0 ?_
              refine mx_zretK rfl dX0_isFrom_18 (Or.inl rfl) ?_
              refine mx_if_ne (tgt := 43) dX0_farm_34 rfl (fun _ => absurd ‹_› (by decide)) (fun _ => ?_)
              refine mx_aload_n dX0_farm_37 rfl rfl ?_
              refine mx_iconst dX0_farm_38 ic_5 ?_
              refine mx_callV 0 (y' := mi_X0_none) (vs := [iv (5 : Int32)]) (st := []) (al' := [some (rv a0), some (iv (5 : Int32))]) cl_0 V_X0_none (Or.inl q733) dX0_farm_39 rfl rfl (Nat.le_of_ble_eq_true rfl) (Nat.le_of_ble_eq_true rfl) (ly0_k La0_h) ?_
              refine mx_aload_n dX0_none_0 rfl rfl ?_
              refine mx_iload_n dX0_none_1 rfl rfl ?_
              refine mx_putI 0 20 (ref := "PrairiePool") cl_0 (Nat.le_of_ble_eq_true rfl) (Or.inl q480) (Or.inl rfl) dX0_none_2 (Or.inl rfl) rfl (ly0_k La0_h) ?_
              refine mx_nmI  (fun h12 eh12 Xh12 Kh12 Lh12 => ?_)
              have H := H h12 eh12 Xh12
              have La0_h12 := La0_h.ext Xh12
              refine mx_iconst dX0_none_5 ic_m1 ?_
              refine mx_iretK rfl dX0_none_6 ?_
              exact mx_iret rfl dX0_farm_42 H
            · have H := H.2 c11
              refine mx_iconst dX0_isFrom_13 ic_1 ?_
              refine mx_goto (tgt := 18) dX0_isFrom_14 rfl ?_
              refine mx_zretK rfl dX0_isFrom_18 (Or.inr rfl) ?_
              refine mx_if_ne (tgt := 43) dX0_farm_34 rfl (fun _ => ?_) (fun _ => absurd ‹_› (by decide))
              refine mx_aload_n dX0_farm_43 rfl rfl ?_
              refine mx_get 0 14 (ref := "PrairiePool") cl_0 (Nat.le_of_ble_eq_true rfl) (Or.inl q474) (Or.inl rfl) dX0_farm_44 (fv_0_14 _ _) (ly0_k La0_h) ?_
              refine mx_bipush dX0_farm_47 ib_20 ?_
              refine mx_icmp_ne (tgt := 59) dX0_farm_49 rfl (fun c13 => ?_) (fun c13 => ?_)
              · have H := H.1 c13
                refine mx_aload_n dX0_farm_59 rfl rfl ?_
                refine mx_get 0 1 (ref := "PrairiePool") cl_0 (Nat.le_of_ble_eq_true rfl) (Or.inl q461) (Or.inl rfl) dX0_farm_60 (fv_0_1 _ _) (ly0_k La0_h) ?_
                refine mx_tr (ly0_R_0_1 La0_h) ?_
                refine mx_aload_n dX0_farm_63 rfl rfl ?_
                refine mx_get 0 14 (ref := "PrairiePool") cl_0 (Nat.le_of_ble_eq_true rfl) (Or.inl q474) (Or.inl rfl) dX0_farm_64 (fv_0_14 _ _) (ly0_k La0_h) ?_
                obtain ⟨k14, H⟩ := H
                refine mx_new 9 cl_9 dk_9 q167 q762 q137 dX0_farm_67 k14.1 k14.2 (fun x_ lv_ => ?_)
                refine mx_nmN x_ lv_ (fun h15 eh15 Xh15 lv_ => ?_)
                have H := H h15 eh15 Xh15 lv_
                have La0_h15 := La0_h.ext Xh15
                have k16 : ah_kd h15 (ah_sz h) = 10 := by rw [eh15]; exact if_pos rfl
                refine mx_dup_r dX0_farm_70 ?_
                refine mx_aload_n dX0_farm_71 rfl rfl ?_
                refine mx_get 0 14 (ref := "PrairiePool") cl_0 (Nat.le_of_ble_eq_true rfl) (Or.inl q474) (Or.inl rfl) dX0_farm_72 (fv_0_14 _ _) (ly0_k La0_h15) ?_
                refine mx_iload_n dX0_farm_75 rfl rfl ?_
                refine mx_iload_n dX0_farm_76 rfl rfl ?_
                refine mx_iload_n dX0_farm_77 rfl rfl ?_
                refine mx_callI (y' := mi_X9_init) (vs := [iv (ah_I h15 a0 14), iv x1, iv x2, iv x3]) (st := [rv (ah_sz h), iv (ah_I h a0 14), rv (a0 + 2)]) (al' := [some (rv (ah_sz h)), some (iv (ah_I h15 a0 14)), some (iv x1), some (iv x2), some (iv x3)]) I_X9_init (Or.inl q763) dX0_farm_78 rfl rfl (Nat.le_of_ble_eq_true rfl) (Nat.le_of_ble_eq_true rfl) (by rw [k16]; decide) ?_
                refine ma_kv H (fun h17 Xh17 H => ?_) (fun x1 h1 X1 H => mt_out rfl H)
                have H := H Xh17
                have k19 := Xh17.kd (k16)
                have La0_h17 := La0_h15.ext Xh17
                obtain ⟨k20, H⟩ := H
                obtain ⟨k21, H⟩ := H
                refine mx_astq 6 9 (by decide) rfl cl_9 (Or.inl rfl) dX0_farm_81 rfl (ly0_A_2 La0_h17 k20) k19 k21 ?_
                refine mx_nmR (ah_ext.wR (Or.inr (Or.inl k21))) (fun h22 eh22 Xh22 Kh22 Lh22 => ?_)
                have H := H h22 eh22 Xh22
                have La0_h22 := La0_h17.ext Xh22
                refine mx_aload_n dX0_farm_82 rfl rfl ?_
                refine mx_dup_r dX0_farm_83 ?_
                refine mx_get 0 14 (ref := "PrairiePool") cl_0 (Nat.le_of_ble_eq_true rfl) (Or.inl q474) (Or.inl rfl) dX0_farm_84 (fv_0_14 _ _) (ly0_k La0_h22) ?_
                refine mx_ti (ah_IR eh22) ?_
                refine mx_iconst dX0_farm_87 ic_1 ?_
                refine mx_iadd dX0_farm_88 ?_
                refine mx_putI 0 14 (ref := "PrairiePool") cl_0 (Nat.le_of_ble_eq_true rfl) (Or.inl q474) (Or.inl rfl) dX0_farm_89 (Or.inl rfl) rfl (ly0_k La0_h22) ?_
                refine mx_nmI  (fun h23 eh23 Xh23 Kh23 Lh23 => ?_)
                have H := H h23 eh23 Xh23
                have Kh23 := Kh23.trans Kh22
                have Lh23 := Lh23.trans Lh22
                have La0_h23 := La0_h22.ext Xh23
                refine mx_aload_n dX0_farm_92 rfl rfl ?_
                refine mx_aload_n dX0_farm_93 rfl rfl ?_
                refine mx_get 0 14 (ref := "PrairiePool") cl_0 (Nat.le_of_ble_eq_true rfl) (Or.inl q474) (Or.inl rfl) dX0_farm_94 (fv_0_14 _ _) (ly0_k La0_h23) ?_
                refine mx_ti (ah_hitI eh23) ?_
                refine mx_iconst dX0_farm_97 ic_1 ?_
                refine mx_isub dX0_farm_98 ?_
                refine mx_callV 0 (y' := mi_X0_gives) (vs := [iv (((ah_I h17 a0 14) + (1 : Int32)) - (1 : Int32))]) (st := []) (al' := [some (rv a0), some (iv (((ah_I h17 a0 14) + (1 : Int32)) - (1 : Int32)))]) cl_0 V_X0_gives (Or.inl q801) dX0_farm_99 rfl rfl (Nat.le_of_ble_eq_true rfl) (Nat.le_of_ble_eq_true rfl) (ly0_k La0_h23) ?_
                refine mx_aload_n dX0_gives_0 rfl rfl ?_
                refine mx_iconst dX0_gives_1 ic_0 ?_
                refine mx_putI 0 20 (ref := "PrairiePool") cl_0 (Nat.le_of_ble_eq_true rfl) (Or.inl q480) (Or.inl rfl) dX0_gives_2 (Or.inl rfl) rfl (ly0_k La0_h23) ?_
                refine mx_nmI  (fun h24 eh24 Xh24 Kh24 Lh24 => ?_)
                have H := H h24 eh24 Xh24
                have Kh24 := Kh24.trans Kh23
                have Lh24 := Lh24.trans Lh23
                have La0_h24 := La0_h23.ext Xh24
                refine mx_iload_n dX0_gives_5 rfl rfl ?_
                refine mx_iretK rfl dX0_gives_6 ?_
                exact mx_iret rfl dX0_farm_102 H
              · have H := H.2 c13
                refine mx_aload_n dX0_farm_52 rfl rfl ?_
                refine mx_bipush dX0_farm_53 ib_7 ?_
                refine mx_callV 0 (y' := mi_X0_none) (vs := [iv (7 : Int32)]) (st := []) (al' := [some (rv a0), some (iv (7 : Int32))]) cl_0 V_X0_none (Or.inl q733) dX0_farm_55 rfl rfl (Nat.le_of_ble_eq_true rfl) (Nat.le_of_ble_eq_true rfl) (ly0_k La0_h) ?_
                refine mx_aload_n dX0_none_0 rfl rfl ?_
                refine mx_iload_n dX0_none_1 rfl rfl ?_
                refine mx_putI 0 20 (ref := "PrairiePool") cl_0 (Nat.le_of_ble_eq_true rfl) (Or.inl q480) (Or.inl rfl) dX0_none_2 (Or.inl rfl) rfl (ly0_k La0_h) ?_
                refine mx_nmI  (fun h25 eh25 Xh25 Kh25 Lh25 => ?_)
                have H := H h25 eh25 Xh25
                have La0_h25 := La0_h.ext Xh25
                refine mx_iconst dX0_none_5 ic_m1 ?_
                refine mx_iretK rfl dX0_none_6 ?_
                exact mx_iret rfl dX0_farm_58 H
theorem v_X0_isDistrict {G : ma_G} {d : Nat} {x0 : Int32} {h : ah_T} {Q : Option ma_V → ah_T → Prop} {E : Nat → ah_T → Prop}  (H : (x0 < 0 → Q (some (iv (0 : Int32))) h) ∧ (¬ x0 < 0 → ((6 : Int32) ≤ x0 → Q (some (iv (0 : Int32))) h) ∧ (¬ (6 : Int32) ≤ x0 → Q (some (iv (1 : Int32))) h))) : MX G mi_X0_isDistrict d 0 [some (iv x0)] [] h Q E := by
  refine mx_iload_n dX0_isDistrict_0 rfl rfl ?_
  refine mx_if_lt (tgt := 14) dX0_isDistrict_1 rfl (fun c1 => ?_) (fun c1 => ?_)
  · have H := H.1 c1
    refine mx_iconst dX0_isDistrict_14 ic_0 ?_
    exact mx_zret rfl dX0_isDistrict_15 (Or.inl rfl) H
  · have H := H.2 c1
    refine mx_iload_n dX0_isDistrict_4 rfl rfl ?_
    refine mx_bipush dX0_isDistrict_5 ib_6 ?_
    refine mx_icmp_ge (tgt := 14) dX0_isDistrict_7 rfl (fun c2 => ?_) (fun c2 => ?_)
    · have H := H.1 c2
      refine mx_iconst dX0_isDistrict_14 ic_0 ?_
      exact mx_zret rfl dX0_isDistrict_15 (Or.inl rfl) H
    · have H := H.2 c2
      refine mx_iconst dX0_isDistrict_10 ic_1 ?_
      refine mx_goto (tgt := 15) dX0_isDistrict_11 rfl ?_
      exact mx_zret rfl dX0_isDistrict_15 (Or.inr rfl) H
theorem v_X0_isFrom {G : ma_G} {d : Nat} {x0 : Int64} {x2 : Int64} {x4 : Int64} {h : ah_T} {Q : Option ma_V → ah_T → Prop} {E : Nat → ah_T → Prop}  (H : (x0 < x2 → Q (some (iv (0 : Int32))) h) ∧ (¬ x0 < x2 → (x4 < x0 → Q (some (iv (0 : Int32))) h) ∧ (¬ x4 < x0 → Q (some (iv (1 : Int32))) h))) : MX G mi_X0_isFrom d 0 [some (jv x0), none, some (jv x2), none, some (jv x4), none] [] h Q E := by
  refine mx_lload_n dX0_isFrom_0 rfl rfl ?_
  refine mx_lload_n dX0_isFrom_1 rfl rfl ?_
  refine mx_lif_lt (tgt := 17) dX0_isFrom_2 dX0_isFrom_3 rfl (fun c1 => ?_) (fun c1 => ?_)
  · have H := H.1 c1
    refine mx_iconst dX0_isFrom_17 ic_0 ?_
    exact mx_zret rfl dX0_isFrom_18 (Or.inl rfl) H
  · have H := H.2 c1
    refine mx_lload_n dX0_isFrom_6 rfl rfl ?_
    refine mx_lload dX0_isFrom_7 rfl ?_
    refine mx_lif_gt (tgt := 17) dX0_isFrom_9 dX0_isFrom_10 rfl (fun c2 => ?_) (fun c2 => ?_)
    · have H := H.1 c2
      refine mx_iconst dX0_isFrom_17 ic_0 ?_
      exact mx_zret rfl dX0_isFrom_18 (Or.inl rfl) H
    · have H := H.2 c2
      refine mx_iconst dX0_isFrom_13 ic_1 ?_
      refine mx_goto (tgt := 18) dX0_isFrom_14 rfl ?_
      exact mx_zret rfl dX0_isFrom_18 (Or.inr rfl) H
theorem v_X0_gives {G : ma_G} {d : Nat} {a0 : Nat} {x1 : Int32} {h : ah_T} {Q : Option ma_V → ah_T → Prop} {E : Nat → ah_T → Prop} (La0_h : LY0 h a0) (H : ∀ h1 : ah_T, h1 = ah_wI h a0 20 (0 : Int32) → ah_ext h h1 → Q (some (iv x1)) h1) : MX G mi_X0_gives d 0 [some (rv a0), some (iv x1)] [] h Q E := by
  refine mx_aload_n dX0_gives_0 rfl rfl ?_
  refine mx_iconst dX0_gives_1 ic_0 ?_
  refine mx_putI 0 20 (ref := "PrairiePool") cl_0 (Nat.le_of_ble_eq_true rfl) (Or.inl q480) (Or.inl rfl) dX0_gives_2 (Or.inl rfl) rfl (ly0_k La0_h) ?_
  refine mx_nmI  (fun h1 eh1 Xh1 Kh1 Lh1 => ?_)
  have H := H h1 eh1 Xh1
  have La0_h1 := La0_h.ext Xh1
  refine mx_iload_n dX0_gives_5 rfl rfl ?_
  exact mx_iret rfl dX0_gives_6 H
theorem dX0_elevator_0 : decode mi_X0_elevator.2.1 0 = .ok (.iload_n 1, 1) := by decide +kernel
theorem dX0_elevator_1 : decode mi_X0_elevator.2.1 1 = .ok (.invokestatic 236, 3) := by decide +kernel
theorem dX0_elevator_4 : decode mi_X0_elevator.2.1 4 = .ok (.ifCond .ne 9, 3) := by decide +kernel
theorem dX0_elevator_7 : decode mi_X0_elevator.2.1 7 = .ok (.aload_n 0, 1) := by decide +kernel
theorem dX0_elevator_8 : decode mi_X0_elevator.2.1 8 = .ok (.iconst 2, 1) := by decide +kernel
theorem dX0_elevator_9 : decode mi_X0_elevator.2.1 9 = .ok (.invokevirtual 205, 3) := by decide +kernel
theorem dX0_elevator_12 : decode mi_X0_elevator.2.1 12 = .ok (.ireturn, 1) := by decide +kernel
theorem dX0_elevator_13 : decode mi_X0_elevator.2.1 13 = .ok (.iload_n 2, 1) := by decide +kernel
theorem dX0_elevator_14 : decode mi_X0_elevator.2.1 14 = .ok (.i2l, 1) := by decide +kernel
theorem dX0_elevator_15 : decode mi_X0_elevator.2.1 15 = .ok (.lconst 1, 1) := by decide +kernel
theorem dX0_elevator_16 : decode mi_X0_elevator.2.1 16 = .ok (.ldc2_w 253, 3) := by decide +kernel
theorem dX0_elevator_19 : decode mi_X0_elevator.2.1 19 = .ok (.invokestatic 241, 3) := by decide +kernel
theorem dX0_elevator_22 : decode mi_X0_elevator.2.1 22 = .ok (.ifCond .ne 9, 3) := by decide +kernel
theorem dX0_elevator_25 : decode mi_X0_elevator.2.1 25 = .ok (.aload_n 0, 1) := by decide +kernel
theorem dX0_elevator_26 : decode mi_X0_elevator.2.1 26 = .ok (.iconst 5, 1) := by decide +kernel
theorem dX0_elevator_27 : decode mi_X0_elevator.2.1 27 = .ok (.invokevirtual 205, 3) := by decide +kernel
theorem dX0_elevator_30 : decode mi_X0_elevator.2.1 30 = .ok (.ireturn, 1) := by decide +kernel
theorem dX0_elevator_31 : decode mi_X0_elevator.2.1 31 = .ok (.aload_n 0, 1) := by decide +kernel
theorem dX0_elevator_32 : decode mi_X0_elevator.2.1 32 = .ok (.getfield 233, 3) := by decide +kernel
theorem dX0_elevator_35 : decode mi_X0_elevator.2.1 35 = .ok (.bipush 8, 2) := by decide +kernel
theorem dX0_elevator_37 : decode mi_X0_elevator.2.1 37 = .ok (.if_icmp .ne 10, 3) := by decide +kernel
theorem dX0_elevator_40 : decode mi_X0_elevator.2.1 40 = .ok (.aload_n 0, 1) := by decide +kernel
theorem dX0_elevator_41 : decode mi_X0_elevator.2.1 41 = .ok (.bipush 7, 2) := by decide +kernel
theorem dX0_elevator_43 : decode mi_X0_elevator.2.1 43 = .ok (.invokevirtual 205, 3) := by decide +kernel
theorem dX0_elevator_46 : decode mi_X0_elevator.2.1 46 = .ok (.ireturn, 1) := by decide +kernel
theorem dX0_elevator_47 : decode mi_X0_elevator.2.1 47 = .ok (.aload_n 0, 1) := by decide +kernel
theorem dX0_elevator_48 : decode mi_X0_elevator.2.1 48 = .ok (.getfield 23, 3) := by decide +kernel
theorem dX0_elevator_51 : decode mi_X0_elevator.2.1 51 = .ok (.aload_n 0, 1) := by decide +kernel
theorem dX0_elevator_52 : decode mi_X0_elevator.2.1 52 = .ok (.getfield 233, 3) := by decide +kernel
theorem dX0_elevator_55 : decode mi_X0_elevator.2.1 55 = .ok (.new 21, 3) := by decide +kernel
theorem dX0_elevator_58 : decode mi_X0_elevator.2.1 58 = .ok (.dup, 1) := by decide +kernel
theorem dX0_elevator_59 : decode mi_X0_elevator.2.1 59 = .ok (.iload_n 1, 1) := by decide +kernel
theorem dX0_elevator_60 : decode mi_X0_elevator.2.1 60 = .ok (.iload_n 2, 1) := by decide +kernel
theorem dX0_elevator_61 : decode mi_X0_elevator.2.1 61 = .ok (.invokespecial 255, 3) := by decide +kernel
theorem dX0_elevator_64 : decode mi_X0_elevator.2.1 64 = .ok (.aastore, 1) := by decide +kernel
theorem dX0_elevator_65 : decode mi_X0_elevator.2.1 65 = .ok (.aload_n 0, 1) := by decide +kernel
theorem dX0_elevator_66 : decode mi_X0_elevator.2.1 66 = .ok (.getfield 49, 3) := by decide +kernel
theorem dX0_elevator_69 : decode mi_X0_elevator.2.1 69 = .ok (.getfield 257, 3) := by decide +kernel
theorem dX0_elevator_72 : decode mi_X0_elevator.2.1 72 = .ok (.aload_n 0, 1) := by decide +kernel
theorem dX0_elevator_73 : decode mi_X0_elevator.2.1 73 = .ok (.getfield 233, 3) := by decide +kernel
theorem dX0_elevator_76 : decode mi_X0_elevator.2.1 76 = .ok (.iload_n 2, 1) := by decide +kernel
theorem dX0_elevator_77 : decode mi_X0_elevator.2.1 77 = .ok (.iastore, 1) := by decide +kernel
theorem dX0_elevator_78 : decode mi_X0_elevator.2.1 78 = .ok (.aload_n 0, 1) := by decide +kernel
theorem dX0_elevator_79 : decode mi_X0_elevator.2.1 79 = .ok (.dup, 1) := by decide +kernel
theorem dX0_elevator_80 : decode mi_X0_elevator.2.1 80 = .ok (.getfield 233, 3) := by decide +kernel
theorem dX0_elevator_83 : decode mi_X0_elevator.2.1 83 = .ok (.iconst 1, 1) := by decide +kernel
theorem dX0_elevator_84 : decode mi_X0_elevator.2.1 84 = .ok (.iadd, 1) := by decide +kernel
theorem dX0_elevator_85 : decode mi_X0_elevator.2.1 85 = .ok (.putfield 233, 3) := by decide +kernel
theorem dX0_elevator_88 : decode mi_X0_elevator.2.1 88 = .ok (.aload_n 0, 1) := by decide +kernel
theorem dX0_elevator_89 : decode mi_X0_elevator.2.1 89 = .ok (.aload_n 0, 1) := by decide +kernel
theorem dX0_elevator_90 : decode mi_X0_elevator.2.1 90 = .ok (.getfield 233, 3) := by decide +kernel
theorem dX0_elevator_93 : decode mi_X0_elevator.2.1 93 = .ok (.iconst 1, 1) := by decide +kernel
theorem dX0_elevator_94 : decode mi_X0_elevator.2.1 94 = .ok (.isub, 1) := by decide +kernel
theorem dX0_elevator_95 : decode mi_X0_elevator.2.1 95 = .ok (.invokevirtual 250, 3) := by decide +kernel
theorem dX0_elevator_98 : decode mi_X0_elevator.2.1 98 = .ok (.ireturn, 1) := by decide +kernel
theorem v_X0_elevator {G : ma_G} {d : Nat} {a0 : Nat} {x1 : Int32} {x2 : Int32} {h : ah_T} {Q : Option ma_V → ah_T → Prop} {E : Nat → ah_T → Prop} (La0_h : LY0 h a0) (H : (x1 < 0 → ∀ h2 : ah_T, h2 = ah_wI h a0 20 (2 : Int32) → ah_ext h h2 → Q (some (iv (-1 : Int32))) h2) ∧ (¬ x1 < 0 → ((6 : Int32) ≤ x1 → ∀ h4 : ah_T, h4 = ah_wI h a0 20 (2 : Int32) → ah_ext h h4 → Q (some (iv (-1 : Int32))) h4) ∧ (¬ (6 : Int32) ≤ x1 → (x2.toInt64 < (1 : Int64) → ∀ h6 : ah_T, h6 = ah_wI h a0 20 (5 : Int32) → ah_ext h h6 → Q (some (iv (-1 : Int32))) h6) ∧ (¬ x2.toInt64 < (1 : Int64) → ((1000000 : Int64) < x2.toInt64 → ∀ h8 : ah_T, h8 = ah_wI h a0 20 (5 : Int32) → ah_ext h h8 → Q (some (iv (-1 : Int32))) h8) ∧ (¬ (1000000 : Int64) < x2.toInt64 → (¬ (ah_I h a0 15) = (8 : Int32) → (1 ≤ ah_rc h ∧ 2 ≤ ah_rs h) ∧ ∀ h11 : ah_T, h11 = ah_new h 11 0 2 → ah_ext h h11 → ah_liv h → MX G mi_X10_init d 0 [some (rv (ah_sz h)), some (iv x1), some (iv x2)] [] h11 (Qv fun h13 => ah_ext h11 h13 → vp_in (ah_I h a0 15) 8 ∧ ah_R h13 (a0 + 3) (ah_I h a0 15).toNatClampNeg = 0 ∧ ∀ h18 : ah_T, h18 = ah_wR h13 (a0 + 3) (ah_I h a0 15).toNatClampNeg (ah_sz h) → ah_ext h13 h18 → vp_in (ah_I h13 a0 15) 8 ∧ ∀ h20 : ah_T, h20 = ah_wI h18 (a0 + 96) (ah_I h13 a0 15).toNatClampNeg x2 → ah_ext h18 h20 → ∀ h21 : ah_T, h21 = ah_wI h20 a0 15 ((ah_I h13 a0 15) + (1 : Int32)) → ah_ext h20 h21 → ∀ h22 : ah_T, h22 = ah_wI h21 a0 20 (0 : Int32) → ah_ext h21 h22 → Q (some (iv (((ah_I h13 a0 15) + (1 : Int32)) - (1 : Int32)))) h22) E) ∧ ((ah_I h a0 15) = (8 : Int32) → ∀ h23 : ah_T, h23 = ah_wI h a0 20 (7 : Int32) → ah_ext h h23 → Q (some (iv (-1 : Int32))) h23)))))) : MX G mi_X0_elevator (d + 1) 0 [some (rv a0), some (iv x1), some (iv x2)] [] h Q E := by
  refine mx_iload_n dX0_elevator_0 rfl rfl ?_
  refine mx_callS (y' := mi_X0_isDistrict) (vs := [iv x1]) (st := []) (al' := [some (iv x1)]) S_X0_isDistrict q754 dX0_elevator_1 rfl rfl (Nat.le_of_ble_eq_true rfl) (Nat.le_of_ble_eq_true rfl) ?_
  refine mx_iload_n dX0_isDistrict_0 rfl rfl ?_
  refine mx_if_lt (tgt := 14) dX0_isDistrict_1 rfl (fun c1 => ?_) (fun c1 => ?_)
  · have H := H.1 c1
    refine mx_iconst dX0_isDistrict_14 ic_0 ?_
    refine mx_zretK rfl dX0_isDistrict_15 (Or.inl rfl) ?_
    refine mx_if_ne (tgt := 13) dX0_elevator_4 rfl (fun _ => absurd ‹_› (by decide)) (fun _ => ?_)
    refine mx_aload_n dX0_elevator_7 rfl rfl ?_
    refine mx_iconst dX0_elevator_8 ic_2 ?_
    refine mx_callV 0 (y' := mi_X0_none) (vs := [iv (2 : Int32)]) (st := []) (al' := [some (rv a0), some (iv (2 : Int32))]) cl_0 V_X0_none (Or.inl q733) dX0_elevator_9 rfl rfl (Nat.le_of_ble_eq_true rfl) (Nat.le_of_ble_eq_true rfl) (ly0_k La0_h) ?_
    refine mx_aload_n dX0_none_0 rfl rfl ?_
    refine mx_iload_n dX0_none_1 rfl rfl ?_
    refine mx_putI 0 20 (ref := "PrairiePool") cl_0 (Nat.le_of_ble_eq_true rfl) (Or.inl q480) (Or.inl rfl) dX0_none_2 (Or.inl rfl) rfl (ly0_k La0_h) ?_
    refine mx_nmI  (fun h2 eh2 Xh2 Kh2 Lh2 => ?_)
    have H := H h2 eh2 Xh2
    have La0_h2 := La0_h.ext Xh2
    refine mx_iconst dX0_none_5 ic_m1 ?_
    refine mx_iretK rfl dX0_none_6 ?_
    exact mx_iret rfl dX0_elevator_12 H
  · have H := H.2 c1
    refine mx_iload_n dX0_isDistrict_4 rfl rfl ?_
    refine mx_bipush dX0_isDistrict_5 ib_6 ?_
    refine mx_icmp_ge (tgt := 14) dX0_isDistrict_7 rfl (fun c3 => ?_) (fun c3 => ?_)
    · have H := H.1 c3
      refine mx_iconst dX0_isDistrict_14 ic_0 ?_
      refine mx_zretK rfl dX0_isDistrict_15 (Or.inl rfl) ?_
      refine mx_if_ne (tgt := 13) dX0_elevator_4 rfl (fun _ => absurd ‹_› (by decide)) (fun _ => ?_)
      refine mx_aload_n dX0_elevator_7 rfl rfl ?_
      refine mx_iconst dX0_elevator_8 ic_2 ?_
      refine mx_callV 0 (y' := mi_X0_none) (vs := [iv (2 : Int32)]) (st := []) (al' := [some (rv a0), some (iv (2 : Int32))]) cl_0 V_X0_none (Or.inl q733) dX0_elevator_9 rfl rfl (Nat.le_of_ble_eq_true rfl) (Nat.le_of_ble_eq_true rfl) (ly0_k La0_h) ?_
      refine mx_aload_n dX0_none_0 rfl rfl ?_
      refine mx_iload_n dX0_none_1 rfl rfl ?_
      refine mx_putI 0 20 (ref := "PrairiePool") cl_0 (Nat.le_of_ble_eq_true rfl) (Or.inl q480) (Or.inl rfl) dX0_none_2 (Or.inl rfl) rfl (ly0_k La0_h) ?_
      refine mx_nmI  (fun h4 eh4 Xh4 Kh4 Lh4 => ?_)
      have H := H h4 eh4 Xh4
      have La0_h4 := La0_h.ext Xh4
      refine mx_iconst dX0_none_5 ic_m1 ?_
      refine mx_iretK rfl dX0_none_6 ?_
      exact mx_iret rfl dX0_elevator_12 H
    · have H := H.2 c3
      refine mx_iconst dX0_isDistrict_10 ic_1 ?_
      refine mx_goto (tgt := 15) dX0_isDistrict_11 rfl ?_
      refine mx_zretK rfl dX0_isDistrict_15 (Or.inr rfl) ?_
      refine mx_if_ne (tgt := 13) dX0_elevator_4 rfl (fun _ => ?_) (fun _ => absurd ‹_› (by decide))
      refine mx_iload_n dX0_elevator_13 rfl rfl ?_
      refine mx_i2l dX0_elevator_14 ?_
      refine mx_lconst dX0_elevator_15 lc_1 ?_
      refine mx_ldc2 q809 dX0_elevator_16 ?_
      refine mx_callS (y' := mi_X0_isFrom) (vs := [jv x2.toInt64, jv (1 : Int64), jv (1000000 : Int64)]) (st := []) (al' := [some (jv x2.toInt64), none, some (jv (1 : Int64)), none, some (jv (1000000 : Int64)), none]) S_X0_isFrom q758 dX0_elevator_19 rfl rfl (Nat.le_of_ble_eq_true rfl) (Nat.le_of_ble_eq_true rfl) ?_
      refine mx_lload_n dX0_isFrom_0 rfl rfl ?_
      refine mx_lload_n dX0_isFrom_1 rfl rfl ?_
      refine mx_lif_lt (tgt := 17) dX0_isFrom_2 dX0_isFrom_3 rfl (fun c5 => ?_) (fun c5 => ?_)
      · have H := H.1 c5
        refine mx_iconst dX0_isFrom_17 ic_0 ?_
        refine mx_zretK rfl dX0_isFrom_18 (Or.inl rfl) ?_
        refine mx_if_ne (tgt := 31) dX0_elevator_22 rfl (fun _ => absurd ‹_› (by decide)) (fun _ => ?_)
        refine mx_aload_n dX0_elevator_25 rfl rfl ?_
        refine mx_iconst dX0_elevator_26 ic_5 ?_
        refine mx_callV 0 (y' := mi_X0_none) (vs := [iv (5 : Int32)]) (st := []) (al' := [some (rv a0), some (iv (5 : Int32))]) cl_0 V_X0_none (Or.inl q733) dX0_elevator_27 rfl rfl (Nat.le_of_ble_eq_true rfl) (Nat.le_of_ble_eq_true rfl) (ly0_k La0_h) ?_
        refine mx_aload_n dX0_none_0 rfl rfl ?_
        refine mx_iload_n dX0_none_1 rfl rfl ?_
        refine mx_putI 0 20 (ref := "PrairiePool") cl_0 (Nat.le_of_ble_eq_true rfl) (Or.inl q480) (Or.inl rfl) dX0_none_2 (Or.inl rfl) rfl (ly0_k La0_h) ?_
        refine mx_nmI  (fun h6 eh6 Xh6 Kh6 Lh6 => ?_)
        have H := H h6 eh6 Xh6
        have La0_h6 := La0_h.ext Xh6
        refine mx_iconst dX0_none_5 ic_m1 ?_
        refine mx_iretK rfl dX0_none_6 ?_
        exact mx_iret rfl dX0_elevator_30 H
      · have H := H.2 c5
        refine mx_lload_n dX0_isFrom_6 rfl rfl ?_
        refine mx_lload dX0_isFrom_7 rfl ?_
        refine mx_lif_gt (tgt := 17) dX0_isFrom_9 dX0_isFrom_10 rfl (fun c7 => ?_) (fun c7 => ?_)
        · have H := H.1 c7
          refine mx_iconst dX0_isFrom_17 ic_0 ?_
          refine mx_zretK rfl dX0_isFrom_18 (Or.inl rfl) ?_
          refine mx_if_ne (tgt := 31) dX0_elevator_22 rfl (fun _ => absurd ‹_› (by decide)) (fun _ => ?_)
          refine mx_aload_n dX0_elevator_25 rfl rfl ?_
          refine mx_iconst dX0_elevator_26 ic_5 ?_
          refine mx_callV 0 (y' := mi_X0_none) (vs := [iv (5 : Int32)]) (st := []) (al' := [some (rv a0), some (iv (5 : Int32))]) cl_0 V_X0_none (Or.inl q733) dX0_elevator_27 rfl rfl (Nat.le_of_ble_eq_true rfl) (Nat.le_of_ble_eq_true rfl) (ly0_k La0_h) ?_
          refine mx_aload_n dX0_none_0 rfl rfl ?_
          refine mx_iload_n dX0_none_1 rfl rfl ?_
          refine mx_putI 0 20 (ref := "PrairiePool") cl_0 (Nat.le_of_ble_eq_true rfl) (Or.inl q480) (Or.inl rfl) dX0_none_2 (Or.inl rfl) rfl (ly0_k La0_h) ?_
          refine mx_nmI  (fun h8 eh8 Xh8 Kh8 Lh8 => ?_)
          have H := H h8 eh8 Xh8
          have La0_h8 := La0_h.ext Xh8
          refine mx_iconst dX0_none_5 ic_m1 ?_
          refine mx_iretK rfl dX0_none_6 ?_
          exact mx_iret rfl dX0_elevator_30 H
        · have H := H.2 c7
          refine mx_iconst dX0_isFrom_13 ic_1 ?_
          refine mx_goto (tgt := 18) dX0_isFrom_14 rfl ?_
          refine mx_zretK rfl dX0_isFrom_18 (Or.inr rfl) ?_
          refine mx_if_ne (tgt := 31) dX0_elevator_22 rfl (fun _ => ?_) (fun _ => absurd ‹_› (by decide))
          refine mx_aload_n dX0_elevator_31 rfl rfl ?_
          refine mx_get 0 15 (ref := "PrairiePool") cl_0 (Nat.le_of_ble_eq_true rfl) (Or.inl q475) (Or.inl rfl) dX0_elevator_32 (fv_0_15 _ _) (ly0_k La0_h) ?_
          refine mx_bipush dX0_elevator_35 ib_8 ?_
          refine mx_icmp_ne (tgt := 47) dX0_elevator_37 rfl (fun c9 => ?_) (fun c9 => ?_)
          · have H := H.1 c9
            refine mx_aload_n dX0_elevator_47 rfl rfl ?_
            refine mx_get 0 2 (ref := "PrairiePool") cl_0 (Nat.le_of_ble_eq_true rfl) (Or.inl q462) (Or.inl rfl) dX0_elevator_48 (fv_0_2 _ _) (ly0_k La0_h) ?_
            refine mx_tr (ly0_R_0_2 La0_h) ?_
            refine mx_aload_n dX0_elevator_51 rfl rfl ?_
            refine mx_get 0 15 (ref := "PrairiePool") cl_0 (Nat.le_of_ble_eq_true rfl) (Or.inl q475) (Or.inl rfl) dX0_elevator_52 (fv_0_15 _ _) (ly0_k La0_h) ?_
            obtain ⟨k10, H⟩ := H
            refine mx_new 10 cl_10 dk_10 q169 q810 q138 dX0_elevator_55 k10.1 k10.2 (fun x_ lv_ => ?_)
            refine mx_nmN x_ lv_ (fun h11 eh11 Xh11 lv_ => ?_)
            have H := H h11 eh11 Xh11 lv_
            have La0_h11 := La0_h.ext Xh11
            have k12 : ah_kd h11 (ah_sz h) = 11 := by rw [eh11]; exact if_pos rfl
            refine mx_dup_r dX0_elevator_58 ?_
            refine mx_iload_n dX0_elevator_59 rfl rfl ?_
            refine mx_iload_n dX0_elevator_60 rfl rfl ?_
            refine mx_callI (y' := mi_X10_init) (vs := [iv x1, iv x2]) (st := [rv (ah_sz h), iv (ah_I h a0 15), rv (a0 + 3)]) (al' := [some (rv (ah_sz h)), some (iv x1), some (iv x2)]) I_X10_init (Or.inl q811) dX0_elevator_61 rfl rfl (Nat.le_of_ble_eq_true rfl) (Nat.le_of_ble_eq_true rfl) (by rw [k12]; decide) ?_
            refine ma_kv H (fun h13 Xh13 H => ?_) (fun x1 h1 X1 H => mt_out rfl H)
            have H := H Xh13
            have k15 := Xh13.kd (k12)
            have La0_h13 := La0_h11.ext Xh13
            obtain ⟨k16, H⟩ := H
            obtain ⟨k17, H⟩ := H
            refine mx_astq 7 10 (by decide) rfl cl_10 (Or.inl rfl) dX0_elevator_64 rfl (ly0_A_3 La0_h13 k16) k15 k17 ?_
            refine mx_nmR (ah_ext.wR (Or.inr (Or.inl k17))) (fun h18 eh18 Xh18 Kh18 Lh18 => ?_)
            have H := H h18 eh18 Xh18
            have La0_h18 := La0_h13.ext Xh18
            refine mx_aload_n dX0_elevator_65 rfl rfl ?_
            refine mx_get 0 8 (ref := "PrairiePool") cl_0 (Nat.le_of_ble_eq_true rfl) (Or.inl q468) (Or.inl rfl) dX0_elevator_66 (fv_0_8 _ _) (ly0_k La0_h18) ?_
            refine mx_tr (ly0_R_0_8 La0_h18) ?_
            refine mx_get 1 4 (ref := "PrairiePool$Play") cl_1 (Nat.le_of_ble_eq_true rfl) (Or.inr ⟨_, q239⟩) (Or.inl rfl) dX0_elevator_69 (fv_1_4 _ _) (ly0_K_9 La0_h18) ?_
            refine mx_tr (ly0_R_9_4 La0_h18) ?_
            refine mx_aload_n dX0_elevator_72 rfl rfl ?_
            refine mx_get 0 15 (ref := "PrairiePool") cl_0 (Nat.le_of_ble_eq_true rfl) (Or.inl q475) (Or.inl rfl) dX0_elevator_73 (fv_0_15 _ _) (ly0_k La0_h18) ?_
            refine mx_ti (ah_IR eh18) ?_
            refine mx_iload_n dX0_elevator_76 rfl rfl ?_
            obtain ⟨k19, H⟩ := H
            refine my_iast dX0_elevator_77 rfl (ly0_A_96 La0_h18 k19) ?_
            refine mx_nmI  (fun h20 eh20 Xh20 Kh20 Lh20 => ?_)
            have H := H h20 eh20 Xh20
            have Kh20 := Kh20.trans Kh18
            have Lh20 := Lh20.trans Lh18
            have La0_h20 := La0_h18.ext Xh20
            refine mx_aload_n dX0_elevator_78 rfl rfl ?_
            refine mx_dup_r dX0_elevator_79 ?_
            refine mx_get 0 15 (ref := "PrairiePool") cl_0 (Nat.le_of_ble_eq_true rfl) (Or.inl q475) (Or.inl rfl) dX0_elevator_80 (fv_0_15 _ _) (ly0_k La0_h20) ?_
            refine mx_ti ((ah_skIA eh20 (by omega)).trans (ah_IR eh18)) ?_
            refine mx_iconst dX0_elevator_83 ic_1 ?_
            refine mx_iadd dX0_elevator_84 ?_
            refine mx_putI 0 15 (ref := "PrairiePool") cl_0 (Nat.le_of_ble_eq_true rfl) (Or.inl q475) (Or.inl rfl) dX0_elevator_85 (Or.inl rfl) rfl (ly0_k La0_h20) ?_
            refine mx_nmI  (fun h21 eh21 Xh21 Kh21 Lh21 => ?_)
            have H := H h21 eh21 Xh21
            have Kh21 := Kh21.trans Kh20
            have Lh21 := Lh21.trans Lh20
            have La0_h21 := La0_h20.ext Xh21
            refine mx_aload_n dX0_elevator_88 rfl rfl ?_
            refine mx_aload_n dX0_elevator_89 rfl rfl ?_
            refine mx_get 0 15 (ref := "PrairiePool") cl_0 (Nat.le_of_ble_eq_true rfl) (Or.inl q475) (Or.inl rfl) dX0_elevator_90 (fv_0_15 _ _) (ly0_k La0_h21) ?_
            refine mx_ti (ah_hitI eh21) ?_
            refine mx_iconst dX0_elevator_93 ic_1 ?_
            refine mx_isub dX0_elevator_94 ?_
            refine mx_callV 0 (y' := mi_X0_gives) (vs := [iv (((ah_I h13 a0 15) + (1 : Int32)) - (1 : Int32))]) (st := []) (al' := [some (rv a0), some (iv (((ah_I h13 a0 15) + (1 : Int32)) - (1 : Int32)))]) cl_0 V_X0_gives (Or.inl q801) dX0_elevator_95 rfl rfl (Nat.le_of_ble_eq_true rfl) (Nat.le_of_ble_eq_true rfl) (ly0_k La0_h21) ?_
            refine mx_aload_n dX0_gives_0 rfl rfl ?_
            refine mx_iconst dX0_gives_1 ic_0 ?_
            refine mx_putI 0 20 (ref := "PrairiePool") cl_0 (Nat.le_of_ble_eq_true rfl) (Or.inl q480) (Or.inl rfl) dX0_gives_2 (Or.inl rfl) rfl (ly0_k La0_h21) ?_
            refine mx_nmI  (fun h22 eh22 Xh22 Kh22 Lh22 => ?_)
            have H := H h22 eh22 Xh22
            have Kh22 := Kh22.trans Kh21
            have Lh22 := Lh22.trans Lh21
            have La0_h22 := La0_h21.ext Xh22
            refine mx_iload_n dX0_gives_5 rfl rfl ?_
            refine mx_iretK rfl dX0_gives_6 ?_
            exact mx_iret rfl dX0_elevator_98 H
          · have H := H.2 c9
            refine mx_aload_n dX0_elevator_40 rfl rfl ?_
            refine mx_bipush dX0_elevator_41 ib_7 ?_
            refine mx_callV 0 (y' := mi_X0_none) (vs := [iv (7 : Int32)]) (st := []) (al' := [some (rv a0), some (iv (7 : Int32))]) cl_0 V_X0_none (Or.inl q733) dX0_elevator_43 rfl rfl (Nat.le_of_ble_eq_true rfl) (Nat.le_of_ble_eq_true rfl) (ly0_k La0_h) ?_
            refine mx_aload_n dX0_none_0 rfl rfl ?_
            refine mx_iload_n dX0_none_1 rfl rfl ?_
            refine mx_putI 0 20 (ref := "PrairiePool") cl_0 (Nat.le_of_ble_eq_true rfl) (Or.inl q480) (Or.inl rfl) dX0_none_2 (Or.inl rfl) rfl (ly0_k La0_h) ?_
            refine mx_nmI  (fun h23 eh23 Xh23 Kh23 Lh23 => ?_)
            have H := H h23 eh23 Xh23
            have La0_h23 := La0_h.ext Xh23
            refine mx_iconst dX0_none_5 ic_m1 ?_
            refine mx_iretK rfl dX0_none_6 ?_
            exact mx_iret rfl dX0_elevator_46 H
theorem dX0_load_0 : decode mi_X0_load.2.1 0 = .ok (.aload_n 0, 1) := by decide +kernel
theorem dX0_load_1 : decode mi_X0_load.2.1 1 = .ok (.iload_n 1, 1) := by decide +kernel
theorem dX0_load_2 : decode mi_X0_load.2.1 2 = .ok (.invokevirtual 275, 3) := by decide +kernel
theorem dX0_load_5 : decode mi_X0_load.2.1 5 = .ok (.ifCond .eq 11, 3) := by decide +kernel
theorem dX0_load_8 : decode mi_X0_load.2.1 8 = .ok (.aload_n 0, 1) := by decide +kernel
theorem dX0_load_9 : decode mi_X0_load.2.1 9 = .ok (.iload_n 2, 1) := by decide +kernel
theorem dX0_load_10 : decode mi_X0_load.2.1 10 = .ok (.invokevirtual 278, 3) := by decide +kernel
theorem dX0_load_13 : decode mi_X0_load.2.1 13 = .ok (.ifCond .ne 9, 3) := by decide +kernel
theorem dX0_load_16 : decode mi_X0_load.2.1 16 = .ok (.aload_n 0, 1) := by decide +kernel
theorem dX0_load_17 : decode mi_X0_load.2.1 17 = .ok (.iconst 2, 1) := by decide +kernel
theorem dX0_load_18 : decode mi_X0_load.2.1 18 = .ok (.invokevirtual 205, 3) := by decide +kernel
theorem dX0_load_21 : decode mi_X0_load.2.1 21 = .ok (.ireturn, 1) := by decide +kernel
theorem dX0_load_22 : decode mi_X0_load.2.1 22 = .ok (.aload_n 0, 1) := by decide +kernel
theorem dX0_load_23 : decode mi_X0_load.2.1 23 = .ok (.iload_n 3, 1) := by decide +kernel
theorem dX0_load_24 : decode mi_X0_load.2.1 24 = .ok (.i2l, 1) := by decide +kernel
theorem dX0_load_25 : decode mi_X0_load.2.1 25 = .ok (.lconst 1, 1) := by decide +kernel
theorem dX0_load_26 : decode mi_X0_load.2.1 26 = .ok (.ldc2_w 281, 3) := by decide +kernel
theorem dX0_load_29 : decode mi_X0_load.2.1 29 = .ok (.invokestatic 241, 3) := by decide +kernel
theorem dX0_load_32 : decode mi_X0_load.2.1 32 = .ok (.ifCond .eq 20, 3) := by decide +kernel
theorem dX0_load_35 : decode mi_X0_load.2.1 35 = .ok (.iload 4, 2) := by decide +kernel
theorem dX0_load_37 : decode mi_X0_load.2.1 37 = .ok (.i2l, 1) := by decide +kernel
theorem dX0_load_38 : decode mi_X0_load.2.1 38 = .ok (.lconst 0, 1) := by decide +kernel
theorem dX0_load_39 : decode mi_X0_load.2.1 39 = .ok (.ldc2_w 283, 3) := by decide +kernel
theorem dX0_load_42 : decode mi_X0_load.2.1 42 = .ok (.invokestatic 241, 3) := by decide +kernel
theorem dX0_load_45 : decode mi_X0_load.2.1 45 = .ok (.ifCond .eq 7, 3) := by decide +kernel
theorem dX0_load_48 : decode mi_X0_load.2.1 48 = .ok (.iconst 1, 1) := by decide +kernel
theorem dX0_load_49 : decode mi_X0_load.2.1 49 = .ok (.goto 4, 3) := by decide +kernel
theorem dX0_load_52 : decode mi_X0_load.2.1 52 = .ok (.iconst 0, 1) := by decide +kernel
theorem dX0_load_53 : decode mi_X0_load.2.1 53 = .ok (.iload 5, 2) := by decide +kernel
theorem dX0_load_55 : decode mi_X0_load.2.1 55 = .ok (.iload 6, 2) := by decide +kernel
theorem dX0_load_57 : decode mi_X0_load.2.1 57 = .ok (.invokevirtual 285, 3) := by decide +kernel
theorem dX0_load_60 : decode mi_X0_load.2.1 60 = .ok (.istore 7, 2) := by decide +kernel
theorem dX0_load_62 : decode mi_X0_load.2.1 62 = .ok (.iload 7, 2) := by decide +kernel
theorem dX0_load_64 : decode mi_X0_load.2.1 64 = .ok (.ifCond .le 12, 3) := by decide +kernel
theorem dX0_load_67 : decode mi_X0_load.2.1 67 = .ok (.aload_n 0, 1) := by decide +kernel
theorem dX0_load_68 : decode mi_X0_load.2.1 68 = .ok (.iload 7, 2) := by decide +kernel
theorem dX0_load_70 : decode mi_X0_load.2.1 70 = .ok (.invokevirtual 205, 3) := by decide +kernel
theorem dX0_load_73 : decode mi_X0_load.2.1 73 = .ok (.goto 28, 3) := by decide +kernel
theorem dX0_load_76 : decode mi_X0_load.2.1 76 = .ok (.aload_n 0, 1) := by decide +kernel
theorem dX0_load_77 : decode mi_X0_load.2.1 77 = .ok (.new 289, 3) := by decide +kernel
theorem dX0_load_80 : decode mi_X0_load.2.1 80 = .ok (.dup, 1) := by decide +kernel
theorem dX0_load_81 : decode mi_X0_load.2.1 81 = .ok (.aload_n 0, 1) := by decide +kernel
theorem dX0_load_82 : decode mi_X0_load.2.1 82 = .ok (.getfield 17, 3) := by decide +kernel
theorem dX0_load_85 : decode mi_X0_load.2.1 85 = .ok (.iload_n 1, 1) := by decide +kernel
theorem dX0_load_86 : decode mi_X0_load.2.1 86 = .ok (.aaload, 1) := by decide +kernel
theorem dX0_load_87 : decode mi_X0_load.2.1 87 = .ok (.iload_n 2, 1) := by decide +kernel
theorem dX0_load_88 : decode mi_X0_load.2.1 88 = .ok (.iload_n 3, 1) := by decide +kernel
theorem dX0_load_89 : decode mi_X0_load.2.1 89 = .ok (.iload 4, 2) := by decide +kernel
theorem dX0_load_91 : decode mi_X0_load.2.1 91 = .ok (.iload 5, 2) := by decide +kernel
theorem dX0_load_93 : decode mi_X0_load.2.1 93 = .ok (.iload 6, 2) := by decide +kernel
theorem dX0_load_95 : decode mi_X0_load.2.1 95 = .ok (.invokespecial 291, 3) := by decide +kernel
theorem dX0_load_98 : decode mi_X0_load.2.1 98 = .ok (.invokevirtual 294, 3) := by decide +kernel
theorem dX0_load_101 : decode mi_X0_load.2.1 101 = .ok (.ireturn, 1) := by decide +kernel
theorem v_X0_load {G : ma_G} {d : Nat} {a0 : Nat} {x1 : Int32} {x2 : Int32} {x3 : Int32} {x4 : Int32} {x5 : Int32} {x6 : Int32} {h : ah_T} {Q : Option ma_V → ah_T → Prop} {E : Nat → ah_T → Prop} (La0_h : LY0 h a0) (H : (x1 < 0 → ∀ h2 : ah_T, h2 = ah_wI h a0 20 (2 : Int32) → ah_ext h h2 → Q (some (iv (-1 : Int32))) h2) ∧ (¬ x1 < 0 → ((ah_I h a0 14) ≤ x1 → ∀ h4 : ah_T, h4 = ah_wI h a0 20 (2 : Int32) → ah_ext h h4 → Q (some (iv (-1 : Int32))) h4) ∧ (¬ (ah_I h a0 14) ≤ x1 → (x2 < 0 → ∀ h6 : ah_T, h6 = ah_wI h a0 20 (2 : Int32) → ah_ext h h6 → Q (some (iv (-1 : Int32))) h6) ∧ (¬ x2 < 0 → ((ah_I h a0 15) ≤ x2 → ∀ h8 : ah_T, h8 = ah_wI h a0 20 (2 : Int32) → ah_ext h h8 → Q (some (iv (-1 : Int32))) h8) ∧ (¬ (ah_I h a0 15) ≤ x2 → (x3.toInt64 < (1 : Int64) → MX G mi_X0_load (d + 1) 53 [some (rv a0), some (iv x1), some (iv x2), some (iv x3), some (iv x4), some (iv x5), some (iv x6), none] [iv (0 : Int32), rv a0] h Q E) ∧ (¬ x3.toInt64 < (1 : Int64) → ((10000 : Int64) < x3.toInt64 → MX G mi_X0_load (d + 1) 53 [some (rv a0), some (iv x1), some (iv x2), some (iv x3), some (iv x4), some (iv x5), some (iv x6), none] [iv (0 : Int32), rv a0] h Q E) ∧ (¬ (10000 : Int64) < x3.toInt64 → (x4.toInt64 < (0 : Int64) → MX G mi_X0_load (d + 1) 53 [some (rv a0), some (iv x1), some (iv x2), some (iv x3), some (iv x4), some (iv x5), some (iv x6), none] [iv (0 : Int32), rv a0] h Q E) ∧ (¬ x4.toInt64 < (0 : Int64) → ((1000 : Int64) < x4.toInt64 → MX G mi_X0_load (d + 1) 53 [some (rv a0), some (iv x1), some (iv x2), some (iv x3), some (iv x4), some (iv x5), some (iv x6), none] [iv (0 : Int32), rv a0] h Q E) ∧ (¬ (1000 : Int64) < x4.toInt64 → MX G mi_X0_load (d + 1) 53 [some (rv a0), some (iv x1), some (iv x2), some (iv x3), some (iv x4), some (iv x5), some (iv x6), none] [iv (1 : Int32), rv a0] h Q E))))))))) : MX G mi_X0_load (d + 1) 0 [some (rv a0), some (iv x1), some (iv x2), some (iv x3), some (iv x4), some (iv x5), some (iv x6), none] [] h Q E := by
  refine mx_aload_n dX0_load_0 rfl rfl ?_
  refine mx_iload_n dX0_load_1 rfl rfl ?_
  refine mx_callV 0 (y' := mi_X0_isFarm) (vs := [iv x1]) (st := []) (al' := [some (rv a0), some (iv x1)]) cl_0 V_X0_isFarm (Or.inl q827) dX0_load_2 rfl rfl (Nat.le_of_ble_eq_true rfl) (Nat.le_of_ble_eq_true rfl) (ly0_k La0_h) ?_
  refine mx_iload_n dX0_isFarm_0 rfl rfl ?_
  refine mx_if_lt (tgt := 16) dX0_isFarm_1 rfl (fun c1 => ?_) (fun c1 => ?_)
  · have H := H.1 c1
    refine mx_iconst dX0_isFarm_16 ic_0 ?_
    refine mx_zretK rfl dX0_isFarm_17 (Or.inl rfl) ?_
    refine mx_if_eq (tgt := 16) dX0_load_5 rfl (fun _ => ?_) (fun _ => absurd ‹_› (by decide))
    refine mx_aload_n dX0_load_16 rfl rfl ?_
    refine mx_iconst dX0_load_17 ic_2 ?_
    refine mx_callV 0 (y' := mi_X0_none) (vs := [iv (2 : Int32)]) (st := []) (al' := [some (rv a0), some (iv (2 : Int32))]) cl_0 V_X0_none (Or.inl q733) dX0_load_18 rfl rfl (Nat.le_of_ble_eq_true rfl) (Nat.le_of_ble_eq_true rfl) (ly0_k La0_h) ?_
    refine mx_aload_n dX0_none_0 rfl rfl ?_
    refine mx_iload_n dX0_none_1 rfl rfl ?_
    refine mx_putI 0 20 (ref := "PrairiePool") cl_0 (Nat.le_of_ble_eq_true rfl) (Or.inl q480) (Or.inl rfl) dX0_none_2 (Or.inl rfl) rfl (ly0_k La0_h) ?_
    refine mx_nmI  (fun h2 eh2 Xh2 Kh2 Lh2 => ?_)
    have H := H h2 eh2 Xh2
    have La0_h2 := La0_h.ext Xh2
    refine mx_iconst dX0_none_5 ic_m1 ?_
    refine mx_iretK rfl dX0_none_6 ?_
    exact mx_iret rfl dX0_load_21 H
  · have H := H.2 c1
    refine mx_iload_n dX0_isFarm_4 rfl rfl ?_
    refine mx_aload_n dX0_isFarm_5 rfl rfl ?_
    refine mx_get 0 14 (ref := "PrairiePool") cl_0 (Nat.le_of_ble_eq_true rfl) (Or.inl q474) (Or.inl rfl) dX0_isFarm_6 (fv_0_14 _ _) (ly0_k La0_h) ?_
    refine mx_icmp_ge (tgt := 16) dX0_isFarm_9 rfl (fun c3 => ?_) (fun c3 => ?_)
    · have H := H.1 c3
      refine mx_iconst dX0_isFarm_16 ic_0 ?_
      refine mx_zretK rfl dX0_isFarm_17 (Or.inl rfl) ?_
      refine mx_if_eq (tgt := 16) dX0_load_5 rfl (fun _ => ?_) (fun _ => absurd ‹_› (by decide))
      refine mx_aload_n dX0_load_16 rfl rfl ?_
      refine mx_iconst dX0_load_17 ic_2 ?_
      refine mx_callV 0 (y' := mi_X0_none) (vs := [iv (2 : Int32)]) (st := []) (al' := [some (rv a0), some (iv (2 : Int32))]) cl_0 V_X0_none (Or.inl q733) dX0_load_18 rfl rfl (Nat.le_of_ble_eq_true rfl) (Nat.le_of_ble_eq_true rfl) (ly0_k La0_h) ?_
      refine mx_aload_n dX0_none_0 rfl rfl ?_
      refine mx_iload_n dX0_none_1 rfl rfl ?_
      refine mx_putI 0 20 (ref := "PrairiePool") cl_0 (Nat.le_of_ble_eq_true rfl) (Or.inl q480) (Or.inl rfl) dX0_none_2 (Or.inl rfl) rfl (ly0_k La0_h) ?_
      refine mx_nmI  (fun h4 eh4 Xh4 Kh4 Lh4 => ?_)
      have H := H h4 eh4 Xh4
      have La0_h4 := La0_h.ext Xh4
      refine mx_iconst dX0_none_5 ic_m1 ?_
      refine mx_iretK rfl dX0_none_6 ?_
      exact mx_iret rfl dX0_load_21 H
    · have H := H.2 c3
      refine mx_iconst dX0_isFarm_12 ic_1 ?_
      refine mx_goto (tgt := 17) dX0_isFarm_13 rfl ?_
      refine mx_zretK rfl dX0_isFarm_17 (Or.inr rfl) ?_
      refine mx_if_eq (tgt := 16) dX0_load_5 rfl (fun _ => absurd ‹_› (by decide)) (fun _ => ?_)
      refine mx_aload_n dX0_load_8 rfl rfl ?_
      refine mx_iload_n dX0_load_9 rfl rfl ?_
      refine mx_callV 0 (y' := mi_X0_isElevator) (vs := [iv x2]) (st := []) (al' := [some (rv a0), some (iv x2)]) cl_0 V_X0_isElevator (Or.inl q831) dX0_load_10 rfl rfl (Nat.le_of_ble_eq_true rfl) (Nat.le_of_ble_eq_true rfl) (ly0_k La0_h) ?_
      refine mx_iload_n dX0_isElevator_0 rfl rfl ?_
      refine mx_if_lt (tgt := 16) dX0_isElevator_1 rfl (fun c5 => ?_) (fun c5 => ?_)
      · have H := H.1 c5
        refine mx_iconst dX0_isElevator_16 ic_0 ?_
        refine mx_zretK rfl dX0_isElevator_17 (Or.inl rfl) ?_
        refine mx_if_ne (tgt := 22) dX0_load_13 rfl (fun _ => absurd ‹_› (by decide)) (fun _ => ?_)
        refine mx_aload_n dX0_load_16 rfl rfl ?_
        refine mx_iconst dX0_load_17 ic_2 ?_
        refine mx_callV 0 (y' := mi_X0_none) (vs := [iv (2 : Int32)]) (st := []) (al' := [some (rv a0), some (iv (2 : Int32))]) cl_0 V_X0_none (Or.inl q733) dX0_load_18 rfl rfl (Nat.le_of_ble_eq_true rfl) (Nat.le_of_ble_eq_true rfl) (ly0_k La0_h) ?_
        refine mx_aload_n dX0_none_0 rfl rfl ?_
        refine mx_iload_n dX0_none_1 rfl rfl ?_
        refine mx_putI 0 20 (ref := "PrairiePool") cl_0 (Nat.le_of_ble_eq_true rfl) (Or.inl q480) (Or.inl rfl) dX0_none_2 (Or.inl rfl) rfl (ly0_k La0_h) ?_
        refine mx_nmI  (fun h6 eh6 Xh6 Kh6 Lh6 => ?_)
        have H := H h6 eh6 Xh6
        have La0_h6 := La0_h.ext Xh6
        refine mx_iconst dX0_none_5 ic_m1 ?_
        refine mx_iretK rfl dX0_none_6 ?_
        exact mx_iret rfl dX0_load_21 H
      · have H := H.2 c5
        refine mx_iload_n dX0_isElevator_4 rfl rfl ?_
        refine mx_aload_n dX0_isElevator_5 rfl rfl ?_
        refine mx_get 0 15 (ref := "PrairiePool") cl_0 (Nat.le_of_ble_eq_true rfl) (Or.inl q475) (Or.inl rfl) dX0_isElevator_6 (fv_0_15 _ _) (ly0_k La0_h) ?_
        refine mx_icmp_ge (tgt := 16) dX0_isElevator_9 rfl (fun c7 => ?_) (fun c7 => ?_)
        · have H := H.1 c7
          refine mx_iconst dX0_isElevator_16 ic_0 ?_
          refine mx_zretK rfl dX0_isElevator_17 (Or.inl rfl) ?_
          refine mx_if_ne (tgt := 22) dX0_load_13 rfl (fun _ => absurd ‹_› (by decide)) (fun _ => ?_)
          refine mx_aload_n dX0_load_16 rfl rfl ?_
          refine mx_iconst dX0_load_17 ic_2 ?_
          refine mx_callV 0 (y' := mi_X0_none) (vs := [iv (2 : Int32)]) (st := []) (al' := [some (rv a0), some (iv (2 : Int32))]) cl_0 V_X0_none (Or.inl q733) dX0_load_18 rfl rfl (Nat.le_of_ble_eq_true rfl) (Nat.le_of_ble_eq_true rfl) (ly0_k La0_h) ?_
          refine mx_aload_n dX0_none_0 rfl rfl ?_
          refine mx_iload_n dX0_none_1 rfl rfl ?_
          refine mx_putI 0 20 (ref := "PrairiePool") cl_0 (Nat.le_of_ble_eq_true rfl) (Or.inl q480) (Or.inl rfl) dX0_none_2 (Or.inl rfl) rfl (ly0_k La0_h) ?_
          refine mx_nmI  (fun h8 eh8 Xh8 Kh8 Lh8 => ?_)
          have H := H h8 eh8 Xh8
          have La0_h8 := La0_h.ext Xh8
          refine mx_iconst dX0_none_5 ic_m1 ?_
          refine mx_iretK rfl dX0_none_6 ?_
          exact mx_iret rfl dX0_load_21 H
        · have H := H.2 c7
          refine mx_iconst dX0_isElevator_12 ic_1 ?_
          refine mx_goto (tgt := 17) dX0_isElevator_13 rfl ?_
          refine mx_zretK rfl dX0_isElevator_17 (Or.inr rfl) ?_
          refine mx_if_ne (tgt := 22) dX0_load_13 rfl (fun _ => ?_) (fun _ => absurd ‹_› (by decide))
          refine mx_aload_n dX0_load_22 rfl rfl ?_
          refine mx_iload_n dX0_load_23 rfl rfl ?_
          refine mx_i2l dX0_load_24 ?_
          refine mx_lconst dX0_load_25 lc_1 ?_
          refine mx_ldc2 q835 dX0_load_26 ?_
          refine mx_callS (y' := mi_X0_isFrom) (vs := [jv x3.toInt64, jv (1 : Int64), jv (10000 : Int64)]) (st := [rv a0]) (al' := [some (jv x3.toInt64), none, some (jv (1 : Int64)), none, some (jv (10000 : Int64)), none]) S_X0_isFrom q758 dX0_load_29 rfl rfl (Nat.le_of_ble_eq_true rfl) (Nat.le_of_ble_eq_true rfl) ?_
          refine mx_lload_n dX0_isFrom_0 rfl rfl ?_
          refine mx_lload_n dX0_isFrom_1 rfl rfl ?_
          refine mx_lif_lt (tgt := 17) dX0_isFrom_2 dX0_isFrom_3 rfl (fun c9 => ?_) (fun c9 => ?_)
          · have H := H.1 c9
            refine mx_iconst dX0_isFrom_17 ic_0 ?_
            refine mx_zretK rfl dX0_isFrom_18 (Or.inl rfl) ?_
            refine mx_if_eq (tgt := 52) dX0_load_32 rfl (fun _ => ?_) (fun _ => absurd ‹_› (by decide))
            refine mx_iconst dX0_load_52 ic_0 ?_
            exact mx_weak (al' := [some (rv a0), some (iv x1), some (iv x2), some (iv x3), some (iv x4), some (iv x5), some (iv x6), none]) ⟨rfl, ⟨rfl, ⟨rfl, ⟨rfl, ⟨rfl, ⟨rfl, ⟨rfl, trivial⟩⟩⟩⟩⟩⟩⟩ H
          · have H := H.2 c9
            refine mx_lload_n dX0_isFrom_6 rfl rfl ?_
            refine mx_lload dX0_isFrom_7 rfl ?_
            refine mx_lif_gt (tgt := 17) dX0_isFrom_9 dX0_isFrom_10 rfl (fun c10 => ?_) (fun c10 => ?_)
            · have H := H.1 c10
              refine mx_iconst dX0_isFrom_17 ic_0 ?_
              refine mx_zretK rfl dX0_isFrom_18 (Or.inl rfl) ?_
              refine mx_if_eq (tgt := 52) dX0_load_32 rfl (fun _ => ?_) (fun _ => absurd ‹_› (by decide))
              refine mx_iconst dX0_load_52 ic_0 ?_
              exact mx_weak (al' := [some (rv a0), some (iv x1), some (iv x2), some (iv x3), some (iv x4), some (iv x5), some (iv x6), none]) ⟨rfl, ⟨rfl, ⟨rfl, ⟨rfl, ⟨rfl, ⟨rfl, ⟨rfl, trivial⟩⟩⟩⟩⟩⟩⟩ H
            · have H := H.2 c10
              refine mx_iconst dX0_isFrom_13 ic_1 ?_
              refine mx_goto (tgt := 18) dX0_isFrom_14 rfl ?_
              refine mx_zretK rfl dX0_isFrom_18 (Or.inr rfl) ?_
              refine mx_if_eq (tgt := 52) dX0_load_32 rfl (fun _ => absurd ‹_› (by decide)) (fun _ => ?_)
              refine mx_iload dX0_load_35 rfl ?_
              refine mx_i2l dX0_load_37 ?_
              refine mx_lconst dX0_load_38 lc_0 ?_
              refine mx_ldc2 q836 dX0_load_39 ?_
              refine mx_callS (y' := mi_X0_isFrom) (vs := [jv x4.toInt64, jv (0 : Int64), jv (1000 : Int64)]) (st := [rv a0]) (al' := [some (jv x4.toInt64), none, some (jv (0 : Int64)), none, some (jv (1000 : Int64)), none]) S_X0_isFrom q758 dX0_load_42 rfl rfl (Nat.le_of_ble_eq_true rfl) (Nat.le_of_ble_eq_true rfl) ?_
              refine mx_lload_n dX0_isFrom_0 rfl rfl ?_
              refine mx_lload_n dX0_isFrom_1 rfl rfl ?_
              refine mx_lif_lt (tgt := 17) dX0_isFrom_2 dX0_isFrom_3 rfl (fun c11 => ?_) (fun c11 => ?_)
              · have H := H.1 c11
                refine mx_iconst dX0_isFrom_17 ic_0 ?_
                refine mx_zretK rfl dX0_isFrom_18 (Or.inl rfl) ?_
                refine mx_if_eq (tgt := 52) dX0_load_45 rfl (fun _ => ?_) (fun _ => absurd ‹_› (by decide))
                refine mx_iconst dX0_load_52 ic_0 ?_
                exact mx_weak (al' := [some (rv a0), some (iv x1), some (iv x2), some (iv x3), some (iv x4), some (iv x5), some (iv x6), none]) ⟨rfl, ⟨rfl, ⟨rfl, ⟨rfl, ⟨rfl, ⟨rfl, ⟨rfl, trivial⟩⟩⟩⟩⟩⟩⟩ H
              · have H := H.2 c11
                refine mx_lload_n dX0_isFrom_6 rfl rfl ?_
                refine mx_lload dX0_isFrom_7 rfl ?_
                refine mx_lif_gt (tgt := 17) dX0_isFrom_9 dX0_isFrom_10 rfl (fun c12 => ?_) (fun c12 => ?_)
                · have H := H.1 c12
                  refine mx_iconst dX0_isFrom_17 ic_0 ?_
                  refine mx_zretK rfl dX0_isFrom_18 (Or.inl rfl) ?_
                  refine mx_if_eq (tgt := 52) dX0_load_45 rfl (fun _ => ?_) (fun _ => absurd ‹_› (by decide))
                  refine mx_iconst dX0_load_52 ic_0 ?_
                  exact mx_weak (al' := [some (rv a0), some (iv x1), some (iv x2), some (iv x3), some (iv x4), some (iv x5), some (iv x6), none]) ⟨rfl, ⟨rfl, ⟨rfl, ⟨rfl, ⟨rfl, ⟨rfl, ⟨rfl, trivial⟩⟩⟩⟩⟩⟩⟩ H
                · have H := H.2 c12
                  refine mx_iconst dX0_isFrom_13 ic_1 ?_
                  refine mx_goto (tgt := 18) dX0_isFrom_14 rfl ?_
                  refine mx_zretK rfl dX0_isFrom_18 (Or.inr rfl) ?_
                  refine mx_if_eq (tgt := 52) dX0_load_45 rfl (fun _ => absurd ‹_› (by decide)) (fun _ => ?_)
                  refine mx_iconst dX0_load_48 ic_1 ?_
                  refine mx_goto (tgt := 53) dX0_load_49 rfl ?_
                  exact mx_weak (al' := [some (rv a0), some (iv x1), some (iv x2), some (iv x3), some (iv x4), some (iv x5), some (iv x6), none]) ⟨rfl, ⟨rfl, ⟨rfl, ⟨rfl, ⟨rfl, ⟨rfl, ⟨rfl, trivial⟩⟩⟩⟩⟩⟩⟩ H
theorem v_X0_load_53 {G : ma_G} {d : Nat} {a0 : Nat} {x1 : Int32} {x2 : Int32} {x3 : Int32} {x4 : Int32} {x5 : Int32} {x6 : Int32} {z0 : Int32} {h : ah_T} {Q : Option ma_V → ah_T → Prop} {E : Nat → ah_T → Prop} (La0_h : LY0 h a0) (H : MX G mi_X0_wrongEvent d 0 [some (rv a0), some (iv z0), some (iv x5), some (iv x6)] [] h (Qi fun r2 h1 => ah_ext h h1 → (r2 ≤ 0 → (1 ≤ ah_rc h1 ∧ 7 ≤ ah_rs h1) ∧ ∀ h5 : ah_T, h5 = ah_new h1 12 0 7 → ah_ext h1 h5 → ah_liv h1 → vp_in x1 20 ∧ MX G mi_X12_init d 0 [some (rv (ah_sz h1)), some (rv (ah_R h5 (a0 + 2) x1.toNatClampNeg)), some (iv x2), some (iv x3), some (iv x4), some (iv x5), some (iv x6)] [] h5 (Qv fun h8 => ah_ext h5 h8 → MX G mi_X0_adds d 0 [some (rv a0), some (rv (ah_sz h1))] [] h8 (Qi fun r12 h11 => ah_ext h8 h11 → Q (some (iv r12)) h11) E) E) ∧ (¬ r2 ≤ 0 → ∀ h14 : ah_T, h14 = ah_wI h1 a0 20 r2 → ah_ext h1 h14 → Q (some (iv (-1 : Int32))) h14)) E) : MX G mi_X0_load (d + 1) 53 [some (rv a0), some (iv x1), some (iv x2), some (iv x3), some (iv x4), some (iv x5), some (iv x6), none] [iv z0, rv a0] h Q E := by
  refine mx_iload dX0_load_53 rfl ?_
  refine mx_iload dX0_load_55 rfl ?_
  refine mx_callV 0 (y' := mi_X0_wrongEvent) (vs := [iv z0, iv x5, iv x6]) (st := []) (al' := [some (rv a0), some (iv z0), some (iv x5), some (iv x6)]) cl_0 V_X0_wrongEvent (Or.inl q837) dX0_load_57 rfl rfl (Nat.le_of_ble_eq_true rfl) (Nat.le_of_ble_eq_true rfl) (ly0_k La0_h) ?_
  refine ma_ki H (fun r2 h1 Xh1 H => ?_) (fun x1 h1 X1 H => mt_out rfl H)
  have H := H Xh1
  have La0_h1 := La0_h.ext Xh1
  refine mx_istore (al' := [some (rv a0), some (iv x1), some (iv x2), some (iv x3), some (iv x4), some (iv x5), some (iv x6), some (iv r2)]) dX0_load_60 (Nat.le_of_ble_eq_true rfl) rfl ?_
  refine mx_iload dX0_load_62 rfl ?_
  refine mx_if_le (tgt := 76) dX0_load_64 rfl (fun c3 => ?_) (fun c3 => ?_)
  · have H := H.1 c3
    refine mx_aload_n dX0_load_76 rfl rfl ?_
    obtain ⟨k4, H⟩ := H
    refine mx_new 11 cl_11 dk_11 q844 q845 q140 dX0_load_77 k4.1 k4.2 (fun x_ lv_ => ?_)
    refine mx_nmN x_ lv_ (fun h5 eh5 Xh5 lv_ => ?_)
    have H := H h5 eh5 Xh5 lv_
    have La0_h5 := La0_h1.ext Xh5
    have k6 : ah_kd h5 (ah_sz h1) = 12 := by rw [eh5]; exact if_pos rfl
    refine mx_dup_r dX0_load_80 ?_
    refine mx_aload_n dX0_load_81 rfl rfl ?_
    refine mx_get 0 1 (ref := "PrairiePool") cl_0 (Nat.le_of_ble_eq_true rfl) (Or.inl q461) (Or.inl rfl) dX0_load_82 (fv_0_1 _ _) (ly0_k La0_h5) ?_
    refine mx_tr (ly0_R_0_1 La0_h5) ?_
    refine mx_iload_n dX0_load_85 rfl rfl ?_
    obtain ⟨k7, H⟩ := H
    refine my_aald 6 dX0_load_86 (by decide) rfl (ly0_A_2 La0_h5 k7) ?_
    refine mx_iload_n dX0_load_87 rfl rfl ?_
    refine mx_iload_n dX0_load_88 rfl rfl ?_
    refine mx_iload dX0_load_89 rfl ?_
    refine mx_iload dX0_load_91 rfl ?_
    refine mx_iload dX0_load_93 rfl ?_
    refine mx_callI (y' := mi_X12_init) (vs := [rv (ah_R h5 (a0 + 2) x1.toNatClampNeg), iv x2, iv x3, iv x4, iv x5, iv x6]) (st := [rv (ah_sz h1), rv a0]) (al' := [some (rv (ah_sz h1)), some (rv (ah_R h5 (a0 + 2) x1.toNatClampNeg)), some (iv x2), some (iv x3), some (iv x4), some (iv x5), some (iv x6)]) I_X12_init (Or.inl q846) dX0_load_95 rfl rfl (Nat.le_of_ble_eq_true rfl) (Nat.le_of_ble_eq_true rfl) (by rw [k6]; decide) ?_
    refine ma_kv H (fun h8 Xh8 H => ?_) (fun x1 h1 X1 H => mt_out rfl H)
    have H := H Xh8
    have k10 := Xh8.kd (k6)
    have La0_h8 := La0_h5.ext Xh8
    refine mx_callV 0 (y' := mi_X0_adds) (vs := [rv (ah_sz h1)]) (st := []) (al' := [some (rv a0), some (rv (ah_sz h1))]) cl_0 V_X0_adds (Or.inl q882) dX0_load_98 rfl rfl (Nat.le_of_ble_eq_true rfl) (Nat.le_of_ble_eq_true rfl) (ly0_k La0_h8) ?_
    refine ma_ki H (fun r12 h11 Xh11 H => ?_) (fun x1 h1 X1 H => mt_out rfl H)
    have H := H Xh11
    have k13 := Xh11.kd (k10)
    have La0_h11 := La0_h8.ext Xh11
    exact mx_iret rfl dX0_load_101 H
  · have H := H.2 c3
    refine mx_aload_n dX0_load_67 rfl rfl ?_
    refine mx_iload dX0_load_68 rfl ?_
    refine mx_callV 0 (y' := mi_X0_none) (vs := [iv r2]) (st := []) (al' := [some (rv a0), some (iv r2)]) cl_0 V_X0_none (Or.inl q733) dX0_load_70 rfl rfl (Nat.le_of_ble_eq_true rfl) (Nat.le_of_ble_eq_true rfl) (ly0_k La0_h1) ?_
    refine mx_aload_n dX0_none_0 rfl rfl ?_
    refine mx_iload_n dX0_none_1 rfl rfl ?_
    refine mx_putI 0 20 (ref := "PrairiePool") cl_0 (Nat.le_of_ble_eq_true rfl) (Or.inl q480) (Or.inl rfl) dX0_none_2 (Or.inl rfl) rfl (ly0_k La0_h1) ?_
    refine mx_nmI  (fun h14 eh14 Xh14 Kh14 Lh14 => ?_)
    have H := H h14 eh14 Xh14
    have La0_h14 := La0_h1.ext Xh14
    refine mx_iconst dX0_none_5 ic_m1 ?_
    refine mx_iretK rfl dX0_none_6 ?_
    refine mx_goto (tgt := 101) dX0_load_73 rfl ?_
    exact mx_iret rfl dX0_load_101 H
theorem v_X0_isFarm {G : ma_G} {d : Nat} {a0 : Nat} {x1 : Int32} {h : ah_T} {Q : Option ma_V → ah_T → Prop} {E : Nat → ah_T → Prop} (La0_h : LY0 h a0) (H : (x1 < 0 → Q (some (iv (0 : Int32))) h) ∧ (¬ x1 < 0 → ((ah_I h a0 14) ≤ x1 → Q (some (iv (0 : Int32))) h) ∧ (¬ (ah_I h a0 14) ≤ x1 → Q (some (iv (1 : Int32))) h))) : MX G mi_X0_isFarm d 0 [some (rv a0), some (iv x1)] [] h Q E := by
  refine mx_iload_n dX0_isFarm_0 rfl rfl ?_
  refine mx_if_lt (tgt := 16) dX0_isFarm_1 rfl (fun c1 => ?_) (fun c1 => ?_)
  · have H := H.1 c1
    refine mx_iconst dX0_isFarm_16 ic_0 ?_
    exact mx_zret rfl dX0_isFarm_17 (Or.inl rfl) H
  · have H := H.2 c1
    refine mx_iload_n dX0_isFarm_4 rfl rfl ?_
    refine mx_aload_n dX0_isFarm_5 rfl rfl ?_
    refine mx_get 0 14 (ref := "PrairiePool") cl_0 (Nat.le_of_ble_eq_true rfl) (Or.inl q474) (Or.inl rfl) dX0_isFarm_6 (fv_0_14 _ _) (ly0_k La0_h) ?_
    refine mx_icmp_ge (tgt := 16) dX0_isFarm_9 rfl (fun c2 => ?_) (fun c2 => ?_)
    · have H := H.1 c2
      refine mx_iconst dX0_isFarm_16 ic_0 ?_
      exact mx_zret rfl dX0_isFarm_17 (Or.inl rfl) H
    · have H := H.2 c2
      refine mx_iconst dX0_isFarm_12 ic_1 ?_
      refine mx_goto (tgt := 17) dX0_isFarm_13 rfl ?_
      exact mx_zret rfl dX0_isFarm_17 (Or.inr rfl) H
theorem v_X0_isElevator {G : ma_G} {d : Nat} {a0 : Nat} {x1 : Int32} {h : ah_T} {Q : Option ma_V → ah_T → Prop} {E : Nat → ah_T → Prop} (La0_h : LY0 h a0) (H : (x1 < 0 → Q (some (iv (0 : Int32))) h) ∧ (¬ x1 < 0 → ((ah_I h a0 15) ≤ x1 → Q (some (iv (0 : Int32))) h) ∧ (¬ (ah_I h a0 15) ≤ x1 → Q (some (iv (1 : Int32))) h))) : MX G mi_X0_isElevator d 0 [some (rv a0), some (iv x1)] [] h Q E := by
  refine mx_iload_n dX0_isElevator_0 rfl rfl ?_
  refine mx_if_lt (tgt := 16) dX0_isElevator_1 rfl (fun c1 => ?_) (fun c1 => ?_)
  · have H := H.1 c1
    refine mx_iconst dX0_isElevator_16 ic_0 ?_
    exact mx_zret rfl dX0_isElevator_17 (Or.inl rfl) H
  · have H := H.2 c1
    refine mx_iload_n dX0_isElevator_4 rfl rfl ?_
    refine mx_aload_n dX0_isElevator_5 rfl rfl ?_
    refine mx_get 0 15 (ref := "PrairiePool") cl_0 (Nat.le_of_ble_eq_true rfl) (Or.inl q475) (Or.inl rfl) dX0_isElevator_6 (fv_0_15 _ _) (ly0_k La0_h) ?_
    refine mx_icmp_ge (tgt := 16) dX0_isElevator_9 rfl (fun c2 => ?_) (fun c2 => ?_)
    · have H := H.1 c2
      refine mx_iconst dX0_isElevator_16 ic_0 ?_
      exact mx_zret rfl dX0_isElevator_17 (Or.inl rfl) H
    · have H := H.2 c2
      refine mx_iconst dX0_isElevator_12 ic_1 ?_
      refine mx_goto (tgt := 17) dX0_isElevator_13 rfl ?_
      exact mx_zret rfl dX0_isElevator_17 (Or.inr rfl) H
theorem dX0_wrongEvent_0 : decode mi_X0_wrongEvent.2.1 0 = .ok (.iload_n 1, 1) := by decide +kernel
theorem dX0_wrongEvent_1 : decode mi_X0_wrongEvent.2.1 1 = .ok (.ifCond .eq 22, 3) := by decide +kernel
theorem dX0_wrongEvent_4 : decode mi_X0_wrongEvent.2.1 4 = .ok (.iload_n 2, 1) := by decide +kernel
theorem dX0_wrongEvent_5 : decode mi_X0_wrongEvent.2.1 5 = .ok (.invokestatic 260, 3) := by decide +kernel
theorem dX0_wrongEvent_8 : decode mi_X0_wrongEvent.2.1 8 = .ok (.ifCond .eq 15, 3) := by decide +kernel
theorem dX0_wrongEvent_11 : decode mi_X0_wrongEvent.2.1 11 = .ok (.iload_n 3, 1) := by decide +kernel
theorem dX0_wrongEvent_12 : decode mi_X0_wrongEvent.2.1 12 = .ok (.invokestatic 260, 3) := by decide +kernel
theorem dX0_wrongEvent_15 : decode mi_X0_wrongEvent.2.1 15 = .ok (.ifCond .eq 8, 3) := by decide +kernel
theorem dX0_wrongEvent_18 : decode mi_X0_wrongEvent.2.1 18 = .ok (.iload_n 3, 1) := by decide +kernel
theorem dX0_wrongEvent_19 : decode mi_X0_wrongEvent.2.1 19 = .ok (.iload_n 2, 1) := by decide +kernel
theorem dX0_wrongEvent_20 : decode mi_X0_wrongEvent.2.1 20 = .ok (.if_icmp .ge 5, 3) := by decide +kernel
theorem dX0_wrongEvent_23 : decode mi_X0_wrongEvent.2.1 23 = .ok (.iconst 5, 1) := by decide +kernel
theorem dX0_wrongEvent_24 : decode mi_X0_wrongEvent.2.1 24 = .ok (.ireturn, 1) := by decide +kernel
theorem dX0_wrongEvent_25 : decode mi_X0_wrongEvent.2.1 25 = .ok (.aload_n 0, 1) := by decide +kernel
theorem dX0_wrongEvent_26 : decode mi_X0_wrongEvent.2.1 26 = .ok (.getfield 263, 3) := by decide +kernel
theorem dX0_wrongEvent_29 : decode mi_X0_wrongEvent.2.1 29 = .ok (.bipush 120, 2) := by decide +kernel
theorem dX0_wrongEvent_31 : decode mi_X0_wrongEvent.2.1 31 = .ok (.if_icmp .ne 6, 3) := by decide +kernel
theorem dX0_wrongEvent_34 : decode mi_X0_wrongEvent.2.1 34 = .ok (.bipush 7, 2) := by decide +kernel
theorem dX0_wrongEvent_36 : decode mi_X0_wrongEvent.2.1 36 = .ok (.ireturn, 1) := by decide +kernel
theorem dX0_wrongEvent_37 : decode mi_X0_wrongEvent.2.1 37 = .ok (.iload_n 3, 1) := by decide +kernel
theorem dX0_wrongEvent_38 : decode mi_X0_wrongEvent.2.1 38 = .ok (.aload_n 0, 1) := by decide +kernel
theorem dX0_wrongEvent_39 : decode mi_X0_wrongEvent.2.1 39 = .ok (.getfield 266, 3) := by decide +kernel
theorem dX0_wrongEvent_42 : decode mi_X0_wrongEvent.2.1 42 = .ok (.if_icmp .lt 28, 3) := by decide +kernel
theorem dX0_wrongEvent_45 : decode mi_X0_wrongEvent.2.1 45 = .ok (.aload_n 0, 1) := by decide +kernel
theorem dX0_wrongEvent_46 : decode mi_X0_wrongEvent.2.1 46 = .ok (.getfield 263, 3) := by decide +kernel
theorem dX0_wrongEvent_49 : decode mi_X0_wrongEvent.2.1 49 = .ok (.ifCond .le 26, 3) := by decide +kernel
theorem dX0_wrongEvent_52 : decode mi_X0_wrongEvent.2.1 52 = .ok (.iload_n 2, 1) := by decide +kernel
theorem dX0_wrongEvent_53 : decode mi_X0_wrongEvent.2.1 53 = .ok (.aload_n 0, 1) := by decide +kernel
theorem dX0_wrongEvent_54 : decode mi_X0_wrongEvent.2.1 54 = .ok (.getfield 29, 3) := by decide +kernel
theorem dX0_wrongEvent_57 : decode mi_X0_wrongEvent.2.1 57 = .ok (.aload_n 0, 1) := by decide +kernel
theorem dX0_wrongEvent_58 : decode mi_X0_wrongEvent.2.1 58 = .ok (.getfield 263, 3) := by decide +kernel
theorem dX0_wrongEvent_61 : decode mi_X0_wrongEvent.2.1 61 = .ok (.iconst 1, 1) := by decide +kernel
theorem dX0_wrongEvent_62 : decode mi_X0_wrongEvent.2.1 62 = .ok (.isub, 1) := by decide +kernel
theorem dX0_wrongEvent_63 : decode mi_X0_wrongEvent.2.1 63 = .ok (.aaload, 1) := by decide +kernel
theorem dX0_wrongEvent_64 : decode mi_X0_wrongEvent.2.1 64 = .ok (.getfield 269, 3) := by decide +kernel
theorem dX0_wrongEvent_67 : decode mi_X0_wrongEvent.2.1 67 = .ok (.if_icmp .ge 8, 3) := by decide +kernel
theorem dX0_wrongEvent_70 : decode mi_X0_wrongEvent.2.1 70 = .ok (.bipush 12, 2) := by decide +kernel
theorem dX0_wrongEvent_72 : decode mi_X0_wrongEvent.2.1 72 = .ok (.goto 4, 3) := by decide +kernel
theorem dX0_wrongEvent_75 : decode mi_X0_wrongEvent.2.1 75 = .ok (.iconst 0, 1) := by decide +kernel
theorem dX0_wrongEvent_76 : decode mi_X0_wrongEvent.2.1 76 = .ok (.ireturn, 1) := by decide +kernel
theorem v_X0_wrongEvent {G : ma_G} {d : Nat} {a0 : Nat} {x1 : Int32} {x2 : Int32} {x3 : Int32} {h : ah_T} {Q : Option ma_V → ah_T → Prop} {E : Nat → ah_T → Prop} (La0_h : LY0 h a0) (H : (x1 = 0 → Q (some (iv (5 : Int32))) h) ∧ (¬ x1 = 0 → (x2 < 0 → Q (some (iv (5 : Int32))) h) ∧ (¬ x2 < 0 → ((520 : Int32) ≤ x2 → Q (some (iv (5 : Int32))) h) ∧ (¬ (520 : Int32) ≤ x2 → (x3 < 0 → Q (some (iv (5 : Int32))) h) ∧ (¬ x3 < 0 → ((520 : Int32) ≤ x3 → Q (some (iv (5 : Int32))) h) ∧ (¬ (520 : Int32) ≤ x3 → (x2 ≤ x3 → (¬ (ah_I h a0 16) = (120 : Int32) → (x3 < (ah_I h a0 19) → Q (some (iv (12 : Int32))) h) ∧ (¬ x3 < (ah_I h a0 19) → ((ah_I h a0 16) ≤ 0 → Q (some (iv (0 : Int32))) h) ∧ (¬ (ah_I h a0 16) ≤ 0 → vp_in ((ah_I h a0 16) - (1 : Int32)) 120 ∧ ma_ks h (ah_R h (a0 + 4) ((ah_I h a0 16) - (1 : Int32)).toNatClampNeg) [11, 12, 13, 14] ∧ ((ah_I h (ah_R h (a0 + 4) ((ah_I h a0 16) - (1 : Int32)).toNatClampNeg) 0) ≤ x2 → Q (some (iv (0 : Int32))) h) ∧ (¬ (ah_I h (ah_R h (a0 + 4) ((ah_I h a0 16) - (1 : Int32)).toNatClampNeg) 0) ≤ x2 → Q (some (iv (12 : Int32))) h)))) ∧ ((ah_I h a0 16) = (120 : Int32) → Q (some (iv (7 : Int32))) h)) ∧ (¬ x2 ≤ x3 → Q (some (iv (5 : Int32))) h))))))) : MX G mi_X0_wrongEvent (d + 1) 0 [some (rv a0), some (iv x1), some (iv x2), some (iv x3)] [] h Q E := by
  refine mx_iload_n dX0_wrongEvent_0 rfl rfl ?_
  refine mx_if_eq (tgt := 23) dX0_wrongEvent_1 rfl (fun c1 => ?_) (fun c1 => ?_)
  · have H := H.1 c1
    refine mx_iconst dX0_wrongEvent_23 ic_5 ?_
    exact mx_iret rfl dX0_wrongEvent_24 H
  · have H := H.2 c1
    refine mx_iload_n dX0_wrongEvent_4 rfl rfl ?_
    refine mx_callS (y' := mi_X0_isWeek) (vs := [iv x2]) (st := []) (al' := [some (iv x2)]) S_X0_isWeek q841 dX0_wrongEvent_5 rfl rfl (Nat.le_of_ble_eq_true rfl) (Nat.le_of_ble_eq_true rfl) ?_
    refine mx_iload_n dX0_isWeek_0 rfl rfl ?_
    refine mx_if_lt (tgt := 15) dX0_isWeek_1 rfl (fun c2 => ?_) (fun c2 => ?_)
    · have H := H.1 c2
      refine mx_iconst dX0_isWeek_15 ic_0 ?_
      refine mx_zretK rfl dX0_isWeek_16 (Or.inl rfl) ?_
      refine mx_if_eq (tgt := 23) dX0_wrongEvent_8 rfl (fun _ => ?_) (fun _ => absurd ‹_› (by decide))
      refine mx_iconst dX0_wrongEvent_23 ic_5 ?_
      exact mx_iret rfl dX0_wrongEvent_24 H
    · have H := H.2 c2
      refine mx_iload_n dX0_isWeek_4 rfl rfl ?_
      refine mx_sipush dX0_isWeek_5 is_520 ?_
      refine mx_icmp_ge (tgt := 15) dX0_isWeek_8 rfl (fun c3 => ?_) (fun c3 => ?_)
      · have H := H.1 c3
        refine mx_iconst dX0_isWeek_15 ic_0 ?_
        refine mx_zretK rfl dX0_isWeek_16 (Or.inl rfl) ?_
        refine mx_if_eq (tgt := 23) dX0_wrongEvent_8 rfl (fun _ => ?_) (fun _ => absurd ‹_› (by decide))
        refine mx_iconst dX0_wrongEvent_23 ic_5 ?_
        exact mx_iret rfl dX0_wrongEvent_24 H
      · have H := H.2 c3
        refine mx_iconst dX0_isWeek_11 ic_1 ?_
        refine mx_goto (tgt := 16) dX0_isWeek_12 rfl ?_
        refine mx_zretK rfl dX0_isWeek_16 (Or.inr rfl) ?_
        refine mx_if_eq (tgt := 23) dX0_wrongEvent_8 rfl (fun _ => absurd ‹_› (by decide)) (fun _ => ?_)
        refine mx_iload_n dX0_wrongEvent_11 rfl rfl ?_
        refine mx_callS (y' := mi_X0_isWeek) (vs := [iv x3]) (st := []) (al' := [some (iv x3)]) S_X0_isWeek q841 dX0_wrongEvent_12 rfl rfl (Nat.le_of_ble_eq_true rfl) (Nat.le_of_ble_eq_true rfl) ?_
        refine mx_iload_n dX0_isWeek_0 rfl rfl ?_
        refine mx_if_lt (tgt := 15) dX0_isWeek_1 rfl (fun c4 => ?_) (fun c4 => ?_)
        · have H := H.1 c4
          refine mx_iconst dX0_isWeek_15 ic_0 ?_
          refine mx_zretK rfl dX0_isWeek_16 (Or.inl rfl) ?_
          refine mx_if_eq (tgt := 23) dX0_wrongEvent_15 rfl (fun _ => ?_) (fun _ => absurd ‹_› (by decide))
          refine mx_iconst dX0_wrongEvent_23 ic_5 ?_
          exact mx_iret rfl dX0_wrongEvent_24 H
        · have H := H.2 c4
          refine mx_iload_n dX0_isWeek_4 rfl rfl ?_
          refine mx_sipush dX0_isWeek_5 is_520 ?_
          refine mx_icmp_ge (tgt := 15) dX0_isWeek_8 rfl (fun c5 => ?_) (fun c5 => ?_)
          · have H := H.1 c5
            refine mx_iconst dX0_isWeek_15 ic_0 ?_
            refine mx_zretK rfl dX0_isWeek_16 (Or.inl rfl) ?_
            refine mx_if_eq (tgt := 23) dX0_wrongEvent_15 rfl (fun _ => ?_) (fun _ => absurd ‹_› (by decide))
            refine mx_iconst dX0_wrongEvent_23 ic_5 ?_
            exact mx_iret rfl dX0_wrongEvent_24 H
          · have H := H.2 c5
            refine mx_iconst dX0_isWeek_11 ic_1 ?_
            refine mx_goto (tgt := 16) dX0_isWeek_12 rfl ?_
            refine mx_zretK rfl dX0_isWeek_16 (Or.inr rfl) ?_
            refine mx_if_eq (tgt := 23) dX0_wrongEvent_15 rfl (fun _ => absurd ‹_› (by decide)) (fun _ => ?_)
            refine mx_iload_n dX0_wrongEvent_18 rfl rfl ?_
            refine mx_iload_n dX0_wrongEvent_19 rfl rfl ?_
            refine mx_icmp_ge (tgt := 25) dX0_wrongEvent_20 rfl (fun c6 => ?_) (fun c6 => ?_)
            · have H := H.1 c6
              refine mx_aload_n dX0_wrongEvent_25 rfl rfl ?_
              refine mx_get 0 16 (ref := "PrairiePool") cl_0 (Nat.le_of_ble_eq_true rfl) (Or.inl q476) (Or.inl rfl) dX0_wrongEvent_26 (fv_0_16 _ _) (ly0_k La0_h) ?_
              refine mx_bipush dX0_wrongEvent_29 ib_120 ?_
              refine mx_icmp_ne (tgt := 37) dX0_wrongEvent_31 rfl (fun c7 => ?_) (fun c7 => ?_)
              · have H := H.1 c7
                refine mx_iload_n dX0_wrongEvent_37 rfl rfl ?_
                refine mx_aload_n dX0_wrongEvent_38 rfl rfl ?_
                refine mx_get 0 19 (ref := "PrairiePool") cl_0 (Nat.le_of_ble_eq_true rfl) (Or.inl q479) (Or.inl rfl) dX0_wrongEvent_39 (fv_0_19 _ _) (ly0_k La0_h) ?_
                refine mx_icmp_lt (tgt := 70) dX0_wrongEvent_42 rfl (fun c8 => ?_) (fun c8 => ?_)
                · have H := H.1 c8
                  refine mx_bipush dX0_wrongEvent_70 ib_12 ?_
                  refine mx_goto (tgt := 76) dX0_wrongEvent_72 rfl ?_
                  exact mx_iret rfl dX0_wrongEvent_76 H
                · have H := H.2 c8
                  refine mx_aload_n dX0_wrongEvent_45 rfl rfl ?_
                  refine mx_get 0 16 (ref := "PrairiePool") cl_0 (Nat.le_of_ble_eq_true rfl) (Or.inl q476) (Or.inl rfl) dX0_wrongEvent_46 (fv_0_16 _ _) (ly0_k La0_h) ?_
                  refine mx_if_le (tgt := 75) dX0_wrongEvent_49 rfl (fun c9 => ?_) (fun c9 => ?_)
                  · have H := H.1 c9
                    refine mx_iconst dX0_wrongEvent_75 ic_0 ?_
                    exact mx_iret rfl dX0_wrongEvent_76 H
                  · have H := H.2 c9
                    refine mx_iload_n dX0_wrongEvent_52 rfl rfl ?_
                    refine mx_aload_n dX0_wrongEvent_53 rfl rfl ?_
                    refine mx_get 0 3 (ref := "PrairiePool") cl_0 (Nat.le_of_ble_eq_true rfl) (Or.inl q463) (Or.inl rfl) dX0_wrongEvent_54 (fv_0_3 _ _) (ly0_k La0_h) ?_
                    refine mx_tr (ly0_R_0_3 La0_h) ?_
                    refine mx_aload_n dX0_wrongEvent_57 rfl rfl ?_
                    refine mx_get 0 16 (ref := "PrairiePool") cl_0 (Nat.le_of_ble_eq_true rfl) (Or.inl q476) (Or.inl rfl) dX0_wrongEvent_58 (fv_0_16 _ _) (ly0_k La0_h) ?_
                    refine mx_iconst dX0_wrongEvent_61 ic_1 ?_
                    refine mx_isub dX0_wrongEvent_62 ?_
                    obtain ⟨k10, H⟩ := H
                    refine my_aald 8 dX0_wrongEvent_63 (by decide) rfl (ly0_A_4 La0_h k10) ?_
                    obtain ⟨k11, H⟩ := H
                    refine mx_getP [11, 12, 13, 14] 0 (ref := "PrairiePool$Event") (v := iv (ah_I _ _ 0)) fa_ev_0 (Or.inl q862) (Or.inl rfl) dX0_wrongEvent_64 rfl k11 ?_
                    refine mx_icmp_ge (tgt := 75) dX0_wrongEvent_67 rfl (fun c12 => ?_) (fun c12 => ?_)
                    · have H := H.1 c12
                      refine mx_iconst dX0_wrongEvent_75 ic_0 ?_
                      exact mx_iret rfl dX0_wrongEvent_76 H
                    · have H := H.2 c12
                      refine mx_bipush dX0_wrongEvent_70 ib_12 ?_
                      refine mx_goto (tgt := 76) dX0_wrongEvent_72 rfl ?_
                      exact mx_iret rfl dX0_wrongEvent_76 H
              · have H := H.2 c7
                refine mx_bipush dX0_wrongEvent_34 ib_7 ?_
                exact mx_iret rfl dX0_wrongEvent_36 H
            · have H := H.2 c6
              refine mx_iconst dX0_wrongEvent_23 ic_5 ?_
              exact mx_iret rfl dX0_wrongEvent_24 H
theorem v_X0_isWeek {G : ma_G} {d : Nat} {x0 : Int32} {h : ah_T} {Q : Option ma_V → ah_T → Prop} {E : Nat → ah_T → Prop}  (H : (x0 < 0 → Q (some (iv (0 : Int32))) h) ∧ (¬ x0 < 0 → ((520 : Int32) ≤ x0 → Q (some (iv (0 : Int32))) h) ∧ (¬ (520 : Int32) ≤ x0 → Q (some (iv (1 : Int32))) h))) : MX G mi_X0_isWeek d 0 [some (iv x0)] [] h Q E := by
  refine mx_iload_n dX0_isWeek_0 rfl rfl ?_
  refine mx_if_lt (tgt := 15) dX0_isWeek_1 rfl (fun c1 => ?_) (fun c1 => ?_)
  · have H := H.1 c1
    refine mx_iconst dX0_isWeek_15 ic_0 ?_
    exact mx_zret rfl dX0_isWeek_16 (Or.inl rfl) H
  · have H := H.2 c1
    refine mx_iload_n dX0_isWeek_4 rfl rfl ?_
    refine mx_sipush dX0_isWeek_5 is_520 ?_
    refine mx_icmp_ge (tgt := 15) dX0_isWeek_8 rfl (fun c2 => ?_) (fun c2 => ?_)
    · have H := H.1 c2
      refine mx_iconst dX0_isWeek_15 ic_0 ?_
      exact mx_zret rfl dX0_isWeek_16 (Or.inl rfl) H
    · have H := H.2 c2
      refine mx_iconst dX0_isWeek_11 ic_1 ?_
      refine mx_goto (tgt := 16) dX0_isWeek_12 rfl ?_
      exact mx_zret rfl dX0_isWeek_16 (Or.inr rfl) H
theorem dX0_adds_0 : decode mi_X0_adds.2.1 0 = .ok (.aload_n 0, 1) := by decide +kernel
theorem dX0_adds_1 : decode mi_X0_adds.2.1 1 = .ok (.aload_n 1, 1) := by decide +kernel
theorem dX0_adds_2 : decode mi_X0_adds.2.1 2 = .ok (.getfield 272, 3) := by decide +kernel
theorem dX0_adds_5 : decode mi_X0_adds.2.1 5 = .ok (.putfield 266, 3) := by decide +kernel
theorem dX0_adds_8 : decode mi_X0_adds.2.1 8 = .ok (.aload_n 0, 1) := by decide +kernel
theorem dX0_adds_9 : decode mi_X0_adds.2.1 9 = .ok (.getfield 29, 3) := by decide +kernel
theorem dX0_adds_12 : decode mi_X0_adds.2.1 12 = .ok (.aload_n 0, 1) := by decide +kernel
theorem dX0_adds_13 : decode mi_X0_adds.2.1 13 = .ok (.getfield 263, 3) := by decide +kernel
theorem dX0_adds_16 : decode mi_X0_adds.2.1 16 = .ok (.aload_n 1, 1) := by decide +kernel
theorem dX0_adds_17 : decode mi_X0_adds.2.1 17 = .ok (.aastore, 1) := by decide +kernel
theorem dX0_adds_18 : decode mi_X0_adds.2.1 18 = .ok (.aload_n 0, 1) := by decide +kernel
theorem dX0_adds_19 : decode mi_X0_adds.2.1 19 = .ok (.dup, 1) := by decide +kernel
theorem dX0_adds_20 : decode mi_X0_adds.2.1 20 = .ok (.getfield 263, 3) := by decide +kernel
theorem dX0_adds_23 : decode mi_X0_adds.2.1 23 = .ok (.iconst 1, 1) := by decide +kernel
theorem dX0_adds_24 : decode mi_X0_adds.2.1 24 = .ok (.iadd, 1) := by decide +kernel
theorem dX0_adds_25 : decode mi_X0_adds.2.1 25 = .ok (.putfield 263, 3) := by decide +kernel
theorem dX0_adds_28 : decode mi_X0_adds.2.1 28 = .ok (.aload_n 0, 1) := by decide +kernel
theorem dX0_adds_29 : decode mi_X0_adds.2.1 29 = .ok (.aload_n 0, 1) := by decide +kernel
theorem dX0_adds_30 : decode mi_X0_adds.2.1 30 = .ok (.getfield 263, 3) := by decide +kernel
theorem dX0_adds_33 : decode mi_X0_adds.2.1 33 = .ok (.iconst 1, 1) := by decide +kernel
theorem dX0_adds_34 : decode mi_X0_adds.2.1 34 = .ok (.isub, 1) := by decide +kernel
theorem dX0_adds_35 : decode mi_X0_adds.2.1 35 = .ok (.invokevirtual 250, 3) := by decide +kernel
theorem dX0_adds_38 : decode mi_X0_adds.2.1 38 = .ok (.ireturn, 1) := by decide +kernel
theorem v_X0_adds {G : ma_G} {d : Nat} {a0 : Nat} {a1 : Nat} {h : ah_T} {Q : Option ma_V → ah_T → Prop} {E : Nat → ah_T → Prop} (La0_h : LY0 h a0) (H : ma_ks h a1 [11, 12, 13, 14] ∧ ∀ h2 : ah_T, h2 = ah_wI h a0 19 (ah_I h a1 1) → ah_ext h h2 → vp_in (ah_I h a0 16) 120 ∧ ah_R h2 (a0 + 4) (ah_I h a0 16).toNatClampNeg = 0 ∧ ∀ h5 : ah_T, h5 = ah_wR h2 (a0 + 4) (ah_I h a0 16).toNatClampNeg a1 → ah_ext h2 h5 → ∀ h6 : ah_T, h6 = ah_wI h5 a0 16 ((ah_I h a0 16) + (1 : Int32)) → ah_ext h5 h6 → ∀ h7 : ah_T, h7 = ah_wI h6 a0 20 (0 : Int32) → ah_ext h6 h7 → Q (some (iv (((ah_I h a0 16) + (1 : Int32)) - (1 : Int32)))) h7) : MX G mi_X0_adds (d + 1) 0 [some (rv a0), some (rv a1)] [] h Q E := by
  refine mx_aload_n dX0_adds_0 rfl rfl ?_
  refine mx_aload_n dX0_adds_1 rfl rfl ?_
  obtain ⟨k1, H⟩ := H
  refine mx_getP [11, 12, 13, 14] 1 (ref := "PrairiePool$Event") (v := iv (ah_I _ _ 1)) fa_ev_1 (Or.inl q865) (Or.inl rfl) dX0_adds_2 rfl k1 ?_
  refine mx_putI 0 19 (ref := "PrairiePool") cl_0 (Nat.le_of_ble_eq_true rfl) (Or.inl q479) (Or.inl rfl) dX0_adds_5 (Or.inl rfl) rfl (ly0_k La0_h) ?_
  refine mx_nmI  (fun h2 eh2 Xh2 Kh2 Lh2 => ?_)
  have H := H h2 eh2 Xh2
  have La0_h2 := La0_h.ext Xh2
  refine mx_aload_n dX0_adds_8 rfl rfl ?_
  refine mx_get 0 3 (ref := "PrairiePool") cl_0 (Nat.le_of_ble_eq_true rfl) (Or.inl q463) (Or.inl rfl) dX0_adds_9 (fv_0_3 _ _) (ly0_k La0_h2) ?_
  refine mx_tr (ly0_R_0_3 La0_h2) ?_
  refine mx_aload_n dX0_adds_12 rfl rfl ?_
  refine mx_get 0 16 (ref := "PrairiePool") cl_0 (Nat.le_of_ble_eq_true rfl) (Or.inl q476) (Or.inl rfl) dX0_adds_13 (fv_0_16 _ _) (ly0_k La0_h2) ?_
  refine mx_ti (ah_skIK eh2 (by decide)) ?_
  refine mx_aload_n dX0_adds_16 rfl rfl ?_
  obtain ⟨k3, H⟩ := H
  obtain ⟨k4, H⟩ := H
  refine mx_astqP 8 [11, 12, 13, 14] (by decide) rfl ae_ev dX0_adds_17 rfl (ly0_A_4 La0_h2 k3) (ma_ksk Kh2 (k1)) k4 ?_
  refine mx_nmR (ah_ext.wR (Or.inr (Or.inl k4))) (fun h5 eh5 Xh5 Kh5 Lh5 => ?_)
  have H := H h5 eh5 Xh5
  have Kh5 := Kh5.trans Kh2
  have Lh5 := Lh5.trans Lh2
  have La0_h5 := La0_h2.ext Xh5
  refine mx_aload_n dX0_adds_18 rfl rfl ?_
  refine mx_dup_r dX0_adds_19 ?_
  refine mx_get 0 16 (ref := "PrairiePool") cl_0 (Nat.le_of_ble_eq_true rfl) (Or.inl q476) (Or.inl rfl) dX0_adds_20 (fv_0_16 _ _) (ly0_k La0_h5) ?_
  refine mx_ti ((ah_IR eh5).trans (ah_skIK eh2 (by decide))) ?_
  refine mx_iconst dX0_adds_23 ic_1 ?_
  refine mx_iadd dX0_adds_24 ?_
  refine mx_putI 0 16 (ref := "PrairiePool") cl_0 (Nat.le_of_ble_eq_true rfl) (Or.inl q476) (Or.inl rfl) dX0_adds_25 (Or.inl rfl) rfl (ly0_k La0_h5) ?_
  refine mx_nmI  (fun h6 eh6 Xh6 Kh6 Lh6 => ?_)
  have H := H h6 eh6 Xh6
  have Kh6 := Kh6.trans Kh5
  have Lh6 := Lh6.trans Lh5
  have La0_h6 := La0_h5.ext Xh6
  refine mx_aload_n dX0_adds_28 rfl rfl ?_
  refine mx_aload_n dX0_adds_29 rfl rfl ?_
  refine mx_get 0 16 (ref := "PrairiePool") cl_0 (Nat.le_of_ble_eq_true rfl) (Or.inl q476) (Or.inl rfl) dX0_adds_30 (fv_0_16 _ _) (ly0_k La0_h6) ?_
  refine mx_ti (ah_hitI eh6) ?_
  refine mx_iconst dX0_adds_33 ic_1 ?_
  refine mx_isub dX0_adds_34 ?_
  refine mx_callV 0 (y' := mi_X0_gives) (vs := [iv (((ah_I h a0 16) + (1 : Int32)) - (1 : Int32))]) (st := []) (al' := [some (rv a0), some (iv (((ah_I h a0 16) + (1 : Int32)) - (1 : Int32)))]) cl_0 V_X0_gives (Or.inl q801) dX0_adds_35 rfl rfl (Nat.le_of_ble_eq_true rfl) (Nat.le_of_ble_eq_true rfl) (ly0_k La0_h6) ?_
  refine mx_aload_n dX0_gives_0 rfl rfl ?_
  refine mx_iconst dX0_gives_1 ic_0 ?_
  refine mx_putI 0 20 (ref := "PrairiePool") cl_0 (Nat.le_of_ble_eq_true rfl) (Or.inl q480) (Or.inl rfl) dX0_gives_2 (Or.inl rfl) rfl (ly0_k La0_h6) ?_
  refine mx_nmI  (fun h7 eh7 Xh7 Kh7 Lh7 => ?_)
  have H := H h7 eh7 Xh7
  have Kh7 := Kh7.trans Kh6
  have Lh7 := Lh7.trans Lh6
  have La0_h7 := La0_h6.ext Xh7
  refine mx_iload_n dX0_gives_5 rfl rfl ?_
  refine mx_iretK rfl dX0_gives_6 ?_
  exact mx_iret rfl dX0_adds_38 H
theorem dX0_car_0 : decode mi_X0_car.2.1 0 = .ok (.aload_n 0, 1) := by decide +kernel
theorem dX0_car_1 : decode mi_X0_car.2.1 1 = .ok (.iload_n 1, 1) := by decide +kernel
theorem dX0_car_2 : decode mi_X0_car.2.1 2 = .ok (.invokevirtual 278, 3) := by decide +kernel
theorem dX0_car_5 : decode mi_X0_car.2.1 5 = .ok (.ifCond .eq 17, 3) := by decide +kernel
theorem dX0_car_8 : decode mi_X0_car.2.1 8 = .ok (.iload_n 2, 1) := by decide +kernel
theorem dX0_car_9 : decode mi_X0_car.2.1 9 = .ok (.invokestatic 298, 3) := by decide +kernel
theorem dX0_car_12 : decode mi_X0_car.2.1 12 = .ok (.ifCond .eq 10, 3) := by decide +kernel
theorem dX0_car_15 : decode mi_X0_car.2.1 15 = .ok (.iload_n 3, 1) := by decide +kernel
theorem dX0_car_16 : decode mi_X0_car.2.1 16 = .ok (.invokestatic 301, 3) := by decide +kernel
theorem dX0_car_19 : decode mi_X0_car.2.1 19 = .ok (.ifCond .ne 9, 3) := by decide +kernel
theorem dX0_car_22 : decode mi_X0_car.2.1 22 = .ok (.aload_n 0, 1) := by decide +kernel
theorem dX0_car_23 : decode mi_X0_car.2.1 23 = .ok (.iconst 2, 1) := by decide +kernel
theorem dX0_car_24 : decode mi_X0_car.2.1 24 = .ok (.invokevirtual 205, 3) := by decide +kernel
theorem dX0_car_27 : decode mi_X0_car.2.1 27 = .ok (.ireturn, 1) := by decide +kernel
theorem dX0_car_28 : decode mi_X0_car.2.1 28 = .ok (.aload_n 0, 1) := by decide +kernel
theorem dX0_car_29 : decode mi_X0_car.2.1 29 = .ok (.iload 4, 2) := by decide +kernel
theorem dX0_car_31 : decode mi_X0_car.2.1 31 = .ok (.invokestatic 304, 3) := by decide +kernel
theorem dX0_car_34 : decode mi_X0_car.2.1 34 = .ok (.ifCond .eq 20, 3) := by decide +kernel
theorem dX0_car_37 : decode mi_X0_car.2.1 37 = .ok (.iload 5, 2) := by decide +kernel
theorem dX0_car_39 : decode mi_X0_car.2.1 39 = .ok (.i2l, 1) := by decide +kernel
theorem dX0_car_40 : decode mi_X0_car.2.1 40 = .ok (.lconst 1, 1) := by decide +kernel
theorem dX0_car_41 : decode mi_X0_car.2.1 41 = .ok (.ldc2_w 245, 3) := by decide +kernel
theorem dX0_car_44 : decode mi_X0_car.2.1 44 = .ok (.invokestatic 241, 3) := by decide +kernel
theorem dX0_car_47 : decode mi_X0_car.2.1 47 = .ok (.ifCond .eq 7, 3) := by decide +kernel
theorem dX0_car_50 : decode mi_X0_car.2.1 50 = .ok (.iconst 1, 1) := by decide +kernel
theorem dX0_car_51 : decode mi_X0_car.2.1 51 = .ok (.goto 4, 3) := by decide +kernel
theorem dX0_car_54 : decode mi_X0_car.2.1 54 = .ok (.iconst 0, 1) := by decide +kernel
theorem dX0_car_55 : decode mi_X0_car.2.1 55 = .ok (.iload 6, 2) := by decide +kernel
theorem dX0_car_57 : decode mi_X0_car.2.1 57 = .ok (.iload 7, 2) := by decide +kernel
theorem dX0_car_59 : decode mi_X0_car.2.1 59 = .ok (.invokevirtual 285, 3) := by decide +kernel
theorem dX0_car_62 : decode mi_X0_car.2.1 62 = .ok (.istore 8, 2) := by decide +kernel
theorem dX0_car_64 : decode mi_X0_car.2.1 64 = .ok (.iload 8, 2) := by decide +kernel
theorem dX0_car_66 : decode mi_X0_car.2.1 66 = .ok (.ifCond .le 12, 3) := by decide +kernel
theorem dX0_car_69 : decode mi_X0_car.2.1 69 = .ok (.aload_n 0, 1) := by decide +kernel
theorem dX0_car_70 : decode mi_X0_car.2.1 70 = .ok (.iload 8, 2) := by decide +kernel
theorem dX0_car_72 : decode mi_X0_car.2.1 72 = .ok (.invokevirtual 205, 3) := by decide +kernel
theorem dX0_car_75 : decode mi_X0_car.2.1 75 = .ok (.goto 25, 3) := by decide +kernel
theorem dX0_car_78 : decode mi_X0_car.2.1 78 = .ok (.aload_n 0, 1) := by decide +kernel
theorem dX0_car_79 : decode mi_X0_car.2.1 79 = .ok (.new 307, 3) := by decide +kernel
theorem dX0_car_82 : decode mi_X0_car.2.1 82 = .ok (.dup, 1) := by decide +kernel
theorem dX0_car_83 : decode mi_X0_car.2.1 83 = .ok (.iload_n 1, 1) := by decide +kernel
theorem dX0_car_84 : decode mi_X0_car.2.1 84 = .ok (.iload_n 2, 1) := by decide +kernel
theorem dX0_car_85 : decode mi_X0_car.2.1 85 = .ok (.iload_n 3, 1) := by decide +kernel
theorem dX0_car_86 : decode mi_X0_car.2.1 86 = .ok (.iload 4, 2) := by decide +kernel
theorem dX0_car_88 : decode mi_X0_car.2.1 88 = .ok (.iload 5, 2) := by decide +kernel
theorem dX0_car_90 : decode mi_X0_car.2.1 90 = .ok (.iload 6, 2) := by decide +kernel
theorem dX0_car_92 : decode mi_X0_car.2.1 92 = .ok (.iload 7, 2) := by decide +kernel
theorem dX0_car_94 : decode mi_X0_car.2.1 94 = .ok (.invokespecial 309, 3) := by decide +kernel
theorem dX0_car_97 : decode mi_X0_car.2.1 97 = .ok (.invokevirtual 294, 3) := by decide +kernel
theorem dX0_car_100 : decode mi_X0_car.2.1 100 = .ok (.ireturn, 1) := by decide +kernel
theorem v_X0_car {G : ma_G} {d : Nat} {a0 : Nat} {x1 : Int32} {x2 : Int32} {x3 : Int32} {x4 : Int32} {x5 : Int32} {x6 : Int32} {x7 : Int32} {h : ah_T} {Q : Option ma_V → ah_T → Prop} {E : Nat → ah_T → Prop} (La0_h : LY0 h a0) (H : (x1 < 0 → ∀ h2 : ah_T, h2 = ah_wI h a0 20 (2 : Int32) → ah_ext h h2 → Q (some (iv (-1 : Int32))) h2) ∧ (¬ x1 < 0 → ((ah_I h a0 15) ≤ x1 → ∀ h4 : ah_T, h4 = ah_wI h a0 20 (2 : Int32) → ah_ext h h4 → Q (some (iv (-1 : Int32))) h4) ∧ (¬ (ah_I h a0 15) ≤ x1 → (x2 < 0 → ∀ h6 : ah_T, h6 = ah_wI h a0 20 (2 : Int32) → ah_ext h h6 → Q (some (iv (-1 : Int32))) h6) ∧ (¬ x2 < 0 → ((2 : Int32) ≤ x2 → ∀ h8 : ah_T, h8 = ah_wI h a0 20 (2 : Int32) → ah_ext h h8 → Q (some (iv (-1 : Int32))) h8) ∧ (¬ (2 : Int32) ≤ x2 → (x3 < 0 → ∀ h10 : ah_T, h10 = ah_wI h a0 20 (2 : Int32) → ah_ext h h10 → Q (some (iv (-1 : Int32))) h10) ∧ (¬ x3 < 0 → ((6 : Int32) ≤ x3 → ∀ h12 : ah_T, h12 = ah_wI h a0 20 (2 : Int32) → ah_ext h h12 → Q (some (iv (-1 : Int32))) h12) ∧ (¬ (6 : Int32) ≤ x3 → (x4 < 0 → MX G mi_X0_car (d + 1) 55 [some (rv a0), some (iv x1), some (iv x2), some (iv x3), some (iv x4), some (iv x5), some (iv x6), some (iv x7), none] [iv (0 : Int32), rv a0] h Q E) ∧ (¬ x4 < 0 → ((10 : Int32) ≤ x4 → MX G mi_X0_car (d + 1) 55 [some (rv a0), some (iv x1), some (iv x2), some (iv x3), some (iv x4), some (iv x5), some (iv x6), some (iv x7), none] [iv (0 : Int32), rv a0] h Q E) ∧ (¬ (10 : Int32) ≤ x4 → (x5.toInt64 < (1 : Int64) → MX G mi_X0_car (d + 1) 55 [some (rv a0), some (iv x1), some (iv x2), some (iv x3), some (iv x4), some (iv x5), some (iv x6), some (iv x7), none] [iv (0 : Int32), rv a0] h Q E) ∧ (¬ x5.toInt64 < (1 : Int64) → ((100000 : Int64) < x5.toInt64 → MX G mi_X0_car (d + 1) 55 [some (rv a0), some (iv x1), some (iv x2), some (iv x3), some (iv x4), some (iv x5), some (iv x6), some (iv x7), none] [iv (0 : Int32), rv a0] h Q E) ∧ (¬ (100000 : Int64) < x5.toInt64 → MX G mi_X0_car (d + 1) 55 [some (rv a0), some (iv x1), some (iv x2), some (iv x3), some (iv x4), some (iv x5), some (iv x6), some (iv x7), none] [iv (1 : Int32), rv a0] h Q E))))))))))) : MX G mi_X0_car (d + 1) 0 [some (rv a0), some (iv x1), some (iv x2), some (iv x3), some (iv x4), some (iv x5), some (iv x6), some (iv x7), none] [] h Q E := by
  refine mx_aload_n dX0_car_0 rfl rfl ?_
  refine mx_iload_n dX0_car_1 rfl rfl ?_
  refine mx_callV 0 (y' := mi_X0_isElevator) (vs := [iv x1]) (st := []) (al' := [some (rv a0), some (iv x1)]) cl_0 V_X0_isElevator (Or.inl q831) dX0_car_2 rfl rfl (Nat.le_of_ble_eq_true rfl) (Nat.le_of_ble_eq_true rfl) (ly0_k La0_h) ?_
  refine mx_iload_n dX0_isElevator_0 rfl rfl ?_
  refine mx_if_lt (tgt := 16) dX0_isElevator_1 rfl (fun c1 => ?_) (fun c1 => ?_)
  · have H := H.1 c1
    refine mx_iconst dX0_isElevator_16 ic_0 ?_
    refine mx_zretK rfl dX0_isElevator_17 (Or.inl rfl) ?_
    refine mx_if_eq (tgt := 22) dX0_car_5 rfl (fun _ => ?_) (fun _ => absurd ‹_› (by decide))
    refine mx_aload_n dX0_car_22 rfl rfl ?_
    refine mx_iconst dX0_car_23 ic_2 ?_
    refine mx_callV 0 (y' := mi_X0_none) (vs := [iv (2 : Int32)]) (st := []) (al' := [some (rv a0), some (iv (2 : Int32))]) cl_0 V_X0_none (Or.inl q733) dX0_car_24 rfl rfl (Nat.le_of_ble_eq_true rfl) (Nat.le_of_ble_eq_true rfl) (ly0_k La0_h) ?_
    refine mx_aload_n dX0_none_0 rfl rfl ?_
    refine mx_iload_n dX0_none_1 rfl rfl ?_
    refine mx_putI 0 20 (ref := "PrairiePool") cl_0 (Nat.le_of_ble_eq_true rfl) (Or.inl q480) (Or.inl rfl) dX0_none_2 (Or.inl rfl) rfl (ly0_k La0_h) ?_
    refine mx_nmI  (fun h2 eh2 Xh2 Kh2 Lh2 => ?_)
    have H := H h2 eh2 Xh2
    have La0_h2 := La0_h.ext Xh2
    refine mx_iconst dX0_none_5 ic_m1 ?_
    refine mx_iretK rfl dX0_none_6 ?_
    exact mx_iret rfl dX0_car_27 H
  · have H := H.2 c1
    refine mx_iload_n dX0_isElevator_4 rfl rfl ?_
    refine mx_aload_n dX0_isElevator_5 rfl rfl ?_
    refine mx_get 0 15 (ref := "PrairiePool") cl_0 (Nat.le_of_ble_eq_true rfl) (Or.inl q475) (Or.inl rfl) dX0_isElevator_6 (fv_0_15 _ _) (ly0_k La0_h) ?_
    refine mx_icmp_ge (tgt := 16) dX0_isElevator_9 rfl (fun c3 => ?_) (fun c3 => ?_)
    · have H := H.1 c3
      refine mx_iconst dX0_isElevator_16 ic_0 ?_
      refine mx_zretK rfl dX0_isElevator_17 (Or.inl rfl) ?_
      refine mx_if_eq (tgt := 22) dX0_car_5 rfl (fun _ => ?_) (fun _ => absurd ‹_› (by decide))
      refine mx_aload_n dX0_car_22 rfl rfl ?_
      refine mx_iconst dX0_car_23 ic_2 ?_
      refine mx_callV 0 (y' := mi_X0_none) (vs := [iv (2 : Int32)]) (st := []) (al' := [some (rv a0), some (iv (2 : Int32))]) cl_0 V_X0_none (Or.inl q733) dX0_car_24 rfl rfl (Nat.le_of_ble_eq_true rfl) (Nat.le_of_ble_eq_true rfl) (ly0_k La0_h) ?_
      refine mx_aload_n dX0_none_0 rfl rfl ?_
      refine mx_iload_n dX0_none_1 rfl rfl ?_
      refine mx_putI 0 20 (ref := "PrairiePool") cl_0 (Nat.le_of_ble_eq_true rfl) (Or.inl q480) (Or.inl rfl) dX0_none_2 (Or.inl rfl) rfl (ly0_k La0_h) ?_
      refine mx_nmI  (fun h4 eh4 Xh4 Kh4 Lh4 => ?_)
      have H := H h4 eh4 Xh4
      have La0_h4 := La0_h.ext Xh4
      refine mx_iconst dX0_none_5 ic_m1 ?_
      refine mx_iretK rfl dX0_none_6 ?_
      exact mx_iret rfl dX0_car_27 H
    · have H := H.2 c3
      refine mx_iconst dX0_isElevator_12 ic_1 ?_
      refine mx_goto (tgt := 17) dX0_isElevator_13 rfl ?_
      refine mx_zretK rfl dX0_isElevator_17 (Or.inr rfl) ?_
      refine mx_if_eq (tgt := 22) dX0_car_5 rfl (fun _ => absurd ‹_› (by decide)) (fun _ => ?_)
      refine mx_iload_n dX0_car_8 rfl rfl ?_
      refine mx_callS (y' := mi_X0_isPort) (vs := [iv x2]) (st := []) (al' := [some (iv x2)]) S_X0_isPort q890 dX0_car_9 rfl rfl (Nat.le_of_ble_eq_true rfl) (Nat.le_of_ble_eq_true rfl) ?_
      refine mx_iload_n dX0_isPort_0 rfl rfl ?_
      refine mx_if_lt (tgt := 13) dX0_isPort_1 rfl (fun c5 => ?_) (fun c5 => ?_)
      · have H := H.1 c5
        refine mx_iconst dX0_isPort_13 ic_0 ?_
        refine mx_zretK rfl dX0_isPort_14 (Or.inl rfl) ?_
        refine mx_if_eq (tgt := 22) dX0_car_12 rfl (fun _ => ?_) (fun _ => absurd ‹_› (by decide))
        refine mx_aload_n dX0_car_22 rfl rfl ?_
        refine mx_iconst dX0_car_23 ic_2 ?_
        refine mx_callV 0 (y' := mi_X0_none) (vs := [iv (2 : Int32)]) (st := []) (al' := [some (rv a0), some (iv (2 : Int32))]) cl_0 V_X0_none (Or.inl q733) dX0_car_24 rfl rfl (Nat.le_of_ble_eq_true rfl) (Nat.le_of_ble_eq_true rfl) (ly0_k La0_h) ?_
        refine mx_aload_n dX0_none_0 rfl rfl ?_
        refine mx_iload_n dX0_none_1 rfl rfl ?_
        refine mx_putI 0 20 (ref := "PrairiePool") cl_0 (Nat.le_of_ble_eq_true rfl) (Or.inl q480) (Or.inl rfl) dX0_none_2 (Or.inl rfl) rfl (ly0_k La0_h) ?_
        refine mx_nmI  (fun h6 eh6 Xh6 Kh6 Lh6 => ?_)
        have H := H h6 eh6 Xh6
        have La0_h6 := La0_h.ext Xh6
        refine mx_iconst dX0_none_5 ic_m1 ?_
        refine mx_iretK rfl dX0_none_6 ?_
        exact mx_iret rfl dX0_car_27 H
      · have H := H.2 c5
        refine mx_iload_n dX0_isPort_4 rfl rfl ?_
        refine mx_iconst dX0_isPort_5 ic_2 ?_
        refine mx_icmp_ge (tgt := 13) dX0_isPort_6 rfl (fun c7 => ?_) (fun c7 => ?_)
        · have H := H.1 c7
          refine mx_iconst dX0_isPort_13 ic_0 ?_
          refine mx_zretK rfl dX0_isPort_14 (Or.inl rfl) ?_
          refine mx_if_eq (tgt := 22) dX0_car_12 rfl (fun _ => ?_) (fun _ => absurd ‹_› (by decide))
          refine mx_aload_n dX0_car_22 rfl rfl ?_
          refine mx_iconst dX0_car_23 ic_2 ?_
          refine mx_callV 0 (y' := mi_X0_none) (vs := [iv (2 : Int32)]) (st := []) (al' := [some (rv a0), some (iv (2 : Int32))]) cl_0 V_X0_none (Or.inl q733) dX0_car_24 rfl rfl (Nat.le_of_ble_eq_true rfl) (Nat.le_of_ble_eq_true rfl) (ly0_k La0_h) ?_
          refine mx_aload_n dX0_none_0 rfl rfl ?_
          refine mx_iload_n dX0_none_1 rfl rfl ?_
          refine mx_putI 0 20 (ref := "PrairiePool") cl_0 (Nat.le_of_ble_eq_true rfl) (Or.inl q480) (Or.inl rfl) dX0_none_2 (Or.inl rfl) rfl (ly0_k La0_h) ?_
          refine mx_nmI  (fun h8 eh8 Xh8 Kh8 Lh8 => ?_)
          have H := H h8 eh8 Xh8
          have La0_h8 := La0_h.ext Xh8
          refine mx_iconst dX0_none_5 ic_m1 ?_
          refine mx_iretK rfl dX0_none_6 ?_
          exact mx_iret rfl dX0_car_27 H
        · have H := H.2 c7
          refine mx_iconst dX0_isPort_9 ic_1 ?_
          refine mx_goto (tgt := 14) dX0_isPort_10 rfl ?_
          refine mx_zretK rfl dX0_isPort_14 (Or.inr rfl) ?_
          refine mx_if_eq (tgt := 22) dX0_car_12 rfl (fun _ => absurd ‹_› (by decide)) (fun _ => ?_)
          refine mx_iload_n dX0_car_15 rfl rfl ?_
          refine mx_callS (y' := mi_X0_isGrade) (vs := [iv x3]) (st := []) (al' := [some (iv x3)]) S_X0_isGrade q893 dX0_car_16 rfl rfl (Nat.le_of_ble_eq_true rfl) (Nat.le_of_ble_eq_true rfl) ?_
          refine mx_iload_n dX0_isGrade_0 rfl rfl ?_
          refine mx_if_lt (tgt := 14) dX0_isGrade_1 rfl (fun c9 => ?_) (fun c9 => ?_)
          · have H := H.1 c9
            refine mx_iconst dX0_isGrade_14 ic_0 ?_
            refine mx_zretK rfl dX0_isGrade_15 (Or.inl rfl) ?_
            refine mx_if_ne (tgt := 28) dX0_car_19 rfl (fun _ => absurd ‹_› (by decide)) (fun _ => ?_)
            refine mx_aload_n dX0_car_22 rfl rfl ?_
            refine mx_iconst dX0_car_23 ic_2 ?_
            refine mx_callV 0 (y' := mi_X0_none) (vs := [iv (2 : Int32)]) (st := []) (al' := [some (rv a0), some (iv (2 : Int32))]) cl_0 V_X0_none (Or.inl q733) dX0_car_24 rfl rfl (Nat.le_of_ble_eq_true rfl) (Nat.le_of_ble_eq_true rfl) (ly0_k La0_h) ?_
            refine mx_aload_n dX0_none_0 rfl rfl ?_
            refine mx_iload_n dX0_none_1 rfl rfl ?_
            refine mx_putI 0 20 (ref := "PrairiePool") cl_0 (Nat.le_of_ble_eq_true rfl) (Or.inl q480) (Or.inl rfl) dX0_none_2 (Or.inl rfl) rfl (ly0_k La0_h) ?_
            refine mx_nmI  (fun h10 eh10 Xh10 Kh10 Lh10 => ?_)
            have H := H h10 eh10 Xh10
            have La0_h10 := La0_h.ext Xh10
            refine mx_iconst dX0_none_5 ic_m1 ?_
            refine mx_iretK rfl dX0_none_6 ?_
            exact mx_iret rfl dX0_car_27 H
          · have H := H.2 c9
            refine mx_iload_n dX0_isGrade_4 rfl rfl ?_
            refine mx_bipush dX0_isGrade_5 ib_6 ?_
            refine mx_icmp_ge (tgt := 14) dX0_isGrade_7 rfl (fun c11 => ?_) (fun c11 => ?_)
            · have H := H.1 c11
              refine mx_iconst dX0_isGrade_14 ic_0 ?_
              refine mx_zretK rfl dX0_isGrade_15 (Or.inl rfl) ?_
              refine mx_if_ne (tgt := 28) dX0_car_19 rfl (fun _ => absurd ‹_› (by decide)) (fun _ => ?_)
              refine mx_aload_n dX0_car_22 rfl rfl ?_
              refine mx_iconst dX0_car_23 ic_2 ?_
              refine mx_callV 0 (y' := mi_X0_none) (vs := [iv (2 : Int32)]) (st := []) (al' := [some (rv a0), some (iv (2 : Int32))]) cl_0 V_X0_none (Or.inl q733) dX0_car_24 rfl rfl (Nat.le_of_ble_eq_true rfl) (Nat.le_of_ble_eq_true rfl) (ly0_k La0_h) ?_
              refine mx_aload_n dX0_none_0 rfl rfl ?_
              refine mx_iload_n dX0_none_1 rfl rfl ?_
              refine mx_putI 0 20 (ref := "PrairiePool") cl_0 (Nat.le_of_ble_eq_true rfl) (Or.inl q480) (Or.inl rfl) dX0_none_2 (Or.inl rfl) rfl (ly0_k La0_h) ?_
              refine mx_nmI  (fun h12 eh12 Xh12 Kh12 Lh12 => ?_)
              have H := H h12 eh12 Xh12
              have La0_h12 := La0_h.ext Xh12
              refine mx_iconst dX0_none_5 ic_m1 ?_
              refine mx_iretK rfl dX0_none_6 ?_
              exact mx_iret rfl dX0_car_27 H
            · have H := H.2 c11
              refine mx_iconst dX0_isGrade_10 ic_1 ?_
              refine mx_goto (tgt := 15) dX0_isGrade_11 rfl ?_
              refine mx_zretK rfl dX0_isGrade_15 (Or.inr rfl) ?_
              refine mx_if_ne (tgt := 28) dX0_car_19 rfl (fun _ => ?_) (fun _ => absurd ‹_› (by decide))
              refine mx_aload_n dX0_car_28 rfl rfl ?_
              refine mx_iload dX0_car_29 rfl ?_
              refine mx_callS (y' := mi_X0_isYear) (vs := [iv x4]) (st := [rv a0]) (al' := [some (iv x4)]) S_X0_isYear q896 dX0_car_31 rfl rfl (Nat.le_of_ble_eq_true rfl) (Nat.le_of_ble_eq_true rfl) ?_
              refine mx_iload_n dX0_isYear_0 rfl rfl ?_
              refine mx_if_lt (tgt := 14) dX0_isYear_1 rfl (fun c13 => ?_) (fun c13 => ?_)
              · have H := H.1 c13
                refine mx_iconst dX0_isYear_14 ic_0 ?_
                refine mx_zretK rfl dX0_isYear_15 (Or.inl rfl) ?_
                refine mx_if_eq (tgt := 54) dX0_car_34 rfl (fun _ => ?_) (fun _ => absurd ‹_› (by decide))
                refine mx_iconst dX0_car_54 ic_0 ?_
                exact mx_weak (al' := [some (rv a0), some (iv x1), some (iv x2), some (iv x3), some (iv x4), some (iv x5), some (iv x6), some (iv x7), none]) ⟨rfl, ⟨rfl, ⟨rfl, ⟨rfl, ⟨rfl, ⟨rfl, ⟨rfl, ⟨rfl, trivial⟩⟩⟩⟩⟩⟩⟩⟩ H
              · have H := H.2 c13
                refine mx_iload_n dX0_isYear_4 rfl rfl ?_
                refine mx_bipush dX0_isYear_5 ib_10 ?_
                refine mx_icmp_ge (tgt := 14) dX0_isYear_7 rfl (fun c14 => ?_) (fun c14 => ?_)
                · have H := H.1 c14
                  refine mx_iconst dX0_isYear_14 ic_0 ?_
                  refine mx_zretK rfl dX0_isYear_15 (Or.inl rfl) ?_
                  refine mx_if_eq (tgt := 54) dX0_car_34 rfl (fun _ => ?_) (fun _ => absurd ‹_› (by decide))
                  refine mx_iconst dX0_car_54 ic_0 ?_
                  exact mx_weak (al' := [some (rv a0), some (iv x1), some (iv x2), some (iv x3), some (iv x4), some (iv x5), some (iv x6), some (iv x7), none]) ⟨rfl, ⟨rfl, ⟨rfl, ⟨rfl, ⟨rfl, ⟨rfl, ⟨rfl, ⟨rfl, trivial⟩⟩⟩⟩⟩⟩⟩⟩ H
                · have H := H.2 c14
                  refine mx_iconst dX0_isYear_10 ic_1 ?_
                  refine mx_goto (tgt := 15) dX0_isYear_11 rfl ?_
                  refine mx_zretK rfl dX0_isYear_15 (Or.inr rfl) ?_
                  refine mx_if_eq (tgt := 54) dX0_car_34 rfl (fun _ => absurd ‹_› (by decide)) (fun _ => ?_)
                  refine mx_iload dX0_car_37 rfl ?_
                  refine mx_i2l dX0_car_39 ?_
                  refine mx_lconst dX0_car_40 lc_1 ?_
                  refine mx_ldc2 q761 dX0_car_41 ?_
                  refine mx_callS (y' := mi_X0_isFrom) (vs := [jv x5.toInt64, jv (1 : Int64), jv (100000 : Int64)]) (st := [rv a0]) (al' := [some (jv x5.toInt64), none, some (jv (1 : Int64)), none, some (jv (100000 : Int64)), none]) S_X0_isFrom q758 dX0_car_44 rfl rfl (Nat.le_of_ble_eq_true rfl) (Nat.le_of_ble_eq_true rfl) ?_
                  refine mx_lload_n dX0_isFrom_0 rfl rfl ?_
                  refine mx_lload_n dX0_isFrom_1 rfl rfl ?_
                  refine mx_lif_lt (tgt := 17) dX0_isFrom_2 dX0_isFrom_3 rfl (fun c15 => ?_) (fun c15 => ?_)
                  · have H := H.1 c15
                    refine mx_iconst dX0_isFrom_17 ic_0 ?_
                    refine mx_zretK rfl dX0_isFrom_18 (Or.inl rfl) ?_
                    refine mx_if_eq (tgt := 54) dX0_car_47 rfl (fun _ => ?_) (fun _ => absurd ‹_› (by decide))
                    refine mx_iconst dX0_car_54 ic_0 ?_
                    exact mx_weak (al' := [some (rv a0), some (iv x1), some (iv x2), some (iv x3), some (iv x4), some (iv x5), some (iv x6), some (iv x7), none]) ⟨rfl, ⟨rfl, ⟨rfl, ⟨rfl, ⟨rfl, ⟨rfl, ⟨rfl, ⟨rfl, trivial⟩⟩⟩⟩⟩⟩⟩⟩ H
                  · have H := H.2 c15
                    refine mx_lload_n dX0_isFrom_6 rfl rfl ?_
                    refine mx_lload dX0_isFrom_7 rfl ?_
                    refine mx_lif_gt (tgt := 17) dX0_isFrom_9 dX0_isFrom_10 rfl (fun c16 => ?_) (fun c16 => ?_)
                    · have H := H.1 c16
                      refine mx_iconst dX0_isFrom_17 ic_0 ?_
                      refine mx_zretK rfl dX0_isFrom_18 (Or.inl rfl) ?_
                      refine mx_if_eq (tgt := 54) dX0_car_47 rfl (fun _ => ?_) (fun _ => absurd ‹_› (by decide))
                      refine mx_iconst dX0_car_54 ic_0 ?_
                      exact mx_weak (al' := [some (rv a0), some (iv x1), some (iv x2), some (iv x3), some (iv x4), some (iv x5), some (iv x6), some (iv x7), none]) ⟨rfl, ⟨rfl, ⟨rfl, ⟨rfl, ⟨rfl, ⟨rfl, ⟨rfl, ⟨rfl, trivial⟩⟩⟩⟩⟩⟩⟩⟩ H
                    · have H := H.2 c16
                      refine mx_iconst dX0_isFrom_13 ic_1 ?_
                      refine mx_goto (tgt := 18) dX0_isFrom_14 rfl ?_
                      refine mx_zretK rfl dX0_isFrom_18 (Or.inr rfl) ?_
                      refine mx_if_eq (tgt := 54) dX0_car_47 rfl (fun _ => absurd ‹_› (by decide)) (fun _ => ?_)
                      refine mx_iconst dX0_car_50 ic_1 ?_
                      refine mx_goto (tgt := 55) dX0_car_51 rfl ?_
                      exact mx_weak (al' := [some (rv a0), some (iv x1), some (iv x2), some (iv x3), some (iv x4), some (iv x5), some (iv x6), some (iv x7), none]) ⟨rfl, ⟨rfl, ⟨rfl, ⟨rfl, ⟨rfl, ⟨rfl, ⟨rfl, ⟨rfl, trivial⟩⟩⟩⟩⟩⟩⟩⟩ H
theorem v_X0_car_55 {G : ma_G} {d : Nat} {a0 : Nat} {x1 : Int32} {x2 : Int32} {x3 : Int32} {x4 : Int32} {x5 : Int32} {x6 : Int32} {x7 : Int32} {z0 : Int32} {h : ah_T} {Q : Option ma_V → ah_T → Prop} {E : Nat → ah_T → Prop} (La0_h : LY0 h a0) (H : MX G mi_X0_wrongEvent d 0 [some (rv a0), some (iv z0), some (iv x6), some (iv x7)] [] h (Qi fun r2 h1 => ah_ext h h1 → (r2 ≤ 0 → (1 ≤ ah_rc h1 ∧ 7 ≤ ah_rs h1) ∧ ∀ h5 : ah_T, h5 = ah_new h1 14 0 7 → ah_ext h1 h5 → ah_liv h1 → MX G mi_X15_init d 0 [some (rv (ah_sz h1)), some (iv x1), some (iv x2), some (iv x3), some (iv x4), some (iv x5), some (iv x6), some (iv x7)] [] h5 (Qv fun h7 => ah_ext h5 h7 → MX G mi_X0_adds d 0 [some (rv a0), some (rv (ah_sz h1))] [] h7 (Qi fun r11 h10 => ah_ext h7 h10 → Q (some (iv r11)) h10) E) E) ∧ (¬ r2 ≤ 0 → ∀ h13 : ah_T, h13 = ah_wI h1 a0 20 r2 → ah_ext h1 h13 → Q (some (iv (-1 : Int32))) h13)) E) : MX G mi_X0_car (d + 1) 55 [some (rv a0), some (iv x1), some (iv x2), some (iv x3), some (iv x4), some (iv x5), some (iv x6), some (iv x7), none] [iv z0, rv a0] h Q E := by
  refine mx_iload dX0_car_55 rfl ?_
  refine mx_iload dX0_car_57 rfl ?_
  refine mx_callV 0 (y' := mi_X0_wrongEvent) (vs := [iv z0, iv x6, iv x7]) (st := []) (al' := [some (rv a0), some (iv z0), some (iv x6), some (iv x7)]) cl_0 V_X0_wrongEvent (Or.inl q837) dX0_car_59 rfl rfl (Nat.le_of_ble_eq_true rfl) (Nat.le_of_ble_eq_true rfl) (ly0_k La0_h) ?_
  refine ma_ki H (fun r2 h1 Xh1 H => ?_) (fun x1 h1 X1 H => mt_out rfl H)
  have H := H Xh1
  have La0_h1 := La0_h.ext Xh1
  refine mx_istore (al' := [some (rv a0), some (iv x1), some (iv x2), some (iv x3), some (iv x4), some (iv x5), some (iv x6), some (iv x7), some (iv r2)]) dX0_car_62 (Nat.le_of_ble_eq_true rfl) rfl ?_
  refine mx_iload dX0_car_64 rfl ?_
  refine mx_if_le (tgt := 78) dX0_car_66 rfl (fun c3 => ?_) (fun c3 => ?_)
  · have H := H.1 c3
    refine mx_aload_n dX0_car_78 rfl rfl ?_
    obtain ⟨k4, H⟩ := H
    refine mx_new 13 cl_13 dk_13 q899 q900 q143 dX0_car_79 k4.1 k4.2 (fun x_ lv_ => ?_)
    refine mx_nmN x_ lv_ (fun h5 eh5 Xh5 lv_ => ?_)
    have H := H h5 eh5 Xh5 lv_
    have La0_h5 := La0_h1.ext Xh5
    have k6 : ah_kd h5 (ah_sz h1) = 14 := by rw [eh5]; exact if_pos rfl
    refine mx_dup_r dX0_car_82 ?_
    refine mx_iload_n dX0_car_83 rfl rfl ?_
    refine mx_iload_n dX0_car_84 rfl rfl ?_
    refine mx_iload_n dX0_car_85 rfl rfl ?_
    refine mx_iload dX0_car_86 rfl ?_
    refine mx_iload dX0_car_88 rfl ?_
    refine mx_iload dX0_car_90 rfl ?_
    refine mx_iload dX0_car_92 rfl ?_
    refine mx_callI (y' := mi_X15_init) (vs := [iv x1, iv x2, iv x3, iv x4, iv x5, iv x6, iv x7]) (st := [rv (ah_sz h1), rv a0]) (al' := [some (rv (ah_sz h1)), some (iv x1), some (iv x2), some (iv x3), some (iv x4), some (iv x5), some (iv x6), some (iv x7)]) I_X15_init (Or.inl q901) dX0_car_94 rfl rfl (Nat.le_of_ble_eq_true rfl) (Nat.le_of_ble_eq_true rfl) (by rw [k6]; decide) ?_
    refine ma_kv H (fun h7 Xh7 H => ?_) (fun x1 h1 X1 H => mt_out rfl H)
    have H := H Xh7
    have k9 := Xh7.kd (k6)
    have La0_h7 := La0_h5.ext Xh7
    refine mx_callV 0 (y' := mi_X0_adds) (vs := [rv (ah_sz h1)]) (st := []) (al' := [some (rv a0), some (rv (ah_sz h1))]) cl_0 V_X0_adds (Or.inl q882) dX0_car_97 rfl rfl (Nat.le_of_ble_eq_true rfl) (Nat.le_of_ble_eq_true rfl) (ly0_k La0_h7) ?_
    refine ma_ki H (fun r11 h10 Xh10 H => ?_) (fun x1 h1 X1 H => mt_out rfl H)
    have H := H Xh10
    have k12 := Xh10.kd (k9)
    have La0_h10 := La0_h7.ext Xh10
    exact mx_iret rfl dX0_car_100 H
  · have H := H.2 c3
    refine mx_aload_n dX0_car_69 rfl rfl ?_
    refine mx_iload dX0_car_70 rfl ?_
    refine mx_callV 0 (y' := mi_X0_none) (vs := [iv r2]) (st := []) (al' := [some (rv a0), some (iv r2)]) cl_0 V_X0_none (Or.inl q733) dX0_car_72 rfl rfl (Nat.le_of_ble_eq_true rfl) (Nat.le_of_ble_eq_true rfl) (ly0_k La0_h1) ?_
    refine mx_aload_n dX0_none_0 rfl rfl ?_
    refine mx_iload_n dX0_none_1 rfl rfl ?_
    refine mx_putI 0 20 (ref := "PrairiePool") cl_0 (Nat.le_of_ble_eq_true rfl) (Or.inl q480) (Or.inl rfl) dX0_none_2 (Or.inl rfl) rfl (ly0_k La0_h1) ?_
    refine mx_nmI  (fun h13 eh13 Xh13 Kh13 Lh13 => ?_)
    have H := H h13 eh13 Xh13
    have La0_h13 := La0_h1.ext Xh13
    refine mx_iconst dX0_none_5 ic_m1 ?_
    refine mx_iretK rfl dX0_none_6 ?_
    refine mx_goto (tgt := 100) dX0_car_75 rfl ?_
    exact mx_iret rfl dX0_car_100 H
theorem v_X0_isPort {G : ma_G} {d : Nat} {x0 : Int32} {h : ah_T} {Q : Option ma_V → ah_T → Prop} {E : Nat → ah_T → Prop}  (H : (x0 < 0 → Q (some (iv (0 : Int32))) h) ∧ (¬ x0 < 0 → ((2 : Int32) ≤ x0 → Q (some (iv (0 : Int32))) h) ∧ (¬ (2 : Int32) ≤ x0 → Q (some (iv (1 : Int32))) h))) : MX G mi_X0_isPort d 0 [some (iv x0)] [] h Q E := by
  refine mx_iload_n dX0_isPort_0 rfl rfl ?_
  refine mx_if_lt (tgt := 13) dX0_isPort_1 rfl (fun c1 => ?_) (fun c1 => ?_)
  · have H := H.1 c1
    refine mx_iconst dX0_isPort_13 ic_0 ?_
    exact mx_zret rfl dX0_isPort_14 (Or.inl rfl) H
  · have H := H.2 c1
    refine mx_iload_n dX0_isPort_4 rfl rfl ?_
    refine mx_iconst dX0_isPort_5 ic_2 ?_
    refine mx_icmp_ge (tgt := 13) dX0_isPort_6 rfl (fun c2 => ?_) (fun c2 => ?_)
    · have H := H.1 c2
      refine mx_iconst dX0_isPort_13 ic_0 ?_
      exact mx_zret rfl dX0_isPort_14 (Or.inl rfl) H
    · have H := H.2 c2
      refine mx_iconst dX0_isPort_9 ic_1 ?_
      refine mx_goto (tgt := 14) dX0_isPort_10 rfl ?_
      exact mx_zret rfl dX0_isPort_14 (Or.inr rfl) H
theorem v_X0_isGrade {G : ma_G} {d : Nat} {x0 : Int32} {h : ah_T} {Q : Option ma_V → ah_T → Prop} {E : Nat → ah_T → Prop}  (H : (x0 < 0 → Q (some (iv (0 : Int32))) h) ∧ (¬ x0 < 0 → ((6 : Int32) ≤ x0 → Q (some (iv (0 : Int32))) h) ∧ (¬ (6 : Int32) ≤ x0 → Q (some (iv (1 : Int32))) h))) : MX G mi_X0_isGrade d 0 [some (iv x0)] [] h Q E := by
  refine mx_iload_n dX0_isGrade_0 rfl rfl ?_
  refine mx_if_lt (tgt := 14) dX0_isGrade_1 rfl (fun c1 => ?_) (fun c1 => ?_)
  · have H := H.1 c1
    refine mx_iconst dX0_isGrade_14 ic_0 ?_
    exact mx_zret rfl dX0_isGrade_15 (Or.inl rfl) H
  · have H := H.2 c1
    refine mx_iload_n dX0_isGrade_4 rfl rfl ?_
    refine mx_bipush dX0_isGrade_5 ib_6 ?_
    refine mx_icmp_ge (tgt := 14) dX0_isGrade_7 rfl (fun c2 => ?_) (fun c2 => ?_)
    · have H := H.1 c2
      refine mx_iconst dX0_isGrade_14 ic_0 ?_
      exact mx_zret rfl dX0_isGrade_15 (Or.inl rfl) H
    · have H := H.2 c2
      refine mx_iconst dX0_isGrade_10 ic_1 ?_
      refine mx_goto (tgt := 15) dX0_isGrade_11 rfl ?_
      exact mx_zret rfl dX0_isGrade_15 (Or.inr rfl) H
theorem v_X0_isYear {G : ma_G} {d : Nat} {x0 : Int32} {h : ah_T} {Q : Option ma_V → ah_T → Prop} {E : Nat → ah_T → Prop}  (H : (x0 < 0 → Q (some (iv (0 : Int32))) h) ∧ (¬ x0 < 0 → ((10 : Int32) ≤ x0 → Q (some (iv (0 : Int32))) h) ∧ (¬ (10 : Int32) ≤ x0 → Q (some (iv (1 : Int32))) h))) : MX G mi_X0_isYear d 0 [some (iv x0)] [] h Q E := by
  refine mx_iload_n dX0_isYear_0 rfl rfl ?_
  refine mx_if_lt (tgt := 14) dX0_isYear_1 rfl (fun c1 => ?_) (fun c1 => ?_)
  · have H := H.1 c1
    refine mx_iconst dX0_isYear_14 ic_0 ?_
    exact mx_zret rfl dX0_isYear_15 (Or.inl rfl) H
  · have H := H.2 c1
    refine mx_iload_n dX0_isYear_4 rfl rfl ?_
    refine mx_bipush dX0_isYear_5 ib_10 ?_
    refine mx_icmp_ge (tgt := 14) dX0_isYear_7 rfl (fun c2 => ?_) (fun c2 => ?_)
    · have H := H.1 c2
      refine mx_iconst dX0_isYear_14 ic_0 ?_
      exact mx_zret rfl dX0_isYear_15 (Or.inl rfl) H
    · have H := H.2 c2
      refine mx_iconst dX0_isYear_10 ic_1 ?_
      refine mx_goto (tgt := 15) dX0_isYear_11 rfl ?_
      exact mx_zret rfl dX0_isYear_15 (Or.inr rfl) H
theorem dX0_sale_0 : decode mi_X0_sale.2.1 0 = .ok (.iload_n 1, 1) := by decide +kernel
theorem dX0_sale_1 : decode mi_X0_sale.2.1 1 = .ok (.invokestatic 298, 3) := by decide +kernel
theorem dX0_sale_4 : decode mi_X0_sale.2.1 4 = .ok (.ifCond .eq 10, 3) := by decide +kernel
theorem dX0_sale_7 : decode mi_X0_sale.2.1 7 = .ok (.iload_n 2, 1) := by decide +kernel
theorem dX0_sale_8 : decode mi_X0_sale.2.1 8 = .ok (.invokestatic 301, 3) := by decide +kernel
theorem dX0_sale_11 : decode mi_X0_sale.2.1 11 = .ok (.ifCond .ne 9, 3) := by decide +kernel
theorem dX0_sale_14 : decode mi_X0_sale.2.1 14 = .ok (.aload_n 0, 1) := by decide +kernel
theorem dX0_sale_15 : decode mi_X0_sale.2.1 15 = .ok (.iconst 2, 1) := by decide +kernel
theorem dX0_sale_16 : decode mi_X0_sale.2.1 16 = .ok (.invokevirtual 205, 3) := by decide +kernel
theorem dX0_sale_19 : decode mi_X0_sale.2.1 19 = .ok (.ireturn, 1) := by decide +kernel
theorem dX0_sale_20 : decode mi_X0_sale.2.1 20 = .ok (.aload_n 0, 1) := by decide +kernel
theorem dX0_sale_21 : decode mi_X0_sale.2.1 21 = .ok (.iload_n 3, 1) := by decide +kernel
theorem dX0_sale_22 : decode mi_X0_sale.2.1 22 = .ok (.invokestatic 304, 3) := by decide +kernel
theorem dX0_sale_25 : decode mi_X0_sale.2.1 25 = .ok (.ifCond .eq 33, 3) := by decide +kernel
theorem dX0_sale_28 : decode mi_X0_sale.2.1 28 = .ok (.iload 4, 2) := by decide +kernel
theorem dX0_sale_30 : decode mi_X0_sale.2.1 30 = .ok (.i2l, 1) := by decide +kernel
theorem dX0_sale_31 : decode mi_X0_sale.2.1 31 = .ok (.lconst 1, 1) := by decide +kernel
theorem dX0_sale_32 : decode mi_X0_sale.2.1 32 = .ok (.ldc2_w 245, 3) := by decide +kernel
theorem dX0_sale_35 : decode mi_X0_sale.2.1 35 = .ok (.invokestatic 241, 3) := by decide +kernel
theorem dX0_sale_38 : decode mi_X0_sale.2.1 38 = .ok (.ifCond .eq 20, 3) := by decide +kernel
theorem dX0_sale_41 : decode mi_X0_sale.2.1 41 = .ok (.iload 5, 2) := by decide +kernel
theorem dX0_sale_43 : decode mi_X0_sale.2.1 43 = .ok (.i2l, 1) := by decide +kernel
theorem dX0_sale_44 : decode mi_X0_sale.2.1 44 = .ok (.lconst 0, 1) := by decide +kernel
theorem dX0_sale_45 : decode mi_X0_sale.2.1 45 = .ok (.ldc2_w 283, 3) := by decide +kernel
theorem dX0_sale_48 : decode mi_X0_sale.2.1 48 = .ok (.invokestatic 241, 3) := by decide +kernel
theorem dX0_sale_51 : decode mi_X0_sale.2.1 51 = .ok (.ifCond .eq 7, 3) := by decide +kernel
theorem dX0_sale_54 : decode mi_X0_sale.2.1 54 = .ok (.iconst 1, 1) := by decide +kernel
theorem dX0_sale_55 : decode mi_X0_sale.2.1 55 = .ok (.goto 4, 3) := by decide +kernel
theorem dX0_sale_58 : decode mi_X0_sale.2.1 58 = .ok (.iconst 0, 1) := by decide +kernel
theorem dX0_sale_59 : decode mi_X0_sale.2.1 59 = .ok (.iload 6, 2) := by decide +kernel
theorem dX0_sale_61 : decode mi_X0_sale.2.1 61 = .ok (.iload 7, 2) := by decide +kernel
theorem dX0_sale_63 : decode mi_X0_sale.2.1 63 = .ok (.invokevirtual 285, 3) := by decide +kernel
theorem dX0_sale_66 : decode mi_X0_sale.2.1 66 = .ok (.istore 8, 2) := by decide +kernel
theorem dX0_sale_68 : decode mi_X0_sale.2.1 68 = .ok (.iload 8, 2) := by decide +kernel
theorem dX0_sale_70 : decode mi_X0_sale.2.1 70 = .ok (.ifCond .le 12, 3) := by decide +kernel
theorem dX0_sale_73 : decode mi_X0_sale.2.1 73 = .ok (.aload_n 0, 1) := by decide +kernel
theorem dX0_sale_74 : decode mi_X0_sale.2.1 74 = .ok (.iload 8, 2) := by decide +kernel
theorem dX0_sale_76 : decode mi_X0_sale.2.1 76 = .ok (.invokevirtual 205, 3) := by decide +kernel
theorem dX0_sale_79 : decode mi_X0_sale.2.1 79 = .ok (.goto 25, 3) := by decide +kernel
theorem dX0_sale_82 : decode mi_X0_sale.2.1 82 = .ok (.aload_n 0, 1) := by decide +kernel
theorem dX0_sale_83 : decode mi_X0_sale.2.1 83 = .ok (.new 312, 3) := by decide +kernel
theorem dX0_sale_86 : decode mi_X0_sale.2.1 86 = .ok (.dup, 1) := by decide +kernel
theorem dX0_sale_87 : decode mi_X0_sale.2.1 87 = .ok (.iload_n 1, 1) := by decide +kernel
theorem dX0_sale_88 : decode mi_X0_sale.2.1 88 = .ok (.iload_n 2, 1) := by decide +kernel
theorem dX0_sale_89 : decode mi_X0_sale.2.1 89 = .ok (.iload_n 3, 1) := by decide +kernel
theorem dX0_sale_90 : decode mi_X0_sale.2.1 90 = .ok (.iload 4, 2) := by decide +kernel
theorem dX0_sale_92 : decode mi_X0_sale.2.1 92 = .ok (.iload 5, 2) := by decide +kernel
theorem dX0_sale_94 : decode mi_X0_sale.2.1 94 = .ok (.iload 6, 2) := by decide +kernel
theorem dX0_sale_96 : decode mi_X0_sale.2.1 96 = .ok (.iload 7, 2) := by decide +kernel
theorem dX0_sale_98 : decode mi_X0_sale.2.1 98 = .ok (.invokespecial 314, 3) := by decide +kernel
theorem dX0_sale_101 : decode mi_X0_sale.2.1 101 = .ok (.invokevirtual 294, 3) := by decide +kernel
theorem dX0_sale_104 : decode mi_X0_sale.2.1 104 = .ok (.ireturn, 1) := by decide +kernel
theorem v_X0_sale {G : ma_G} {d : Nat} {a0 : Nat} {x1 : Int32} {x2 : Int32} {x3 : Int32} {x4 : Int32} {x5 : Int32} {x6 : Int32} {x7 : Int32} {h : ah_T} {Q : Option ma_V → ah_T → Prop} {E : Nat → ah_T → Prop} (La0_h : LY0 h a0) (H : (x1 < 0 → ∀ h2 : ah_T, h2 = ah_wI h a0 20 (2 : Int32) → ah_ext h h2 → Q (some (iv (-1 : Int32))) h2) ∧ (¬ x1 < 0 → ((2 : Int32) ≤ x1 → ∀ h4 : ah_T, h4 = ah_wI h a0 20 (2 : Int32) → ah_ext h h4 → Q (some (iv (-1 : Int32))) h4) ∧ (¬ (2 : Int32) ≤ x1 → (x2 < 0 → ∀ h6 : ah_T, h6 = ah_wI h a0 20 (2 : Int32) → ah_ext h h6 → Q (some (iv (-1 : Int32))) h6) ∧ (¬ x2 < 0 → ((6 : Int32) ≤ x2 → ∀ h8 : ah_T, h8 = ah_wI h a0 20 (2 : Int32) → ah_ext h h8 → Q (some (iv (-1 : Int32))) h8) ∧ (¬ (6 : Int32) ≤ x2 → (x3 < 0 → MX G mi_X0_sale (d + 1) 59 [some (rv a0), some (iv x1), some (iv x2), some (iv x3), some (iv x4), some (iv x5), some (iv x6), some (iv x7), none] [iv (0 : Int32), rv a0] h Q E) ∧ (¬ x3 < 0 → ((10 : Int32) ≤ x3 → MX G mi_X0_sale (d + 1) 59 [some (rv a0), some (iv x1), some (iv x2), some (iv x3), some (iv x4), some (iv x5), some (iv x6), some (iv x7), none] [iv (0 : Int32), rv a0] h Q E) ∧ (¬ (10 : Int32) ≤ x3 → (x4.toInt64 < (1 : Int64) → MX G mi_X0_sale (d + 1) 59 [some (rv a0), some (iv x1), some (iv x2), some (iv x3), some (iv x4), some (iv x5), some (iv x6), some (iv x7), none] [iv (0 : Int32), rv a0] h Q E) ∧ (¬ x4.toInt64 < (1 : Int64) → ((100000 : Int64) < x4.toInt64 → MX G mi_X0_sale (d + 1) 59 [some (rv a0), some (iv x1), some (iv x2), some (iv x3), some (iv x4), some (iv x5), some (iv x6), some (iv x7), none] [iv (0 : Int32), rv a0] h Q E) ∧ (¬ (100000 : Int64) < x4.toInt64 → (x5.toInt64 < (0 : Int64) → MX G mi_X0_sale (d + 1) 59 [some (rv a0), some (iv x1), some (iv x2), some (iv x3), some (iv x4), some (iv x5), some (iv x6), some (iv x7), none] [iv (0 : Int32), rv a0] h Q E) ∧ (¬ x5.toInt64 < (0 : Int64) → ((1000 : Int64) < x5.toInt64 → MX G mi_X0_sale (d + 1) 59 [some (rv a0), some (iv x1), some (iv x2), some (iv x3), some (iv x4), some (iv x5), some (iv x6), some (iv x7), none] [iv (0 : Int32), rv a0] h Q E) ∧ (¬ (1000 : Int64) < x5.toInt64 → MX G mi_X0_sale (d + 1) 59 [some (rv a0), some (iv x1), some (iv x2), some (iv x3), some (iv x4), some (iv x5), some (iv x6), some (iv x7), none] [iv (1 : Int32), rv a0] h Q E))))))))))) : MX G mi_X0_sale (d + 1) 0 [some (rv a0), some (iv x1), some (iv x2), some (iv x3), some (iv x4), some (iv x5), some (iv x6), some (iv x7), none] [] h Q E := by
  refine mx_iload_n dX0_sale_0 rfl rfl ?_
  refine mx_callS (y' := mi_X0_isPort) (vs := [iv x1]) (st := []) (al' := [some (iv x1)]) S_X0_isPort q890 dX0_sale_1 rfl rfl (Nat.le_of_ble_eq_true rfl) (Nat.le_of_ble_eq_true rfl) ?_
  refine mx_iload_n dX0_isPort_0 rfl rfl ?_
  refine mx_if_lt (tgt := 13) dX0_isPort_1 rfl (fun c1 => ?_) (fun c1 => ?_)
  · have H := H.1 c1
    refine mx_iconst dX0_isPort_13 ic_0 ?_
    refine mx_zretK rfl dX0_isPort_14 (Or.inl rfl) ?_
    refine mx_if_eq (tgt := 14) dX0_sale_4 rfl (fun _ => ?_) (fun _ => absurd ‹_› (by decide))
    refine mx_aload_n dX0_sale_14 rfl rfl ?_
    refine mx_iconst dX0_sale_15 ic_2 ?_
    refine mx_callV 0 (y' := mi_X0_none) (vs := [iv (2 : Int32)]) (st := []) (al' := [some (rv a0), some (iv (2 : Int32))]) cl_0 V_X0_none (Or.inl q733) dX0_sale_16 rfl rfl (Nat.le_of_ble_eq_true rfl) (Nat.le_of_ble_eq_true rfl) (ly0_k La0_h) ?_
    refine mx_aload_n dX0_none_0 rfl rfl ?_
    refine mx_iload_n dX0_none_1 rfl rfl ?_
    refine mx_putI 0 20 (ref := "PrairiePool") cl_0 (Nat.le_of_ble_eq_true rfl) (Or.inl q480) (Or.inl rfl) dX0_none_2 (Or.inl rfl) rfl (ly0_k La0_h) ?_
    refine mx_nmI  (fun h2 eh2 Xh2 Kh2 Lh2 => ?_)
    have H := H h2 eh2 Xh2
    have La0_h2 := La0_h.ext Xh2
    refine mx_iconst dX0_none_5 ic_m1 ?_
    refine mx_iretK rfl dX0_none_6 ?_
    exact mx_iret rfl dX0_sale_19 H
  · have H := H.2 c1
    refine mx_iload_n dX0_isPort_4 rfl rfl ?_
    refine mx_iconst dX0_isPort_5 ic_2 ?_
    refine mx_icmp_ge (tgt := 13) dX0_isPort_6 rfl (fun c3 => ?_) (fun c3 => ?_)
    · have H := H.1 c3
      refine mx_iconst dX0_isPort_13 ic_0 ?_
      refine mx_zretK rfl dX0_isPort_14 (Or.inl rfl) ?_
      refine mx_if_eq (tgt := 14) dX0_sale_4 rfl (fun _ => ?_) (fun _ => absurd ‹_› (by decide))
      refine mx_aload_n dX0_sale_14 rfl rfl ?_
      refine mx_iconst dX0_sale_15 ic_2 ?_
      refine mx_callV 0 (y' := mi_X0_none) (vs := [iv (2 : Int32)]) (st := []) (al' := [some (rv a0), some (iv (2 : Int32))]) cl_0 V_X0_none (Or.inl q733) dX0_sale_16 rfl rfl (Nat.le_of_ble_eq_true rfl) (Nat.le_of_ble_eq_true rfl) (ly0_k La0_h) ?_
      refine mx_aload_n dX0_none_0 rfl rfl ?_
      refine mx_iload_n dX0_none_1 rfl rfl ?_
      refine mx_putI 0 20 (ref := "PrairiePool") cl_0 (Nat.le_of_ble_eq_true rfl) (Or.inl q480) (Or.inl rfl) dX0_none_2 (Or.inl rfl) rfl (ly0_k La0_h) ?_
      refine mx_nmI  (fun h4 eh4 Xh4 Kh4 Lh4 => ?_)
      have H := H h4 eh4 Xh4
      have La0_h4 := La0_h.ext Xh4
      refine mx_iconst dX0_none_5 ic_m1 ?_
      refine mx_iretK rfl dX0_none_6 ?_
      exact mx_iret rfl dX0_sale_19 H
    · have H := H.2 c3
      refine mx_iconst dX0_isPort_9 ic_1 ?_
      refine mx_goto (tgt := 14) dX0_isPort_10 rfl ?_
      refine mx_zretK rfl dX0_isPort_14 (Or.inr rfl) ?_
      refine mx_if_eq (tgt := 14) dX0_sale_4 rfl (fun _ => absurd ‹_› (by decide)) (fun _ => ?_)
      refine mx_iload_n dX0_sale_7 rfl rfl ?_
      refine mx_callS (y' := mi_X0_isGrade) (vs := [iv x2]) (st := []) (al' := [some (iv x2)]) S_X0_isGrade q893 dX0_sale_8 rfl rfl (Nat.le_of_ble_eq_true rfl) (Nat.le_of_ble_eq_true rfl) ?_
      refine mx_iload_n dX0_isGrade_0 rfl rfl ?_
      refine mx_if_lt (tgt := 14) dX0_isGrade_1 rfl (fun c5 => ?_) (fun c5 => ?_)
      · have H := H.1 c5
        refine mx_iconst dX0_isGrade_14 ic_0 ?_
        refine mx_zretK rfl dX0_isGrade_15 (Or.inl rfl) ?_
        refine mx_if_ne (tgt := 20) dX0_sale_11 rfl (fun _ => absurd ‹_› (by decide)) (fun _ => ?_)
        refine mx_aload_n dX0_sale_14 rfl rfl ?_
        refine mx_iconst dX0_sale_15 ic_2 ?_
        refine mx_callV 0 (y' := mi_X0_none) (vs := [iv (2 : Int32)]) (st := []) (al' := [some (rv a0), some (iv (2 : Int32))]) cl_0 V_X0_none (Or.inl q733) dX0_sale_16 rfl rfl (Nat.le_of_ble_eq_true rfl) (Nat.le_of_ble_eq_true rfl) (ly0_k La0_h) ?_
        refine mx_aload_n dX0_none_0 rfl rfl ?_
        refine mx_iload_n dX0_none_1 rfl rfl ?_
        refine mx_putI 0 20 (ref := "PrairiePool") cl_0 (Nat.le_of_ble_eq_true rfl) (Or.inl q480) (Or.inl rfl) dX0_none_2 (Or.inl rfl) rfl (ly0_k La0_h) ?_
        refine mx_nmI  (fun h6 eh6 Xh6 Kh6 Lh6 => ?_)
        have H := H h6 eh6 Xh6
        have La0_h6 := La0_h.ext Xh6
        refine mx_iconst dX0_none_5 ic_m1 ?_
        refine mx_iretK rfl dX0_none_6 ?_
        exact mx_iret rfl dX0_sale_19 H
      · have H := H.2 c5
        refine mx_iload_n dX0_isGrade_4 rfl rfl ?_
        refine mx_bipush dX0_isGrade_5 ib_6 ?_
        refine mx_icmp_ge (tgt := 14) dX0_isGrade_7 rfl (fun c7 => ?_) (fun c7 => ?_)
        · have H := H.1 c7
          refine mx_iconst dX0_isGrade_14 ic_0 ?_
          refine mx_zretK rfl dX0_isGrade_15 (Or.inl rfl) ?_
          refine mx_if_ne (tgt := 20) dX0_sale_11 rfl (fun _ => absurd ‹_› (by decide)) (fun _ => ?_)
          refine mx_aload_n dX0_sale_14 rfl rfl ?_
          refine mx_iconst dX0_sale_15 ic_2 ?_
          refine mx_callV 0 (y' := mi_X0_none) (vs := [iv (2 : Int32)]) (st := []) (al' := [some (rv a0), some (iv (2 : Int32))]) cl_0 V_X0_none (Or.inl q733) dX0_sale_16 rfl rfl (Nat.le_of_ble_eq_true rfl) (Nat.le_of_ble_eq_true rfl) (ly0_k La0_h) ?_
          refine mx_aload_n dX0_none_0 rfl rfl ?_
          refine mx_iload_n dX0_none_1 rfl rfl ?_
          refine mx_putI 0 20 (ref := "PrairiePool") cl_0 (Nat.le_of_ble_eq_true rfl) (Or.inl q480) (Or.inl rfl) dX0_none_2 (Or.inl rfl) rfl (ly0_k La0_h) ?_
          refine mx_nmI  (fun h8 eh8 Xh8 Kh8 Lh8 => ?_)
          have H := H h8 eh8 Xh8
          have La0_h8 := La0_h.ext Xh8
          refine mx_iconst dX0_none_5 ic_m1 ?_
          refine mx_iretK rfl dX0_none_6 ?_
          exact mx_iret rfl dX0_sale_19 H
        · have H := H.2 c7
          refine mx_iconst dX0_isGrade_10 ic_1 ?_
          refine mx_goto (tgt := 15) dX0_isGrade_11 rfl ?_
          refine mx_zretK rfl dX0_isGrade_15 (Or.inr rfl) ?_
          refine mx_if_ne (tgt := 20) dX0_sale_11 rfl (fun _ => ?_) (fun _ => absurd ‹_› (by decide))
          refine mx_aload_n dX0_sale_20 rfl rfl ?_
          refine mx_iload_n dX0_sale_21 rfl rfl ?_
          refine mx_callS (y' := mi_X0_isYear) (vs := [iv x3]) (st := [rv a0]) (al' := [some (iv x3)]) S_X0_isYear q896 dX0_sale_22 rfl rfl (Nat.le_of_ble_eq_true rfl) (Nat.le_of_ble_eq_true rfl) ?_
          refine mx_iload_n dX0_isYear_0 rfl rfl ?_
          refine mx_if_lt (tgt := 14) dX0_isYear_1 rfl (fun c9 => ?_) (fun c9 => ?_)
          · have H := H.1 c9
            refine mx_iconst dX0_isYear_14 ic_0 ?_
            refine mx_zretK rfl dX0_isYear_15 (Or.inl rfl) ?_
            refine mx_if_eq (tgt := 58) dX0_sale_25 rfl (fun _ => ?_) (fun _ => absurd ‹_› (by decide))
            refine mx_iconst dX0_sale_58 ic_0 ?_
            exact mx_weak (al' := [some (rv a0), some (iv x1), some (iv x2), some (iv x3), some (iv x4), some (iv x5), some (iv x6), some (iv x7), none]) ⟨rfl, ⟨rfl, ⟨rfl, ⟨rfl, ⟨rfl, ⟨rfl, ⟨rfl, ⟨rfl, trivial⟩⟩⟩⟩⟩⟩⟩⟩ H
          · have H := H.2 c9
            refine mx_iload_n dX0_isYear_4 rfl rfl ?_
            refine mx_bipush dX0_isYear_5 ib_10 ?_
            refine mx_icmp_ge (tgt := 14) dX0_isYear_7 rfl (fun c10 => ?_) (fun c10 => ?_)
            · have H := H.1 c10
              refine mx_iconst dX0_isYear_14 ic_0 ?_
              refine mx_zretK rfl dX0_isYear_15 (Or.inl rfl) ?_
              refine mx_if_eq (tgt := 58) dX0_sale_25 rfl (fun _ => ?_) (fun _ => absurd ‹_› (by decide))
              refine mx_iconst dX0_sale_58 ic_0 ?_
              exact mx_weak (al' := [some (rv a0), some (iv x1), some (iv x2), some (iv x3), some (iv x4), some (iv x5), some (iv x6), some (iv x7), none]) ⟨rfl, ⟨rfl, ⟨rfl, ⟨rfl, ⟨rfl, ⟨rfl, ⟨rfl, ⟨rfl, trivial⟩⟩⟩⟩⟩⟩⟩⟩ H
            · have H := H.2 c10
              refine mx_iconst dX0_isYear_10 ic_1 ?_
              refine mx_goto (tgt := 15) dX0_isYear_11 rfl ?_
              refine mx_zretK rfl dX0_isYear_15 (Or.inr rfl) ?_
              refine mx_if_eq (tgt := 58) dX0_sale_25 rfl (fun _ => absurd ‹_› (by decide)) (fun _ => ?_)
              refine mx_iload dX0_sale_28 rfl ?_
              refine mx_i2l dX0_sale_30 ?_
              refine mx_lconst dX0_sale_31 lc_1 ?_
              refine mx_ldc2 q761 dX0_sale_32 ?_
              refine mx_callS (y' := mi_X0_isFrom) (vs := [jv x4.toInt64, jv (1 : Int64), jv (100000 : Int64)]) (st := [rv a0]) (al' := [some (jv x4.toInt64), none, some (jv (1 : Int64)), none, some (jv (100000 : Int64)), none]) S_X0_isFrom q758 dX0_sale_35 rfl rfl (Nat.le_of_ble_eq_true rfl) (Nat.le_of_ble_eq_true rfl) ?_
              refine mx_lload_n dX0_isFrom_0 rfl rfl ?_
              refine mx_lload_n dX0_isFrom_1 rfl rfl ?_
              refine mx_lif_lt (tgt := 17) dX0_isFrom_2 dX0_isFrom_3 rfl (fun c11 => ?_) (fun c11 => ?_)
              · have H := H.1 c11
                refine mx_iconst dX0_isFrom_17 ic_0 ?_
                refine mx_zretK rfl dX0_isFrom_18 (Or.inl rfl) ?_
                refine mx_if_eq (tgt := 58) dX0_sale_38 rfl (fun _ => ?_) (fun _ => absurd ‹_› (by decide))
                refine mx_iconst dX0_sale_58 ic_0 ?_
                exact mx_weak (al' := [some (rv a0), some (iv x1), some (iv x2), some (iv x3), some (iv x4), some (iv x5), some (iv x6), some (iv x7), none]) ⟨rfl, ⟨rfl, ⟨rfl, ⟨rfl, ⟨rfl, ⟨rfl, ⟨rfl, ⟨rfl, trivial⟩⟩⟩⟩⟩⟩⟩⟩ H
              · have H := H.2 c11
                refine mx_lload_n dX0_isFrom_6 rfl rfl ?_
                refine mx_lload dX0_isFrom_7 rfl ?_
                refine mx_lif_gt (tgt := 17) dX0_isFrom_9 dX0_isFrom_10 rfl (fun c12 => ?_) (fun c12 => ?_)
                · have H := H.1 c12
                  refine mx_iconst dX0_isFrom_17 ic_0 ?_
                  refine mx_zretK rfl dX0_isFrom_18 (Or.inl rfl) ?_
                  refine mx_if_eq (tgt := 58) dX0_sale_38 rfl (fun _ => ?_) (fun _ => absurd ‹_› (by decide))
                  refine mx_iconst dX0_sale_58 ic_0 ?_
                  exact mx_weak (al' := [some (rv a0), some (iv x1), some (iv x2), some (iv x3), some (iv x4), some (iv x5), some (iv x6), some (iv x7), none]) ⟨rfl, ⟨rfl, ⟨rfl, ⟨rfl, ⟨rfl, ⟨rfl, ⟨rfl, ⟨rfl, trivial⟩⟩⟩⟩⟩⟩⟩⟩ H
                · have H := H.2 c12
                  refine mx_iconst dX0_isFrom_13 ic_1 ?_
                  refine mx_goto (tgt := 18) dX0_isFrom_14 rfl ?_
                  refine mx_zretK rfl dX0_isFrom_18 (Or.inr rfl) ?_
                  refine mx_if_eq (tgt := 58) dX0_sale_38 rfl (fun _ => absurd ‹_› (by decide)) (fun _ => ?_)
                  refine mx_iload dX0_sale_41 rfl ?_
                  refine mx_i2l dX0_sale_43 ?_
                  refine mx_lconst dX0_sale_44 lc_0 ?_
                  refine mx_ldc2 q836 dX0_sale_45 ?_
                  refine mx_callS (y' := mi_X0_isFrom) (vs := [jv x5.toInt64, jv (0 : Int64), jv (1000 : Int64)]) (st := [rv a0]) (al' := [some (jv x5.toInt64), none, some (jv (0 : Int64)), none, some (jv (1000 : Int64)), none]) S_X0_isFrom q758 dX0_sale_48 rfl rfl (Nat.le_of_ble_eq_true rfl) (Nat.le_of_ble_eq_true rfl) ?_
                  refine mx_lload_n dX0_isFrom_0 rfl rfl ?_
                  refine mx_lload_n dX0_isFrom_1 rfl rfl ?_
                  refine mx_lif_lt (tgt := 17) dX0_isFrom_2 dX0_isFrom_3 rfl (fun c13 => ?_) (fun c13 => ?_)
                  · have H := H.1 c13
                    refine mx_iconst dX0_isFrom_17 ic_0 ?_
                    refine mx_zretK rfl dX0_isFrom_18 (Or.inl rfl) ?_
                    refine mx_if_eq (tgt := 58) dX0_sale_51 rfl (fun _ => ?_) (fun _ => absurd ‹_› (by decide))
                    refine mx_iconst dX0_sale_58 ic_0 ?_
                    exact mx_weak (al' := [some (rv a0), some (iv x1), some (iv x2), some (iv x3), some (iv x4), some (iv x5), some (iv x6), some (iv x7), none]) ⟨rfl, ⟨rfl, ⟨rfl, ⟨rfl, ⟨rfl, ⟨rfl, ⟨rfl, ⟨rfl, trivial⟩⟩⟩⟩⟩⟩⟩⟩ H
                  · have H := H.2 c13
                    refine mx_lload_n dX0_isFrom_6 rfl rfl ?_
                    refine mx_lload dX0_isFrom_7 rfl ?_
                    refine mx_lif_gt (tgt := 17) dX0_isFrom_9 dX0_isFrom_10 rfl (fun c14 => ?_) (fun c14 => ?_)
                    · have H := H.1 c14
                      refine mx_iconst dX0_isFrom_17 ic_0 ?_
                      refine mx_zretK rfl dX0_isFrom_18 (Or.inl rfl) ?_
                      refine mx_if_eq (tgt := 58) dX0_sale_51 rfl (fun _ => ?_) (fun _ => absurd ‹_› (by decide))
                      refine mx_iconst dX0_sale_58 ic_0 ?_
                      exact mx_weak (al' := [some (rv a0), some (iv x1), some (iv x2), some (iv x3), some (iv x4), some (iv x5), some (iv x6), some (iv x7), none]) ⟨rfl, ⟨rfl, ⟨rfl, ⟨rfl, ⟨rfl, ⟨rfl, ⟨rfl, ⟨rfl, trivial⟩⟩⟩⟩⟩⟩⟩⟩ H
                    · have H := H.2 c14
                      refine mx_iconst dX0_isFrom_13 ic_1 ?_
                      refine mx_goto (tgt := 18) dX0_isFrom_14 rfl ?_
                      refine mx_zretK rfl dX0_isFrom_18 (Or.inr rfl) ?_
                      refine mx_if_eq (tgt := 58) dX0_sale_51 rfl (fun _ => absurd ‹_› (by decide)) (fun _ => ?_)
                      refine mx_iconst dX0_sale_54 ic_1 ?_
                      refine mx_goto (tgt := 59) dX0_sale_55 rfl ?_
                      exact mx_weak (al' := [some (rv a0), some (iv x1), some (iv x2), some (iv x3), some (iv x4), some (iv x5), some (iv x6), some (iv x7), none]) ⟨rfl, ⟨rfl, ⟨rfl, ⟨rfl, ⟨rfl, ⟨rfl, ⟨rfl, ⟨rfl, trivial⟩⟩⟩⟩⟩⟩⟩⟩ H
theorem v_X0_sale_59 {G : ma_G} {d : Nat} {a0 : Nat} {x1 : Int32} {x2 : Int32} {x3 : Int32} {x4 : Int32} {x5 : Int32} {x6 : Int32} {x7 : Int32} {z0 : Int32} {h : ah_T} {Q : Option ma_V → ah_T → Prop} {E : Nat → ah_T → Prop} (La0_h : LY0 h a0) (H : MX G mi_X0_wrongEvent d 0 [some (rv a0), some (iv z0), some (iv x6), some (iv x7)] [] h (Qi fun r2 h1 => ah_ext h h1 → (r2 ≤ 0 → (1 ≤ ah_rc h1 ∧ 7 ≤ ah_rs h1) ∧ ∀ h5 : ah_T, h5 = ah_new h1 15 0 7 → ah_ext h1 h5 → ah_liv h1 → MX G mi_X16_init d 0 [some (rv (ah_sz h1)), some (iv x1), some (iv x2), some (iv x3), some (iv x4), some (iv x5), some (iv x6), some (iv x7)] [] h5 (Qv fun h7 => ah_ext h5 h7 → MX G mi_X0_adds d 0 [some (rv a0), some (rv (ah_sz h1))] [] h7 (Qi fun r11 h10 => ah_ext h7 h10 → Q (some (iv r11)) h10) E) E) ∧ (¬ r2 ≤ 0 → ∀ h13 : ah_T, h13 = ah_wI h1 a0 20 r2 → ah_ext h1 h13 → Q (some (iv (-1 : Int32))) h13)) E) : MX G mi_X0_sale (d + 1) 59 [some (rv a0), some (iv x1), some (iv x2), some (iv x3), some (iv x4), some (iv x5), some (iv x6), some (iv x7), none] [iv z0, rv a0] h Q E := by
  refine mx_iload dX0_sale_59 rfl ?_
  refine mx_iload dX0_sale_61 rfl ?_
  refine mx_callV 0 (y' := mi_X0_wrongEvent) (vs := [iv z0, iv x6, iv x7]) (st := []) (al' := [some (rv a0), some (iv z0), some (iv x6), some (iv x7)]) cl_0 V_X0_wrongEvent (Or.inl q837) dX0_sale_63 rfl rfl (Nat.le_of_ble_eq_true rfl) (Nat.le_of_ble_eq_true rfl) (ly0_k La0_h) ?_
  refine ma_ki H (fun r2 h1 Xh1 H => ?_) (fun x1 h1 X1 H => mt_out rfl H)
  have H := H Xh1
  have La0_h1 := La0_h.ext Xh1
  refine mx_istore (al' := [some (rv a0), some (iv x1), some (iv x2), some (iv x3), some (iv x4), some (iv x5), some (iv x6), some (iv x7), some (iv r2)]) dX0_sale_66 (Nat.le_of_ble_eq_true rfl) rfl ?_
  refine mx_iload dX0_sale_68 rfl ?_
  refine mx_if_le (tgt := 82) dX0_sale_70 rfl (fun c3 => ?_) (fun c3 => ?_)
  · have H := H.1 c3
    refine mx_aload_n dX0_sale_82 rfl rfl ?_
    obtain ⟨k4, H⟩ := H
    refine mx_new 14 cl_14 dk_14 q947 q948 q144 dX0_sale_83 k4.1 k4.2 (fun x_ lv_ => ?_)
    refine mx_nmN x_ lv_ (fun h5 eh5 Xh5 lv_ => ?_)
    have H := H h5 eh5 Xh5 lv_
    have La0_h5 := La0_h1.ext Xh5
    have k6 : ah_kd h5 (ah_sz h1) = 15 := by rw [eh5]; exact if_pos rfl
    refine mx_dup_r dX0_sale_86 ?_
    refine mx_iload_n dX0_sale_87 rfl rfl ?_
    refine mx_iload_n dX0_sale_88 rfl rfl ?_
    refine mx_iload_n dX0_sale_89 rfl rfl ?_
    refine mx_iload dX0_sale_90 rfl ?_
    refine mx_iload dX0_sale_92 rfl ?_
    refine mx_iload dX0_sale_94 rfl ?_
    refine mx_iload dX0_sale_96 rfl ?_
    refine mx_callI (y' := mi_X16_init) (vs := [iv x1, iv x2, iv x3, iv x4, iv x5, iv x6, iv x7]) (st := [rv (ah_sz h1), rv a0]) (al' := [some (rv (ah_sz h1)), some (iv x1), some (iv x2), some (iv x3), some (iv x4), some (iv x5), some (iv x6), some (iv x7)]) I_X16_init (Or.inl q949) dX0_sale_98 rfl rfl (Nat.le_of_ble_eq_true rfl) (Nat.le_of_ble_eq_true rfl) (by rw [k6]; decide) ?_
    refine ma_kv H (fun h7 Xh7 H => ?_) (fun x1 h1 X1 H => mt_out rfl H)
    have H := H Xh7
    have k9 := Xh7.kd (k6)
    have La0_h7 := La0_h5.ext Xh7
    refine mx_callV 0 (y' := mi_X0_adds) (vs := [rv (ah_sz h1)]) (st := []) (al' := [some (rv a0), some (rv (ah_sz h1))]) cl_0 V_X0_adds (Or.inl q882) dX0_sale_101 rfl rfl (Nat.le_of_ble_eq_true rfl) (Nat.le_of_ble_eq_true rfl) (ly0_k La0_h7) ?_
    refine ma_ki H (fun r11 h10 Xh10 H => ?_) (fun x1 h1 X1 H => mt_out rfl H)
    have H := H Xh10
    have k12 := Xh10.kd (k9)
    have La0_h10 := La0_h7.ext Xh10
    exact mx_iret rfl dX0_sale_104 H
  · have H := H.2 c3
    refine mx_aload_n dX0_sale_73 rfl rfl ?_
    refine mx_iload dX0_sale_74 rfl ?_
    refine mx_callV 0 (y' := mi_X0_none) (vs := [iv r2]) (st := []) (al' := [some (rv a0), some (iv r2)]) cl_0 V_X0_none (Or.inl q733) dX0_sale_76 rfl rfl (Nat.le_of_ble_eq_true rfl) (Nat.le_of_ble_eq_true rfl) (ly0_k La0_h1) ?_
    refine mx_aload_n dX0_none_0 rfl rfl ?_
    refine mx_iload_n dX0_none_1 rfl rfl ?_
    refine mx_putI 0 20 (ref := "PrairiePool") cl_0 (Nat.le_of_ble_eq_true rfl) (Or.inl q480) (Or.inl rfl) dX0_none_2 (Or.inl rfl) rfl (ly0_k La0_h1) ?_
    refine mx_nmI  (fun h13 eh13 Xh13 Kh13 Lh13 => ?_)
    have H := H h13 eh13 Xh13
    have La0_h13 := La0_h1.ext Xh13
    refine mx_iconst dX0_none_5 ic_m1 ?_
    refine mx_iretK rfl dX0_none_6 ?_
    refine mx_goto (tgt := 104) dX0_sale_79 rfl ?_
    exact mx_iret rfl dX0_sale_104 H
theorem dX0_spoil_0 : decode mi_X0_spoil.2.1 0 = .ok (.aload_n 0, 1) := by decide +kernel
theorem dX0_spoil_1 : decode mi_X0_spoil.2.1 1 = .ok (.iload_n 1, 1) := by decide +kernel
theorem dX0_spoil_2 : decode mi_X0_spoil.2.1 2 = .ok (.invokevirtual 278, 3) := by decide +kernel
theorem dX0_spoil_5 : decode mi_X0_spoil.2.1 5 = .ok (.ifCond .eq 10, 3) := by decide +kernel
theorem dX0_spoil_8 : decode mi_X0_spoil.2.1 8 = .ok (.iload_n 2, 1) := by decide +kernel
theorem dX0_spoil_9 : decode mi_X0_spoil.2.1 9 = .ok (.invokestatic 301, 3) := by decide +kernel
theorem dX0_spoil_12 : decode mi_X0_spoil.2.1 12 = .ok (.ifCond .ne 9, 3) := by decide +kernel
theorem dX0_spoil_15 : decode mi_X0_spoil.2.1 15 = .ok (.aload_n 0, 1) := by decide +kernel
theorem dX0_spoil_16 : decode mi_X0_spoil.2.1 16 = .ok (.iconst 2, 1) := by decide +kernel
theorem dX0_spoil_17 : decode mi_X0_spoil.2.1 17 = .ok (.invokevirtual 205, 3) := by decide +kernel
theorem dX0_spoil_20 : decode mi_X0_spoil.2.1 20 = .ok (.ireturn, 1) := by decide +kernel
theorem dX0_spoil_21 : decode mi_X0_spoil.2.1 21 = .ok (.aload_n 0, 1) := by decide +kernel
theorem dX0_spoil_22 : decode mi_X0_spoil.2.1 22 = .ok (.iload_n 3, 1) := by decide +kernel
theorem dX0_spoil_23 : decode mi_X0_spoil.2.1 23 = .ok (.invokestatic 304, 3) := by decide +kernel
theorem dX0_spoil_26 : decode mi_X0_spoil.2.1 26 = .ok (.ifCond .eq 20, 3) := by decide +kernel
theorem dX0_spoil_29 : decode mi_X0_spoil.2.1 29 = .ok (.iload 4, 2) := by decide +kernel
theorem dX0_spoil_31 : decode mi_X0_spoil.2.1 31 = .ok (.i2l, 1) := by decide +kernel
theorem dX0_spoil_32 : decode mi_X0_spoil.2.1 32 = .ok (.lconst 1, 1) := by decide +kernel
theorem dX0_spoil_33 : decode mi_X0_spoil.2.1 33 = .ok (.ldc2_w 245, 3) := by decide +kernel
theorem dX0_spoil_36 : decode mi_X0_spoil.2.1 36 = .ok (.invokestatic 241, 3) := by decide +kernel
theorem dX0_spoil_39 : decode mi_X0_spoil.2.1 39 = .ok (.ifCond .eq 7, 3) := by decide +kernel
theorem dX0_spoil_42 : decode mi_X0_spoil.2.1 42 = .ok (.iconst 1, 1) := by decide +kernel
theorem dX0_spoil_43 : decode mi_X0_spoil.2.1 43 = .ok (.goto 4, 3) := by decide +kernel
theorem dX0_spoil_46 : decode mi_X0_spoil.2.1 46 = .ok (.iconst 0, 1) := by decide +kernel
theorem dX0_spoil_47 : decode mi_X0_spoil.2.1 47 = .ok (.iload 5, 2) := by decide +kernel
theorem dX0_spoil_49 : decode mi_X0_spoil.2.1 49 = .ok (.iload 6, 2) := by decide +kernel
theorem dX0_spoil_51 : decode mi_X0_spoil.2.1 51 = .ok (.invokevirtual 285, 3) := by decide +kernel
theorem dX0_spoil_54 : decode mi_X0_spoil.2.1 54 = .ok (.istore 7, 2) := by decide +kernel
theorem dX0_spoil_56 : decode mi_X0_spoil.2.1 56 = .ok (.iload 7, 2) := by decide +kernel
theorem dX0_spoil_58 : decode mi_X0_spoil.2.1 58 = .ok (.ifCond .le 12, 3) := by decide +kernel
theorem dX0_spoil_61 : decode mi_X0_spoil.2.1 61 = .ok (.aload_n 0, 1) := by decide +kernel
theorem dX0_spoil_62 : decode mi_X0_spoil.2.1 62 = .ok (.iload 7, 2) := by decide +kernel
theorem dX0_spoil_64 : decode mi_X0_spoil.2.1 64 = .ok (.invokevirtual 205, 3) := by decide +kernel
theorem dX0_spoil_67 : decode mi_X0_spoil.2.1 67 = .ok (.goto 23, 3) := by decide +kernel
theorem dX0_spoil_70 : decode mi_X0_spoil.2.1 70 = .ok (.aload_n 0, 1) := by decide +kernel
theorem dX0_spoil_71 : decode mi_X0_spoil.2.1 71 = .ok (.new 315, 3) := by decide +kernel
theorem dX0_spoil_74 : decode mi_X0_spoil.2.1 74 = .ok (.dup, 1) := by decide +kernel
theorem dX0_spoil_75 : decode mi_X0_spoil.2.1 75 = .ok (.iload_n 1, 1) := by decide +kernel
theorem dX0_spoil_76 : decode mi_X0_spoil.2.1 76 = .ok (.iload_n 2, 1) := by decide +kernel
theorem dX0_spoil_77 : decode mi_X0_spoil.2.1 77 = .ok (.iload_n 3, 1) := by decide +kernel
theorem dX0_spoil_78 : decode mi_X0_spoil.2.1 78 = .ok (.iload 4, 2) := by decide +kernel
theorem dX0_spoil_80 : decode mi_X0_spoil.2.1 80 = .ok (.iload 5, 2) := by decide +kernel
theorem dX0_spoil_82 : decode mi_X0_spoil.2.1 82 = .ok (.iload 6, 2) := by decide +kernel
theorem dX0_spoil_84 : decode mi_X0_spoil.2.1 84 = .ok (.invokespecial 317, 3) := by decide +kernel
theorem dX0_spoil_87 : decode mi_X0_spoil.2.1 87 = .ok (.invokevirtual 294, 3) := by decide +kernel
theorem dX0_spoil_90 : decode mi_X0_spoil.2.1 90 = .ok (.ireturn, 1) := by decide +kernel
theorem v_X0_spoil {G : ma_G} {d : Nat} {a0 : Nat} {x1 : Int32} {x2 : Int32} {x3 : Int32} {x4 : Int32} {x5 : Int32} {x6 : Int32} {h : ah_T} {Q : Option ma_V → ah_T → Prop} {E : Nat → ah_T → Prop} (La0_h : LY0 h a0) (H : (x1 < 0 → ∀ h2 : ah_T, h2 = ah_wI h a0 20 (2 : Int32) → ah_ext h h2 → Q (some (iv (-1 : Int32))) h2) ∧ (¬ x1 < 0 → ((ah_I h a0 15) ≤ x1 → ∀ h4 : ah_T, h4 = ah_wI h a0 20 (2 : Int32) → ah_ext h h4 → Q (some (iv (-1 : Int32))) h4) ∧ (¬ (ah_I h a0 15) ≤ x1 → (x2 < 0 → ∀ h6 : ah_T, h6 = ah_wI h a0 20 (2 : Int32) → ah_ext h h6 → Q (some (iv (-1 : Int32))) h6) ∧ (¬ x2 < 0 → ((6 : Int32) ≤ x2 → ∀ h8 : ah_T, h8 = ah_wI h a0 20 (2 : Int32) → ah_ext h h8 → Q (some (iv (-1 : Int32))) h8) ∧ (¬ (6 : Int32) ≤ x2 → (x3 < 0 → MX G mi_X0_spoil (d + 1) 47 [some (rv a0), some (iv x1), some (iv x2), some (iv x3), some (iv x4), some (iv x5), some (iv x6), none] [iv (0 : Int32), rv a0] h Q E) ∧ (¬ x3 < 0 → ((10 : Int32) ≤ x3 → MX G mi_X0_spoil (d + 1) 47 [some (rv a0), some (iv x1), some (iv x2), some (iv x3), some (iv x4), some (iv x5), some (iv x6), none] [iv (0 : Int32), rv a0] h Q E) ∧ (¬ (10 : Int32) ≤ x3 → (x4.toInt64 < (1 : Int64) → MX G mi_X0_spoil (d + 1) 47 [some (rv a0), some (iv x1), some (iv x2), some (iv x3), some (iv x4), some (iv x5), some (iv x6), none] [iv (0 : Int32), rv a0] h Q E) ∧ (¬ x4.toInt64 < (1 : Int64) → ((100000 : Int64) < x4.toInt64 → MX G mi_X0_spoil (d + 1) 47 [some (rv a0), some (iv x1), some (iv x2), some (iv x3), some (iv x4), some (iv x5), some (iv x6), none] [iv (0 : Int32), rv a0] h Q E) ∧ (¬ (100000 : Int64) < x4.toInt64 → MX G mi_X0_spoil (d + 1) 47 [some (rv a0), some (iv x1), some (iv x2), some (iv x3), some (iv x4), some (iv x5), some (iv x6), none] [iv (1 : Int32), rv a0] h Q E))))))))) : MX G mi_X0_spoil (d + 1) 0 [some (rv a0), some (iv x1), some (iv x2), some (iv x3), some (iv x4), some (iv x5), some (iv x6), none] [] h Q E := by
  refine mx_aload_n dX0_spoil_0 rfl rfl ?_
  refine mx_iload_n dX0_spoil_1 rfl rfl ?_
  refine mx_callV 0 (y' := mi_X0_isElevator) (vs := [iv x1]) (st := []) (al' := [some (rv a0), some (iv x1)]) cl_0 V_X0_isElevator (Or.inl q831) dX0_spoil_2 rfl rfl (Nat.le_of_ble_eq_true rfl) (Nat.le_of_ble_eq_true rfl) (ly0_k La0_h) ?_
  refine mx_iload_n dX0_isElevator_0 rfl rfl ?_
  refine mx_if_lt (tgt := 16) dX0_isElevator_1 rfl (fun c1 => ?_) (fun c1 => ?_)
  · have H := H.1 c1
    refine mx_iconst dX0_isElevator_16 ic_0 ?_
    refine mx_zretK rfl dX0_isElevator_17 (Or.inl rfl) ?_
    refine mx_if_eq (tgt := 15) dX0_spoil_5 rfl (fun _ => ?_) (fun _ => absurd ‹_› (by decide))
    refine mx_aload_n dX0_spoil_15 rfl rfl ?_
    refine mx_iconst dX0_spoil_16 ic_2 ?_
    refine mx_callV 0 (y' := mi_X0_none) (vs := [iv (2 : Int32)]) (st := []) (al' := [some (rv a0), some (iv (2 : Int32))]) cl_0 V_X0_none (Or.inl q733) dX0_spoil_17 rfl rfl (Nat.le_of_ble_eq_true rfl) (Nat.le_of_ble_eq_true rfl) (ly0_k La0_h) ?_
    refine mx_aload_n dX0_none_0 rfl rfl ?_
    refine mx_iload_n dX0_none_1 rfl rfl ?_
    refine mx_putI 0 20 (ref := "PrairiePool") cl_0 (Nat.le_of_ble_eq_true rfl) (Or.inl q480) (Or.inl rfl) dX0_none_2 (Or.inl rfl) rfl (ly0_k La0_h) ?_
    refine mx_nmI  (fun h2 eh2 Xh2 Kh2 Lh2 => ?_)
    have H := H h2 eh2 Xh2
    have La0_h2 := La0_h.ext Xh2
    refine mx_iconst dX0_none_5 ic_m1 ?_
    refine mx_iretK rfl dX0_none_6 ?_
    exact mx_iret rfl dX0_spoil_20 H
  · have H := H.2 c1
    refine mx_iload_n dX0_isElevator_4 rfl rfl ?_
    refine mx_aload_n dX0_isElevator_5 rfl rfl ?_
    refine mx_get 0 15 (ref := "PrairiePool") cl_0 (Nat.le_of_ble_eq_true rfl) (Or.inl q475) (Or.inl rfl) dX0_isElevator_6 (fv_0_15 _ _) (ly0_k La0_h) ?_
    refine mx_icmp_ge (tgt := 16) dX0_isElevator_9 rfl (fun c3 => ?_) (fun c3 => ?_)
    · have H := H.1 c3
      refine mx_iconst dX0_isElevator_16 ic_0 ?_
      refine mx_zretK rfl dX0_isElevator_17 (Or.inl rfl) ?_
      refine mx_if_eq (tgt := 15) dX0_spoil_5 rfl (fun _ => ?_) (fun _ => absurd ‹_› (by decide))
      refine mx_aload_n dX0_spoil_15 rfl rfl ?_
      refine mx_iconst dX0_spoil_16 ic_2 ?_
      refine mx_callV 0 (y' := mi_X0_none) (vs := [iv (2 : Int32)]) (st := []) (al' := [some (rv a0), some (iv (2 : Int32))]) cl_0 V_X0_none (Or.inl q733) dX0_spoil_17 rfl rfl (Nat.le_of_ble_eq_true rfl) (Nat.le_of_ble_eq_true rfl) (ly0_k La0_h) ?_
      refine mx_aload_n dX0_none_0 rfl rfl ?_
      refine mx_iload_n dX0_none_1 rfl rfl ?_
      refine mx_putI 0 20 (ref := "PrairiePool") cl_0 (Nat.le_of_ble_eq_true rfl) (Or.inl q480) (Or.inl rfl) dX0_none_2 (Or.inl rfl) rfl (ly0_k La0_h) ?_
      refine mx_nmI  (fun h4 eh4 Xh4 Kh4 Lh4 => ?_)
      have H := H h4 eh4 Xh4
      have La0_h4 := La0_h.ext Xh4
      refine mx_iconst dX0_none_5 ic_m1 ?_
      refine mx_iretK rfl dX0_none_6 ?_
      exact mx_iret rfl dX0_spoil_20 H
    · have H := H.2 c3
      refine mx_iconst dX0_isElevator_12 ic_1 ?_
      refine mx_goto (tgt := 17) dX0_isElevator_13 rfl ?_
      refine mx_zretK rfl dX0_isElevator_17 (Or.inr rfl) ?_
      refine mx_if_eq (tgt := 15) dX0_spoil_5 rfl (fun _ => absurd ‹_› (by decide)) (fun _ => ?_)
      refine mx_iload_n dX0_spoil_8 rfl rfl ?_
      refine mx_callS (y' := mi_X0_isGrade) (vs := [iv x2]) (st := []) (al' := [some (iv x2)]) S_X0_isGrade q893 dX0_spoil_9 rfl rfl (Nat.le_of_ble_eq_true rfl) (Nat.le_of_ble_eq_true rfl) ?_
      refine mx_iload_n dX0_isGrade_0 rfl rfl ?_
      refine mx_if_lt (tgt := 14) dX0_isGrade_1 rfl (fun c5 => ?_) (fun c5 => ?_)
      · have H := H.1 c5
        refine mx_iconst dX0_isGrade_14 ic_0 ?_
        refine mx_zretK rfl dX0_isGrade_15 (Or.inl rfl) ?_
        refine mx_if_ne (tgt := 21) dX0_spoil_12 rfl (fun _ => absurd ‹_› (by decide)) (fun _ => ?_)
        refine mx_aload_n dX0_spoil_15 rfl rfl ?_
        refine mx_iconst dX0_spoil_16 ic_2 ?_
        refine mx_callV 0 (y' := mi_X0_none) (vs := [iv (2 : Int32)]) (st := []) (al' := [some (rv a0), some (iv (2 : Int32))]) cl_0 V_X0_none (Or.inl q733) dX0_spoil_17 rfl rfl (Nat.le_of_ble_eq_true rfl) (Nat.le_of_ble_eq_true rfl) (ly0_k La0_h) ?_
        refine mx_aload_n dX0_none_0 rfl rfl ?_
        refine mx_iload_n dX0_none_1 rfl rfl ?_
        refine mx_putI 0 20 (ref := "PrairiePool") cl_0 (Nat.le_of_ble_eq_true rfl) (Or.inl q480) (Or.inl rfl) dX0_none_2 (Or.inl rfl) rfl (ly0_k La0_h) ?_
        refine mx_nmI  (fun h6 eh6 Xh6 Kh6 Lh6 => ?_)
        have H := H h6 eh6 Xh6
        have La0_h6 := La0_h.ext Xh6
        refine mx_iconst dX0_none_5 ic_m1 ?_
        refine mx_iretK rfl dX0_none_6 ?_
        exact mx_iret rfl dX0_spoil_20 H
      · have H := H.2 c5
        refine mx_iload_n dX0_isGrade_4 rfl rfl ?_
        refine mx_bipush dX0_isGrade_5 ib_6 ?_
        refine mx_icmp_ge (tgt := 14) dX0_isGrade_7 rfl (fun c7 => ?_) (fun c7 => ?_)
        · have H := H.1 c7
          refine mx_iconst dX0_isGrade_14 ic_0 ?_
          refine mx_zretK rfl dX0_isGrade_15 (Or.inl rfl) ?_
          refine mx_if_ne (tgt := 21) dX0_spoil_12 rfl (fun _ => absurd ‹_› (by decide)) (fun _ => ?_)
          refine mx_aload_n dX0_spoil_15 rfl rfl ?_
          refine mx_iconst dX0_spoil_16 ic_2 ?_
          refine mx_callV 0 (y' := mi_X0_none) (vs := [iv (2 : Int32)]) (st := []) (al' := [some (rv a0), some (iv (2 : Int32))]) cl_0 V_X0_none (Or.inl q733) dX0_spoil_17 rfl rfl (Nat.le_of_ble_eq_true rfl) (Nat.le_of_ble_eq_true rfl) (ly0_k La0_h) ?_
          refine mx_aload_n dX0_none_0 rfl rfl ?_
          refine mx_iload_n dX0_none_1 rfl rfl ?_
          refine mx_putI 0 20 (ref := "PrairiePool") cl_0 (Nat.le_of_ble_eq_true rfl) (Or.inl q480) (Or.inl rfl) dX0_none_2 (Or.inl rfl) rfl (ly0_k La0_h) ?_
          refine mx_nmI  (fun h8 eh8 Xh8 Kh8 Lh8 => ?_)
          have H := H h8 eh8 Xh8
          have La0_h8 := La0_h.ext Xh8
          refine mx_iconst dX0_none_5 ic_m1 ?_
          refine mx_iretK rfl dX0_none_6 ?_
          exact mx_iret rfl dX0_spoil_20 H
        · have H := H.2 c7
          refine mx_iconst dX0_isGrade_10 ic_1 ?_
          refine mx_goto (tgt := 15) dX0_isGrade_11 rfl ?_
          refine mx_zretK rfl dX0_isGrade_15 (Or.inr rfl) ?_
          refine mx_if_ne (tgt := 21) dX0_spoil_12 rfl (fun _ => ?_) (fun _ => absurd ‹_› (by decide))
          refine mx_aload_n dX0_spoil_21 rfl rfl ?_
          refine mx_iload_n dX0_spoil_22 rfl rfl ?_
          refine mx_callS (y' := mi_X0_isYear) (vs := [iv x3]) (st := [rv a0]) (al' := [some (iv x3)]) S_X0_isYear q896 dX0_spoil_23 rfl rfl (Nat.le_of_ble_eq_true rfl) (Nat.le_of_ble_eq_true rfl) ?_
          refine mx_iload_n dX0_isYear_0 rfl rfl ?_
          refine mx_if_lt (tgt := 14) dX0_isYear_1 rfl (fun c9 => ?_) (fun c9 => ?_)
          · have H := H.1 c9
            refine mx_iconst dX0_isYear_14 ic_0 ?_
            refine mx_zretK rfl dX0_isYear_15 (Or.inl rfl) ?_
            refine mx_if_eq (tgt := 46) dX0_spoil_26 rfl (fun _ => ?_) (fun _ => absurd ‹_› (by decide))
            refine mx_iconst dX0_spoil_46 ic_0 ?_
            exact mx_weak (al' := [some (rv a0), some (iv x1), some (iv x2), some (iv x3), some (iv x4), some (iv x5), some (iv x6), none]) ⟨rfl, ⟨rfl, ⟨rfl, ⟨rfl, ⟨rfl, ⟨rfl, ⟨rfl, trivial⟩⟩⟩⟩⟩⟩⟩ H
          · have H := H.2 c9
            refine mx_iload_n dX0_isYear_4 rfl rfl ?_
            refine mx_bipush dX0_isYear_5 ib_10 ?_
            refine mx_icmp_ge (tgt := 14) dX0_isYear_7 rfl (fun c10 => ?_) (fun c10 => ?_)
            · have H := H.1 c10
              refine mx_iconst dX0_isYear_14 ic_0 ?_
              refine mx_zretK rfl dX0_isYear_15 (Or.inl rfl) ?_
              refine mx_if_eq (tgt := 46) dX0_spoil_26 rfl (fun _ => ?_) (fun _ => absurd ‹_› (by decide))
              refine mx_iconst dX0_spoil_46 ic_0 ?_
              exact mx_weak (al' := [some (rv a0), some (iv x1), some (iv x2), some (iv x3), some (iv x4), some (iv x5), some (iv x6), none]) ⟨rfl, ⟨rfl, ⟨rfl, ⟨rfl, ⟨rfl, ⟨rfl, ⟨rfl, trivial⟩⟩⟩⟩⟩⟩⟩ H
            · have H := H.2 c10
              refine mx_iconst dX0_isYear_10 ic_1 ?_
              refine mx_goto (tgt := 15) dX0_isYear_11 rfl ?_
              refine mx_zretK rfl dX0_isYear_15 (Or.inr rfl) ?_
              refine mx_if_eq (tgt := 46) dX0_spoil_26 rfl (fun _ => absurd ‹_› (by decide)) (fun _ => ?_)
              refine mx_iload dX0_spoil_29 rfl ?_
              refine mx_i2l dX0_spoil_31 ?_
              refine mx_lconst dX0_spoil_32 lc_1 ?_
              refine mx_ldc2 q761 dX0_spoil_33 ?_
              refine mx_callS (y' := mi_X0_isFrom) (vs := [jv x4.toInt64, jv (1 : Int64), jv (100000 : Int64)]) (st := [rv a0]) (al' := [some (jv x4.toInt64), none, some (jv (1 : Int64)), none, some (jv (100000 : Int64)), none]) S_X0_isFrom q758 dX0_spoil_36 rfl rfl (Nat.le_of_ble_eq_true rfl) (Nat.le_of_ble_eq_true rfl) ?_
              refine mx_lload_n dX0_isFrom_0 rfl rfl ?_
              refine mx_lload_n dX0_isFrom_1 rfl rfl ?_
              refine mx_lif_lt (tgt := 17) dX0_isFrom_2 dX0_isFrom_3 rfl (fun c11 => ?_) (fun c11 => ?_)
              · have H := H.1 c11
                refine mx_iconst dX0_isFrom_17 ic_0 ?_
                refine mx_zretK rfl dX0_isFrom_18 (Or.inl rfl) ?_
                refine mx_if_eq (tgt := 46) dX0_spoil_39 rfl (fun _ => ?_) (fun _ => absurd ‹_› (by decide))
                refine mx_iconst dX0_spoil_46 ic_0 ?_
                exact mx_weak (al' := [some (rv a0), some (iv x1), some (iv x2), some (iv x3), some (iv x4), some (iv x5), some (iv x6), none]) ⟨rfl, ⟨rfl, ⟨rfl, ⟨rfl, ⟨rfl, ⟨rfl, ⟨rfl, trivial⟩⟩⟩⟩⟩⟩⟩ H
              · have H := H.2 c11
                refine mx_lload_n dX0_isFrom_6 rfl rfl ?_
                refine mx_lload dX0_isFrom_7 rfl ?_
                refine mx_lif_gt (tgt := 17) dX0_isFrom_9 dX0_isFrom_10 rfl (fun c12 => ?_) (fun c12 => ?_)
                · have H := H.1 c12
                  refine mx_iconst dX0_isFrom_17 ic_0 ?_
                  refine mx_zretK rfl dX0_isFrom_18 (Or.inl rfl) ?_
                  refine mx_if_eq (tgt := 46) dX0_spoil_39 rfl (fun _ => ?_) (fun _ => absurd ‹_› (by decide))
                  refine mx_iconst dX0_spoil_46 ic_0 ?_
                  exact mx_weak (al' := [some (rv a0), some (iv x1), some (iv x2), some (iv x3), some (iv x4), some (iv x5), some (iv x6), none]) ⟨rfl, ⟨rfl, ⟨rfl, ⟨rfl, ⟨rfl, ⟨rfl, ⟨rfl, trivial⟩⟩⟩⟩⟩⟩⟩ H
                · have H := H.2 c12
                  refine mx_iconst dX0_isFrom_13 ic_1 ?_
                  refine mx_goto (tgt := 18) dX0_isFrom_14 rfl ?_
                  refine mx_zretK rfl dX0_isFrom_18 (Or.inr rfl) ?_
                  refine mx_if_eq (tgt := 46) dX0_spoil_39 rfl (fun _ => absurd ‹_› (by decide)) (fun _ => ?_)
                  refine mx_iconst dX0_spoil_42 ic_1 ?_
                  refine mx_goto (tgt := 47) dX0_spoil_43 rfl ?_
                  exact mx_weak (al' := [some (rv a0), some (iv x1), some (iv x2), some (iv x3), some (iv x4), some (iv x5), some (iv x6), none]) ⟨rfl, ⟨rfl, ⟨rfl, ⟨rfl, ⟨rfl, ⟨rfl, ⟨rfl, trivial⟩⟩⟩⟩⟩⟩⟩ H
theorem v_X0_spoil_47 {G : ma_G} {d : Nat} {a0 : Nat} {x1 : Int32} {x2 : Int32} {x3 : Int32} {x4 : Int32} {x5 : Int32} {x6 : Int32} {z0 : Int32} {h : ah_T} {Q : Option ma_V → ah_T → Prop} {E : Nat → ah_T → Prop} (La0_h : LY0 h a0) (H : MX G mi_X0_wrongEvent d 0 [some (rv a0), some (iv z0), some (iv x5), some (iv x6)] [] h (Qi fun r2 h1 => ah_ext h h1 → (r2 ≤ 0 → (1 ≤ ah_rc h1 ∧ 6 ≤ ah_rs h1) ∧ ∀ h5 : ah_T, h5 = ah_new h1 13 0 6 → ah_ext h1 h5 → ah_liv h1 → MX G mi_X14_init d 0 [some (rv (ah_sz h1)), some (iv x1), some (iv x2), some (iv x3), some (iv x4), some (iv x5), some (iv x6)] [] h5 (Qv fun h7 => ah_ext h5 h7 → MX G mi_X0_adds d 0 [some (rv a0), some (rv (ah_sz h1))] [] h7 (Qi fun r11 h10 => ah_ext h7 h10 → Q (some (iv r11)) h10) E) E) ∧ (¬ r2 ≤ 0 → ∀ h13 : ah_T, h13 = ah_wI h1 a0 20 r2 → ah_ext h1 h13 → Q (some (iv (-1 : Int32))) h13)) E) : MX G mi_X0_spoil (d + 1) 47 [some (rv a0), some (iv x1), some (iv x2), some (iv x3), some (iv x4), some (iv x5), some (iv x6), none] [iv z0, rv a0] h Q E := by
  refine mx_iload dX0_spoil_47 rfl ?_
  refine mx_iload dX0_spoil_49 rfl ?_
  refine mx_callV 0 (y' := mi_X0_wrongEvent) (vs := [iv z0, iv x5, iv x6]) (st := []) (al' := [some (rv a0), some (iv z0), some (iv x5), some (iv x6)]) cl_0 V_X0_wrongEvent (Or.inl q837) dX0_spoil_51 rfl rfl (Nat.le_of_ble_eq_true rfl) (Nat.le_of_ble_eq_true rfl) (ly0_k La0_h) ?_
  refine ma_ki H (fun r2 h1 Xh1 H => ?_) (fun x1 h1 X1 H => mt_out rfl H)
  have H := H Xh1
  have La0_h1 := La0_h.ext Xh1
  refine mx_istore (al' := [some (rv a0), some (iv x1), some (iv x2), some (iv x3), some (iv x4), some (iv x5), some (iv x6), some (iv r2)]) dX0_spoil_54 (Nat.le_of_ble_eq_true rfl) rfl ?_
  refine mx_iload dX0_spoil_56 rfl ?_
  refine mx_if_le (tgt := 70) dX0_spoil_58 rfl (fun c3 => ?_) (fun c3 => ?_)
  · have H := H.1 c3
    refine mx_aload_n dX0_spoil_70 rfl rfl ?_
    obtain ⟨k4, H⟩ := H
    refine mx_new 12 cl_12 dk_12 q967 q968 q142 dX0_spoil_71 k4.1 k4.2 (fun x_ lv_ => ?_)
    refine mx_nmN x_ lv_ (fun h5 eh5 Xh5 lv_ => ?_)
    have H := H h5 eh5 Xh5 lv_
    have La0_h5 := La0_h1.ext Xh5
    have k6 : ah_kd h5 (ah_sz h1) = 13 := by rw [eh5]; exact if_pos rfl
    refine mx_dup_r dX0_spoil_74 ?_
    refine mx_iload_n dX0_spoil_75 rfl rfl ?_
    refine mx_iload_n dX0_spoil_76 rfl rfl ?_
    refine mx_iload_n dX0_spoil_77 rfl rfl ?_
    refine mx_iload dX0_spoil_78 rfl ?_
    refine mx_iload dX0_spoil_80 rfl ?_
    refine mx_iload dX0_spoil_82 rfl ?_
    refine mx_callI (y' := mi_X14_init) (vs := [iv x1, iv x2, iv x3, iv x4, iv x5, iv x6]) (st := [rv (ah_sz h1), rv a0]) (al' := [some (rv (ah_sz h1)), some (iv x1), some (iv x2), some (iv x3), some (iv x4), some (iv x5), some (iv x6)]) I_X14_init (Or.inl q969) dX0_spoil_84 rfl rfl (Nat.le_of_ble_eq_true rfl) (Nat.le_of_ble_eq_true rfl) (by rw [k6]; decide) ?_
    refine ma_kv H (fun h7 Xh7 H => ?_) (fun x1 h1 X1 H => mt_out rfl H)
    have H := H Xh7
    have k9 := Xh7.kd (k6)
    have La0_h7 := La0_h5.ext Xh7
    refine mx_callV 0 (y' := mi_X0_adds) (vs := [rv (ah_sz h1)]) (st := []) (al' := [some (rv a0), some (rv (ah_sz h1))]) cl_0 V_X0_adds (Or.inl q882) dX0_spoil_87 rfl rfl (Nat.le_of_ble_eq_true rfl) (Nat.le_of_ble_eq_true rfl) (ly0_k La0_h7) ?_
    refine ma_ki H (fun r11 h10 Xh10 H => ?_) (fun x1 h1 X1 H => mt_out rfl H)
    have H := H Xh10
    have k12 := Xh10.kd (k9)
    have La0_h10 := La0_h7.ext Xh10
    exact mx_iret rfl dX0_spoil_90 H
  · have H := H.2 c3
    refine mx_aload_n dX0_spoil_61 rfl rfl ?_
    refine mx_iload dX0_spoil_62 rfl ?_
    refine mx_callV 0 (y' := mi_X0_none) (vs := [iv r2]) (st := []) (al' := [some (rv a0), some (iv r2)]) cl_0 V_X0_none (Or.inl q733) dX0_spoil_64 rfl rfl (Nat.le_of_ble_eq_true rfl) (Nat.le_of_ble_eq_true rfl) (ly0_k La0_h1) ?_
    refine mx_aload_n dX0_none_0 rfl rfl ?_
    refine mx_iload_n dX0_none_1 rfl rfl ?_
    refine mx_putI 0 20 (ref := "PrairiePool") cl_0 (Nat.le_of_ble_eq_true rfl) (Or.inl q480) (Or.inl rfl) dX0_none_2 (Or.inl rfl) rfl (ly0_k La0_h1) ?_
    refine mx_nmI  (fun h13 eh13 Xh13 Kh13 Lh13 => ?_)
    have H := H h13 eh13 Xh13
    have La0_h13 := La0_h1.ext Xh13
    refine mx_iconst dX0_none_5 ic_m1 ?_
    refine mx_iretK rfl dX0_none_6 ?_
    refine mx_goto (tgt := 90) dX0_spoil_67 rfl ?_
    exact mx_iret rfl dX0_spoil_90 H
theorem dX0_grading_0 : decode mi_X0_grading.2.1 0 = .ok (.aload_n 0, 1) := by decide +kernel
theorem dX0_grading_1 : decode mi_X0_grading.2.1 1 = .ok (.iload_n 1, 1) := by decide +kernel
theorem dX0_grading_2 : decode mi_X0_grading.2.1 2 = .ok (.invokevirtual 320, 3) := by decide +kernel
theorem dX0_grading_5 : decode mi_X0_grading.2.1 5 = .ok (.ifCond .eq 20, 3) := by decide +kernel
theorem dX0_grading_8 : decode mi_X0_grading.2.1 8 = .ok (.iload_n 2, 1) := by decide +kernel
theorem dX0_grading_9 : decode mi_X0_grading.2.1 9 = .ok (.ifCond .lt 16, 3) := by decide +kernel
theorem dX0_grading_12 : decode mi_X0_grading.2.1 12 = .ok (.iload_n 2, 1) := by decide +kernel
theorem dX0_grading_13 : decode mi_X0_grading.2.1 13 = .ok (.bipush 6, 2) := by decide +kernel
theorem dX0_grading_15 : decode mi_X0_grading.2.1 15 = .ok (.if_icmp .ge 10, 3) := by decide +kernel
theorem dX0_grading_18 : decode mi_X0_grading.2.1 18 = .ok (.iload_n 3, 1) := by decide +kernel
theorem dX0_grading_19 : decode mi_X0_grading.2.1 19 = .ok (.invokestatic 301, 3) := by decide +kernel
theorem dX0_grading_22 : decode mi_X0_grading.2.1 22 = .ok (.ifCond .ne 9, 3) := by decide +kernel
theorem dX0_grading_25 : decode mi_X0_grading.2.1 25 = .ok (.aload_n 0, 1) := by decide +kernel
theorem dX0_grading_26 : decode mi_X0_grading.2.1 26 = .ok (.iconst 2, 1) := by decide +kernel
theorem dX0_grading_27 : decode mi_X0_grading.2.1 27 = .ok (.invokevirtual 188, 3) := by decide +kernel
theorem dX0_grading_30 : decode mi_X0_grading.2.1 30 = .ok (.ireturn, 1) := by decide +kernel
theorem dX0_grading_31 : decode mi_X0_grading.2.1 31 = .ok (.iload 4, 2) := by decide +kernel
theorem dX0_grading_33 : decode mi_X0_grading.2.1 33 = .ok (.invokestatic 260, 3) := by decide +kernel
theorem dX0_grading_36 : decode mi_X0_grading.2.1 36 = .ok (.ifCond .ne 9, 3) := by decide +kernel
theorem dX0_grading_39 : decode mi_X0_grading.2.1 39 = .ok (.aload_n 0, 1) := by decide +kernel
theorem dX0_grading_40 : decode mi_X0_grading.2.1 40 = .ok (.iconst 5, 1) := by decide +kernel
theorem dX0_grading_41 : decode mi_X0_grading.2.1 41 = .ok (.invokevirtual 188, 3) := by decide +kernel
theorem dX0_grading_44 : decode mi_X0_grading.2.1 44 = .ok (.ireturn, 1) := by decide +kernel
theorem dX0_grading_45 : decode mi_X0_grading.2.1 45 = .ok (.aload_n 0, 1) := by decide +kernel
theorem dX0_grading_46 : decode mi_X0_grading.2.1 46 = .ok (.getfield 323, 3) := by decide +kernel
theorem dX0_grading_49 : decode mi_X0_grading.2.1 49 = .ok (.bipush 100, 2) := by decide +kernel
theorem dX0_grading_51 : decode mi_X0_grading.2.1 51 = .ok (.if_icmp .ne 10, 3) := by decide +kernel
theorem dX0_grading_54 : decode mi_X0_grading.2.1 54 = .ok (.aload_n 0, 1) := by decide +kernel
theorem dX0_grading_55 : decode mi_X0_grading.2.1 55 = .ok (.bipush 7, 2) := by decide +kernel
theorem dX0_grading_57 : decode mi_X0_grading.2.1 57 = .ok (.invokevirtual 188, 3) := by decide +kernel
theorem dX0_grading_60 : decode mi_X0_grading.2.1 60 = .ok (.ireturn, 1) := by decide +kernel
theorem dX0_grading_61 : decode mi_X0_grading.2.1 61 = .ok (.iload 4, 2) := by decide +kernel
theorem dX0_grading_63 : decode mi_X0_grading.2.1 63 = .ok (.aload_n 0, 1) := by decide +kernel
theorem dX0_grading_64 : decode mi_X0_grading.2.1 64 = .ok (.getfield 266, 3) := by decide +kernel
theorem dX0_grading_67 : decode mi_X0_grading.2.1 67 = .ok (.if_icmp .ge 10, 3) := by decide +kernel
theorem dX0_grading_70 : decode mi_X0_grading.2.1 70 = .ok (.aload_n 0, 1) := by decide +kernel
theorem dX0_grading_71 : decode mi_X0_grading.2.1 71 = .ok (.bipush 12, 2) := by decide +kernel
theorem dX0_grading_73 : decode mi_X0_grading.2.1 73 = .ok (.invokevirtual 188, 3) := by decide +kernel
theorem dX0_grading_76 : decode mi_X0_grading.2.1 76 = .ok (.ireturn, 1) := by decide +kernel
theorem dX0_grading_77 : decode mi_X0_grading.2.1 77 = .ok (.aload_n 0, 1) := by decide +kernel
theorem dX0_grading_78 : decode mi_X0_grading.2.1 78 = .ok (.iload 4, 2) := by decide +kernel
theorem dX0_grading_80 : decode mi_X0_grading.2.1 80 = .ok (.putfield 266, 3) := by decide +kernel
theorem dX0_grading_83 : decode mi_X0_grading.2.1 83 = .ok (.aload_n 0, 1) := by decide +kernel
theorem dX0_grading_84 : decode mi_X0_grading.2.1 84 = .ok (.getfield 33, 3) := by decide +kernel
theorem dX0_grading_87 : decode mi_X0_grading.2.1 87 = .ok (.aload_n 0, 1) := by decide +kernel
theorem dX0_grading_88 : decode mi_X0_grading.2.1 88 = .ok (.getfield 323, 3) := by decide +kernel
theorem dX0_grading_91 : decode mi_X0_grading.2.1 91 = .ok (.iload_n 1, 1) := by decide +kernel
theorem dX0_grading_92 : decode mi_X0_grading.2.1 92 = .ok (.iastore, 1) := by decide +kernel
theorem dX0_grading_93 : decode mi_X0_grading.2.1 93 = .ok (.aload_n 0, 1) := by decide +kernel
theorem dX0_grading_94 : decode mi_X0_grading.2.1 94 = .ok (.getfield 37, 3) := by decide +kernel
theorem dX0_grading_97 : decode mi_X0_grading.2.1 97 = .ok (.aload_n 0, 1) := by decide +kernel
theorem dX0_grading_98 : decode mi_X0_grading.2.1 98 = .ok (.getfield 323, 3) := by decide +kernel
theorem dX0_grading_101 : decode mi_X0_grading.2.1 101 = .ok (.iload_n 2, 1) := by decide +kernel
theorem dX0_grading_102 : decode mi_X0_grading.2.1 102 = .ok (.iastore, 1) := by decide +kernel
theorem dX0_grading_103 : decode mi_X0_grading.2.1 103 = .ok (.aload_n 0, 1) := by decide +kernel
theorem dX0_grading_104 : decode mi_X0_grading.2.1 104 = .ok (.getfield 40, 3) := by decide +kernel
theorem dX0_grading_107 : decode mi_X0_grading.2.1 107 = .ok (.aload_n 0, 1) := by decide +kernel
theorem dX0_grading_108 : decode mi_X0_grading.2.1 108 = .ok (.getfield 323, 3) := by decide +kernel
theorem dX0_grading_111 : decode mi_X0_grading.2.1 111 = .ok (.iload_n 3, 1) := by decide +kernel
theorem dX0_grading_112 : decode mi_X0_grading.2.1 112 = .ok (.iastore, 1) := by decide +kernel
theorem dX0_grading_113 : decode mi_X0_grading.2.1 113 = .ok (.aload_n 0, 1) := by decide +kernel
theorem dX0_grading_114 : decode mi_X0_grading.2.1 114 = .ok (.getfield 43, 3) := by decide +kernel
theorem dX0_grading_117 : decode mi_X0_grading.2.1 117 = .ok (.aload_n 0, 1) := by decide +kernel
theorem dX0_grading_118 : decode mi_X0_grading.2.1 118 = .ok (.getfield 323, 3) := by decide +kernel
theorem dX0_grading_121 : decode mi_X0_grading.2.1 121 = .ok (.iload 4, 2) := by decide +kernel
theorem dX0_grading_123 : decode mi_X0_grading.2.1 123 = .ok (.iastore, 1) := by decide +kernel
theorem dX0_grading_124 : decode mi_X0_grading.2.1 124 = .ok (.aload_n 0, 1) := by decide +kernel
theorem dX0_grading_125 : decode mi_X0_grading.2.1 125 = .ok (.dup, 1) := by decide +kernel
theorem dX0_grading_126 : decode mi_X0_grading.2.1 126 = .ok (.getfield 323, 3) := by decide +kernel
theorem dX0_grading_129 : decode mi_X0_grading.2.1 129 = .ok (.iconst 1, 1) := by decide +kernel
theorem dX0_grading_130 : decode mi_X0_grading.2.1 130 = .ok (.iadd, 1) := by decide +kernel
theorem dX0_grading_131 : decode mi_X0_grading.2.1 131 = .ok (.putfield 323, 3) := by decide +kernel
theorem dX0_grading_134 : decode mi_X0_grading.2.1 134 = .ok (.aload_n 0, 1) := by decide +kernel
theorem dX0_grading_135 : decode mi_X0_grading.2.1 135 = .ok (.iconst 0, 1) := by decide +kernel
theorem dX0_grading_136 : decode mi_X0_grading.2.1 136 = .ok (.invokevirtual 188, 3) := by decide +kernel
theorem dX0_grading_139 : decode mi_X0_grading.2.1 139 = .ok (.ireturn, 1) := by decide +kernel
theorem v_X0_grading {G : ma_G} {d : Nat} {a0 : Nat} {x1 : Int32} {x2 : Int32} {x3 : Int32} {x4 : Int32} {h : ah_T} {Q : Option ma_V → ah_T → Prop} {E : Nat → ah_T → Prop} (La0_h : LY0 h a0) (H : (x1 < 0 → ∀ h2 : ah_T, h2 = ah_wI h a0 20 (2 : Int32) → ah_ext h h2 → Q (some (iv (0 : Int32))) h2) ∧ (¬ x1 < 0 → ((ah_I h a0 16) ≤ x1 → ∀ h4 : ah_T, h4 = ah_wI h a0 20 (2 : Int32) → ah_ext h h4 → Q (some (iv (0 : Int32))) h4) ∧ (¬ (ah_I h a0 16) ≤ x1 → vp_in x1 120 ∧ ma_ks h (ah_R h (a0 + 4) x1.toNatClampNeg) [11, 12, 13, 14] ∧ ((ah_kd h (ah_R h (a0 + 4) x1.toNatClampNeg) = 12 → (x2 < 0 → ∀ h9 : ah_T, h9 = ah_wI h a0 20 (2 : Int32) → ah_ext h h9 → Q (some (iv (0 : Int32))) h9) ∧ (¬ x2 < 0 → ((6 : Int32) ≤ x2 → ∀ h11 : ah_T, h11 = ah_wI h a0 20 (2 : Int32) → ah_ext h h11 → Q (some (iv (0 : Int32))) h11) ∧ (¬ (6 : Int32) ≤ x2 → (x3 < 0 → ∀ h13 : ah_T, h13 = ah_wI h a0 20 (2 : Int32) → ah_ext h h13 → Q (some (iv (0 : Int32))) h13) ∧ (¬ x3 < 0 → ((6 : Int32) ≤ x3 → ∀ h15 : ah_T, h15 = ah_wI h a0 20 (2 : Int32) → ah_ext h h15 → Q (some (iv (0 : Int32))) h15) ∧ (¬ (6 : Int32) ≤ x3 → (x4 < 0 → ∀ h17 : ah_T, h17 = ah_wI h a0 20 (5 : Int32) → ah_ext h h17 → Q (some (iv (0 : Int32))) h17) ∧ (¬ x4 < 0 → ((520 : Int32) ≤ x4 → ∀ h19 : ah_T, h19 = ah_wI h a0 20 (5 : Int32) → ah_ext h h19 → Q (some (iv (0 : Int32))) h19) ∧ (¬ (520 : Int32) ≤ x4 → (¬ (ah_I h a0 17) = (100 : Int32) → ((ah_I h a0 19) ≤ x4 → ∀ h22 : ah_T, h22 = ah_wI h a0 19 x4 → ah_ext h h22 → vp_in (ah_I h a0 17) 100 ∧ ∀ h24 : ah_T, h24 = ah_wI h22 (a0 + 5) (ah_I h a0 17).toNatClampNeg x1 → ah_ext h22 h24 → ∀ h25 : ah_T, h25 = ah_wI h24 (a0 + 6) (ah_I h a0 17).toNatClampNeg x2 → ah_ext h24 h25 → ∀ h26 : ah_T, h26 = ah_wI h25 (a0 + 7) (ah_I h a0 17).toNatClampNeg x3 → ah_ext h25 h26 → ∀ h27 : ah_T, h27 = ah_wI h26 (a0 + 8) (ah_I h a0 17).toNatClampNeg x4 → ah_ext h26 h27 → ∀ h28 : ah_T, h28 = ah_wI h27 a0 17 ((ah_I h a0 17) + (1 : Int32)) → ah_ext h27 h28 → ∀ h29 : ah_T, h29 = ah_wI h28 a0 20 (0 : Int32) → ah_ext h28 h29 → Q (some (iv (1 : Int32))) h29) ∧ (¬ (ah_I h a0 19) ≤ x4 → ∀ h30 : ah_T, h30 = ah_wI h a0 20 (12 : Int32) → ah_ext h h30 → Q (some (iv (0 : Int32))) h30)) ∧ ((ah_I h a0 17) = (100 : Int32) → ∀ h31 : ah_T, h31 = ah_wI h a0 20 (7 : Int32) → ah_ext h h31 → Q (some (iv (0 : Int32))) h31)))))))) ∧ (¬ ah_kd h (ah_R h (a0 + 4) x1.toNatClampNeg) = 12 → ∀ h32 : ah_T, h32 = ah_wI h a0 20 (2 : Int32) → ah_ext h h32 → Q (some (iv (0 : Int32))) h32))))) : MX G mi_X0_grading (d + 1) 0 [some (rv a0), some (iv x1), some (iv x2), some (iv x3), some (iv x4)] [] h Q E := by
  refine mx_aload_n dX0_grading_0 rfl rfl ?_
  refine mx_iload_n dX0_grading_1 rfl rfl ?_
  refine mx_callV 0 (y' := mi_X0_isLoad) (vs := [iv x1]) (st := []) (al' := [some (rv a0), some (iv x1)]) cl_0 V_X0_isLoad (Or.inl q981) dX0_grading_2 rfl rfl (Nat.le_of_ble_eq_true rfl) (Nat.le_of_ble_eq_true rfl) (ly0_k La0_h) ?_
  refine mx_iload_n dX0_isLoad_0 rfl rfl ?_
  refine mx_if_lt (tgt := 28) dX0_isLoad_1 rfl (fun c1 => ?_) (fun c1 => ?_)
  · have H := H.1 c1
    refine mx_iconst dX0_isLoad_28 ic_0 ?_
    refine mx_zretK rfl dX0_isLoad_29 (Or.inl rfl) ?_
    refine mx_if_eq (tgt := 25) dX0_grading_5 rfl (fun _ => ?_) (fun _ => absurd ‹_› (by decide))
    refine mx_aload_n dX0_grading_25 rfl rfl ?_
    refine mx_iconst dX0_grading_26 ic_2 ?_
    refine mx_callV 0 (y' := mi_X0_is) (vs := [iv (2 : Int32)]) (st := []) (al' := [some (rv a0), some (iv (2 : Int32))]) cl_0 V_X0_is (Or.inl q664) dX0_grading_27 rfl rfl (Nat.le_of_ble_eq_true rfl) (Nat.le_of_ble_eq_true rfl) (ly0_k La0_h) ?_
    refine mx_aload_n dX0_is_0 rfl rfl ?_
    refine mx_iload_n dX0_is_1 rfl rfl ?_
    refine mx_putI 0 20 (ref := "PrairiePool") cl_0 (Nat.le_of_ble_eq_true rfl) (Or.inl q480) (Or.inl rfl) dX0_is_2 (Or.inl rfl) rfl (ly0_k La0_h) ?_
    refine mx_nmI  (fun h2 eh2 Xh2 Kh2 Lh2 => ?_)
    have H := H h2 eh2 Xh2
    have La0_h2 := La0_h.ext Xh2
    refine mx_iload_n dX0_is_5 rfl rfl ?_
    refine mx_if_ne (tgt := 13) dX0_is_6 rfl (fun _ => ?_) (fun _ => absurd ‹_› (by decide))
    refine mx_iconst dX0_is_13 ic_0 ?_
    refine mx_zretK rfl dX0_is_14 (Or.inl rfl) ?_
    exact mx_zret rfl dX0_grading_30 (Or.inl rfl) H
  · have H := H.2 c1
    refine mx_iload_n dX0_isLoad_4 rfl rfl ?_
    refine mx_aload_n dX0_isLoad_5 rfl rfl ?_
    refine mx_get 0 16 (ref := "PrairiePool") cl_0 (Nat.le_of_ble_eq_true rfl) (Or.inl q476) (Or.inl rfl) dX0_isLoad_6 (fv_0_16 _ _) (ly0_k La0_h) ?_
    refine mx_icmp_ge (tgt := 28) dX0_isLoad_9 rfl (fun c3 => ?_) (fun c3 => ?_)
    · have H := H.1 c3
      refine mx_iconst dX0_isLoad_28 ic_0 ?_
      refine mx_zretK rfl dX0_isLoad_29 (Or.inl rfl) ?_
      refine mx_if_eq (tgt := 25) dX0_grading_5 rfl (fun _ => ?_) (fun _ => absurd ‹_› (by decide))
      refine mx_aload_n dX0_grading_25 rfl rfl ?_
      refine mx_iconst dX0_grading_26 ic_2 ?_
      refine mx_callV 0 (y' := mi_X0_is) (vs := [iv (2 : Int32)]) (st := []) (al' := [some (rv a0), some (iv (2 : Int32))]) cl_0 V_X0_is (Or.inl q664) dX0_grading_27 rfl rfl (Nat.le_of_ble_eq_true rfl) (Nat.le_of_ble_eq_true rfl) (ly0_k La0_h) ?_
      refine mx_aload_n dX0_is_0 rfl rfl ?_
      refine mx_iload_n dX0_is_1 rfl rfl ?_
      refine mx_putI 0 20 (ref := "PrairiePool") cl_0 (Nat.le_of_ble_eq_true rfl) (Or.inl q480) (Or.inl rfl) dX0_is_2 (Or.inl rfl) rfl (ly0_k La0_h) ?_
      refine mx_nmI  (fun h4 eh4 Xh4 Kh4 Lh4 => ?_)
      have H := H h4 eh4 Xh4
      have La0_h4 := La0_h.ext Xh4
      refine mx_iload_n dX0_is_5 rfl rfl ?_
      refine mx_if_ne (tgt := 13) dX0_is_6 rfl (fun _ => ?_) (fun _ => absurd ‹_› (by decide))
      refine mx_iconst dX0_is_13 ic_0 ?_
      refine mx_zretK rfl dX0_is_14 (Or.inl rfl) ?_
      exact mx_zret rfl dX0_grading_30 (Or.inl rfl) H
    · have H := H.2 c3
      refine mx_aload_n dX0_isLoad_12 rfl rfl ?_
      refine mx_get 0 3 (ref := "PrairiePool") cl_0 (Nat.le_of_ble_eq_true rfl) (Or.inl q463) (Or.inl rfl) dX0_isLoad_13 (fv_0_3 _ _) (ly0_k La0_h) ?_
      refine mx_tr (ly0_R_0_3 La0_h) ?_
      refine mx_iload_n dX0_isLoad_16 rfl rfl ?_
      obtain ⟨k5, H⟩ := H
      refine my_aald 8 dX0_isLoad_17 (by decide) rfl (ly0_A_4 La0_h k5) ?_
      obtain ⟨k6, H⟩ := H
      refine mx_instL q844 dX0_isLoad_18 k6 (fun c7 => ?_) (fun c7 => ?_)
      · have H := H.1 c7
        refine mx_if_eq (tgt := 28) dX0_isLoad_21 rfl (fun _ => absurd ‹_› (by decide)) (fun _ => ?_)
        refine mx_iconst dX0_isLoad_24 ic_1 ?_
        refine mx_goto (tgt := 29) dX0_isLoad_25 rfl ?_
        refine mx_zretK rfl dX0_isLoad_29 (Or.inr rfl) ?_
        refine mx_if_eq (tgt := 25) dX0_grading_5 rfl (fun _ => absurd ‹_› (by decide)) (fun _ => ?_)
        refine mx_iload_n dX0_grading_8 rfl rfl ?_
        refine mx_if_lt (tgt := 25) dX0_grading_9 rfl (fun c8 => ?_) (fun c8 => ?_)
        · have H := H.1 c8
          refine mx_aload_n dX0_grading_25 rfl rfl ?_
          refine mx_iconst dX0_grading_26 ic_2 ?_
          refine mx_callV 0 (y' := mi_X0_is) (vs := [iv (2 : Int32)]) (st := []) (al' := [some (rv a0), some (iv (2 : Int32))]) cl_0 V_X0_is (Or.inl q664) dX0_grading_27 rfl rfl (Nat.le_of_ble_eq_true rfl) (Nat.le_of_ble_eq_true rfl) (ly0_k La0_h) ?_
          refine mx_aload_n dX0_is_0 rfl rfl ?_
          refine mx_iload_n dX0_is_1 rfl rfl ?_
          refine mx_putI 0 20 (ref := "PrairiePool") cl_0 (Nat.le_of_ble_eq_true rfl) (Or.inl q480) (Or.inl rfl) dX0_is_2 (Or.inl rfl) rfl (ly0_k La0_h) ?_
          refine mx_nmI  (fun h9 eh9 Xh9 Kh9 Lh9 => ?_)
          have H := H h9 eh9 Xh9
          have La0_h9 := La0_h.ext Xh9
          refine mx_iload_n dX0_is_5 rfl rfl ?_
          refine mx_if_ne (tgt := 13) dX0_is_6 rfl (fun _ => ?_) (fun _ => absurd ‹_› (by decide))
          refine mx_iconst dX0_is_13 ic_0 ?_
          refine mx_zretK rfl dX0_is_14 (Or.inl rfl) ?_
          exact mx_zret rfl dX0_grading_30 (Or.inl rfl) H
        · have H := H.2 c8
          refine mx_iload_n dX0_grading_12 rfl rfl ?_
          refine mx_bipush dX0_grading_13 ib_6 ?_
          refine mx_icmp_ge (tgt := 25) dX0_grading_15 rfl (fun c10 => ?_) (fun c10 => ?_)
          · have H := H.1 c10
            refine mx_aload_n dX0_grading_25 rfl rfl ?_
            refine mx_iconst dX0_grading_26 ic_2 ?_
            refine mx_callV 0 (y' := mi_X0_is) (vs := [iv (2 : Int32)]) (st := []) (al' := [some (rv a0), some (iv (2 : Int32))]) cl_0 V_X0_is (Or.inl q664) dX0_grading_27 rfl rfl (Nat.le_of_ble_eq_true rfl) (Nat.le_of_ble_eq_true rfl) (ly0_k La0_h) ?_
            refine mx_aload_n dX0_is_0 rfl rfl ?_
            refine mx_iload_n dX0_is_1 rfl rfl ?_
            refine mx_putI 0 20 (ref := "PrairiePool") cl_0 (Nat.le_of_ble_eq_true rfl) (Or.inl q480) (Or.inl rfl) dX0_is_2 (Or.inl rfl) rfl (ly0_k La0_h) ?_
            refine mx_nmI  (fun h11 eh11 Xh11 Kh11 Lh11 => ?_)
            have H := H h11 eh11 Xh11
            have La0_h11 := La0_h.ext Xh11
            refine mx_iload_n dX0_is_5 rfl rfl ?_
            refine mx_if_ne (tgt := 13) dX0_is_6 rfl (fun _ => ?_) (fun _ => absurd ‹_› (by decide))
            refine mx_iconst dX0_is_13 ic_0 ?_
            refine mx_zretK rfl dX0_is_14 (Or.inl rfl) ?_
            exact mx_zret rfl dX0_grading_30 (Or.inl rfl) H
          · have H := H.2 c10
            refine mx_iload_n dX0_grading_18 rfl rfl ?_
            refine mx_callS (y' := mi_X0_isGrade) (vs := [iv x3]) (st := []) (al' := [some (iv x3)]) S_X0_isGrade q893 dX0_grading_19 rfl rfl (Nat.le_of_ble_eq_true rfl) (Nat.le_of_ble_eq_true rfl) ?_
            refine mx_iload_n dX0_isGrade_0 rfl rfl ?_
            refine mx_if_lt (tgt := 14) dX0_isGrade_1 rfl (fun c12 => ?_) (fun c12 => ?_)
            · have H := H.1 c12
              refine mx_iconst dX0_isGrade_14 ic_0 ?_
              refine mx_zretK rfl dX0_isGrade_15 (Or.inl rfl) ?_
              refine mx_if_ne (tgt := 31) dX0_grading_22 rfl (fun _ => absurd ‹_› (by decide)) (fun _ => ?_)
              refine mx_aload_n dX0_grading_25 rfl rfl ?_
              refine mx_iconst dX0_grading_26 ic_2 ?_
              refine mx_callV 0 (y' := mi_X0_is) (vs := [iv (2 : Int32)]) (st := []) (al' := [some (rv a0), some (iv (2 : Int32))]) cl_0 V_X0_is (Or.inl q664) dX0_grading_27 rfl rfl (Nat.le_of_ble_eq_true rfl) (Nat.le_of_ble_eq_true rfl) (ly0_k La0_h) ?_
              refine mx_aload_n dX0_is_0 rfl rfl ?_
              refine mx_iload_n dX0_is_1 rfl rfl ?_
              refine mx_putI 0 20 (ref := "PrairiePool") cl_0 (Nat.le_of_ble_eq_true rfl) (Or.inl q480) (Or.inl rfl) dX0_is_2 (Or.inl rfl) rfl (ly0_k La0_h) ?_
              refine mx_nmI  (fun h13 eh13 Xh13 Kh13 Lh13 => ?_)
              have H := H h13 eh13 Xh13
              have La0_h13 := La0_h.ext Xh13
              refine mx_iload_n dX0_is_5 rfl rfl ?_
              refine mx_if_ne (tgt := 13) dX0_is_6 rfl (fun _ => ?_) (fun _ => absurd ‹_› (by decide))
              refine mx_iconst dX0_is_13 ic_0 ?_
              refine mx_zretK rfl dX0_is_14 (Or.inl rfl) ?_
              exact mx_zret rfl dX0_grading_30 (Or.inl rfl) H
            · have H := H.2 c12
              refine mx_iload_n dX0_isGrade_4 rfl rfl ?_
              refine mx_bipush dX0_isGrade_5 ib_6 ?_
              refine mx_icmp_ge (tgt := 14) dX0_isGrade_7 rfl (fun c14 => ?_) (fun c14 => ?_)
              · have H := H.1 c14
                refine mx_iconst dX0_isGrade_14 ic_0 ?_
                refine mx_zretK rfl dX0_isGrade_15 (Or.inl rfl) ?_
                refine mx_if_ne (tgt := 31) dX0_grading_22 rfl (fun _ => absurd ‹_› (by decide)) (fun _ => ?_)
                refine mx_aload_n dX0_grading_25 rfl rfl ?_
                refine mx_iconst dX0_grading_26 ic_2 ?_
                refine mx_callV 0 (y' := mi_X0_is) (vs := [iv (2 : Int32)]) (st := []) (al' := [some (rv a0), some (iv (2 : Int32))]) cl_0 V_X0_is (Or.inl q664) dX0_grading_27 rfl rfl (Nat.le_of_ble_eq_true rfl) (Nat.le_of_ble_eq_true rfl) (ly0_k La0_h) ?_
                refine mx_aload_n dX0_is_0 rfl rfl ?_
                refine mx_iload_n dX0_is_1 rfl rfl ?_
                refine mx_putI 0 20 (ref := "PrairiePool") cl_0 (Nat.le_of_ble_eq_true rfl) (Or.inl q480) (Or.inl rfl) dX0_is_2 (Or.inl rfl) rfl (ly0_k La0_h) ?_
                refine mx_nmI  (fun h15 eh15 Xh15 Kh15 Lh15 => ?_)
                have H := H h15 eh15 Xh15
                have La0_h15 := La0_h.ext Xh15
                refine mx_iload_n dX0_is_5 rfl rfl ?_
                refine mx_if_ne (tgt := 13) dX0_is_6 rfl (fun _ => ?_) (fun _ => absurd ‹_› (by decide))
                refine mx_iconst dX0_is_13 ic_0 ?_
                refine mx_zretK rfl dX0_is_14 (Or.inl rfl) ?_
                exact mx_zret rfl dX0_grading_30 (Or.inl rfl) H
              · have H := H.2 c14
                refine mx_iconst dX0_isGrade_10 ic_1 ?_
                refine mx_goto (tgt := 15) dX0_isGrade_11 rfl ?_
                refine mx_zretK rfl dX0_isGrade_15 (Or.inr rfl) ?_
                refine mx_if_ne (tgt := 31) dX0_grading_22 rfl (fun _ => ?_) (fun _ => absurd ‹_› (by decide))
                refine mx_iload dX0_grading_31 rfl ?_
                refine mx_callS (y' := mi_X0_isWeek) (vs := [iv x4]) (st := []) (al' := [some (iv x4)]) S_X0_isWeek q841 dX0_grading_33 rfl rfl (Nat.le_of_ble_eq_true rfl) (Nat.le_of_ble_eq_true rfl) ?_
                refine mx_iload_n dX0_isWeek_0 rfl rfl ?_
                refine mx_if_lt (tgt := 15) dX0_isWeek_1 rfl (fun c16 => ?_) (fun c16 => ?_)
                · have H := H.1 c16
                  refine mx_iconst dX0_isWeek_15 ic_0 ?_
                  refine mx_zretK rfl dX0_isWeek_16 (Or.inl rfl) ?_
                  refine mx_if_ne (tgt := 45) dX0_grading_36 rfl (fun _ => absurd ‹_› (by decide)) (fun _ => ?_)
                  refine mx_aload_n dX0_grading_39 rfl rfl ?_
                  refine mx_iconst dX0_grading_40 ic_5 ?_
                  refine mx_callV 0 (y' := mi_X0_is) (vs := [iv (5 : Int32)]) (st := []) (al' := [some (rv a0), some (iv (5 : Int32))]) cl_0 V_X0_is (Or.inl q664) dX0_grading_41 rfl rfl (Nat.le_of_ble_eq_true rfl) (Nat.le_of_ble_eq_true rfl) (ly0_k La0_h) ?_
                  refine mx_aload_n dX0_is_0 rfl rfl ?_
                  refine mx_iload_n dX0_is_1 rfl rfl ?_
                  refine mx_putI 0 20 (ref := "PrairiePool") cl_0 (Nat.le_of_ble_eq_true rfl) (Or.inl q480) (Or.inl rfl) dX0_is_2 (Or.inl rfl) rfl (ly0_k La0_h) ?_
                  refine mx_nmI  (fun h17 eh17 Xh17 Kh17 Lh17 => ?_)
                  have H := H h17 eh17 Xh17
                  have La0_h17 := La0_h.ext Xh17
                  refine mx_iload_n dX0_is_5 rfl rfl ?_
                  refine mx_if_ne (tgt := 13) dX0_is_6 rfl (fun _ => ?_) (fun _ => absurd ‹_› (by decide))
                  refine mx_iconst dX0_is_13 ic_0 ?_
                  refine mx_zretK rfl dX0_is_14 (Or.inl rfl) ?_
                  exact mx_zret rfl dX0_grading_44 (Or.inl rfl) H
                · have H := H.2 c16
                  refine mx_iload_n dX0_isWeek_4 rfl rfl ?_
                  refine mx_sipush dX0_isWeek_5 is_520 ?_
                  refine mx_icmp_ge (tgt := 15) dX0_isWeek_8 rfl (fun c18 => ?_) (fun c18 => ?_)
                  · have H := H.1 c18
                    refine mx_iconst dX0_isWeek_15 ic_0 ?_
                    refine mx_zretK rfl dX0_isWeek_16 (Or.inl rfl) ?_
                    refine mx_if_ne (tgt := 45) dX0_grading_36 rfl (fun _ => absurd ‹_› (by decide)) (fun _ => ?_)
                    refine mx_aload_n dX0_grading_39 rfl rfl ?_
                    refine mx_iconst dX0_grading_40 ic_5 ?_
                    refine mx_callV 0 (y' := mi_X0_is) (vs := [iv (5 : Int32)]) (st := []) (al' := [some (rv a0), some (iv (5 : Int32))]) cl_0 V_X0_is (Or.inl q664) dX0_grading_41 rfl rfl (Nat.le_of_ble_eq_true rfl) (Nat.le_of_ble_eq_true rfl) (ly0_k La0_h) ?_
                    refine mx_aload_n dX0_is_0 rfl rfl ?_
                    refine mx_iload_n dX0_is_1 rfl rfl ?_
                    refine mx_putI 0 20 (ref := "PrairiePool") cl_0 (Nat.le_of_ble_eq_true rfl) (Or.inl q480) (Or.inl rfl) dX0_is_2 (Or.inl rfl) rfl (ly0_k La0_h) ?_
                    refine mx_nmI  (fun h19 eh19 Xh19 Kh19 Lh19 => ?_)
                    have H := H h19 eh19 Xh19
                    have La0_h19 := La0_h.ext Xh19
                    refine mx_iload_n dX0_is_5 rfl rfl ?_
                    refine mx_if_ne (tgt := 13) dX0_is_6 rfl (fun _ => ?_) (fun _ => absurd ‹_› (by decide))
                    refine mx_iconst dX0_is_13 ic_0 ?_
                    refine mx_zretK rfl dX0_is_14 (Or.inl rfl) ?_
                    exact mx_zret rfl dX0_grading_44 (Or.inl rfl) H
                  · have H := H.2 c18
                    refine mx_iconst dX0_isWeek_11 ic_1 ?_
                    refine mx_goto (tgt := 16) dX0_isWeek_12 rfl ?_
                    refine mx_zretK rfl dX0_isWeek_16 (Or.inr rfl) ?_
                    refine mx_if_ne (tgt := 45) dX0_grading_36 rfl (fun _ => ?_) (fun _ => absurd ‹_› (by decide))
                    refine mx_aload_n dX0_grading_45 rfl rfl ?_
                    refine mx_get 0 17 (ref := "PrairiePool") cl_0 (Nat.le_of_ble_eq_true rfl) (Or.inl q477) (Or.inl rfl) dX0_grading_46 (fv_0_17 _ _) (ly0_k La0_h) ?_
                    refine mx_bipush dX0_grading_49 ib_100 ?_
                    refine mx_icmp_ne (tgt := 61) dX0_grading_51 rfl (fun c20 => ?_) (fun c20 => ?_)
                    · have H := H.1 c20
                      refine mx_iload dX0_grading_61 rfl ?_
                      refine mx_aload_n dX0_grading_63 rfl rfl ?_
                      refine mx_get 0 19 (ref := "PrairiePool") cl_0 (Nat.le_of_ble_eq_true rfl) (Or.inl q479) (Or.inl rfl) dX0_grading_64 (fv_0_19 _ _) (ly0_k La0_h) ?_
                      refine mx_icmp_ge (tgt := 77) dX0_grading_67 rfl (fun c21 => ?_) (fun c21 => ?_)
                      · have H := H.1 c21
                        refine mx_aload_n dX0_grading_77 rfl rfl ?_
                        refine mx_iload dX0_grading_78 rfl ?_
                        refine mx_putI 0 19 (ref := "PrairiePool") cl_0 (Nat.le_of_ble_eq_true rfl) (Or.inl q479) (Or.inl rfl) dX0_grading_80 (Or.inl rfl) rfl (ly0_k La0_h) ?_
                        refine mx_nmI  (fun h22 eh22 Xh22 Kh22 Lh22 => ?_)
                        have H := H h22 eh22 Xh22
                        have La0_h22 := La0_h.ext Xh22
                        refine mx_aload_n dX0_grading_83 rfl rfl ?_
                        refine mx_get 0 4 (ref := "PrairiePool") cl_0 (Nat.le_of_ble_eq_true rfl) (Or.inl q464) (Or.inl rfl) dX0_grading_84 (fv_0_4 _ _) (ly0_k La0_h22) ?_
                        refine mx_tr (ly0_R_0_4 La0_h22) ?_
                        refine mx_aload_n dX0_grading_87 rfl rfl ?_
                        refine mx_get 0 17 (ref := "PrairiePool") cl_0 (Nat.le_of_ble_eq_true rfl) (Or.inl q477) (Or.inl rfl) dX0_grading_88 (fv_0_17 _ _) (ly0_k La0_h22) ?_
                        refine mx_ti (ah_skIK eh22 (by decide)) ?_
                        refine mx_iload_n dX0_grading_91 rfl rfl ?_
                        obtain ⟨k23, H⟩ := H
                        refine my_iast dX0_grading_92 rfl (ly0_A_5 La0_h22 k23) ?_
                        refine mx_nmI  (fun h24 eh24 Xh24 Kh24 Lh24 => ?_)
                        have H := H h24 eh24 Xh24
                        have Kh24 := Kh24.trans Kh22
                        have Lh24 := Lh24.trans Lh22
                        have La0_h24 := La0_h22.ext Xh24
                        refine mx_aload_n dX0_grading_93 rfl rfl ?_
                        refine mx_get 0 5 (ref := "PrairiePool") cl_0 (Nat.le_of_ble_eq_true rfl) (Or.inl q465) (Or.inl rfl) dX0_grading_94 (fv_0_5 _ _) (ly0_k La0_h24) ?_
                        refine mx_tr (ly0_R_0_5 La0_h24) ?_
                        refine mx_aload_n dX0_grading_97 rfl rfl ?_
                        refine mx_get 0 17 (ref := "PrairiePool") cl_0 (Nat.le_of_ble_eq_true rfl) (Or.inl q477) (Or.inl rfl) dX0_grading_98 (fv_0_17 _ _) (ly0_k La0_h24) ?_
                        refine mx_ti ((ah_skIA eh24 (by omega)).trans (ah_skIK eh22 (by decide))) ?_
                        refine mx_iload_n dX0_grading_101 rfl rfl ?_
                        refine my_iast dX0_grading_102 rfl (ly0_A_6 La0_h24 k23) ?_
                        refine mx_nmI  (fun h25 eh25 Xh25 Kh25 Lh25 => ?_)
                        have H := H h25 eh25 Xh25
                        have Kh25 := Kh25.trans Kh24
                        have Lh25 := Lh25.trans Lh24
                        have La0_h25 := La0_h24.ext Xh25
                        refine mx_aload_n dX0_grading_103 rfl rfl ?_
                        refine mx_get 0 6 (ref := "PrairiePool") cl_0 (Nat.le_of_ble_eq_true rfl) (Or.inl q466) (Or.inl rfl) dX0_grading_104 (fv_0_6 _ _) (ly0_k La0_h25) ?_
                        refine mx_tr (ly0_R_0_6 La0_h25) ?_
                        refine mx_aload_n dX0_grading_107 rfl rfl ?_
                        refine mx_get 0 17 (ref := "PrairiePool") cl_0 (Nat.le_of_ble_eq_true rfl) (Or.inl q477) (Or.inl rfl) dX0_grading_108 (fv_0_17 _ _) (ly0_k La0_h25) ?_
                        refine mx_ti (((ah_skIA eh25 (by omega)).trans (ah_skIA eh24 (by omega))).trans (ah_skIK eh22 (by decide))) ?_
                        refine mx_iload_n dX0_grading_111 rfl rfl ?_
                        refine my_iast dX0_grading_112 rfl (ly0_A_7 La0_h25 k23) ?_
                        refine mx_nmI  (fun h26 eh26 Xh26 Kh26 Lh26 => ?_)
                        have H := H h26 eh26 Xh26
                        have Kh26 := Kh26.trans Kh25
                        have Lh26 := Lh26.trans Lh25
                        have La0_h26 := La0_h25.ext Xh26
                        refine mx_aload_n dX0_grading_113 rfl rfl ?_
                        refine mx_get 0 7 (ref := "PrairiePool") cl_0 (Nat.le_of_ble_eq_true rfl) (Or.inl q467) (Or.inl rfl) dX0_grading_114 (fv_0_7 _ _) (ly0_k La0_h26) ?_
                        refine mx_tr (ly0_R_0_7 La0_h26) ?_
                        refine mx_aload_n dX0_grading_117 rfl rfl ?_
                        refine mx_get 0 17 (ref := "PrairiePool") cl_0 (Nat.le_of_ble_eq_true rfl) (Or.inl q477) (Or.inl rfl) dX0_grading_118 (fv_0_17 _ _) (ly0_k La0_h26) ?_
                        refine mx_ti ((((ah_skIA eh26 (by omega)).trans (ah_skIA eh25 (by omega))).trans (ah_skIA eh24 (by omega))).trans (ah_skIK eh22 (by decide))) ?_
                        refine mx_iload dX0_grading_121 rfl ?_
                        refine my_iast dX0_grading_123 rfl (ly0_A_8 La0_h26 k23) ?_
                        refine mx_nmI  (fun h27 eh27 Xh27 Kh27 Lh27 => ?_)
                        have H := H h27 eh27 Xh27
                        have Kh27 := Kh27.trans Kh26
                        have Lh27 := Lh27.trans Lh26
                        have La0_h27 := La0_h26.ext Xh27
                        refine mx_aload_n dX0_grading_124 rfl rfl ?_
                        refine mx_dup_r dX0_grading_125 ?_
                        refine mx_get 0 17 (ref := "PrairiePool") cl_0 (Nat.le_of_ble_eq_true rfl) (Or.inl q477) (Or.inl rfl) dX0_grading_126 (fv_0_17 _ _) (ly0_k La0_h27) ?_
                        refine mx_ti (((((ah_skIA eh27 (by omega)).trans (ah_skIA eh26 (by omega))).trans (ah_skIA eh25 (by omega))).trans (ah_skIA eh24 (by omega))).trans (ah_skIK eh22 (by decide))) ?_
                        refine mx_iconst dX0_grading_129 ic_1 ?_
                        refine mx_iadd dX0_grading_130 ?_
                        refine mx_putI 0 17 (ref := "PrairiePool") cl_0 (Nat.le_of_ble_eq_true rfl) (Or.inl q477) (Or.inl rfl) dX0_grading_131 (Or.inl rfl) rfl (ly0_k La0_h27) ?_
                        refine mx_nmI  (fun h28 eh28 Xh28 Kh28 Lh28 => ?_)
                        have H := H h28 eh28 Xh28
                        have Kh28 := Kh28.trans Kh27
                        have Lh28 := Lh28.trans Lh27
                        have La0_h28 := La0_h27.ext Xh28
                        refine mx_aload_n dX0_grading_134 rfl rfl ?_
                        refine mx_iconst dX0_grading_135 ic_0 ?_
                        refine mx_callV 0 (y' := mi_X0_is) (vs := [iv (0 : Int32)]) (st := []) (al' := [some (rv a0), some (iv (0 : Int32))]) cl_0 V_X0_is (Or.inl q664) dX0_grading_136 rfl rfl (Nat.le_of_ble_eq_true rfl) (Nat.le_of_ble_eq_true rfl) (ly0_k La0_h28) ?_
                        refine mx_aload_n dX0_is_0 rfl rfl ?_
                        refine mx_iload_n dX0_is_1 rfl rfl ?_
                        refine mx_putI 0 20 (ref := "PrairiePool") cl_0 (Nat.le_of_ble_eq_true rfl) (Or.inl q480) (Or.inl rfl) dX0_is_2 (Or.inl rfl) rfl (ly0_k La0_h28) ?_
                        refine mx_nmI  (fun h29 eh29 Xh29 Kh29 Lh29 => ?_)
                        have H := H h29 eh29 Xh29
                        have Kh29 := Kh29.trans Kh28
                        have Lh29 := Lh29.trans Lh28
                        have La0_h29 := La0_h28.ext Xh29
                        refine mx_iload_n dX0_is_5 rfl rfl ?_
                        refine mx_if_ne (tgt := 13) dX0_is_6 rfl (fun _ => absurd ‹_› (by decide)) (fun _ => ?_)
                        refine mx_iconst dX0_is_9 ic_1 ?_
                        refine mx_goto (tgt := 14) dX0_is_10 rfl ?_
                        refine mx_zretK rfl dX0_is_14 (Or.inr rfl) ?_
                        exact mx_zret rfl dX0_grading_139 (Or.inr rfl) H
                      · have H := H.2 c21
                        refine mx_aload_n dX0_grading_70 rfl rfl ?_
                        refine mx_bipush dX0_grading_71 ib_12 ?_
                        refine mx_callV 0 (y' := mi_X0_is) (vs := [iv (12 : Int32)]) (st := []) (al' := [some (rv a0), some (iv (12 : Int32))]) cl_0 V_X0_is (Or.inl q664) dX0_grading_73 rfl rfl (Nat.le_of_ble_eq_true rfl) (Nat.le_of_ble_eq_true rfl) (ly0_k La0_h) ?_
                        refine mx_aload_n dX0_is_0 rfl rfl ?_
                        refine mx_iload_n dX0_is_1 rfl rfl ?_
                        refine mx_putI 0 20 (ref := "PrairiePool") cl_0 (Nat.le_of_ble_eq_true rfl) (Or.inl q480) (Or.inl rfl) dX0_is_2 (Or.inl rfl) rfl (ly0_k La0_h) ?_
                        refine mx_nmI  (fun h30 eh30 Xh30 Kh30 Lh30 => ?_)
                        have H := H h30 eh30 Xh30
                        have La0_h30 := La0_h.ext Xh30
                        refine mx_iload_n dX0_is_5 rfl rfl ?_
                        refine mx_if_ne (tgt := 13) dX0_is_6 rfl (fun _ => ?_) (fun _ => absurd ‹_› (by decide))
                        refine mx_iconst dX0_is_13 ic_0 ?_
                        refine mx_zretK rfl dX0_is_14 (Or.inl rfl) ?_
                        exact mx_zret rfl dX0_grading_76 (Or.inl rfl) H
                    · have H := H.2 c20
                      refine mx_aload_n dX0_grading_54 rfl rfl ?_
                      refine mx_bipush dX0_grading_55 ib_7 ?_
                      refine mx_callV 0 (y' := mi_X0_is) (vs := [iv (7 : Int32)]) (st := []) (al' := [some (rv a0), some (iv (7 : Int32))]) cl_0 V_X0_is (Or.inl q664) dX0_grading_57 rfl rfl (Nat.le_of_ble_eq_true rfl) (Nat.le_of_ble_eq_true rfl) (ly0_k La0_h) ?_
                      refine mx_aload_n dX0_is_0 rfl rfl ?_
                      refine mx_iload_n dX0_is_1 rfl rfl ?_
                      refine mx_putI 0 20 (ref := "PrairiePool") cl_0 (Nat.le_of_ble_eq_true rfl) (Or.inl q480) (Or.inl rfl) dX0_is_2 (Or.inl rfl) rfl (ly0_k La0_h) ?_
                      refine mx_nmI  (fun h31 eh31 Xh31 Kh31 Lh31 => ?_)
                      have H := H h31 eh31 Xh31
                      have La0_h31 := La0_h.ext Xh31
                      refine mx_iload_n dX0_is_5 rfl rfl ?_
                      refine mx_if_ne (tgt := 13) dX0_is_6 rfl (fun _ => ?_) (fun _ => absurd ‹_› (by decide))
                      refine mx_iconst dX0_is_13 ic_0 ?_
                      refine mx_zretK rfl dX0_is_14 (Or.inl rfl) ?_
                      exact mx_zret rfl dX0_grading_60 (Or.inl rfl) H
      · have H := H.2 c7
        refine mx_if_eq (tgt := 28) dX0_isLoad_21 rfl (fun _ => ?_) (fun _ => absurd ‹_› (by decide))
        refine mx_iconst dX0_isLoad_28 ic_0 ?_
        refine mx_zretK rfl dX0_isLoad_29 (Or.inl rfl) ?_
        refine mx_if_eq (tgt := 25) dX0_grading_5 rfl (fun _ => ?_) (fun _ => absurd ‹_› (by decide))
        refine mx_aload_n dX0_grading_25 rfl rfl ?_
        refine mx_iconst dX0_grading_26 ic_2 ?_
        refine mx_callV 0 (y' := mi_X0_is) (vs := [iv (2 : Int32)]) (st := []) (al' := [some (rv a0), some (iv (2 : Int32))]) cl_0 V_X0_is (Or.inl q664) dX0_grading_27 rfl rfl (Nat.le_of_ble_eq_true rfl) (Nat.le_of_ble_eq_true rfl) (ly0_k La0_h) ?_
        refine mx_aload_n dX0_is_0 rfl rfl ?_
        refine mx_iload_n dX0_is_1 rfl rfl ?_
        refine mx_putI 0 20 (ref := "PrairiePool") cl_0 (Nat.le_of_ble_eq_true rfl) (Or.inl q480) (Or.inl rfl) dX0_is_2 (Or.inl rfl) rfl (ly0_k La0_h) ?_
        refine mx_nmI  (fun h32 eh32 Xh32 Kh32 Lh32 => ?_)
        have H := H h32 eh32 Xh32
        have La0_h32 := La0_h.ext Xh32
        refine mx_iload_n dX0_is_5 rfl rfl ?_
        refine mx_if_ne (tgt := 13) dX0_is_6 rfl (fun _ => ?_) (fun _ => absurd ‹_› (by decide))
        refine mx_iconst dX0_is_13 ic_0 ?_
        refine mx_zretK rfl dX0_is_14 (Or.inl rfl) ?_
        exact mx_zret rfl dX0_grading_30 (Or.inl rfl) H
theorem v_X0_isLoad {G : ma_G} {d : Nat} {a0 : Nat} {x1 : Int32} {h : ah_T} {Q : Option ma_V → ah_T → Prop} {E : Nat → ah_T → Prop} (La0_h : LY0 h a0) (H : (x1 < 0 → Q (some (iv (0 : Int32))) h) ∧ (¬ x1 < 0 → ((ah_I h a0 16) ≤ x1 → Q (some (iv (0 : Int32))) h) ∧ (¬ (ah_I h a0 16) ≤ x1 → vp_in x1 120 ∧ ma_ks h (ah_R h (a0 + 4) x1.toNatClampNeg) [11, 12, 13, 14] ∧ ((ah_kd h (ah_R h (a0 + 4) x1.toNatClampNeg) = 12 → Q (some (iv (1 : Int32))) h) ∧ (¬ ah_kd h (ah_R h (a0 + 4) x1.toNatClampNeg) = 12 → Q (some (iv (0 : Int32))) h))))) : MX G mi_X0_isLoad d 0 [some (rv a0), some (iv x1)] [] h Q E := by
  refine mx_iload_n dX0_isLoad_0 rfl rfl ?_
  refine mx_if_lt (tgt := 28) dX0_isLoad_1 rfl (fun c1 => ?_) (fun c1 => ?_)
  · have H := H.1 c1
    refine mx_iconst dX0_isLoad_28 ic_0 ?_
    exact mx_zret rfl dX0_isLoad_29 (Or.inl rfl) H
  · have H := H.2 c1
    refine mx_iload_n dX0_isLoad_4 rfl rfl ?_
    refine mx_aload_n dX0_isLoad_5 rfl rfl ?_
    refine mx_get 0 16 (ref := "PrairiePool") cl_0 (Nat.le_of_ble_eq_true rfl) (Or.inl q476) (Or.inl rfl) dX0_isLoad_6 (fv_0_16 _ _) (ly0_k La0_h) ?_
    refine mx_icmp_ge (tgt := 28) dX0_isLoad_9 rfl (fun c2 => ?_) (fun c2 => ?_)
    · have H := H.1 c2
      refine mx_iconst dX0_isLoad_28 ic_0 ?_
      exact mx_zret rfl dX0_isLoad_29 (Or.inl rfl) H
    · have H := H.2 c2
      refine mx_aload_n dX0_isLoad_12 rfl rfl ?_
      refine mx_get 0 3 (ref := "PrairiePool") cl_0 (Nat.le_of_ble_eq_true rfl) (Or.inl q463) (Or.inl rfl) dX0_isLoad_13 (fv_0_3 _ _) (ly0_k La0_h) ?_
      refine mx_tr (ly0_R_0_3 La0_h) ?_
      refine mx_iload_n dX0_isLoad_16 rfl rfl ?_
      obtain ⟨k3, H⟩ := H
      refine my_aald 8 dX0_isLoad_17 (by decide) rfl (ly0_A_4 La0_h k3) ?_
      obtain ⟨k4, H⟩ := H
      refine mx_instL q844 dX0_isLoad_18 k4 (fun c5 => ?_) (fun c5 => ?_)
      · have H := H.1 c5
        refine mx_if_eq (tgt := 28) dX0_isLoad_21 rfl (fun _ => absurd ‹_› (by decide)) (fun _ => ?_)
        refine mx_iconst dX0_isLoad_24 ic_1 ?_
        refine mx_goto (tgt := 29) dX0_isLoad_25 rfl ?_
        exact mx_zret rfl dX0_isLoad_29 (Or.inr rfl) H
      · have H := H.2 c5
        refine mx_if_eq (tgt := 28) dX0_isLoad_21 rfl (fun _ => ?_) (fun _ => absurd ‹_› (by decide))
        refine mx_iconst dX0_isLoad_28 ic_0 ?_
        exact mx_zret rfl dX0_isLoad_29 (Or.inl rfl) H
theorem dX0_grade_0 : decode mi_X0_grade.2.1 0 = .ok (.aload_n 0, 1) := by decide +kernel
theorem dX0_grade_1 : decode mi_X0_grade.2.1 1 = .ok (.iload_n 1, 1) := by decide +kernel
theorem dX0_grade_2 : decode mi_X0_grade.2.1 2 = .ok (.invokevirtual 320, 3) := by decide +kernel
theorem dX0_grade_5 : decode mi_X0_grade.2.1 5 = .ok (.ifCond .ne 9, 3) := by decide +kernel
theorem dX0_grade_8 : decode mi_X0_grade.2.1 8 = .ok (.aload_n 0, 1) := by decide +kernel
theorem dX0_grade_9 : decode mi_X0_grade.2.1 9 = .ok (.iconst 2, 1) := by decide +kernel
theorem dX0_grade_10 : decode mi_X0_grade.2.1 10 = .ok (.invokevirtual 205, 3) := by decide +kernel
theorem dX0_grade_13 : decode mi_X0_grade.2.1 13 = .ok (.ireturn, 1) := by decide +kernel
theorem dX0_grade_14 : decode mi_X0_grade.2.1 14 = .ok (.iload_n 2, 1) := by decide +kernel
theorem dX0_grade_15 : decode mi_X0_grade.2.1 15 = .ok (.invokestatic 260, 3) := by decide +kernel
theorem dX0_grade_18 : decode mi_X0_grade.2.1 18 = .ok (.ifCond .ne 9, 3) := by decide +kernel
theorem dX0_grade_21 : decode mi_X0_grade.2.1 21 = .ok (.aload_n 0, 1) := by decide +kernel
theorem dX0_grade_22 : decode mi_X0_grade.2.1 22 = .ok (.iconst 5, 1) := by decide +kernel
theorem dX0_grade_23 : decode mi_X0_grade.2.1 23 = .ok (.invokevirtual 205, 3) := by decide +kernel
theorem dX0_grade_26 : decode mi_X0_grade.2.1 26 = .ok (.ireturn, 1) := by decide +kernel
theorem dX0_grade_27 : decode mi_X0_grade.2.1 27 = .ok (.aload_n 0, 1) := by decide +kernel
theorem dX0_grade_28 : decode mi_X0_grade.2.1 28 = .ok (.getfield 29, 3) := by decide +kernel
theorem dX0_grade_31 : decode mi_X0_grade.2.1 31 = .ok (.iload_n 1, 1) := by decide +kernel
theorem dX0_grade_32 : decode mi_X0_grade.2.1 32 = .ok (.aaload, 1) := by decide +kernel
theorem dX0_grade_33 : decode mi_X0_grade.2.1 33 = .ok (.getfield 272, 3) := by decide +kernel
theorem dX0_grade_36 : decode mi_X0_grade.2.1 36 = .ok (.iload_n 2, 1) := by decide +kernel
theorem dX0_grade_37 : decode mi_X0_grade.2.1 37 = .ok (.if_icmp .le 12, 3) := by decide +kernel
theorem dX0_grade_40 : decode mi_X0_grade.2.1 40 = .ok (.aload_n 0, 1) := by decide +kernel
theorem dX0_grade_41 : decode mi_X0_grade.2.1 41 = .ok (.bipush 8, 2) := by decide +kernel
theorem dX0_grade_43 : decode mi_X0_grade.2.1 43 = .ok (.invokevirtual 205, 3) := by decide +kernel
theorem dX0_grade_46 : decode mi_X0_grade.2.1 46 = .ok (.goto 13, 3) := by decide +kernel
theorem dX0_grade_49 : decode mi_X0_grade.2.1 49 = .ok (.aload_n 0, 1) := by decide +kernel
theorem dX0_grade_50 : decode mi_X0_grade.2.1 50 = .ok (.aload_n 0, 1) := by decide +kernel
theorem dX0_grade_51 : decode mi_X0_grade.2.1 51 = .ok (.iload_n 1, 1) := by decide +kernel
theorem dX0_grade_52 : decode mi_X0_grade.2.1 52 = .ok (.iload_n 2, 1) := by decide +kernel
theorem dX0_grade_53 : decode mi_X0_grade.2.1 53 = .ok (.invokevirtual 365, 3) := by decide +kernel
theorem dX0_grade_56 : decode mi_X0_grade.2.1 56 = .ok (.invokevirtual 250, 3) := by decide +kernel
theorem dX0_grade_59 : decode mi_X0_grade.2.1 59 = .ok (.ireturn, 1) := by decide +kernel
theorem v_X0_grade {G : ma_G} {d : Nat} {a0 : Nat} {x1 : Int32} {x2 : Int32} {h : ah_T} {Q : Option ma_V → ah_T → Prop} {E : Nat → ah_T → Prop} (La0_h : LY0 h a0) (H : (x1 < 0 → ∀ h2 : ah_T, h2 = ah_wI h a0 20 (2 : Int32) → ah_ext h h2 → Q (some (iv (-1 : Int32))) h2) ∧ (¬ x1 < 0 → ((ah_I h a0 16) ≤ x1 → ∀ h4 : ah_T, h4 = ah_wI h a0 20 (2 : Int32) → ah_ext h h4 → Q (some (iv (-1 : Int32))) h4) ∧ (¬ (ah_I h a0 16) ≤ x1 → vp_in x1 120 ∧ ma_ks h (ah_R h (a0 + 4) x1.toNatClampNeg) [11, 12, 13, 14] ∧ ((ah_kd h (ah_R h (a0 + 4) x1.toNatClampNeg) = 12 → (x2 < 0 → ∀ h9 : ah_T, h9 = ah_wI h a0 20 (5 : Int32) → ah_ext h h9 → Q (some (iv (-1 : Int32))) h9) ∧ (¬ x2 < 0 → ((520 : Int32) ≤ x2 → ∀ h11 : ah_T, h11 = ah_wI h a0 20 (5 : Int32) → ah_ext h h11 → Q (some (iv (-1 : Int32))) h11) ∧ (¬ (520 : Int32) ≤ x2 → ((ah_I h (ah_R h (a0 + 4) x1.toNatClampNeg) 1) ≤ x2 → MX G mi_X0_gradeOf d 0 [some (rv a0), some (iv x1), some (iv x2), none, none, none, none, none, none, none, none] [] h (Qi fun r14 h13 => ah_ext h h13 → ∀ h17 : ah_T, h17 = ah_wI h13 a0 20 (0 : Int32) → ah_ext h13 h17 → Q (some (iv r14)) h17) E) ∧ (¬ (ah_I h (ah_R h (a0 + 4) x1.toNatClampNeg) 1) ≤ x2 → ∀ h18 : ah_T, h18 = ah_wI h a0 20 (8 : Int32) → ah_ext h h18 → Q (some (iv (-1 : Int32))) h18)))) ∧ (¬ ah_kd h (ah_R h (a0 + 4) x1.toNatClampNeg) = 12 → ∀ h19 : ah_T, h19 = ah_wI h a0 20 (2 : Int32) → ah_ext h h19 → Q (some (iv (-1 : Int32))) h19))))) : MX G mi_X0_grade (d + 1) 0 [some (rv a0), some (iv x1), some (iv x2)] [] h Q E := by
  refine mx_aload_n dX0_grade_0 rfl rfl ?_
  refine mx_iload_n dX0_grade_1 rfl rfl ?_
  refine mx_callV 0 (y' := mi_X0_isLoad) (vs := [iv x1]) (st := []) (al' := [some (rv a0), some (iv x1)]) cl_0 V_X0_isLoad (Or.inl q981) dX0_grade_2 rfl rfl (Nat.le_of_ble_eq_true rfl) (Nat.le_of_ble_eq_true rfl) (ly0_k La0_h) ?_
  refine mx_iload_n dX0_isLoad_0 rfl rfl ?_
  refine mx_if_lt (tgt := 28) dX0_isLoad_1 rfl (fun c1 => ?_) (fun c1 => ?_)
  · have H := H.1 c1
    refine mx_iconst dX0_isLoad_28 ic_0 ?_
    refine mx_zretK rfl dX0_isLoad_29 (Or.inl rfl) ?_
    refine mx_if_ne (tgt := 14) dX0_grade_5 rfl (fun _ => absurd ‹_› (by decide)) (fun _ => ?_)
    refine mx_aload_n dX0_grade_8 rfl rfl ?_
    refine mx_iconst dX0_grade_9 ic_2 ?_
    refine mx_callV 0 (y' := mi_X0_none) (vs := [iv (2 : Int32)]) (st := []) (al' := [some (rv a0), some (iv (2 : Int32))]) cl_0 V_X0_none (Or.inl q733) dX0_grade_10 rfl rfl (Nat.le_of_ble_eq_true rfl) (Nat.le_of_ble_eq_true rfl) (ly0_k La0_h) ?_
    refine mx_aload_n dX0_none_0 rfl rfl ?_
    refine mx_iload_n dX0_none_1 rfl rfl ?_
    refine mx_putI 0 20 (ref := "PrairiePool") cl_0 (Nat.le_of_ble_eq_true rfl) (Or.inl q480) (Or.inl rfl) dX0_none_2 (Or.inl rfl) rfl (ly0_k La0_h) ?_
    refine mx_nmI  (fun h2 eh2 Xh2 Kh2 Lh2 => ?_)
    have H := H h2 eh2 Xh2
    have La0_h2 := La0_h.ext Xh2
    refine mx_iconst dX0_none_5 ic_m1 ?_
    refine mx_iretK rfl dX0_none_6 ?_
    exact mx_iret rfl dX0_grade_13 H
  · have H := H.2 c1
    refine mx_iload_n dX0_isLoad_4 rfl rfl ?_
    refine mx_aload_n dX0_isLoad_5 rfl rfl ?_
    refine mx_get 0 16 (ref := "PrairiePool") cl_0 (Nat.le_of_ble_eq_true rfl) (Or.inl q476) (Or.inl rfl) dX0_isLoad_6 (fv_0_16 _ _) (ly0_k La0_h) ?_
    refine mx_icmp_ge (tgt := 28) dX0_isLoad_9 rfl (fun c3 => ?_) (fun c3 => ?_)
    · have H := H.1 c3
      refine mx_iconst dX0_isLoad_28 ic_0 ?_
      refine mx_zretK rfl dX0_isLoad_29 (Or.inl rfl) ?_
      refine mx_if_ne (tgt := 14) dX0_grade_5 rfl (fun _ => absurd ‹_› (by decide)) (fun _ => ?_)
      refine mx_aload_n dX0_grade_8 rfl rfl ?_
      refine mx_iconst dX0_grade_9 ic_2 ?_
      refine mx_callV 0 (y' := mi_X0_none) (vs := [iv (2 : Int32)]) (st := []) (al' := [some (rv a0), some (iv (2 : Int32))]) cl_0 V_X0_none (Or.inl q733) dX0_grade_10 rfl rfl (Nat.le_of_ble_eq_true rfl) (Nat.le_of_ble_eq_true rfl) (ly0_k La0_h) ?_
      refine mx_aload_n dX0_none_0 rfl rfl ?_
      refine mx_iload_n dX0_none_1 rfl rfl ?_
      refine mx_putI 0 20 (ref := "PrairiePool") cl_0 (Nat.le_of_ble_eq_true rfl) (Or.inl q480) (Or.inl rfl) dX0_none_2 (Or.inl rfl) rfl (ly0_k La0_h) ?_
      refine mx_nmI  (fun h4 eh4 Xh4 Kh4 Lh4 => ?_)
      have H := H h4 eh4 Xh4
      have La0_h4 := La0_h.ext Xh4
      refine mx_iconst dX0_none_5 ic_m1 ?_
      refine mx_iretK rfl dX0_none_6 ?_
      exact mx_iret rfl dX0_grade_13 H
    · have H := H.2 c3
      refine mx_aload_n dX0_isLoad_12 rfl rfl ?_
      refine mx_get 0 3 (ref := "PrairiePool") cl_0 (Nat.le_of_ble_eq_true rfl) (Or.inl q463) (Or.inl rfl) dX0_isLoad_13 (fv_0_3 _ _) (ly0_k La0_h) ?_
      refine mx_tr (ly0_R_0_3 La0_h) ?_
      refine mx_iload_n dX0_isLoad_16 rfl rfl ?_
      obtain ⟨k5, H⟩ := H
      refine my_aald 8 dX0_isLoad_17 (by decide) rfl (ly0_A_4 La0_h k5) ?_
      obtain ⟨k6, H⟩ := H
      refine mx_instL q844 dX0_isLoad_18 k6 (fun c7 => ?_) (fun c7 => ?_)
      · have H := H.1 c7
        refine mx_if_eq (tgt := 28) dX0_isLoad_21 rfl (fun _ => absurd ‹_› (by decide)) (fun _ => ?_)
        refine mx_iconst dX0_isLoad_24 ic_1 ?_
        refine mx_goto (tgt := 29) dX0_isLoad_25 rfl ?_
        refine mx_zretK rfl dX0_isLoad_29 (Or.inr rfl) ?_
        refine mx_if_ne (tgt := 14) dX0_grade_5 rfl (fun _ => ?_) (fun _ => absurd ‹_› (by decide))
        refine mx_iload_n dX0_grade_14 rfl rfl ?_
        refine mx_callS (y' := mi_X0_isWeek) (vs := [iv x2]) (st := []) (al' := [some (iv x2)]) S_X0_isWeek q841 dX0_grade_15 rfl rfl (Nat.le_of_ble_eq_true rfl) (Nat.le_of_ble_eq_true rfl) ?_
        refine mx_iload_n dX0_isWeek_0 rfl rfl ?_
        refine mx_if_lt (tgt := 15) dX0_isWeek_1 rfl (fun c8 => ?_) (fun c8 => ?_)
        · have H := H.1 c8
          refine mx_iconst dX0_isWeek_15 ic_0 ?_
          refine mx_zretK rfl dX0_isWeek_16 (Or.inl rfl) ?_
          refine mx_if_ne (tgt := 27) dX0_grade_18 rfl (fun _ => absurd ‹_› (by decide)) (fun _ => ?_)
          refine mx_aload_n dX0_grade_21 rfl rfl ?_
          refine mx_iconst dX0_grade_22 ic_5 ?_
          refine mx_callV 0 (y' := mi_X0_none) (vs := [iv (5 : Int32)]) (st := []) (al' := [some (rv a0), some (iv (5 : Int32))]) cl_0 V_X0_none (Or.inl q733) dX0_grade_23 rfl rfl (Nat.le_of_ble_eq_true rfl) (Nat.le_of_ble_eq_true rfl) (ly0_k La0_h) ?_
          refine mx_aload_n dX0_none_0 rfl rfl ?_
          refine mx_iload_n dX0_none_1 rfl rfl ?_
          refine mx_putI 0 20 (ref := "PrairiePool") cl_0 (Nat.le_of_ble_eq_true rfl) (Or.inl q480) (Or.inl rfl) dX0_none_2 (Or.inl rfl) rfl (ly0_k La0_h) ?_
          refine mx_nmI  (fun h9 eh9 Xh9 Kh9 Lh9 => ?_)
          have H := H h9 eh9 Xh9
          have La0_h9 := La0_h.ext Xh9
          refine mx_iconst dX0_none_5 ic_m1 ?_
          refine mx_iretK rfl dX0_none_6 ?_
          exact mx_iret rfl dX0_grade_26 H
        · have H := H.2 c8
          refine mx_iload_n dX0_isWeek_4 rfl rfl ?_
          refine mx_sipush dX0_isWeek_5 is_520 ?_
          refine mx_icmp_ge (tgt := 15) dX0_isWeek_8 rfl (fun c10 => ?_) (fun c10 => ?_)
          · have H := H.1 c10
            refine mx_iconst dX0_isWeek_15 ic_0 ?_
            refine mx_zretK rfl dX0_isWeek_16 (Or.inl rfl) ?_
            refine mx_if_ne (tgt := 27) dX0_grade_18 rfl (fun _ => absurd ‹_› (by decide)) (fun _ => ?_)
            refine mx_aload_n dX0_grade_21 rfl rfl ?_
            refine mx_iconst dX0_grade_22 ic_5 ?_
            refine mx_callV 0 (y' := mi_X0_none) (vs := [iv (5 : Int32)]) (st := []) (al' := [some (rv a0), some (iv (5 : Int32))]) cl_0 V_X0_none (Or.inl q733) dX0_grade_23 rfl rfl (Nat.le_of_ble_eq_true rfl) (Nat.le_of_ble_eq_true rfl) (ly0_k La0_h) ?_
            refine mx_aload_n dX0_none_0 rfl rfl ?_
            refine mx_iload_n dX0_none_1 rfl rfl ?_
            refine mx_putI 0 20 (ref := "PrairiePool") cl_0 (Nat.le_of_ble_eq_true rfl) (Or.inl q480) (Or.inl rfl) dX0_none_2 (Or.inl rfl) rfl (ly0_k La0_h) ?_
            refine mx_nmI  (fun h11 eh11 Xh11 Kh11 Lh11 => ?_)
            have H := H h11 eh11 Xh11
            have La0_h11 := La0_h.ext Xh11
            refine mx_iconst dX0_none_5 ic_m1 ?_
            refine mx_iretK rfl dX0_none_6 ?_
            exact mx_iret rfl dX0_grade_26 H
          · have H := H.2 c10
            refine mx_iconst dX0_isWeek_11 ic_1 ?_
            refine mx_goto (tgt := 16) dX0_isWeek_12 rfl ?_
            refine mx_zretK rfl dX0_isWeek_16 (Or.inr rfl) ?_
            refine mx_if_ne (tgt := 27) dX0_grade_18 rfl (fun _ => ?_) (fun _ => absurd ‹_› (by decide))
            refine mx_aload_n dX0_grade_27 rfl rfl ?_
            refine mx_get 0 3 (ref := "PrairiePool") cl_0 (Nat.le_of_ble_eq_true rfl) (Or.inl q463) (Or.inl rfl) dX0_grade_28 (fv_0_3 _ _) (ly0_k La0_h) ?_
            refine mx_tr (ly0_R_0_3 La0_h) ?_
            refine mx_iload_n dX0_grade_31 rfl rfl ?_
            refine my_aald 8 dX0_grade_32 (by decide) rfl (ly0_A_4 La0_h k5) ?_
            refine mx_get 11 1 (ref := "PrairiePool$Event") cl_11 (Nat.le_of_ble_eq_true rfl) (Or.inl q865) (Or.inl rfl) dX0_grade_33 (fv_11_1 _ _) c7 ?_
            refine mx_iload_n dX0_grade_36 rfl rfl ?_
            refine mx_icmp_le (tgt := 49) dX0_grade_37 rfl (fun c12 => ?_) (fun c12 => ?_)
            · have H := H.1 c12
              refine mx_aload_n dX0_grade_49 rfl rfl ?_
              refine mx_aload_n dX0_grade_50 rfl rfl ?_
              refine mx_iload_n dX0_grade_51 rfl rfl ?_
              refine mx_iload_n dX0_grade_52 rfl rfl ?_
              refine mx_callV 0 (y' := mi_X0_gradeOf) (vs := [iv x1, iv x2]) (st := [rv a0]) (al' := [some (rv a0), some (iv x1), some (iv x2), none, none, none, none, none, none, none, none]) cl_0 V_X0_gradeOf (Or.inl q989) dX0_grade_53 rfl rfl (Nat.le_of_ble_eq_true rfl) (Nat.le_of_ble_eq_true rfl) (ly0_k La0_h) ?_
              refine ma_ki H (fun r14 h13 Xh13 H => ?_) (fun x1 h1 X1 H => mt_out rfl H)
              have H := H Xh13
              have k15 := ma_ksx Xh13 (k6)
              have k16 := Xh13.kd (c7)
              have La0_h13 := La0_h.ext Xh13
              refine mx_callV 0 (y' := mi_X0_gives) (vs := [iv r14]) (st := []) (al' := [some (rv a0), some (iv r14)]) cl_0 V_X0_gives (Or.inl q801) dX0_grade_56 rfl rfl (Nat.le_of_ble_eq_true rfl) (Nat.le_of_ble_eq_true rfl) (ly0_k La0_h13) ?_
              refine mx_aload_n dX0_gives_0 rfl rfl ?_
              refine mx_iconst dX0_gives_1 ic_0 ?_
              refine mx_putI 0 20 (ref := "PrairiePool") cl_0 (Nat.le_of_ble_eq_true rfl) (Or.inl q480) (Or.inl rfl) dX0_gives_2 (Or.inl rfl) rfl (ly0_k La0_h13) ?_
              refine mx_nmI  (fun h17 eh17 Xh17 Kh17 Lh17 => ?_)
              have H := H h17 eh17 Xh17
              have La0_h17 := La0_h13.ext Xh17
              refine mx_iload_n dX0_gives_5 rfl rfl ?_
              refine mx_iretK rfl dX0_gives_6 ?_
              exact mx_iret rfl dX0_grade_59 H
            · have H := H.2 c12
              refine mx_aload_n dX0_grade_40 rfl rfl ?_
              refine mx_bipush dX0_grade_41 ib_8 ?_
              refine mx_callV 0 (y' := mi_X0_none) (vs := [iv (8 : Int32)]) (st := []) (al' := [some (rv a0), some (iv (8 : Int32))]) cl_0 V_X0_none (Or.inl q733) dX0_grade_43 rfl rfl (Nat.le_of_ble_eq_true rfl) (Nat.le_of_ble_eq_true rfl) (ly0_k La0_h) ?_
              refine mx_aload_n dX0_none_0 rfl rfl ?_
              refine mx_iload_n dX0_none_1 rfl rfl ?_
              refine mx_putI 0 20 (ref := "PrairiePool") cl_0 (Nat.le_of_ble_eq_true rfl) (Or.inl q480) (Or.inl rfl) dX0_none_2 (Or.inl rfl) rfl (ly0_k La0_h) ?_
              refine mx_nmI  (fun h18 eh18 Xh18 Kh18 Lh18 => ?_)
              have H := H h18 eh18 Xh18
              have La0_h18 := La0_h.ext Xh18
              refine mx_iconst dX0_none_5 ic_m1 ?_
              refine mx_iretK rfl dX0_none_6 ?_
              refine mx_goto (tgt := 59) dX0_grade_46 rfl ?_
              exact mx_iret rfl dX0_grade_59 H
      · have H := H.2 c7
        refine mx_if_eq (tgt := 28) dX0_isLoad_21 rfl (fun _ => ?_) (fun _ => absurd ‹_› (by decide))
        refine mx_iconst dX0_isLoad_28 ic_0 ?_
        refine mx_zretK rfl dX0_isLoad_29 (Or.inl rfl) ?_
        refine mx_if_ne (tgt := 14) dX0_grade_5 rfl (fun _ => absurd ‹_› (by decide)) (fun _ => ?_)
        refine mx_aload_n dX0_grade_8 rfl rfl ?_
        refine mx_iconst dX0_grade_9 ic_2 ?_
        refine mx_callV 0 (y' := mi_X0_none) (vs := [iv (2 : Int32)]) (st := []) (al' := [some (rv a0), some (iv (2 : Int32))]) cl_0 V_X0_none (Or.inl q733) dX0_grade_10 rfl rfl (Nat.le_of_ble_eq_true rfl) (Nat.le_of_ble_eq_true rfl) (ly0_k La0_h) ?_
        refine mx_aload_n dX0_none_0 rfl rfl ?_
        refine mx_iload_n dX0_none_1 rfl rfl ?_
        refine mx_putI 0 20 (ref := "PrairiePool") cl_0 (Nat.le_of_ble_eq_true rfl) (Or.inl q480) (Or.inl rfl) dX0_none_2 (Or.inl rfl) rfl (ly0_k La0_h) ?_
        refine mx_nmI  (fun h19 eh19 Xh19 Kh19 Lh19 => ?_)
        have H := H h19 eh19 Xh19
        have La0_h19 := La0_h.ext Xh19
        refine mx_iconst dX0_none_5 ic_m1 ?_
        refine mx_iretK rfl dX0_none_6 ?_
        exact mx_iret rfl dX0_grade_13 H
theorem dX0_gradeOf_0 : decode mi_X0_gradeOf.2.1 0 = .ok (.aload_n 0, 1) := by decide +kernel
theorem dX0_gradeOf_1 : decode mi_X0_gradeOf.2.1 1 = .ok (.getfield 29, 3) := by decide +kernel
theorem dX0_gradeOf_4 : decode mi_X0_gradeOf.2.1 4 = .ok (.iload_n 1, 1) := by decide +kernel
theorem dX0_gradeOf_5 : decode mi_X0_gradeOf.2.1 5 = .ok (.aaload, 1) := by decide +kernel
theorem dX0_gradeOf_6 : decode mi_X0_gradeOf.2.1 6 = .ok (.checkcast 289, 3) := by decide +kernel
theorem dX0_gradeOf_9 : decode mi_X0_gradeOf.2.1 9 = .ok (.astore_n 3, 1) := by decide +kernel
theorem dX0_gradeOf_10 : decode mi_X0_gradeOf.2.1 10 = .ok (.iconst 5, 1) := by decide +kernel
theorem dX0_gradeOf_11 : decode mi_X0_gradeOf.2.1 11 = .ok (.istore 4, 2) := by decide +kernel
theorem dX0_gradeOf_13 : decode mi_X0_gradeOf.2.1 13 = .ok (.ldc2_w 328, 3) := by decide +kernel
theorem dX0_gradeOf_16 : decode mi_X0_gradeOf.2.1 16 = .ok (.lstore 5, 2) := by decide +kernel
theorem dX0_gradeOf_18 : decode mi_X0_gradeOf.2.1 18 = .ok (.aload_n 0, 1) := by decide +kernel
theorem dX0_gradeOf_19 : decode mi_X0_gradeOf.2.1 19 = .ok (.aload_n 0, 1) := by decide +kernel
theorem dX0_gradeOf_20 : decode mi_X0_gradeOf.2.1 20 = .ok (.aload_n 3, 1) := by decide +kernel
theorem dX0_gradeOf_21 : decode mi_X0_gradeOf.2.1 21 = .ok (.getfield 330, 3) := by decide +kernel
theorem dX0_gradeOf_24 : decode mi_X0_gradeOf.2.1 24 = .ok (.invokevirtual 331, 3) := by decide +kernel
theorem dX0_gradeOf_27 : decode mi_X0_gradeOf.2.1 27 = .ok (.putfield 335, 3) := by decide +kernel
theorem dX0_gradeOf_30 : decode mi_X0_gradeOf.2.1 30 = .ok (.iconst 0, 1) := by decide +kernel
theorem dX0_gradeOf_31 : decode mi_X0_gradeOf.2.1 31 = .ok (.istore 7, 2) := by decide +kernel
theorem dX0_gradeOf_33 : decode mi_X0_gradeOf.2.1 33 = .ok (.iload 7, 2) := by decide +kernel
theorem dX0_gradeOf_35 : decode mi_X0_gradeOf.2.1 35 = .ok (.aload_n 0, 1) := by decide +kernel
theorem dX0_gradeOf_36 : decode mi_X0_gradeOf.2.1 36 = .ok (.getfield 323, 3) := by decide +kernel
theorem dX0_gradeOf_39 : decode mi_X0_gradeOf.2.1 39 = .ok (.if_icmp .ge 144, 3) := by decide +kernel
theorem dX0_gradeOf_42 : decode mi_X0_gradeOf.2.1 42 = .ok (.aload_n 0, 1) := by decide +kernel
theorem dX0_gradeOf_43 : decode mi_X0_gradeOf.2.1 43 = .ok (.getfield 33, 3) := by decide +kernel
theorem dX0_gradeOf_46 : decode mi_X0_gradeOf.2.1 46 = .ok (.iload 7, 2) := by decide +kernel
theorem dX0_gradeOf_48 : decode mi_X0_gradeOf.2.1 48 = .ok (.iaload, 1) := by decide +kernel
theorem dX0_gradeOf_49 : decode mi_X0_gradeOf.2.1 49 = .ok (.iload_n 1, 1) := by decide +kernel
theorem dX0_gradeOf_50 : decode mi_X0_gradeOf.2.1 50 = .ok (.if_icmp .ne 127, 3) := by decide +kernel
theorem dX0_gradeOf_53 : decode mi_X0_gradeOf.2.1 53 = .ok (.aload_n 0, 1) := by decide +kernel
theorem dX0_gradeOf_54 : decode mi_X0_gradeOf.2.1 54 = .ok (.getfield 43, 3) := by decide +kernel
theorem dX0_gradeOf_57 : decode mi_X0_gradeOf.2.1 57 = .ok (.iload 7, 2) := by decide +kernel
theorem dX0_gradeOf_59 : decode mi_X0_gradeOf.2.1 59 = .ok (.iaload, 1) := by decide +kernel
theorem dX0_gradeOf_60 : decode mi_X0_gradeOf.2.1 60 = .ok (.iload_n 2, 1) := by decide +kernel
theorem dX0_gradeOf_61 : decode mi_X0_gradeOf.2.1 61 = .ok (.if_icmp .le 6, 3) := by decide +kernel
theorem dX0_gradeOf_64 : decode mi_X0_gradeOf.2.1 64 = .ok (.goto 113, 3) := by decide +kernel
theorem dX0_gradeOf_67 : decode mi_X0_gradeOf.2.1 67 = .ok (.aload_n 0, 1) := by decide +kernel
theorem dX0_gradeOf_68 : decode mi_X0_gradeOf.2.1 68 = .ok (.invokevirtual 339, 3) := by decide +kernel
theorem dX0_gradeOf_71 : decode mi_X0_gradeOf.2.1 71 = .ok (.astore 8, 2) := by decide +kernel
theorem dX0_gradeOf_73 : decode mi_X0_gradeOf.2.1 73 = .ok (.aload 8, 2) := by decide +kernel
theorem dX0_gradeOf_75 : decode mi_X0_gradeOf.2.1 75 = .ok (.iconst 0, 1) := by decide +kernel
theorem dX0_gradeOf_76 : decode mi_X0_gradeOf.2.1 76 = .ok (.aload_n 0, 1) := by decide +kernel
theorem dX0_gradeOf_77 : decode mi_X0_gradeOf.2.1 77 = .ok (.getfield 40, 3) := by decide +kernel
theorem dX0_gradeOf_80 : decode mi_X0_gradeOf.2.1 80 = .ok (.iload 7, 2) := by decide +kernel
theorem dX0_gradeOf_82 : decode mi_X0_gradeOf.2.1 82 = .ok (.iaload, 1) := by decide +kernel
theorem dX0_gradeOf_83 : decode mi_X0_gradeOf.2.1 83 = .ok (.i2l, 1) := by decide +kernel
theorem dX0_gradeOf_84 : decode mi_X0_gradeOf.2.1 84 = .ok (.lastore, 1) := by decide +kernel
theorem dX0_gradeOf_85 : decode mi_X0_gradeOf.2.1 85 = .ok (.aload 8, 2) := by decide +kernel
theorem dX0_gradeOf_87 : decode mi_X0_gradeOf.2.1 87 = .ok (.iconst 1, 1) := by decide +kernel
theorem dX0_gradeOf_88 : decode mi_X0_gradeOf.2.1 88 = .ok (.aload_n 0, 1) := by decide +kernel
theorem dX0_gradeOf_89 : decode mi_X0_gradeOf.2.1 89 = .ok (.getfield 37, 3) := by decide +kernel
theorem dX0_gradeOf_92 : decode mi_X0_gradeOf.2.1 92 = .ok (.iload 7, 2) := by decide +kernel
theorem dX0_gradeOf_94 : decode mi_X0_gradeOf.2.1 94 = .ok (.iaload, 1) := by decide +kernel
theorem dX0_gradeOf_95 : decode mi_X0_gradeOf.2.1 95 = .ok (.i2l, 1) := by decide +kernel
theorem dX0_gradeOf_96 : decode mi_X0_gradeOf.2.1 96 = .ok (.lastore, 1) := by decide +kernel
theorem dX0_gradeOf_97 : decode mi_X0_gradeOf.2.1 97 = .ok (.aload 8, 2) := by decide +kernel
theorem dX0_gradeOf_99 : decode mi_X0_gradeOf.2.1 99 = .ok (.iconst 2, 1) := by decide +kernel
theorem dX0_gradeOf_100 : decode mi_X0_gradeOf.2.1 100 = .ok (.aload_n 3, 1) := by decide +kernel
theorem dX0_gradeOf_101 : decode mi_X0_gradeOf.2.1 101 = .ok (.getfield 330, 3) := by decide +kernel
theorem dX0_gradeOf_104 : decode mi_X0_gradeOf.2.1 104 = .ok (.i2l, 1) := by decide +kernel
theorem dX0_gradeOf_105 : decode mi_X0_gradeOf.2.1 105 = .ok (.lastore, 1) := by decide +kernel
theorem dX0_gradeOf_106 : decode mi_X0_gradeOf.2.1 106 = .ok (.aload 8, 2) := by decide +kernel
theorem dX0_gradeOf_108 : decode mi_X0_gradeOf.2.1 108 = .ok (.iconst 3, 1) := by decide +kernel
theorem dX0_gradeOf_109 : decode mi_X0_gradeOf.2.1 109 = .ok (.aload_n 3, 1) := by decide +kernel
theorem dX0_gradeOf_110 : decode mi_X0_gradeOf.2.1 110 = .ok (.invokevirtual 343, 3) := by decide +kernel
theorem dX0_gradeOf_113 : decode mi_X0_gradeOf.2.1 113 = .ok (.i2l, 1) := by decide +kernel
theorem dX0_gradeOf_114 : decode mi_X0_gradeOf.2.1 114 = .ok (.lastore, 1) := by decide +kernel
theorem dX0_gradeOf_115 : decode mi_X0_gradeOf.2.1 115 = .ok (.aload 8, 2) := by decide +kernel
theorem dX0_gradeOf_117 : decode mi_X0_gradeOf.2.1 117 = .ok (.iconst 4, 1) := by decide +kernel
theorem dX0_gradeOf_118 : decode mi_X0_gradeOf.2.1 118 = .ok (.aload_n 3, 1) := by decide +kernel
theorem dX0_gradeOf_119 : decode mi_X0_gradeOf.2.1 119 = .ok (.invokevirtual 347, 3) := by decide +kernel
theorem dX0_gradeOf_122 : decode mi_X0_gradeOf.2.1 122 = .ok (.i2l, 1) := by decide +kernel
theorem dX0_gradeOf_123 : decode mi_X0_gradeOf.2.1 123 = .ok (.lastore, 1) := by decide +kernel
theorem dX0_gradeOf_124 : decode mi_X0_gradeOf.2.1 124 = .ok (.aload 8, 2) := by decide +kernel
theorem dX0_gradeOf_126 : decode mi_X0_gradeOf.2.1 126 = .ok (.bipush 7, 2) := by decide +kernel
theorem dX0_gradeOf_128 : decode mi_X0_gradeOf.2.1 128 = .ok (.aload_n 3, 1) := by decide +kernel
theorem dX0_gradeOf_129 : decode mi_X0_gradeOf.2.1 129 = .ok (.getfield 350, 3) := by decide +kernel
theorem dX0_gradeOf_132 : decode mi_X0_gradeOf.2.1 132 = .ok (.getfield 354, 3) := by decide +kernel
theorem dX0_gradeOf_135 : decode mi_X0_gradeOf.2.1 135 = .ok (.i2l, 1) := by decide +kernel
theorem dX0_gradeOf_136 : decode mi_X0_gradeOf.2.1 136 = .ok (.lastore, 1) := by decide +kernel
theorem dX0_gradeOf_137 : decode mi_X0_gradeOf.2.1 137 = .ok (.aload_n 0, 1) := by decide +kernel
theorem dX0_gradeOf_138 : decode mi_X0_gradeOf.2.1 138 = .ok (.ldc2_w 357, 3) := by decide +kernel
theorem dX0_gradeOf_141 : decode mi_X0_gradeOf.2.1 141 = .ok (.lconst 0, 1) := by decide +kernel
theorem dX0_gradeOf_142 : decode mi_X0_gradeOf.2.1 142 = .ok (.ldc2_w 359, 3) := by decide +kernel
theorem dX0_gradeOf_145 : decode mi_X0_gradeOf.2.1 145 = .ok (.ldc2_w 253, 3) := by decide +kernel
theorem dX0_gradeOf_148 : decode mi_X0_gradeOf.2.1 148 = .ok (.invokevirtual 361, 3) := by decide +kernel
theorem dX0_gradeOf_151 : decode mi_X0_gradeOf.2.1 151 = .ok (.lstore 9, 2) := by decide +kernel
theorem dX0_gradeOf_153 : decode mi_X0_gradeOf.2.1 153 = .ok (.lload 9, 2) := by decide +kernel
theorem dX0_gradeOf_155 : decode mi_X0_gradeOf.2.1 155 = .ok (.lload 5, 2) := by decide +kernel
theorem dX0_gradeOf_157 : decode mi_X0_gradeOf.2.1 157 = .ok (.lcmp, 1) := by decide +kernel
theorem dX0_gradeOf_158 : decode mi_X0_gradeOf.2.1 158 = .ok (.ifCond .ge 6, 3) := by decide +kernel
theorem dX0_gradeOf_161 : decode mi_X0_gradeOf.2.1 161 = .ok (.goto 16, 3) := by decide +kernel
theorem dX0_gradeOf_164 : decode mi_X0_gradeOf.2.1 164 = .ok (.lload 9, 2) := by decide +kernel
theorem dX0_gradeOf_166 : decode mi_X0_gradeOf.2.1 166 = .ok (.lstore 5, 2) := by decide +kernel
theorem dX0_gradeOf_168 : decode mi_X0_gradeOf.2.1 168 = .ok (.aload_n 0, 1) := by decide +kernel
theorem dX0_gradeOf_169 : decode mi_X0_gradeOf.2.1 169 = .ok (.getfield 40, 3) := by decide +kernel
theorem dX0_gradeOf_172 : decode mi_X0_gradeOf.2.1 172 = .ok (.iload 7, 2) := by decide +kernel
theorem dX0_gradeOf_174 : decode mi_X0_gradeOf.2.1 174 = .ok (.iaload, 1) := by decide +kernel
theorem dX0_gradeOf_175 : decode mi_X0_gradeOf.2.1 175 = .ok (.istore 4, 2) := by decide +kernel
theorem dX0_gradeOf_177 : decode mi_X0_gradeOf.2.1 177 = .ok (.iinc 7 1, 3) := by decide +kernel
theorem dX0_gradeOf_180 : decode mi_X0_gradeOf.2.1 180 = .ok (.goto (-147), 3) := by decide +kernel
theorem dX0_gradeOf_183 : decode mi_X0_gradeOf.2.1 183 = .ok (.iload 4, 2) := by decide +kernel
theorem dX0_gradeOf_185 : decode mi_X0_gradeOf.2.1 185 = .ok (.ireturn, 1) := by decide +kernel
theorem v_X0_gradeOf {G : ma_G} {d : Nat} {a0 : Nat} {x1 : Int32} {x2 : Int32} {h : ah_T} {Q : Option ma_V → ah_T → Prop} {E : Nat → ah_T → Prop} (La0_h : LY0 h a0) (H : vp_in x1 120 ∧ ah_kd h (ah_R h (a0 + 4) x1.toNatClampNeg) = 12 ∧ MX G mi_X0_lawOf (d + 1) 0 [some (rv a0), some (iv (ah_I h (ah_R h (a0 + 4) x1.toNatClampNeg) 0)), none, none] [] h (Qr fun r4 h3 => ah_ext h h3 → ∀ h6 : ah_T, h6 = ah_wR h3 a0 23 r4 → ah_ext h3 h6 → MX G mi_X0_gradeOf (d + 2) 33 [some (rv a0), some (iv x1), some (iv x2), some (rv (ah_R h (a0 + 4) x1.toNatClampNeg)), some (iv (5 : Int32)), some (jv (-9223372036854775808 : Int64)), none, some (iv (0 : Int32)), none, none, none] [] h6 Q E) E) : MX G mi_X0_gradeOf (d + 2) 0 [some (rv a0), some (iv x1), some (iv x2), none, none, none, none, none, none, none, none] [] h Q E := by
  refine mx_aload_n dX0_gradeOf_0 rfl rfl ?_
  refine mx_get 0 3 (ref := "PrairiePool") cl_0 (Nat.le_of_ble_eq_true rfl) (Or.inl q463) (Or.inl rfl) dX0_gradeOf_1 (fv_0_3 _ _) (ly0_k La0_h) ?_
  refine mx_tr (ly0_R_0_3 La0_h) ?_
  refine mx_iload_n dX0_gradeOf_4 rfl rfl ?_
  obtain ⟨k1, H⟩ := H
  refine my_aald 8 dX0_gradeOf_5 (by decide) rfl (ly0_A_4 La0_h k1) ?_
  obtain ⟨k2, H⟩ := H
  refine mx_castY 11 cl_11 q844 dX0_gradeOf_6 k2 ?_
  refine mx_astore_n (al' := [some (rv a0), some (iv x1), some (iv x2), some (rv (ah_R h (a0 + 4) x1.toNatClampNeg)), none, none, none, none, none, none, none]) dX0_gradeOf_9 rfl (Nat.le_of_ble_eq_true rfl) rfl ?_
  refine mx_iconst dX0_gradeOf_10 ic_5 ?_
  refine mx_istore (al' := [some (rv a0), some (iv x1), some (iv x2), some (rv (ah_R h (a0 + 4) x1.toNatClampNeg)), some (iv (5 : Int32)), none, none, none, none, none, none]) dX0_gradeOf_11 (Nat.le_of_ble_eq_true rfl) rfl ?_
  refine mx_ldc2 q993 dX0_gradeOf_13 ?_
  refine mx_lstore (al' := [some (rv a0), some (iv x1), some (iv x2), some (rv (ah_R h (a0 + 4) x1.toNatClampNeg)), some (iv (5 : Int32)), some (jv (-9223372036854775808 : Int64)), none, none, none, none, none]) dX0_gradeOf_16 (Nat.le_of_ble_eq_true rfl) rfl ?_
  refine mx_aload_n dX0_gradeOf_18 rfl rfl ?_
  refine mx_aload_n dX0_gradeOf_19 rfl rfl ?_
  refine mx_aload_n dX0_gradeOf_20 rfl rfl ?_
  refine mx_get 11 0 (ref := "PrairiePool$Load") cl_11 (Nat.le_of_ble_eq_true rfl) (Or.inl q863) (Or.inr q861) dX0_gradeOf_21 (fv_11_0 _ _) k2 ?_
  refine mx_callV 0 (y' := mi_X0_lawOf) (vs := [iv (ah_I h (ah_R h (a0 + 4) x1.toNatClampNeg) 0)]) (st := [rv a0]) (al' := [some (rv a0), some (iv (ah_I h (ah_R h (a0 + 4) x1.toNatClampNeg) 0)), none, none]) cl_0 V_X0_lawOf (Or.inl q994) dX0_gradeOf_24 rfl rfl (Nat.le_of_ble_eq_true rfl) (Nat.le_of_ble_eq_true rfl) (ly0_k La0_h) ?_
  refine ma_kr H (fun r4 h3 Xh3 H => ?_) (fun x1 h1 X1 H => mt_out rfl H)
  have H := H Xh3
  have k5 := Xh3.kd (k2)
  have La0_h3 := La0_h.ext Xh3
  refine mx_putO 0 23 (ref := "PrairiePool") cl_0 (Nat.le_of_ble_eq_true rfl) (Or.inl q483) (Or.inl rfl) dX0_gradeOf_27 (Or.inl rfl) rfl (Or.inl rfl) (ly0_k La0_h3) ?_
  refine mx_nmR (ah_ext.wR (Or.inl (by rw [(ly0_k La0_h3)]; rfl))) (fun h6 eh6 Xh6 Kh6 Lh6 => ?_)
  have H := H h6 eh6 Xh6
  have La0_h6 := La0_h3.ext Xh6
  refine mx_iconst dX0_gradeOf_30 ic_0 ?_
  refine mx_istore (al' := [some (rv a0), some (iv x1), some (iv x2), some (rv (ah_R h (a0 + 4) x1.toNatClampNeg)), some (iv (5 : Int32)), some (jv (-9223372036854775808 : Int64)), none, some (iv (0 : Int32)), none, none, none]) dX0_gradeOf_31 (Nat.le_of_ble_eq_true rfl) rfl ?_
  exact mx_weak (al' := [some (rv a0), some (iv x1), some (iv x2), some (rv (ah_R h (a0 + 4) x1.toNatClampNeg)), some (iv (5 : Int32)), some (jv (-9223372036854775808 : Int64)), none, some (iv (0 : Int32)), none, none, none]) ⟨rfl, ⟨rfl, ⟨rfl, ⟨rfl, ⟨rfl, ⟨rfl, ⟨rfl, trivial⟩⟩⟩⟩⟩⟩⟩ H
theorem v_X0_gradeOf_33 {G : ma_G} {d : Nat} {a0 : Nat} {x1 : Int32} {x2 : Int32} {a3 : Nat} {x4 : Int32} {x5 : Int64} {x7 : Int32} {h : ah_T} {Q : Option ma_V → ah_T → Prop} {E : Nat → ah_T → Prop} (La0_h : LY0 h a0) (H : ((ah_I h a0 17) ≤ x7 → Q (some (iv x4)) h) ∧ (¬ (ah_I h a0 17) ≤ x7 → vp_in x7 100 ∧ (¬ (ah_I h (a0 + 5) x7.toNatClampNeg) = x1 → MX G mi_X0_gradeOf (d + 2) 33 [some (rv a0), some (iv x1), some (iv x2), some (rv a3), some (iv x4), some (jv x5), none, some (iv (x7 + (1 : Int32))), none, none, none] [] h Q E) ∧ ((ah_I h (a0 + 5) x7.toNatClampNeg) = x1 → ((ah_I h (a0 + 8) x7.toNatClampNeg) ≤ x2 → MX G mi_X0_clear (d + 1) 0 [some (rv a0), none] [] h (Qr fun r6 h5 => ah_ext h h5 → aok h5 41 r6 (0 : Int32) ∧ ∀ h8 : ah_T, h8 = ah_wJ h5 r6 0 (ah_I h5 (a0 + 7) x7.toNatClampNeg).toInt64 → ah_ext h5 h8 → aok h5 41 r6 (1 : Int32) ∧ ∀ h10 : ah_T, h10 = ah_wJ h8 r6 1 (ah_I h5 (a0 + 6) x7.toNatClampNeg).toInt64 → ah_ext h8 h10 → ah_kd h5 a3 = 12 ∧ aok h5 41 r6 (2 : Int32) ∧ ∀ h13 : ah_T, h13 = ah_wJ h10 r6 2 (ah_I h5 a3 0).toInt64 → ah_ext h10 h13 → aok h5 41 r6 (3 : Int32) ∧ ∀ h15 : ah_T, h15 = ah_wJ h13 r6 3 ((ah_I h5 a3 0) / (52 : Int32)).toInt64 → ah_ext h13 h15 → aok h5 41 r6 (4 : Int32) ∧ ∀ h17 : ah_T, h17 = ah_wJ h15 r6 4 ((ah_I h5 a3 2) - (((ah_I h5 a3 2) * (ah_I h5 a3 5)) / (1000 : Int32))).toInt64 → ah_ext h15 h17 → ah_kd h5 (ah_R h5 a3 3) = 10 ∧ aok h5 41 r6 (7 : Int32) ∧ ∀ h20 : ah_T, h20 = ah_wJ h17 r6 7 (ah_I h5 (ah_R h5 a3 3) 1).toInt64 → ah_ext h17 h20 → MX G mi_X0_asks (d + 1) 0 [some (rv a0), some (jv (1918987883 : Int64)), none, some (jv (0 : Int64)), none, some (jv (-1000000 : Int64)), none, some (jv (1000000 : Int64)), none, none] [] h20 (Ql fun r22 h21 => ah_ext h20 h21 → (x5 ≤ r22 → MX G mi_X0_gradeOf (d + 2) 33 [some (rv a0), some (iv x1), some (iv x2), some (rv a3), some (iv (ah_I h21 (a0 + 7) x7.toNatClampNeg)), some (jv r22), none, some (iv (x7 + (1 : Int32))), none, none, none] [] h21 Q E) ∧ (¬ x5 ≤ r22 → MX G mi_X0_gradeOf (d + 2) 33 [some (rv a0), some (iv x1), some (iv x2), some (rv a3), some (iv x4), some (jv x5), none, some (iv (x7 + (1 : Int32))), none, none, none] [] h21 Q E)) E) E) ∧ (¬ (ah_I h (a0 + 8) x7.toNatClampNeg) ≤ x2 → MX G mi_X0_gradeOf (d + 2) 33 [some (rv a0), some (iv x1), some (iv x2), some (rv a3), some (iv x4), some (jv x5), none, some (iv (x7 + (1 : Int32))), none, none, none] [] h Q E)))) : MX G mi_X0_gradeOf (d + 2) 33 [some (rv a0), some (iv x1), some (iv x2), some (rv a3), some (iv x4), some (jv x5), none, some (iv x7), none, none, none] [] h Q E := by
  refine mx_iload dX0_gradeOf_33 rfl ?_
  refine mx_aload_n dX0_gradeOf_35 rfl rfl ?_
  refine mx_get 0 17 (ref := "PrairiePool") cl_0 (Nat.le_of_ble_eq_true rfl) (Or.inl q477) (Or.inl rfl) dX0_gradeOf_36 (fv_0_17 _ _) (ly0_k La0_h) ?_
  refine mx_icmp_ge (tgt := 183) dX0_gradeOf_39 rfl (fun c1 => ?_) (fun c1 => ?_)
  · have H := H.1 c1
    refine mx_iload dX0_gradeOf_183 rfl ?_
    exact mx_iret rfl dX0_gradeOf_185 H
  · have H := H.2 c1
    refine mx_aload_n dX0_gradeOf_42 rfl rfl ?_
    refine mx_get 0 4 (ref := "PrairiePool") cl_0 (Nat.le_of_ble_eq_true rfl) (Or.inl q464) (Or.inl rfl) dX0_gradeOf_43 (fv_0_4 _ _) (ly0_k La0_h) ?_
    refine mx_tr (ly0_R_0_4 La0_h) ?_
    refine mx_iload dX0_gradeOf_46 rfl ?_
    obtain ⟨k2, H⟩ := H
    refine my_iald dX0_gradeOf_48 rfl (ly0_A_5 La0_h k2) ?_
    refine mx_iload_n dX0_gradeOf_49 rfl rfl ?_
    refine mx_icmp_ne (tgt := 177) dX0_gradeOf_50 rfl (fun c3 => ?_) (fun c3 => ?_)
    · have H := H.1 c3
      refine mx_iinc (al' := [some (rv a0), some (iv x1), some (iv x2), some (rv a3), some (iv x4), some (jv x5), none, some (iv (x7 + (1 : Int32))), none, none, none]) dX0_gradeOf_177 rfl ic_1 rfl ?_
      refine mx_goto (tgt := 33) dX0_gradeOf_180 rfl ?_
      exact mx_weak (al' := [some (rv a0), some (iv x1), some (iv x2), some (rv a3), some (iv x4), some (jv x5), none, some (iv (x7 + (1 : Int32))), none, none, none]) ⟨rfl, ⟨rfl, ⟨rfl, ⟨rfl, ⟨rfl, ⟨rfl, ⟨rfl, trivial⟩⟩⟩⟩⟩⟩⟩ H
    · have H := H.2 c3
      refine mx_aload_n dX0_gradeOf_53 rfl rfl ?_
      refine mx_get 0 7 (ref := "PrairiePool") cl_0 (Nat.le_of_ble_eq_true rfl) (Or.inl q467) (Or.inl rfl) dX0_gradeOf_54 (fv_0_7 _ _) (ly0_k La0_h) ?_
      refine mx_tr (ly0_R_0_7 La0_h) ?_
      refine mx_iload dX0_gradeOf_57 rfl ?_
      refine my_iald dX0_gradeOf_59 rfl (ly0_A_8 La0_h k2) ?_
      refine mx_iload_n dX0_gradeOf_60 rfl rfl ?_
      refine mx_icmp_le (tgt := 67) dX0_gradeOf_61 rfl (fun c4 => ?_) (fun c4 => ?_)
      · have H := H.1 c4
        refine mx_aload_n dX0_gradeOf_67 rfl rfl ?_
        refine mx_callV 0 (y' := mi_X0_clear) (vs := []) (st := []) (al' := [some (rv a0), none]) cl_0 V_X0_clear (Or.inl q998) dX0_gradeOf_68 rfl rfl (Nat.le_of_ble_eq_true rfl) (Nat.le_of_ble_eq_true rfl) (ly0_k La0_h) ?_
        refine ma_kr H (fun r6 h5 Xh5 H => ?_) (fun x1 h1 X1 H => mt_out rfl H)
        have H := H Xh5
        have La0_h5 := La0_h.ext Xh5
        refine mx_astore (al' := [some (rv a0), some (iv x1), some (iv x2), some (rv a3), some (iv x4), some (jv x5), none, some (iv x7), some (rv r6), none, none]) dX0_gradeOf_71 (Nat.le_of_ble_eq_true rfl) rfl ?_
        refine mx_aload dX0_gradeOf_73 rfl ?_
        refine mx_iconst dX0_gradeOf_75 ic_0 ?_
        refine mx_aload_n dX0_gradeOf_76 rfl rfl ?_
        refine mx_get 0 6 (ref := "PrairiePool") cl_0 (Nat.le_of_ble_eq_true rfl) (Or.inl q466) (Or.inl rfl) dX0_gradeOf_77 (fv_0_6 _ _) (ly0_k La0_h5) ?_
        refine mx_tr (ly0_R_0_6 La0_h5) ?_
        refine mx_iload dX0_gradeOf_80 rfl ?_
        refine my_iald dX0_gradeOf_82 rfl (ly0_A_7 La0_h5 k2) ?_
        refine mx_i2l dX0_gradeOf_83 ?_
        obtain ⟨k7, H⟩ := H
        refine my_last dX0_gradeOf_84 cn_0 k7 ?_
        refine mx_nmJ  (fun h8 eh8 Xh8 Kh8 Lh8 => ?_)
        have H := H h8 eh8 Xh8
        have La0_h8 := La0_h5.ext Xh8
        refine mx_aload dX0_gradeOf_85 rfl ?_
        refine mx_iconst dX0_gradeOf_87 ic_1 ?_
        refine mx_aload_n dX0_gradeOf_88 rfl rfl ?_
        refine mx_get 0 5 (ref := "PrairiePool") cl_0 (Nat.le_of_ble_eq_true rfl) (Or.inl q465) (Or.inl rfl) dX0_gradeOf_89 (fv_0_5 _ _) (ly0_k La0_h8) ?_
        refine mx_tr (ly0_R_0_5 La0_h8) ?_
        refine mx_iload dX0_gradeOf_92 rfl ?_
        refine my_iald dX0_gradeOf_94 rfl (ly0_A_6 La0_h8 k2) ?_
        refine mx_ti (ah_IJ eh8) ?_
        refine mx_i2l dX0_gradeOf_95 ?_
        obtain ⟨k9, H⟩ := H
        refine my_last dX0_gradeOf_96 cn_1 (ma_aok Kh8 Lh8 (k9)) ?_
        refine mx_nmJ  (fun h10 eh10 Xh10 Kh10 Lh10 => ?_)
        have H := H h10 eh10 Xh10
        have Kh10 := Kh10.trans Kh8
        have Lh10 := Lh10.trans Lh8
        have La0_h10 := La0_h8.ext Xh10
        refine mx_aload dX0_gradeOf_97 rfl ?_
        refine mx_iconst dX0_gradeOf_99 ic_2 ?_
        refine mx_aload_n dX0_gradeOf_100 rfl rfl ?_
        obtain ⟨k11, H⟩ := H
        refine mx_get 11 0 (ref := "PrairiePool$Load") cl_11 (Nat.le_of_ble_eq_true rfl) (Or.inl q863) (Or.inr q861) dX0_gradeOf_101 (fv_11_0 _ _) (ma_kde Kh10 (k11)) ?_
        refine mx_ti ((ah_IJ eh10).trans (ah_IJ eh8)) ?_
        refine mx_i2l dX0_gradeOf_104 ?_
        obtain ⟨k12, H⟩ := H
        refine my_last dX0_gradeOf_105 cn_2 (ma_aok Kh10 Lh10 (k12)) ?_
        refine mx_nmJ  (fun h13 eh13 Xh13 Kh13 Lh13 => ?_)
        have H := H h13 eh13 Xh13
        have Kh13 := Kh13.trans Kh10
        have Lh13 := Lh13.trans Lh10
        have La0_h13 := La0_h10.ext Xh13
        refine mx_aload dX0_gradeOf_106 rfl ?_
        refine mx_iconst dX0_gradeOf_108 ic_3 ?_
        refine mx_aload_n dX0_gradeOf_109 rfl rfl ?_
        refine mx_callV 11 (y' := mi_X12_year) (vs := []) (st := [iv (3 : Int32), rv r6]) (al' := [some (rv a3)]) cl_11 V_X12_year (Or.inl q1002) dX0_gradeOf_110 rfl rfl (Nat.le_of_ble_eq_true rfl) (Nat.le_of_ble_eq_true rfl) (ma_kde Kh13 (k11)) ?_
        refine mx_aload_n dX12_year_0 rfl rfl ?_
        refine mx_get 11 0 (ref := "PrairiePool$Load") cl_11 (Nat.le_of_ble_eq_true rfl) (Or.inl q860) (Or.inr q861) dX12_year_1 (fv_11_0 _ _) (ma_kde Kh13 (k11)) ?_
        refine mx_ti (((ah_IJ eh13).trans (ah_IJ eh10)).trans (ah_IJ eh8)) ?_
        refine mx_bipush dX12_year_4 ib_52 ?_
        refine mx_idiv dX12_year_6 (by decide) ?_
        refine mx_iretK rfl dX12_year_7 ?_
        refine mx_i2l dX0_gradeOf_113 ?_
        obtain ⟨k14, H⟩ := H
        refine my_last dX0_gradeOf_114 cn_3 (ma_aok Kh13 Lh13 (k14)) ?_
        refine mx_nmJ  (fun h15 eh15 Xh15 Kh15 Lh15 => ?_)
        have H := H h15 eh15 Xh15
        have Kh15 := Kh15.trans Kh13
        have Lh15 := Lh15.trans Lh13
        have La0_h15 := La0_h13.ext Xh15
        refine mx_aload dX0_gradeOf_115 rfl ?_
        refine mx_iconst dX0_gradeOf_117 ic_4 ?_
        refine mx_aload_n dX0_gradeOf_118 rfl rfl ?_
        refine mx_callV 11 (y' := mi_X12_bushels) (vs := []) (st := [iv (4 : Int32), rv r6]) (al' := [some (rv a3)]) cl_11 V_X12_bushels (Or.inl q1006) dX0_gradeOf_119 rfl rfl (Nat.le_of_ble_eq_true rfl) (Nat.le_of_ble_eq_true rfl) (ma_kde Kh15 (k11)) ?_
        refine mx_aload_n dX12_bushels_0 rfl rfl ?_
        refine mx_callX 11 (y' := mi_X11_bushels) (vs := []) (st := []) (al' := [some (rv a3)]) cl_11 ca_X11_bushels q1011 q2461 q881 (by decide) (by unfold ma_np; decide +kernel) q1010 dX12_bushels_1 rfl rfl (Nat.le_of_ble_eq_true rfl) (Nat.le_of_ble_eq_true rfl) (ma_kde Kh15 (k11)) ?_
        refine mx_aload_n dX11_bushels_0 rfl rfl ?_
        refine mx_get 11 2 (ref := "PrairiePool$Event") cl_11 (Nat.le_of_ble_eq_true rfl) (Or.inl q866) (Or.inl rfl) dX11_bushels_1 (fv_11_2 _ _) (ma_kde Kh15 (k11)) ?_
        refine mx_ti ((((ah_IJ eh15).trans (ah_IJ eh13)).trans (ah_IJ eh10)).trans (ah_IJ eh8)) ?_
        refine mx_iretK rfl dX11_bushels_4 ?_
        refine mx_aload_n dX12_bushels_4 rfl rfl ?_
        refine mx_callX 11 (y' := mi_X11_bushels) (vs := []) (st := [iv (ah_I h5 a3 2)]) (al' := [some (rv a3)]) cl_11 ca_X11_bushels q1011 q2461 q881 (by decide) (by unfold ma_np; decide +kernel) q1010 dX12_bushels_5 rfl rfl (Nat.le_of_ble_eq_true rfl) (Nat.le_of_ble_eq_true rfl) (ma_kde Kh15 (k11)) ?_
        refine mx_aload_n dX11_bushels_0 rfl rfl ?_
        refine mx_get 11 2 (ref := "PrairiePool$Event") cl_11 (Nat.le_of_ble_eq_true rfl) (Or.inl q866) (Or.inl rfl) dX11_bushels_1 (fv_11_2 _ _) (ma_kde Kh15 (k11)) ?_
        refine mx_ti ((((ah_IJ eh15).trans (ah_IJ eh13)).trans (ah_IJ eh10)).trans (ah_IJ eh8)) ?_
        refine mx_iretK rfl dX11_bushels_4 ?_
        refine mx_aload_n dX12_bushels_8 rfl rfl ?_
        refine mx_get 11 5 (ref := "PrairiePool$Load") cl_11 (Nat.le_of_ble_eq_true rfl) (Or.inl q856) (Or.inl rfl) dX12_bushels_9 (fv_11_5 _ _) (ma_kde Kh15 (k11)) ?_
        refine mx_ti ((((ah_IJ eh15).trans (ah_IJ eh13)).trans (ah_IJ eh10)).trans (ah_IJ eh8)) ?_
        refine mx_imul dX12_bushels_12 ?_
        refine mx_sipush dX12_bushels_13 is_1000 ?_
        refine mx_idiv dX12_bushels_16 (by decide) ?_
        refine mx_isub dX12_bushels_17 ?_
        refine mx_iretK rfl dX12_bushels_18 ?_
        refine mx_i2l dX0_gradeOf_122 ?_
        obtain ⟨k16, H⟩ := H
        refine my_last dX0_gradeOf_123 cn_4 (ma_aok Kh15 Lh15 (k16)) ?_
        refine mx_nmJ  (fun h17 eh17 Xh17 Kh17 Lh17 => ?_)
        have H := H h17 eh17 Xh17
        have Kh17 := Kh17.trans Kh15
        have Lh17 := Lh17.trans Lh15
        have La0_h17 := La0_h15.ext Xh17
        refine mx_aload dX0_gradeOf_124 rfl ?_
        refine mx_bipush dX0_gradeOf_126 ib_7 ?_
        refine mx_aload_n dX0_gradeOf_128 rfl rfl ?_
        refine mx_get 11 3 (ref := "PrairiePool$Load") cl_11 (Nat.le_of_ble_eq_true rfl) (Or.inl q854) (Or.inl rfl) dX0_gradeOf_129 (fv_11_3 _ _) (ma_kde Kh17 (k11)) ?_
        refine mx_tr (((((ah_RJ eh17).trans (ah_RJ eh15)).trans (ah_RJ eh13)).trans (ah_RJ eh10)).trans (ah_RJ eh8)) ?_
        obtain ⟨k18, H⟩ := H
        refine mx_get 9 1 (ref := "PrairiePool$Farm") cl_9 (Nat.le_of_ble_eq_true rfl) (Or.inl q771) (Or.inl rfl) dX0_gradeOf_132 (fv_9_1 _ _) (ma_kde Kh17 (k18)) ?_
        refine mx_ti (((((ah_IJ eh17).trans (ah_IJ eh15)).trans (ah_IJ eh13)).trans (ah_IJ eh10)).trans (ah_IJ eh8)) ?_
        refine mx_i2l dX0_gradeOf_135 ?_
        obtain ⟨k19, H⟩ := H
        refine my_last dX0_gradeOf_136 cn_7 (ma_aok Kh17 Lh17 (k19)) ?_
        refine mx_nmJ  (fun h20 eh20 Xh20 Kh20 Lh20 => ?_)
        have H := H h20 eh20 Xh20
        have Kh20 := Kh20.trans Kh17
        have Lh20 := Lh20.trans Lh17
        have La0_h20 := La0_h17.ext Xh20
        refine mx_aload_n dX0_gradeOf_137 rfl rfl ?_
        refine mx_ldc2 q1013 dX0_gradeOf_138 ?_
        refine mx_lconst dX0_gradeOf_141 lc_0 ?_
        refine mx_ldc2 q1014 dX0_gradeOf_142 ?_
        refine mx_ldc2 q809 dX0_gradeOf_145 ?_
        refine mx_callV 0 (y' := mi_X0_asks) (vs := [jv (1918987883 : Int64), jv (0 : Int64), jv (-1000000 : Int64), jv (1000000 : Int64)]) (st := []) (al' := [some (rv a0), some (jv (1918987883 : Int64)), none, some (jv (0 : Int64)), none, some (jv (-1000000 : Int64)), none, some (jv (1000000 : Int64)), none, none]) cl_0 V_X0_asks (Or.inl q1015) dX0_gradeOf_148 rfl rfl (Nat.le_of_ble_eq_true rfl) (Nat.le_of_ble_eq_true rfl) (ly0_k La0_h20) ?_
        refine ma_kl H (fun r22 h21 Xh21 H => ?_) (fun x1 h1 X1 H => mt_out rfl H)
        have H := H Xh21
        have k23 := ma_aokx Xh21 ((ma_aok Kh20 Lh20 (k7)))
        have k24 := Xh21.kd ((ma_kde Kh20 (k7.1)))
        have k25 := ma_aokx Xh21 ((ma_aok Kh20 Lh20 (k9)))
        have k26 := Xh21.kd ((ma_kde Kh20 (k11)))
        have k27 := ma_aokx Xh21 ((ma_aok Kh20 Lh20 (k12)))
        have k28 := ma_aokx Xh21 ((ma_aok Kh20 Lh20 (k14)))
        have k29 := ma_aokx Xh21 ((ma_aok Kh20 Lh20 (k16)))
        have k30 := Xh21.kd ((ma_kde Kh20 (k18)))
        have k31 := ma_aokx Xh21 ((ma_aok Kh20 Lh20 (k19)))
        have La0_h21 := La0_h20.ext Xh21
        refine mx_lstore (al' := [some (rv a0), some (iv x1), some (iv x2), some (rv a3), some (iv x4), some (jv x5), none, some (iv x7), some (rv r6), some (jv r22), none]) dX0_gradeOf_151 (Nat.le_of_ble_eq_true rfl) rfl ?_
        refine mx_lload dX0_gradeOf_153 rfl ?_
        refine mx_lload dX0_gradeOf_155 rfl ?_
        refine mx_lif_ge (tgt := 164) dX0_gradeOf_157 dX0_gradeOf_158 rfl (fun c32 => ?_) (fun c32 => ?_)
        · have H := H.1 c32
          refine mx_lload dX0_gradeOf_164 rfl ?_
          refine mx_lstore (al' := [some (rv a0), some (iv x1), some (iv x2), some (rv a3), some (iv x4), some (jv r22), none, some (iv x7), some (rv r6), some (jv r22), none]) dX0_gradeOf_166 (Nat.le_of_ble_eq_true rfl) rfl ?_
          refine mx_aload_n dX0_gradeOf_168 rfl rfl ?_
          refine mx_get 0 6 (ref := "PrairiePool") cl_0 (Nat.le_of_ble_eq_true rfl) (Or.inl q466) (Or.inl rfl) dX0_gradeOf_169 (fv_0_6 _ _) (ly0_k La0_h21) ?_
          refine mx_tr (ly0_R_0_6 La0_h21) ?_
          refine mx_iload dX0_gradeOf_172 rfl ?_
          refine my_iald dX0_gradeOf_174 rfl (ly0_A_7 La0_h21 k2) ?_
          refine mx_istore (al' := [some (rv a0), some (iv x1), some (iv x2), some (rv a3), some (iv (ah_I h21 (a0 + 7) x7.toNatClampNeg)), some (jv r22), none, some (iv x7), some (rv r6), some (jv r22), none]) dX0_gradeOf_175 (Nat.le_of_ble_eq_true rfl) rfl ?_
          refine mx_iinc (al' := [some (rv a0), some (iv x1), some (iv x2), some (rv a3), some (iv (ah_I h21 (a0 + 7) x7.toNatClampNeg)), some (jv r22), none, some (iv (x7 + (1 : Int32))), some (rv r6), some (jv r22), none]) dX0_gradeOf_177 rfl ic_1 rfl ?_
          refine mx_goto (tgt := 33) dX0_gradeOf_180 rfl ?_
          exact mx_weak (al' := [some (rv a0), some (iv x1), some (iv x2), some (rv a3), some (iv (ah_I h21 (a0 + 7) x7.toNatClampNeg)), some (jv r22), none, some (iv (x7 + (1 : Int32))), none, none, none]) ⟨rfl, ⟨rfl, ⟨rfl, ⟨rfl, ⟨rfl, ⟨rfl, ⟨rfl, trivial⟩⟩⟩⟩⟩⟩⟩ H
        · have H := H.2 c32
          refine mx_goto (tgt := 177) dX0_gradeOf_161 rfl ?_
          refine mx_iinc (al' := [some (rv a0), some (iv x1), some (iv x2), some (rv a3), some (iv x4), some (jv x5), none, some (iv (x7 + (1 : Int32))), some (rv r6), some (jv r22), none]) dX0_gradeOf_177 rfl ic_1 rfl ?_
          refine mx_goto (tgt := 33) dX0_gradeOf_180 rfl ?_
          exact mx_weak (al' := [some (rv a0), some (iv x1), some (iv x2), some (rv a3), some (iv x4), some (jv x5), none, some (iv (x7 + (1 : Int32))), none, none, none]) ⟨rfl, ⟨rfl, ⟨rfl, ⟨rfl, ⟨rfl, ⟨rfl, ⟨rfl, trivial⟩⟩⟩⟩⟩⟩⟩ H
      · have H := H.2 c4
        refine mx_goto (tgt := 177) dX0_gradeOf_64 rfl ?_
        refine mx_iinc (al' := [some (rv a0), some (iv x1), some (iv x2), some (rv a3), some (iv x4), some (jv x5), none, some (iv (x7 + (1 : Int32))), none, none, none]) dX0_gradeOf_177 rfl ic_1 rfl ?_
        refine mx_goto (tgt := 33) dX0_gradeOf_180 rfl ?_
        exact mx_weak (al' := [some (rv a0), some (iv x1), some (iv x2), some (rv a3), some (iv x4), some (jv x5), none, some (iv (x7 + (1 : Int32))), none, none, none]) ⟨rfl, ⟨rfl, ⟨rfl, ⟨rfl, ⟨rfl, ⟨rfl, ⟨rfl, trivial⟩⟩⟩⟩⟩⟩⟩ H
theorem dX0_lawOf_0 : decode mi_X0_lawOf.2.1 0 = .ok (.aconst_null, 1) := by decide +kernel
theorem dX0_lawOf_1 : decode mi_X0_lawOf.2.1 1 = .ok (.astore_n 2, 1) := by decide +kernel
theorem dX0_lawOf_2 : decode mi_X0_lawOf.2.1 2 = .ok (.iconst 0, 1) := by decide +kernel
theorem dX0_lawOf_3 : decode mi_X0_lawOf.2.1 3 = .ok (.istore_n 3, 1) := by decide +kernel
theorem dX0_lawOf_4 : decode mi_X0_lawOf.2.1 4 = .ok (.iload_n 3, 1) := by decide +kernel
theorem dX0_lawOf_5 : decode mi_X0_lawOf.2.1 5 = .ok (.aload_n 0, 1) := by decide +kernel
theorem dX0_lawOf_6 : decode mi_X0_lawOf.2.1 6 = .ok (.getfield 417, 3) := by decide +kernel
theorem dX0_lawOf_9 : decode mi_X0_lawOf.2.1 9 = .ok (.if_icmp .ge 49, 3) := by decide +kernel
theorem dX0_lawOf_12 : decode mi_X0_lawOf.2.1 12 = .ok (.aload_n 0, 1) := by decide +kernel
theorem dX0_lawOf_13 : decode mi_X0_lawOf.2.1 13 = .ok (.getfield 85, 3) := by decide +kernel
theorem dX0_lawOf_16 : decode mi_X0_lawOf.2.1 16 = .ok (.iload_n 3, 1) := by decide +kernel
theorem dX0_lawOf_17 : decode mi_X0_lawOf.2.1 17 = .ok (.aaload, 1) := by decide +kernel
theorem dX0_lawOf_18 : decode mi_X0_lawOf.2.1 18 = .ok (.getfield 420, 3) := by decide +kernel
theorem dX0_lawOf_21 : decode mi_X0_lawOf.2.1 21 = .ok (.iload_n 1, 1) := by decide +kernel
theorem dX0_lawOf_22 : decode mi_X0_lawOf.2.1 22 = .ok (.if_icmp .gt 30, 3) := by decide +kernel
theorem dX0_lawOf_25 : decode mi_X0_lawOf.2.1 25 = .ok (.aload_n 2, 1) := by decide +kernel
theorem dX0_lawOf_26 : decode mi_X0_lawOf.2.1 26 = .ok (.ifnull 19, 3) := by decide +kernel
theorem dX0_lawOf_29 : decode mi_X0_lawOf.2.1 29 = .ok (.aload_n 0, 1) := by decide +kernel
theorem dX0_lawOf_30 : decode mi_X0_lawOf.2.1 30 = .ok (.getfield 85, 3) := by decide +kernel
theorem dX0_lawOf_33 : decode mi_X0_lawOf.2.1 33 = .ok (.iload_n 3, 1) := by decide +kernel
theorem dX0_lawOf_34 : decode mi_X0_lawOf.2.1 34 = .ok (.aaload, 1) := by decide +kernel
theorem dX0_lawOf_35 : decode mi_X0_lawOf.2.1 35 = .ok (.getfield 420, 3) := by decide +kernel
theorem dX0_lawOf_38 : decode mi_X0_lawOf.2.1 38 = .ok (.aload_n 2, 1) := by decide +kernel
theorem dX0_lawOf_39 : decode mi_X0_lawOf.2.1 39 = .ok (.getfield 420, 3) := by decide +kernel
theorem dX0_lawOf_42 : decode mi_X0_lawOf.2.1 42 = .ok (.if_icmp .lt 10, 3) := by decide +kernel
theorem dX0_lawOf_45 : decode mi_X0_lawOf.2.1 45 = .ok (.aload_n 0, 1) := by decide +kernel
theorem dX0_lawOf_46 : decode mi_X0_lawOf.2.1 46 = .ok (.getfield 85, 3) := by decide +kernel
theorem dX0_lawOf_49 : decode mi_X0_lawOf.2.1 49 = .ok (.iload_n 3, 1) := by decide +kernel
theorem dX0_lawOf_50 : decode mi_X0_lawOf.2.1 50 = .ok (.aaload, 1) := by decide +kernel
theorem dX0_lawOf_51 : decode mi_X0_lawOf.2.1 51 = .ok (.astore_n 2, 1) := by decide +kernel
theorem dX0_lawOf_52 : decode mi_X0_lawOf.2.1 52 = .ok (.iinc 3 1, 3) := by decide +kernel
theorem dX0_lawOf_55 : decode mi_X0_lawOf.2.1 55 = .ok (.goto (-51), 3) := by decide +kernel
theorem dX0_lawOf_58 : decode mi_X0_lawOf.2.1 58 = .ok (.aload_n 2, 1) := by decide +kernel
theorem dX0_lawOf_59 : decode mi_X0_lawOf.2.1 59 = .ok (.areturn, 1) := by decide +kernel
theorem v_X0_lawOf {G : ma_G} {d : Nat} {a0 : Nat} {x1 : Int32} {h : ah_T} {Q : Option ma_V → ah_T → Prop} {E : Nat → ah_T → Prop} (La0_h : LY0 h a0) (H : MX G mi_X0_lawOf d 4 [some (rv a0), some (iv x1), some (rv 0), some (iv (0 : Int32))] [] h Q E) : MX G mi_X0_lawOf d 0 [some (rv a0), some (iv x1), none, none] [] h Q E := by
  refine mx_null dX0_lawOf_0 ?_
  refine mx_astore_n (al' := [some (rv a0), some (iv x1), some (rv 0), none]) dX0_lawOf_1 rfl (Nat.le_of_ble_eq_true rfl) rfl ?_
  refine mx_iconst dX0_lawOf_2 ic_0 ?_
  refine mx_istore_n (al' := [some (rv a0), some (iv x1), some (rv 0), some (iv (0 : Int32))]) dX0_lawOf_3 rfl (Nat.le_of_ble_eq_true rfl) rfl ?_
  exact mx_weak (al' := [some (rv a0), some (iv x1), some (rv 0), some (iv (0 : Int32))]) ⟨rfl, ⟨rfl, ⟨rfl, ⟨rfl, trivial⟩⟩⟩⟩ H
theorem v_X0_lawOf_4 {G : ma_G} {d : Nat} {a0 : Nat} {x1 : Int32} {a2 : Nat} {x3 : Int32} {h : ah_T} {Q : Option ma_V → ah_T → Prop} {E : Nat → ah_T → Prop} (La0_h : LY0 h a0) (H : ((ah_I h a0 18) ≤ x3 → Q (some (rv a2)) h) ∧ (¬ (ah_I h a0 18) ≤ x3 → vp_in x3 4 ∧ ah_kd h (ah_R h (a0 + 1437) x3.toNatClampNeg) = 16 ∧ (x1 < (ah_I h (ah_R h (a0 + 1437) x3.toNatClampNeg) 3) → MX G mi_X0_lawOf d 4 [some (rv a0), some (iv x1), some (rv a2), some (iv (x3 + (1 : Int32)))] [] h Q E) ∧ (¬ x1 < (ah_I h (ah_R h (a0 + 1437) x3.toNatClampNeg) 3) → (a2 = 0 → MX G mi_X0_lawOf d 4 [some (rv a0), some (iv x1), some (rv (ah_R h (a0 + 1437) x3.toNatClampNeg)), some (iv (x3 + (1 : Int32)))] [] h Q E) ∧ (¬ a2 = 0 → ah_kd h a2 = 16 ∧ ((ah_I h (ah_R h (a0 + 1437) x3.toNatClampNeg) 3) < (ah_I h a2 3) → MX G mi_X0_lawOf d 4 [some (rv a0), some (iv x1), some (rv a2), some (iv (x3 + (1 : Int32)))] [] h Q E) ∧ (¬ (ah_I h (ah_R h (a0 + 1437) x3.toNatClampNeg) 3) < (ah_I h a2 3) → MX G mi_X0_lawOf d 4 [some (rv a0), some (iv x1), some (rv (ah_R h (a0 + 1437) x3.toNatClampNeg)), some (iv (x3 + (1 : Int32)))] [] h Q E))))) : MX G mi_X0_lawOf d 4 [some (rv a0), some (iv x1), some (rv a2), some (iv x3)] [] h Q E := by
  refine mx_iload_n dX0_lawOf_4 rfl rfl ?_
  refine mx_aload_n dX0_lawOf_5 rfl rfl ?_
  refine mx_get 0 18 (ref := "PrairiePool") cl_0 (Nat.le_of_ble_eq_true rfl) (Or.inl q478) (Or.inl rfl) dX0_lawOf_6 (fv_0_18 _ _) (ly0_k La0_h) ?_
  refine mx_icmp_ge (tgt := 58) dX0_lawOf_9 rfl (fun c1 => ?_) (fun c1 => ?_)
  · have H := H.1 c1
    refine mx_aload_n dX0_lawOf_58 rfl rfl ?_
    exact mx_aret rfl (by first | exact Or.inl ⟨_, rfl⟩ | exact Or.inr ⟨_, rfl⟩) dX0_lawOf_59 H
  · have H := H.2 c1
    refine mx_aload_n dX0_lawOf_12 rfl rfl ?_
    refine mx_get 0 13 (ref := "PrairiePool") cl_0 (Nat.le_of_ble_eq_true rfl) (Or.inl q473) (Or.inl rfl) dX0_lawOf_13 (fv_0_13 _ _) (ly0_k La0_h) ?_
    refine mx_tr (ly0_R_0_13 La0_h) ?_
    refine mx_iload_n dX0_lawOf_16 rfl rfl ?_
    obtain ⟨k2, H⟩ := H
    refine my_aald 9 dX0_lawOf_17 (by decide) rfl (ly0_A_1437 La0_h k2) ?_
    obtain ⟨k3, H⟩ := H
    refine mx_get 15 3 (ref := "PrairiePool$Law") cl_15 (Nat.le_of_ble_eq_true rfl) (Or.inr ⟨_, q1196⟩) (Or.inl rfl) dX0_lawOf_18 (fv_15_3 _ _) k3 ?_
    refine mx_iload_n dX0_lawOf_21 rfl rfl ?_
    refine mx_icmp_gt (tgt := 52) dX0_lawOf_22 rfl (fun c4 => ?_) (fun c4 => ?_)
    · have H := H.1 c4
      refine mx_iinc (al' := [some (rv a0), some (iv x1), some (rv a2), some (iv (x3 + (1 : Int32)))]) dX0_lawOf_52 rfl ic_1 rfl ?_
      refine mx_goto (tgt := 4) dX0_lawOf_55 rfl ?_
      exact mx_weak (al' := [some (rv a0), some (iv x1), some (rv a2), some (iv (x3 + (1 : Int32)))]) ⟨rfl, ⟨rfl, ⟨rfl, ⟨rfl, trivial⟩⟩⟩⟩ H
    · have H := H.2 c4
      refine mx_aload_n dX0_lawOf_25 rfl rfl ?_
      refine mx_ifnull (tgt := 45) dX0_lawOf_26 rfl (fun c5 => ?_) (fun c5 => ?_)
      · have H := H.1 c5
        refine mx_aload_n dX0_lawOf_45 rfl rfl ?_
        refine mx_get 0 13 (ref := "PrairiePool") cl_0 (Nat.le_of_ble_eq_true rfl) (Or.inl q473) (Or.inl rfl) dX0_lawOf_46 (fv_0_13 _ _) (ly0_k La0_h) ?_
        refine mx_tr (ly0_R_0_13 La0_h) ?_
        refine mx_iload_n dX0_lawOf_49 rfl rfl ?_
        refine my_aald 9 dX0_lawOf_50 (by decide) rfl (ly0_A_1437 La0_h k2) ?_
        refine mx_astore_n (al' := [some (rv a0), some (iv x1), some (rv (ah_R h (a0 + 1437) x3.toNatClampNeg)), some (iv x3)]) dX0_lawOf_51 rfl (Nat.le_of_ble_eq_true rfl) rfl ?_
        refine mx_iinc (al' := [some (rv a0), some (iv x1), some (rv (ah_R h (a0 + 1437) x3.toNatClampNeg)), some (iv (x3 + (1 : Int32)))]) dX0_lawOf_52 rfl ic_1 rfl ?_
        refine mx_goto (tgt := 4) dX0_lawOf_55 rfl ?_
        exact mx_weak (al' := [some (rv a0), some (iv x1), some (rv (ah_R h (a0 + 1437) x3.toNatClampNeg)), some (iv (x3 + (1 : Int32)))]) ⟨rfl, ⟨rfl, ⟨rfl, ⟨rfl, trivial⟩⟩⟩⟩ H
      · have H := H.2 c5
        refine mx_aload_n dX0_lawOf_29 rfl rfl ?_
        refine mx_get 0 13 (ref := "PrairiePool") cl_0 (Nat.le_of_ble_eq_true rfl) (Or.inl q473) (Or.inl rfl) dX0_lawOf_30 (fv_0_13 _ _) (ly0_k La0_h) ?_
        refine mx_tr (ly0_R_0_13 La0_h) ?_
        refine mx_iload_n dX0_lawOf_33 rfl rfl ?_
        refine my_aald 9 dX0_lawOf_34 (by decide) rfl (ly0_A_1437 La0_h k2) ?_
        refine mx_get 15 3 (ref := "PrairiePool$Law") cl_15 (Nat.le_of_ble_eq_true rfl) (Or.inr ⟨_, q1196⟩) (Or.inl rfl) dX0_lawOf_35 (fv_15_3 _ _) k3 ?_
        refine mx_aload_n dX0_lawOf_38 rfl rfl ?_
        obtain ⟨k6, H⟩ := H
        refine mx_get 15 3 (ref := "PrairiePool$Law") cl_15 (Nat.le_of_ble_eq_true rfl) (Or.inr ⟨_, q1196⟩) (Or.inl rfl) dX0_lawOf_39 (fv_15_3 _ _) k6 ?_
        refine mx_icmp_lt (tgt := 52) dX0_lawOf_42 rfl (fun c7 => ?_) (fun c7 => ?_)
        · have H := H.1 c7
          refine mx_iinc (al' := [some (rv a0), some (iv x1), some (rv a2), some (iv (x3 + (1 : Int32)))]) dX0_lawOf_52 rfl ic_1 rfl ?_
          refine mx_goto (tgt := 4) dX0_lawOf_55 rfl ?_
          exact mx_weak (al' := [some (rv a0), some (iv x1), some (rv a2), some (iv (x3 + (1 : Int32)))]) ⟨rfl, ⟨rfl, ⟨rfl, ⟨rfl, trivial⟩⟩⟩⟩ H
        · have H := H.2 c7
          refine mx_aload_n dX0_lawOf_45 rfl rfl ?_
          refine mx_get 0 13 (ref := "PrairiePool") cl_0 (Nat.le_of_ble_eq_true rfl) (Or.inl q473) (Or.inl rfl) dX0_lawOf_46 (fv_0_13 _ _) (ly0_k La0_h) ?_
          refine mx_tr (ly0_R_0_13 La0_h) ?_
          refine mx_iload_n dX0_lawOf_49 rfl rfl ?_
          refine my_aald 9 dX0_lawOf_50 (by decide) rfl (ly0_A_1437 La0_h k2) ?_
          refine mx_astore_n (al' := [some (rv a0), some (iv x1), some (rv (ah_R h (a0 + 1437) x3.toNatClampNeg)), some (iv x3)]) dX0_lawOf_51 rfl (Nat.le_of_ble_eq_true rfl) rfl ?_
          refine mx_iinc (al' := [some (rv a0), some (iv x1), some (rv (ah_R h (a0 + 1437) x3.toNatClampNeg)), some (iv (x3 + (1 : Int32)))]) dX0_lawOf_52 rfl ic_1 rfl ?_
          refine mx_goto (tgt := 4) dX0_lawOf_55 rfl ?_
          exact mx_weak (al' := [some (rv a0), some (iv x1), some (rv (ah_R h (a0 + 1437) x3.toNatClampNeg)), some (iv (x3 + (1 : Int32)))]) ⟨rfl, ⟨rfl, ⟨rfl, ⟨rfl, trivial⟩⟩⟩⟩ H
theorem dX0_clear_0 : decode mi_X0_clear.2.1 0 = .ok (.iconst 0, 1) := by decide +kernel
theorem dX0_clear_1 : decode mi_X0_clear.2.1 1 = .ok (.istore_n 1, 1) := by decide +kernel
theorem dX0_clear_2 : decode mi_X0_clear.2.1 2 = .ok (.iload_n 1, 1) := by decide +kernel
theorem dX0_clear_3 : decode mi_X0_clear.2.1 3 = .ok (.bipush 11, 2) := by decide +kernel
theorem dX0_clear_5 : decode mi_X0_clear.2.1 5 = .ok (.if_icmp .ge 19, 3) := by decide +kernel
theorem dX0_clear_8 : decode mi_X0_clear.2.1 8 = .ok (.aload_n 0, 1) := by decide +kernel
theorem dX0_clear_9 : decode mi_X0_clear.2.1 9 = .ok (.getfield 79, 3) := by decide +kernel
theorem dX0_clear_12 : decode mi_X0_clear.2.1 12 = .ok (.getfield 423, 3) := by decide +kernel
theorem dX0_clear_15 : decode mi_X0_clear.2.1 15 = .ok (.iload_n 1, 1) := by decide +kernel
theorem dX0_clear_16 : decode mi_X0_clear.2.1 16 = .ok (.lconst 0, 1) := by decide +kernel
theorem dX0_clear_17 : decode mi_X0_clear.2.1 17 = .ok (.lastore, 1) := by decide +kernel
theorem dX0_clear_18 : decode mi_X0_clear.2.1 18 = .ok (.iinc 1 1, 3) := by decide +kernel
theorem dX0_clear_21 : decode mi_X0_clear.2.1 21 = .ok (.goto (-19), 3) := by decide +kernel
theorem dX0_clear_24 : decode mi_X0_clear.2.1 24 = .ok (.aload_n 0, 1) := by decide +kernel
theorem dX0_clear_25 : decode mi_X0_clear.2.1 25 = .ok (.getfield 79, 3) := by decide +kernel
theorem dX0_clear_28 : decode mi_X0_clear.2.1 28 = .ok (.getfield 423, 3) := by decide +kernel
theorem dX0_clear_31 : decode mi_X0_clear.2.1 31 = .ok (.areturn, 1) := by decide +kernel
theorem v_X0_clear {G : ma_G} {d : Nat} {a0 : Nat} {h : ah_T} {Q : Option ma_V → ah_T → Prop} {E : Nat → ah_T → Prop} (La0_h : LY0 h a0) (H : MX G mi_X0_clear d 2 [some (rv a0), some (iv (0 : Int32))] [] h Q E) : MX G mi_X0_clear d 0 [some (rv a0), none] [] h Q E := by
  refine mx_iconst dX0_clear_0 ic_0 ?_
  refine mx_istore_n (al' := [some (rv a0), some (iv (0 : Int32))]) dX0_clear_1 rfl (Nat.le_of_ble_eq_true rfl) rfl ?_
  exact mx_weak (al' := [some (rv a0), some (iv (0 : Int32))]) ⟨rfl, ⟨rfl, trivial⟩⟩ H
theorem v_X0_clear_2 {G : ma_G} {d : Nat} {a0 : Nat} {x1 : Int32} {h : ah_T} {Q : Option ma_V → ah_T → Prop} {E : Nat → ah_T → Prop} (La0_h : LY0 h a0) (H : ((11 : Int32) ≤ x1 → Q (some (rv (a0 + 1434))) h) ∧ (¬ (11 : Int32) ≤ x1 → vp_in x1 11 ∧ ∀ h3 : ah_T, h3 = ah_wJ h (a0 + 1434) x1.toNatClampNeg (0 : Int64) → ah_ext h h3 → MX G mi_X0_clear d 2 [some (rv a0), some (iv (x1 + (1 : Int32)))] [] h3 Q E)) : MX G mi_X0_clear d 2 [some (rv a0), some (iv x1)] [] h Q E := by
  refine mx_iload_n dX0_clear_2 rfl rfl ?_
  refine mx_bipush dX0_clear_3 ib_11 ?_
  refine mx_icmp_ge (tgt := 24) dX0_clear_5 rfl (fun c1 => ?_) (fun c1 => ?_)
  · have H := H.1 c1
    refine mx_aload_n dX0_clear_24 rfl rfl ?_
    refine mx_get 0 12 (ref := "PrairiePool") cl_0 (Nat.le_of_ble_eq_true rfl) (Or.inl q472) (Or.inl rfl) dX0_clear_25 (fv_0_12 _ _) (ly0_k La0_h) ?_
    refine mx_tr (ly0_R_0_12 La0_h) ?_
    refine mx_get 6 0 (ref := "PrairiePool$Asked") cl_6 (Nat.le_of_ble_eq_true rfl) (Or.inr ⟨_, q421⟩) (Or.inl rfl) dX0_clear_28 (fv_6_0 _ _) (ly0_K_1433 La0_h) ?_
    refine mx_tr (ly0_R_1433_0 La0_h) ?_
    exact mx_aret rfl (by first | exact Or.inl ⟨_, rfl⟩ | exact Or.inr ⟨_, rfl⟩) dX0_clear_31 H
  · have H := H.2 c1
    refine mx_aload_n dX0_clear_8 rfl rfl ?_
    refine mx_get 0 12 (ref := "PrairiePool") cl_0 (Nat.le_of_ble_eq_true rfl) (Or.inl q472) (Or.inl rfl) dX0_clear_9 (fv_0_12 _ _) (ly0_k La0_h) ?_
    refine mx_tr (ly0_R_0_12 La0_h) ?_
    refine mx_get 6 0 (ref := "PrairiePool$Asked") cl_6 (Nat.le_of_ble_eq_true rfl) (Or.inr ⟨_, q421⟩) (Or.inl rfl) dX0_clear_12 (fv_6_0 _ _) (ly0_K_1433 La0_h) ?_
    refine mx_tr (ly0_R_1433_0 La0_h) ?_
    refine mx_iload_n dX0_clear_15 rfl rfl ?_
    refine mx_lconst dX0_clear_16 lc_0 ?_
    obtain ⟨k2, H⟩ := H
    refine my_last dX0_clear_17 rfl (ly0_A_1434 La0_h k2) ?_
    refine mx_nmJ  (fun h3 eh3 Xh3 Kh3 Lh3 => ?_)
    have H := H h3 eh3 Xh3
    have La0_h3 := La0_h.ext Xh3
    refine mx_iinc (al' := [some (rv a0), some (iv (x1 + (1 : Int32)))]) dX0_clear_18 rfl ic_1 rfl ?_
    refine mx_goto (tgt := 2) dX0_clear_21 rfl ?_
    exact mx_weak (al' := [some (rv a0), some (iv (x1 + (1 : Int32)))]) ⟨rfl, ⟨rfl, trivial⟩⟩ H
theorem dX0_asks_0 : decode mi_X0_asks.2.1 0 = .ok (.aload_n 0, 1) := by decide +kernel
theorem dX0_asks_1 : decode mi_X0_asks.2.1 1 = .ok (.getfield 335, 3) := by decide +kernel
theorem dX0_asks_4 : decode mi_X0_asks.2.1 4 = .ok (.ifnonnull 7, 3) := by decide +kernel
theorem dX0_asks_7 : decode mi_X0_asks.2.1 7 = .ok (.iconst (-1), 1) := by decide +kernel
theorem dX0_asks_8 : decode mi_X0_asks.2.1 8 = .ok (.goto 11, 3) := by decide +kernel
theorem dX0_asks_11 : decode mi_X0_asks.2.1 11 = .ok (.aload_n 0, 1) := by decide +kernel
theorem dX0_asks_12 : decode mi_X0_asks.2.1 12 = .ok (.getfield 335, 3) := by decide +kernel
theorem dX0_asks_15 : decode mi_X0_asks.2.1 15 = .ok (.lload_n 1, 1) := by decide +kernel
theorem dX0_asks_16 : decode mi_X0_asks.2.1 16 = .ok (.invokevirtual 426, 3) := by decide +kernel
theorem dX0_asks_19 : decode mi_X0_asks.2.1 19 = .ok (.istore 9, 2) := by decide +kernel
theorem dX0_asks_21 : decode mi_X0_asks.2.1 21 = .ok (.iload 9, 2) := by decide +kernel
theorem dX0_asks_23 : decode mi_X0_asks.2.1 23 = .ok (.iconst (-1), 1) := by decide +kernel
theorem dX0_asks_24 : decode mi_X0_asks.2.1 24 = .ok (.if_icmp .eq 19, 3) := by decide +kernel
theorem dX0_asks_27 : decode mi_X0_asks.2.1 27 = .ok (.aload_n 0, 1) := by decide +kernel
theorem dX0_asks_28 : decode mi_X0_asks.2.1 28 = .ok (.getfield 335, 3) := by decide +kernel
theorem dX0_asks_31 : decode mi_X0_asks.2.1 31 = .ok (.aload_n 0, 1) := by decide +kernel
theorem dX0_asks_32 : decode mi_X0_asks.2.1 32 = .ok (.getfield 79, 3) := by decide +kernel
theorem dX0_asks_35 : decode mi_X0_asks.2.1 35 = .ok (.iload 9, 2) := by decide +kernel
theorem dX0_asks_37 : decode mi_X0_asks.2.1 37 = .ok (.invokevirtual 430, 3) := by decide +kernel
theorem dX0_asks_40 : decode mi_X0_asks.2.1 40 = .ok (.ifCond .ne 5, 3) := by decide +kernel
theorem dX0_asks_43 : decode mi_X0_asks.2.1 43 = .ok (.lload_n 3, 1) := by decide +kernel
theorem dX0_asks_44 : decode mi_X0_asks.2.1 44 = .ok (.lreturn, 1) := by decide +kernel
theorem dX0_asks_45 : decode mi_X0_asks.2.1 45 = .ok (.lload 5, 2) := by decide +kernel
theorem dX0_asks_47 : decode mi_X0_asks.2.1 47 = .ok (.lload 7, 2) := by decide +kernel
theorem dX0_asks_49 : decode mi_X0_asks.2.1 49 = .ok (.aload_n 0, 1) := by decide +kernel
theorem dX0_asks_50 : decode mi_X0_asks.2.1 50 = .ok (.getfield 79, 3) := by decide +kernel
theorem dX0_asks_53 : decode mi_X0_asks.2.1 53 = .ok (.getfield 434, 3) := by decide +kernel
theorem dX0_asks_56 : decode mi_X0_asks.2.1 56 = .ok (.iload 9, 2) := by decide +kernel
theorem dX0_asks_58 : decode mi_X0_asks.2.1 58 = .ok (.laload, 1) := by decide +kernel
theorem dX0_asks_59 : decode mi_X0_asks.2.1 59 = .ok (.invokestatic 437, 3) := by decide +kernel
theorem dX0_asks_62 : decode mi_X0_asks.2.1 62 = .ok (.invokestatic 443, 3) := by decide +kernel
theorem dX0_asks_65 : decode mi_X0_asks.2.1 65 = .ok (.lreturn, 1) := by decide +kernel
theorem v_X0_asks {G : ma_G} {d : Nat} {a0 : Nat} {x1 : Int64} {x3 : Int64} {x5 : Int64} {x7 : Int64} {h : ah_T} {Q : Option ma_V → ah_T → Prop} {E : Nat → ah_T → Prop} (La0_h : LY0 h a0) (H : (¬ (ah_R h a0 23) = 0 → ah_kd h (ah_R h a0 23) = 16 ∧ MX G mi_X17_find d 0 [some (rv (ah_R h a0 23)), some (jv x1), none, none] [] h (Qi fun r4 h3 => ah_ext h h3 → MX G mi_X0_asks (d + 1) 19 [some (rv a0), none, none, some (jv x3), none, some (jv x5), none, some (jv x7), none, none] [iv r4] h3 Q E) E) ∧ ((ah_R h a0 23) = 0 → MX G mi_X0_asks (d + 1) 19 [some (rv a0), none, none, some (jv x3), none, some (jv x5), none, some (jv x7), none, none] [iv (-1 : Int32)] h Q E)) : MX G mi_X0_asks (d + 1) 0 [some (rv a0), some (jv x1), none, some (jv x3), none, some (jv x5), none, some (jv x7), none, none] [] h Q E := by
  refine mx_aload_n dX0_asks_0 rfl rfl ?_
  refine mx_get 0 23 (ref := "PrairiePool") cl_0 (Nat.le_of_ble_eq_true rfl) (Or.inl q483) (Or.inl rfl) dX0_asks_1 (fv_0_23 _ _) (ly0_k La0_h) ?_
  refine mx_ifnonnull (tgt := 11) dX0_asks_4 rfl (fun c1 => ?_) (fun c1 => ?_)
  · have H := H.1 c1
    refine mx_aload_n dX0_asks_11 rfl rfl ?_
    refine mx_get 0 23 (ref := "PrairiePool") cl_0 (Nat.le_of_ble_eq_true rfl) (Or.inl q483) (Or.inl rfl) dX0_asks_12 (fv_0_23 _ _) (ly0_k La0_h) ?_
    refine mx_lload_n dX0_asks_15 rfl rfl ?_
    obtain ⟨k2, H⟩ := H
    refine mx_callV 15 (y' := mi_X17_find) (vs := [jv x1]) (st := []) (al' := [some (rv (ah_R h a0 23)), some (jv x1), none, none]) cl_15 V_X17_find (Or.inl q1019) dX0_asks_16 rfl rfl (Nat.le_of_ble_eq_true rfl) (Nat.le_of_ble_eq_true rfl) k2 ?_
    refine ma_ki H (fun r4 h3 Xh3 H => ?_) (fun x1 h1 X1 H => mt_out rfl H)
    have H := H Xh3
    have k5 := Xh3.kd (k2)
    have La0_h3 := La0_h.ext Xh3
    exact mx_weak (al' := [some (rv a0), none, none, some (jv x3), none, some (jv x5), none, some (jv x7), none, none]) ⟨rfl, ⟨rfl, ⟨rfl, ⟨rfl, trivial⟩⟩⟩⟩ H
  · have H := H.2 c1
    refine mx_iconst dX0_asks_7 ic_m1 ?_
    refine mx_goto (tgt := 19) dX0_asks_8 rfl ?_
    exact mx_weak (al' := [some (rv a0), none, none, some (jv x3), none, some (jv x5), none, some (jv x7), none, none]) ⟨rfl, ⟨rfl, ⟨rfl, ⟨rfl, trivial⟩⟩⟩⟩ H
theorem v_X0_asks_19 {G : ma_G} {d : Nat} {a0 : Nat} {x3 : Int64} {x5 : Int64} {x7 : Int64} {z0 : Int32} {h : ah_T} {Q : Option ma_V → ah_T → Prop} {E : Nat → ah_T → Prop} (La0_h : LY0 h a0) (H : (z0 = (-1 : Int32) → Q (some (jv x3)) h) ∧ (¬ z0 = (-1 : Int32) → ah_kd h (ah_R h a0 23) = 16 ∧ MX G mi_X17_works d 0 [some (rv (ah_R h a0 23)), some (rv (a0 + 1433)), some (iv z0), none, none] [] h (Qi fun r4 h3 => ah_ext h h3 → (¬ r4 = 0 → vp_in z0 10 ∧ Q (some (jv (jMax x5 (jMin x7 (ah_J h3 (a0 + 1435) z0.toNatClampNeg))))) h3) ∧ (r4 = 0 → Q (some (jv x3)) h3)) E)) : MX G mi_X0_asks (d + 1) 19 [some (rv a0), none, none, some (jv x3), none, some (jv x5), none, some (jv x7), none, none] [iv z0] h Q E := by
  refine mx_istore (al' := [some (rv a0), none, none, some (jv x3), none, some (jv x5), none, some (jv x7), none, some (iv z0)]) dX0_asks_19 (Nat.le_of_ble_eq_true rfl) rfl ?_
  refine mx_iload dX0_asks_21 rfl ?_
  refine mx_iconst dX0_asks_23 ic_m1 ?_
  refine mx_icmp_eq (tgt := 43) dX0_asks_24 rfl (fun c1 => ?_) (fun c1 => ?_)
  · have H := H.1 c1
    refine mx_lload_n dX0_asks_43 rfl rfl ?_
    exact mx_lret rfl dX0_asks_44 H
  · have H := H.2 c1
    refine mx_aload_n dX0_asks_27 rfl rfl ?_
    refine mx_get 0 23 (ref := "PrairiePool") cl_0 (Nat.le_of_ble_eq_true rfl) (Or.inl q483) (Or.inl rfl) dX0_asks_28 (fv_0_23 _ _) (ly0_k La0_h) ?_
    refine mx_aload_n dX0_asks_31 rfl rfl ?_
    refine mx_get 0 12 (ref := "PrairiePool") cl_0 (Nat.le_of_ble_eq_true rfl) (Or.inl q472) (Or.inl rfl) dX0_asks_32 (fv_0_12 _ _) (ly0_k La0_h) ?_
    refine mx_tr (ly0_R_0_12 La0_h) ?_
    refine mx_iload dX0_asks_35 rfl ?_
    obtain ⟨k2, H⟩ := H
    refine mx_callV 15 (y' := mi_X17_works) (vs := [rv (a0 + 1433), iv z0]) (st := []) (al' := [some (rv (ah_R h a0 23)), some (rv (a0 + 1433)), some (iv z0), none, none]) cl_15 V_X17_works (Or.inl q1023) dX0_asks_37 rfl rfl (Nat.le_of_ble_eq_true rfl) (Nat.le_of_ble_eq_true rfl) k2 ?_
    refine ma_ki H (fun r4 h3 Xh3 H => ?_) (fun x1 h1 X1 H => mt_out rfl H)
    have H := H Xh3
    have k5 := Xh3.kd (k2)
    have La0_h3 := La0_h.ext Xh3
    refine mx_if_ne (tgt := 45) dX0_asks_40 rfl (fun c6 => ?_) (fun c6 => ?_)
    · have H := H.1 c6
      refine mx_lload dX0_asks_45 rfl ?_
      refine mx_lload dX0_asks_47 rfl ?_
      refine mx_aload_n dX0_asks_49 rfl rfl ?_
      refine mx_get 0 12 (ref := "PrairiePool") cl_0 (Nat.le_of_ble_eq_true rfl) (Or.inl q472) (Or.inl rfl) dX0_asks_50 (fv_0_12 _ _) (ly0_k La0_h3) ?_
      refine mx_tr (ly0_R_0_12 La0_h3) ?_
      refine mx_get 6 1 (ref := "PrairiePool$Asked") cl_6 (Nat.le_of_ble_eq_true rfl) (Or.inr ⟨_, q425⟩) (Or.inl rfl) dX0_asks_53 (fv_6_1 _ _) (ly0_K_1433 La0_h3) ?_
      refine mx_tr (ly0_R_1433_1 La0_h3) ?_
      refine mx_iload dX0_asks_56 rfl ?_
      obtain ⟨k7, H⟩ := H
      refine my_lald dX0_asks_58 rfl (ly0_A_1435 La0_h3 k7) ?_
      refine mx_callS (y' := mi_J8_min) (vs := [jv x7, jv (ah_J h3 (a0 + 1435) z0.toNatClampNeg)]) (st := [jv x5]) (al' := [some (jv x7), none, some (jv (ah_J h3 (a0 + 1435) z0.toNatClampNeg)), none]) S_J8_min q1063 dX0_asks_59 rfl rfl (Nat.le_of_ble_eq_true rfl) (Nat.le_of_ble_eq_true rfl) ?_
      refine pv_J8_min ?_
      refine mx_callS (y' := mi_J8_max) (vs := [jv x5, jv (jMin x7 (ah_J h3 (a0 + 1435) z0.toNatClampNeg))]) (st := []) (al' := [some (jv x5), none, some (jv (jMin x7 (ah_J h3 (a0 + 1435) z0.toNatClampNeg))), none]) S_J8_max q1064 dX0_asks_62 rfl rfl (Nat.le_of_ble_eq_true rfl) (Nat.le_of_ble_eq_true rfl) ?_
      refine pv_J8_max ?_
      exact mx_lret rfl dX0_asks_65 H
    · have H := H.2 c6
      refine mx_lload_n dX0_asks_43 rfl rfl ?_
      exact mx_lret rfl dX0_asks_44 H
theorem dX0_bin_0 : decode mi_X0_bin.2.1 0 = .ok (.aload_n 0, 1) := by decide +kernel
theorem dX0_bin_1 : decode mi_X0_bin.2.1 1 = .ok (.iload_n 1, 1) := by decide +kernel
theorem dX0_bin_2 : decode mi_X0_bin.2.1 2 = .ok (.invokevirtual 278, 3) := by decide +kernel
theorem dX0_bin_5 : decode mi_X0_bin.2.1 5 = .ok (.ifCond .eq 25, 3) := by decide +kernel
theorem dX0_bin_8 : decode mi_X0_bin.2.1 8 = .ok (.iload_n 2, 1) := by decide +kernel
theorem dX0_bin_9 : decode mi_X0_bin.2.1 9 = .ok (.invokestatic 301, 3) := by decide +kernel
theorem dX0_bin_12 : decode mi_X0_bin.2.1 12 = .ok (.ifCond .eq 18, 3) := by decide +kernel
theorem dX0_bin_15 : decode mi_X0_bin.2.1 15 = .ok (.iload 4, 2) := by decide +kernel
theorem dX0_bin_17 : decode mi_X0_bin.2.1 17 = .ok (.iconst (-1), 1) := by decide +kernel
theorem dX0_bin_18 : decode mi_X0_bin.2.1 18 = .ok (.if_icmp .eq 18, 3) := by decide +kernel
theorem dX0_bin_21 : decode mi_X0_bin.2.1 21 = .ok (.aload_n 0, 1) := by decide +kernel
theorem dX0_bin_22 : decode mi_X0_bin.2.1 22 = .ok (.iload 4, 2) := by decide +kernel
theorem dX0_bin_24 : decode mi_X0_bin.2.1 24 = .ok (.invokevirtual 275, 3) := by decide +kernel
theorem dX0_bin_27 : decode mi_X0_bin.2.1 27 = .ok (.ifCond .ne 9, 3) := by decide +kernel
theorem dX0_bin_30 : decode mi_X0_bin.2.1 30 = .ok (.aload_n 0, 1) := by decide +kernel
theorem dX0_bin_31 : decode mi_X0_bin.2.1 31 = .ok (.iconst 2, 1) := by decide +kernel
theorem dX0_bin_32 : decode mi_X0_bin.2.1 32 = .ok (.invokevirtual 205, 3) := by decide +kernel
theorem dX0_bin_35 : decode mi_X0_bin.2.1 35 = .ok (.ireturn, 1) := by decide +kernel
theorem dX0_bin_36 : decode mi_X0_bin.2.1 36 = .ok (.iload_n 3, 1) := by decide +kernel
theorem dX0_bin_37 : decode mi_X0_bin.2.1 37 = .ok (.invokestatic 304, 3) := by decide +kernel
theorem dX0_bin_40 : decode mi_X0_bin.2.1 40 = .ok (.ifCond .eq 11, 3) := by decide +kernel
theorem dX0_bin_43 : decode mi_X0_bin.2.1 43 = .ok (.iload 5, 2) := by decide +kernel
theorem dX0_bin_45 : decode mi_X0_bin.2.1 45 = .ok (.invokestatic 260, 3) := by decide +kernel
theorem dX0_bin_48 : decode mi_X0_bin.2.1 48 = .ok (.ifCond .ne 9, 3) := by decide +kernel
theorem dX0_bin_51 : decode mi_X0_bin.2.1 51 = .ok (.aload_n 0, 1) := by decide +kernel
theorem dX0_bin_52 : decode mi_X0_bin.2.1 52 = .ok (.iconst 5, 1) := by decide +kernel
theorem dX0_bin_53 : decode mi_X0_bin.2.1 53 = .ok (.invokevirtual 205, 3) := by decide +kernel
theorem dX0_bin_56 : decode mi_X0_bin.2.1 56 = .ok (.ireturn, 1) := by decide +kernel
theorem dX0_bin_57 : decode mi_X0_bin.2.1 57 = .ok (.aload_n 0, 1) := by decide +kernel
theorem dX0_bin_58 : decode mi_X0_bin.2.1 58 = .ok (.iload 5, 2) := by decide +kernel
theorem dX0_bin_60 : decode mi_X0_bin.2.1 60 = .ok (.invokevirtual 387, 3) := by decide +kernel
theorem dX0_bin_63 : decode mi_X0_bin.2.1 63 = .ok (.aload_n 0, 1) := by decide +kernel
theorem dX0_bin_64 : decode mi_X0_bin.2.1 64 = .ok (.aload_n 0, 1) := by decide +kernel
theorem dX0_bin_65 : decode mi_X0_bin.2.1 65 = .ok (.getfield 49, 3) := by decide +kernel
theorem dX0_bin_68 : decode mi_X0_bin.2.1 68 = .ok (.getfield 390, 3) := by decide +kernel
theorem dX0_bin_71 : decode mi_X0_bin.2.1 71 = .ok (.iload_n 1, 1) := by decide +kernel
theorem dX0_bin_72 : decode mi_X0_bin.2.1 72 = .ok (.aaload, 1) := by decide +kernel
theorem dX0_bin_73 : decode mi_X0_bin.2.1 73 = .ok (.iload_n 2, 1) := by decide +kernel
theorem dX0_bin_74 : decode mi_X0_bin.2.1 74 = .ok (.aaload, 1) := by decide +kernel
theorem dX0_bin_75 : decode mi_X0_bin.2.1 75 = .ok (.iload_n 3, 1) := by decide +kernel
theorem dX0_bin_76 : decode mi_X0_bin.2.1 76 = .ok (.aaload, 1) := by decide +kernel
theorem dX0_bin_77 : decode mi_X0_bin.2.1 77 = .ok (.iload 4, 2) := by decide +kernel
theorem dX0_bin_79 : decode mi_X0_bin.2.1 79 = .ok (.invokevirtual 394, 3) := by decide +kernel
theorem dX0_bin_82 : decode mi_X0_bin.2.1 82 = .ok (.ireturn, 1) := by decide +kernel
theorem v_X0_bin {G : ma_G} {d : Nat} {a0 : Nat} {x1 : Int32} {x2 : Int32} {x3 : Int32} {x4 : Int32} {x5 : Int32} {h : ah_T} {Q : Option ma_V → ah_T → Prop} {E : Nat → ah_T → Prop} (La0_h : LY0 h a0) (H : (x1 < 0 → ∀ h2 : ah_T, h2 = ah_wI h a0 20 (2 : Int32) → ah_ext h h2 → Q (some (iv (-1 : Int32))) h2) ∧ (¬ x1 < 0 → ((ah_I h a0 15) ≤ x1 → ∀ h4 : ah_T, h4 = ah_wI h a0 20 (2 : Int32) → ah_ext h h4 → Q (some (iv (-1 : Int32))) h4) ∧ (¬ (ah_I h a0 15) ≤ x1 → (x2 < 0 → ∀ h6 : ah_T, h6 = ah_wI h a0 20 (2 : Int32) → ah_ext h h6 → Q (some (iv (-1 : Int32))) h6) ∧ (¬ x2 < 0 → ((6 : Int32) ≤ x2 → ∀ h8 : ah_T, h8 = ah_wI h a0 20 (2 : Int32) → ah_ext h h8 → Q (some (iv (-1 : Int32))) h8) ∧ (¬ (6 : Int32) ≤ x2 → (x4 = (-1 : Int32) → MX G mi_X0_bin (d + 2) 36 [some (rv a0), some (iv x1), some (iv x2), some (iv x3), some (iv x4), some (iv x5)] [] h Q E) ∧ (¬ x4 = (-1 : Int32) → (x4 < 0 → ∀ h11 : ah_T, h11 = ah_wI h a0 20 (2 : Int32) → ah_ext h h11 → Q (some (iv (-1 : Int32))) h11) ∧ (¬ x4 < 0 → ((ah_I h a0 14) ≤ x4 → ∀ h13 : ah_T, h13 = ah_wI h a0 20 (2 : Int32) → ah_ext h h13 → Q (some (iv (-1 : Int32))) h13) ∧ (¬ (ah_I h a0 14) ≤ x4 → MX G mi_X0_bin (d + 2) 36 [some (rv a0), some (iv x1), some (iv x2), some (iv x3), some (iv x4), some (iv x5)] [] h Q E)))))))) : MX G mi_X0_bin (d + 2) 0 [some (rv a0), some (iv x1), some (iv x2), some (iv x3), some (iv x4), some (iv x5)] [] h Q E := by
  refine mx_aload_n dX0_bin_0 rfl rfl ?_
  refine mx_iload_n dX0_bin_1 rfl rfl ?_
  refine mx_callV 0 (y' := mi_X0_isElevator) (vs := [iv x1]) (st := []) (al' := [some (rv a0), some (iv x1)]) cl_0 V_X0_isElevator (Or.inl q831) dX0_bin_2 rfl rfl (Nat.le_of_ble_eq_true rfl) (Nat.le_of_ble_eq_true rfl) (ly0_k La0_h) ?_
  refine mx_iload_n dX0_isElevator_0 rfl rfl ?_
  refine mx_if_lt (tgt := 16) dX0_isElevator_1 rfl (fun c1 => ?_) (fun c1 => ?_)
  · have H := H.1 c1
    refine mx_iconst dX0_isElevator_16 ic_0 ?_
    refine mx_zretK rfl dX0_isElevator_17 (Or.inl rfl) ?_
    refine mx_if_eq (tgt := 30) dX0_bin_5 rfl (fun _ => ?_) (fun _ => absurd ‹_› (by decide))
    refine mx_aload_n dX0_bin_30 rfl rfl ?_
    refine mx_iconst dX0_bin_31 ic_2 ?_
    refine mx_callV 0 (y' := mi_X0_none) (vs := [iv (2 : Int32)]) (st := []) (al' := [some (rv a0), some (iv (2 : Int32))]) cl_0 V_X0_none (Or.inl q733) dX0_bin_32 rfl rfl (Nat.le_of_ble_eq_true rfl) (Nat.le_of_ble_eq_true rfl) (ly0_k La0_h) ?_
    refine mx_aload_n dX0_none_0 rfl rfl ?_
    refine mx_iload_n dX0_none_1 rfl rfl ?_
    refine mx_putI 0 20 (ref := "PrairiePool") cl_0 (Nat.le_of_ble_eq_true rfl) (Or.inl q480) (Or.inl rfl) dX0_none_2 (Or.inl rfl) rfl (ly0_k La0_h) ?_
    refine mx_nmI  (fun h2 eh2 Xh2 Kh2 Lh2 => ?_)
    have H := H h2 eh2 Xh2
    have La0_h2 := La0_h.ext Xh2
    refine mx_iconst dX0_none_5 ic_m1 ?_
    refine mx_iretK rfl dX0_none_6 ?_
    exact mx_iret rfl dX0_bin_35 H
  · have H := H.2 c1
    refine mx_iload_n dX0_isElevator_4 rfl rfl ?_
    refine mx_aload_n dX0_isElevator_5 rfl rfl ?_
    refine mx_get 0 15 (ref := "PrairiePool") cl_0 (Nat.le_of_ble_eq_true rfl) (Or.inl q475) (Or.inl rfl) dX0_isElevator_6 (fv_0_15 _ _) (ly0_k La0_h) ?_
    refine mx_icmp_ge (tgt := 16) dX0_isElevator_9 rfl (fun c3 => ?_) (fun c3 => ?_)
    · have H := H.1 c3
      refine mx_iconst dX0_isElevator_16 ic_0 ?_
      refine mx_zretK rfl dX0_isElevator_17 (Or.inl rfl) ?_
      refine mx_if_eq (tgt := 30) dX0_bin_5 rfl (fun _ => ?_) (fun _ => absurd ‹_› (by decide))
      refine mx_aload_n dX0_bin_30 rfl rfl ?_
      refine mx_iconst dX0_bin_31 ic_2 ?_
      refine mx_callV 0 (y' := mi_X0_none) (vs := [iv (2 : Int32)]) (st := []) (al' := [some (rv a0), some (iv (2 : Int32))]) cl_0 V_X0_none (Or.inl q733) dX0_bin_32 rfl rfl (Nat.le_of_ble_eq_true rfl) (Nat.le_of_ble_eq_true rfl) (ly0_k La0_h) ?_
      refine mx_aload_n dX0_none_0 rfl rfl ?_
      refine mx_iload_n dX0_none_1 rfl rfl ?_
      refine mx_putI 0 20 (ref := "PrairiePool") cl_0 (Nat.le_of_ble_eq_true rfl) (Or.inl q480) (Or.inl rfl) dX0_none_2 (Or.inl rfl) rfl (ly0_k La0_h) ?_
      refine mx_nmI  (fun h4 eh4 Xh4 Kh4 Lh4 => ?_)
      have H := H h4 eh4 Xh4
      have La0_h4 := La0_h.ext Xh4
      refine mx_iconst dX0_none_5 ic_m1 ?_
      refine mx_iretK rfl dX0_none_6 ?_
      exact mx_iret rfl dX0_bin_35 H
    · have H := H.2 c3
      refine mx_iconst dX0_isElevator_12 ic_1 ?_
      refine mx_goto (tgt := 17) dX0_isElevator_13 rfl ?_
      refine mx_zretK rfl dX0_isElevator_17 (Or.inr rfl) ?_
      refine mx_if_eq (tgt := 30) dX0_bin_5 rfl (fun _ => absurd ‹_› (by decide)) (fun _ => ?_)
      refine mx_iload_n dX0_bin_8 rfl rfl ?_
      refine mx_callS (y' := mi_X0_isGrade) (vs := [iv x2]) (st := []) (al' := [some (iv x2)]) S_X0_isGrade q893 dX0_bin_9 rfl rfl (Nat.le_of_ble_eq_true rfl) (Nat.le_of_ble_eq_true rfl) ?_
      refine mx_iload_n dX0_isGrade_0 rfl rfl ?_
      refine mx_if_lt (tgt := 14) dX0_isGrade_1 rfl (fun c5 => ?_) (fun c5 => ?_)
      · have H := H.1 c5
        refine mx_iconst dX0_isGrade_14 ic_0 ?_
        refine mx_zretK rfl dX0_isGrade_15 (Or.inl rfl) ?_
        refine mx_if_eq (tgt := 30) dX0_bin_12 rfl (fun _ => ?_) (fun _ => absurd ‹_› (by decide))
        refine mx_aload_n dX0_bin_30 rfl rfl ?_
        refine mx_iconst dX0_bin_31 ic_2 ?_
        refine mx_callV 0 (y' := mi_X0_none) (vs := [iv (2 : Int32)]) (st := []) (al' := [some (rv a0), some (iv (2 : Int32))]) cl_0 V_X0_none (Or.inl q733) dX0_bin_32 rfl rfl (Nat.le_of_ble_eq_true rfl) (Nat.le_of_ble_eq_true rfl) (ly0_k La0_h) ?_
        refine mx_aload_n dX0_none_0 rfl rfl ?_
        refine mx_iload_n dX0_none_1 rfl rfl ?_
        refine mx_putI 0 20 (ref := "PrairiePool") cl_0 (Nat.le_of_ble_eq_true rfl) (Or.inl q480) (Or.inl rfl) dX0_none_2 (Or.inl rfl) rfl (ly0_k La0_h) ?_
        refine mx_nmI  (fun h6 eh6 Xh6 Kh6 Lh6 => ?_)
        have H := H h6 eh6 Xh6
        have La0_h6 := La0_h.ext Xh6
        refine mx_iconst dX0_none_5 ic_m1 ?_
        refine mx_iretK rfl dX0_none_6 ?_
        exact mx_iret rfl dX0_bin_35 H
      · have H := H.2 c5
        refine mx_iload_n dX0_isGrade_4 rfl rfl ?_
        refine mx_bipush dX0_isGrade_5 ib_6 ?_
        refine mx_icmp_ge (tgt := 14) dX0_isGrade_7 rfl (fun c7 => ?_) (fun c7 => ?_)
        · have H := H.1 c7
          refine mx_iconst dX0_isGrade_14 ic_0 ?_
          refine mx_zretK rfl dX0_isGrade_15 (Or.inl rfl) ?_
          refine mx_if_eq (tgt := 30) dX0_bin_12 rfl (fun _ => ?_) (fun _ => absurd ‹_› (by decide))
          refine mx_aload_n dX0_bin_30 rfl rfl ?_
          refine mx_iconst dX0_bin_31 ic_2 ?_
          refine mx_callV 0 (y' := mi_X0_none) (vs := [iv (2 : Int32)]) (st := []) (al' := [some (rv a0), some (iv (2 : Int32))]) cl_0 V_X0_none (Or.inl q733) dX0_bin_32 rfl rfl (Nat.le_of_ble_eq_true rfl) (Nat.le_of_ble_eq_true rfl) (ly0_k La0_h) ?_
          refine mx_aload_n dX0_none_0 rfl rfl ?_
          refine mx_iload_n dX0_none_1 rfl rfl ?_
          refine mx_putI 0 20 (ref := "PrairiePool") cl_0 (Nat.le_of_ble_eq_true rfl) (Or.inl q480) (Or.inl rfl) dX0_none_2 (Or.inl rfl) rfl (ly0_k La0_h) ?_
          refine mx_nmI  (fun h8 eh8 Xh8 Kh8 Lh8 => ?_)
          have H := H h8 eh8 Xh8
          have La0_h8 := La0_h.ext Xh8
          refine mx_iconst dX0_none_5 ic_m1 ?_
          refine mx_iretK rfl dX0_none_6 ?_
          exact mx_iret rfl dX0_bin_35 H
        · have H := H.2 c7
          refine mx_iconst dX0_isGrade_10 ic_1 ?_
          refine mx_goto (tgt := 15) dX0_isGrade_11 rfl ?_
          refine mx_zretK rfl dX0_isGrade_15 (Or.inr rfl) ?_
          refine mx_if_eq (tgt := 30) dX0_bin_12 rfl (fun _ => absurd ‹_› (by decide)) (fun _ => ?_)
          refine mx_iload dX0_bin_15 rfl ?_
          refine mx_iconst dX0_bin_17 ic_m1 ?_
          refine mx_icmp_eq (tgt := 36) dX0_bin_18 rfl (fun c9 => ?_) (fun c9 => ?_)
          · have H := H.1 c9
            exact mx_weak (al' := [some (rv a0), some (iv x1), some (iv x2), some (iv x3), some (iv x4), some (iv x5)]) ⟨rfl, ⟨rfl, ⟨rfl, ⟨rfl, ⟨rfl, ⟨rfl, trivial⟩⟩⟩⟩⟩⟩ H
          · have H := H.2 c9
            refine mx_aload_n dX0_bin_21 rfl rfl ?_
            refine mx_iload dX0_bin_22 rfl ?_
            refine mx_callV 0 (y' := mi_X0_isFarm) (vs := [iv x4]) (st := []) (al' := [some (rv a0), some (iv x4)]) cl_0 V_X0_isFarm (Or.inl q827) dX0_bin_24 rfl rfl (Nat.le_of_ble_eq_true rfl) (Nat.le_of_ble_eq_true rfl) (ly0_k La0_h) ?_
            refine mx_iload_n dX0_isFarm_0 rfl rfl ?_
            refine mx_if_lt (tgt := 16) dX0_isFarm_1 rfl (fun c10 => ?_) (fun c10 => ?_)
            · have H := H.1 c10
              refine mx_iconst dX0_isFarm_16 ic_0 ?_
              refine mx_zretK rfl dX0_isFarm_17 (Or.inl rfl) ?_
              refine mx_if_ne (tgt := 36) dX0_bin_27 rfl (fun _ => absurd ‹_› (by decide)) (fun _ => ?_)
              refine mx_aload_n dX0_bin_30 rfl rfl ?_
              refine mx_iconst dX0_bin_31 ic_2 ?_
              refine mx_callV 0 (y' := mi_X0_none) (vs := [iv (2 : Int32)]) (st := []) (al' := [some (rv a0), some (iv (2 : Int32))]) cl_0 V_X0_none (Or.inl q733) dX0_bin_32 rfl rfl (Nat.le_of_ble_eq_true rfl) (Nat.le_of_ble_eq_true rfl) (ly0_k La0_h) ?_
              refine mx_aload_n dX0_none_0 rfl rfl ?_
              refine mx_iload_n dX0_none_1 rfl rfl ?_
              refine mx_putI 0 20 (ref := "PrairiePool") cl_0 (Nat.le_of_ble_eq_true rfl) (Or.inl q480) (Or.inl rfl) dX0_none_2 (Or.inl rfl) rfl (ly0_k La0_h) ?_
              refine mx_nmI  (fun h11 eh11 Xh11 Kh11 Lh11 => ?_)
              have H := H h11 eh11 Xh11
              have La0_h11 := La0_h.ext Xh11
              refine mx_iconst dX0_none_5 ic_m1 ?_
              refine mx_iretK rfl dX0_none_6 ?_
              exact mx_iret rfl dX0_bin_35 H
            · have H := H.2 c10
              refine mx_iload_n dX0_isFarm_4 rfl rfl ?_
              refine mx_aload_n dX0_isFarm_5 rfl rfl ?_
              refine mx_get 0 14 (ref := "PrairiePool") cl_0 (Nat.le_of_ble_eq_true rfl) (Or.inl q474) (Or.inl rfl) dX0_isFarm_6 (fv_0_14 _ _) (ly0_k La0_h) ?_
              refine mx_icmp_ge (tgt := 16) dX0_isFarm_9 rfl (fun c12 => ?_) (fun c12 => ?_)
              · have H := H.1 c12
                refine mx_iconst dX0_isFarm_16 ic_0 ?_
                refine mx_zretK rfl dX0_isFarm_17 (Or.inl rfl) ?_
                refine mx_if_ne (tgt := 36) dX0_bin_27 rfl (fun _ => absurd ‹_› (by decide)) (fun _ => ?_)
                refine mx_aload_n dX0_bin_30 rfl rfl ?_
                refine mx_iconst dX0_bin_31 ic_2 ?_
                refine mx_callV 0 (y' := mi_X0_none) (vs := [iv (2 : Int32)]) (st := []) (al' := [some (rv a0), some (iv (2 : Int32))]) cl_0 V_X0_none (Or.inl q733) dX0_bin_32 rfl rfl (Nat.le_of_ble_eq_true rfl) (Nat.le_of_ble_eq_true rfl) (ly0_k La0_h) ?_
                refine mx_aload_n dX0_none_0 rfl rfl ?_
                refine mx_iload_n dX0_none_1 rfl rfl ?_
                refine mx_putI 0 20 (ref := "PrairiePool") cl_0 (Nat.le_of_ble_eq_true rfl) (Or.inl q480) (Or.inl rfl) dX0_none_2 (Or.inl rfl) rfl (ly0_k La0_h) ?_
                refine mx_nmI  (fun h13 eh13 Xh13 Kh13 Lh13 => ?_)
                have H := H h13 eh13 Xh13
                have La0_h13 := La0_h.ext Xh13
                refine mx_iconst dX0_none_5 ic_m1 ?_
                refine mx_iretK rfl dX0_none_6 ?_
                exact mx_iret rfl dX0_bin_35 H
              · have H := H.2 c12
                refine mx_iconst dX0_isFarm_12 ic_1 ?_
                refine mx_goto (tgt := 17) dX0_isFarm_13 rfl ?_
                refine mx_zretK rfl dX0_isFarm_17 (Or.inr rfl) ?_
                refine mx_if_ne (tgt := 36) dX0_bin_27 rfl (fun _ => ?_) (fun _ => absurd ‹_› (by decide))
                exact mx_weak (al' := [some (rv a0), some (iv x1), some (iv x2), some (iv x3), some (iv x4), some (iv x5)]) ⟨rfl, ⟨rfl, ⟨rfl, ⟨rfl, ⟨rfl, ⟨rfl, trivial⟩⟩⟩⟩⟩⟩ H
theorem v_X0_bin_36 {G : ma_G} {d : Nat} {a0 : Nat} {x1 : Int32} {x2 : Int32} {x3 : Int32} {x4 : Int32} {x5 : Int32} {h : ah_T} {Q : Option ma_V → ah_T → Prop} {E : Nat → ah_T → Prop} (La0_h : LY0 h a0) (H : (x3 < 0 → ∀ h2 : ah_T, h2 = ah_wI h a0 20 (5 : Int32) → ah_ext h h2 → Q (some (iv (-1 : Int32))) h2) ∧ (¬ x3 < 0 → ((10 : Int32) ≤ x3 → ∀ h4 : ah_T, h4 = ah_wI h a0 20 (5 : Int32) → ah_ext h h4 → Q (some (iv (-1 : Int32))) h4) ∧ (¬ (10 : Int32) ≤ x3 → (x5 < 0 → ∀ h6 : ah_T, h6 = ah_wI h a0 20 (5 : Int32) → ah_ext h h6 → Q (some (iv (-1 : Int32))) h6) ∧ (¬ x5 < 0 → ((520 : Int32) ≤ x5 → ∀ h8 : ah_T, h8 = ah_wI h a0 20 (5 : Int32) → ah_ext h h8 → Q (some (iv (-1 : Int32))) h8) ∧ (¬ (520 : Int32) ≤ x5 → MX G mi_X0_plays (d + 1) 0 [some (rv a0), some (iv x5), none] [] h (Qv fun h9 => ah_ext h h9 → vp_in x1 8 ∧ vp_in x2 6 ∧ vp_in x3 10 ∧ (¬ x4 = (-1 : Int32) → vp_in x4 20 ∧ ∀ h16 : ah_T, h16 = ah_wI h9 a0 20 (0 : Int32) → ah_ext h9 h16 → Q (some (iv (ah_I h9 ((a0 + (106 + 22 * (10 * x2.toNatClampNeg + x3.toNatClampNeg) + 2 * x1.toNatClampNeg)) + 1) x4.toNatClampNeg))) h16) ∧ (x4 = (-1 : Int32) → ∀ h17 : ah_T, h17 = ah_wI h9 a0 20 (0 : Int32) → ah_ext h9 h17 → Q (some (iv (ah_I h9 (a0 + (106 + 22 * (10 * x2.toNatClampNeg + x3.toNatClampNeg) + 2 * x1.toNatClampNeg)) 1))) h17)) E))))) : MX G mi_X0_bin (d + 2) 36 [some (rv a0), some (iv x1), some (iv x2), some (iv x3), some (iv x4), some (iv x5)] [] h Q E := by
  refine mx_iload_n dX0_bin_36 rfl rfl ?_
  refine mx_callS (y' := mi_X0_isYear) (vs := [iv x3]) (st := []) (al' := [some (iv x3)]) S_X0_isYear q896 dX0_bin_37 rfl rfl (Nat.le_of_ble_eq_true rfl) (Nat.le_of_ble_eq_true rfl) ?_
  refine mx_iload_n dX0_isYear_0 rfl rfl ?_
  refine mx_if_lt (tgt := 14) dX0_isYear_1 rfl (fun c1 => ?_) (fun c1 => ?_)
  · have H := H.1 c1
    refine mx_iconst dX0_isYear_14 ic_0 ?_
    refine mx_zretK rfl dX0_isYear_15 (Or.inl rfl) ?_
    refine mx_if_eq (tgt := 51) dX0_bin_40 rfl (fun _ => ?_) (fun _ => absurd ‹_› (by decide))
    refine mx_aload_n dX0_bin_51 rfl rfl ?_
    refine mx_iconst dX0_bin_52 ic_5 ?_
    refine mx_callV 0 (y' := mi_X0_none) (vs := [iv (5 : Int32)]) (st := []) (al' := [some (rv a0), some (iv (5 : Int32))]) cl_0 V_X0_none (Or.inl q733) dX0_bin_53 rfl rfl (Nat.le_of_ble_eq_true rfl) (Nat.le_of_ble_eq_true rfl) (ly0_k La0_h) ?_
    refine mx_aload_n dX0_none_0 rfl rfl ?_
    refine mx_iload_n dX0_none_1 rfl rfl ?_
    refine mx_putI 0 20 (ref := "PrairiePool") cl_0 (Nat.le_of_ble_eq_true rfl) (Or.inl q480) (Or.inl rfl) dX0_none_2 (Or.inl rfl) rfl (ly0_k La0_h) ?_
    refine mx_nmI  (fun h2 eh2 Xh2 Kh2 Lh2 => ?_)
    have H := H h2 eh2 Xh2
    have La0_h2 := La0_h.ext Xh2
    refine mx_iconst dX0_none_5 ic_m1 ?_
    refine mx_iretK rfl dX0_none_6 ?_
    exact mx_iret rfl dX0_bin_56 H
  · have H := H.2 c1
    refine mx_iload_n dX0_isYear_4 rfl rfl ?_
    refine mx_bipush dX0_isYear_5 ib_10 ?_
    refine mx_icmp_ge (tgt := 14) dX0_isYear_7 rfl (fun c3 => ?_) (fun c3 => ?_)
    · have H := H.1 c3
      refine mx_iconst dX0_isYear_14 ic_0 ?_
      refine mx_zretK rfl dX0_isYear_15 (Or.inl rfl) ?_
      refine mx_if_eq (tgt := 51) dX0_bin_40 rfl (fun _ => ?_) (fun _ => absurd ‹_› (by decide))
      refine mx_aload_n dX0_bin_51 rfl rfl ?_
      refine mx_iconst dX0_bin_52 ic_5 ?_
      refine mx_callV 0 (y' := mi_X0_none) (vs := [iv (5 : Int32)]) (st := []) (al' := [some (rv a0), some (iv (5 : Int32))]) cl_0 V_X0_none (Or.inl q733) dX0_bin_53 rfl rfl (Nat.le_of_ble_eq_true rfl) (Nat.le_of_ble_eq_true rfl) (ly0_k La0_h) ?_
      refine mx_aload_n dX0_none_0 rfl rfl ?_
      refine mx_iload_n dX0_none_1 rfl rfl ?_
      refine mx_putI 0 20 (ref := "PrairiePool") cl_0 (Nat.le_of_ble_eq_true rfl) (Or.inl q480) (Or.inl rfl) dX0_none_2 (Or.inl rfl) rfl (ly0_k La0_h) ?_
      refine mx_nmI  (fun h4 eh4 Xh4 Kh4 Lh4 => ?_)
      have H := H h4 eh4 Xh4
      have La0_h4 := La0_h.ext Xh4
      refine mx_iconst dX0_none_5 ic_m1 ?_
      refine mx_iretK rfl dX0_none_6 ?_
      exact mx_iret rfl dX0_bin_56 H
    · have H := H.2 c3
      refine mx_iconst dX0_isYear_10 ic_1 ?_
      refine mx_goto (tgt := 15) dX0_isYear_11 rfl ?_
      refine mx_zretK rfl dX0_isYear_15 (Or.inr rfl) ?_
      refine mx_if_eq (tgt := 51) dX0_bin_40 rfl (fun _ => absurd ‹_› (by decide)) (fun _ => ?_)
      refine mx_iload dX0_bin_43 rfl ?_
      refine mx_callS (y' := mi_X0_isWeek) (vs := [iv x5]) (st := []) (al' := [some (iv x5)]) S_X0_isWeek q841 dX0_bin_45 rfl rfl (Nat.le_of_ble_eq_true rfl) (Nat.le_of_ble_eq_true rfl) ?_
      refine mx_iload_n dX0_isWeek_0 rfl rfl ?_
      refine mx_if_lt (tgt := 15) dX0_isWeek_1 rfl (fun c5 => ?_) (fun c5 => ?_)
      · have H := H.1 c5
        refine mx_iconst dX0_isWeek_15 ic_0 ?_
        refine mx_zretK rfl dX0_isWeek_16 (Or.inl rfl) ?_
        refine mx_if_ne (tgt := 57) dX0_bin_48 rfl (fun _ => absurd ‹_› (by decide)) (fun _ => ?_)
        refine mx_aload_n dX0_bin_51 rfl rfl ?_
        refine mx_iconst dX0_bin_52 ic_5 ?_
        refine mx_callV 0 (y' := mi_X0_none) (vs := [iv (5 : Int32)]) (st := []) (al' := [some (rv a0), some (iv (5 : Int32))]) cl_0 V_X0_none (Or.inl q733) dX0_bin_53 rfl rfl (Nat.le_of_ble_eq_true rfl) (Nat.le_of_ble_eq_true rfl) (ly0_k La0_h) ?_
        refine mx_aload_n dX0_none_0 rfl rfl ?_
        refine mx_iload_n dX0_none_1 rfl rfl ?_
        refine mx_putI 0 20 (ref := "PrairiePool") cl_0 (Nat.le_of_ble_eq_true rfl) (Or.inl q480) (Or.inl rfl) dX0_none_2 (Or.inl rfl) rfl (ly0_k La0_h) ?_
        refine mx_nmI  (fun h6 eh6 Xh6 Kh6 Lh6 => ?_)
        have H := H h6 eh6 Xh6
        have La0_h6 := La0_h.ext Xh6
        refine mx_iconst dX0_none_5 ic_m1 ?_
        refine mx_iretK rfl dX0_none_6 ?_
        exact mx_iret rfl dX0_bin_56 H
      · have H := H.2 c5
        refine mx_iload_n dX0_isWeek_4 rfl rfl ?_
        refine mx_sipush dX0_isWeek_5 is_520 ?_
        refine mx_icmp_ge (tgt := 15) dX0_isWeek_8 rfl (fun c7 => ?_) (fun c7 => ?_)
        · have H := H.1 c7
          refine mx_iconst dX0_isWeek_15 ic_0 ?_
          refine mx_zretK rfl dX0_isWeek_16 (Or.inl rfl) ?_
          refine mx_if_ne (tgt := 57) dX0_bin_48 rfl (fun _ => absurd ‹_› (by decide)) (fun _ => ?_)
          refine mx_aload_n dX0_bin_51 rfl rfl ?_
          refine mx_iconst dX0_bin_52 ic_5 ?_
          refine mx_callV 0 (y' := mi_X0_none) (vs := [iv (5 : Int32)]) (st := []) (al' := [some (rv a0), some (iv (5 : Int32))]) cl_0 V_X0_none (Or.inl q733) dX0_bin_53 rfl rfl (Nat.le_of_ble_eq_true rfl) (Nat.le_of_ble_eq_true rfl) (ly0_k La0_h) ?_
          refine mx_aload_n dX0_none_0 rfl rfl ?_
          refine mx_iload_n dX0_none_1 rfl rfl ?_
          refine mx_putI 0 20 (ref := "PrairiePool") cl_0 (Nat.le_of_ble_eq_true rfl) (Or.inl q480) (Or.inl rfl) dX0_none_2 (Or.inl rfl) rfl (ly0_k La0_h) ?_
          refine mx_nmI  (fun h8 eh8 Xh8 Kh8 Lh8 => ?_)
          have H := H h8 eh8 Xh8
          have La0_h8 := La0_h.ext Xh8
          refine mx_iconst dX0_none_5 ic_m1 ?_
          refine mx_iretK rfl dX0_none_6 ?_
          exact mx_iret rfl dX0_bin_56 H
        · have H := H.2 c7
          refine mx_iconst dX0_isWeek_11 ic_1 ?_
          refine mx_goto (tgt := 16) dX0_isWeek_12 rfl ?_
          refine mx_zretK rfl dX0_isWeek_16 (Or.inr rfl) ?_
          refine mx_if_ne (tgt := 57) dX0_bin_48 rfl (fun _ => ?_) (fun _ => absurd ‹_› (by decide))
          refine mx_aload_n dX0_bin_57 rfl rfl ?_
          refine mx_iload dX0_bin_58 rfl ?_
          refine mx_callV 0 (y' := mi_X0_plays) (vs := [iv x5]) (st := []) (al' := [some (rv a0), some (iv x5), none]) cl_0 V_X0_plays (Or.inl q1069) dX0_bin_60 rfl rfl (Nat.le_of_ble_eq_true rfl) (Nat.le_of_ble_eq_true rfl) (ly0_k La0_h) ?_
          refine ma_kv H (fun h9 Xh9 H => ?_) (fun x1 h1 X1 H => mt_out rfl H)
          have H := H Xh9
          have La0_h9 := La0_h.ext Xh9
          refine mx_aload_n dX0_bin_63 rfl rfl ?_
          refine mx_aload_n dX0_bin_64 rfl rfl ?_
          refine mx_get 0 8 (ref := "PrairiePool") cl_0 (Nat.le_of_ble_eq_true rfl) (Or.inl q468) (Or.inl rfl) dX0_bin_65 (fv_0_8 _ _) (ly0_k La0_h9) ?_
          refine mx_tr (ly0_R_0_8 La0_h9) ?_
          refine mx_get 1 0 (ref := "PrairiePool$Play") cl_1 (Nat.le_of_ble_eq_true rfl) (Or.inr ⟨_, q226⟩) (Or.inl rfl) dX0_bin_68 (fv_1_0 _ _) (ly0_K_9 La0_h9) ?_
          refine mx_tr (ly0_R_9_0 La0_h9) ?_
          refine mx_iload_n dX0_bin_71 rfl rfl ?_
          obtain ⟨k11, H⟩ := H
          refine my_aald 13 dX0_bin_72 (by decide) rfl (ly0_A_10 La0_h9 k11) ?_
          refine mx_tr (ly0_G1_10 La0_h9 (vp_lt k11)) ?_
          refine mx_iload_n dX0_bin_73 rfl rfl ?_
          obtain ⟨k12, H⟩ := H
          refine my_aald 12 dX0_bin_74 (by decide) rfl ⟨(ly0_K1_10 La0_h9 (vp_lt k11)), by rw [ly0_N1_10 La0_h9 (vp_lt k11)]; exact k12⟩ ?_
          refine mx_tr (ly0_G2_10 La0_h9 (vp_lt k11) (vp_lt k12)) ?_
          refine mx_iload_n dX0_bin_75 rfl rfl ?_
          obtain ⟨k13, H⟩ := H
          refine my_aald 11 dX0_bin_76 (by decide) rfl ⟨(ly0_K2_10 La0_h9 (vp_lt k11) (vp_lt k12)), by rw [ly0_N2_10 La0_h9 (vp_lt k11) (vp_lt k12)]; exact k13⟩ ?_
          refine mx_tr (ly0_G3_10 La0_h9 (vp_lt k11) (vp_lt k12) (vp_lt k13)) ?_
          refine mx_iload dX0_bin_77 rfl ?_
          refine mx_callV 0 (y' := mi_X0_told) (vs := [rv (a0 + (106 + 22 * (10 * x2.toNatClampNeg + x3.toNatClampNeg) + 2 * x1.toNatClampNeg)), iv x4]) (st := []) (al' := [some (rv a0), some (rv (a0 + (106 + 22 * (10 * x2.toNatClampNeg + x3.toNatClampNeg) + 2 * x1.toNatClampNeg))), some (iv x4)]) cl_0 V_X0_told (Or.inl q1153) dX0_bin_79 rfl rfl (Nat.le_of_ble_eq_true rfl) (Nat.le_of_ble_eq_true rfl) (ly0_k La0_h9) ?_
          refine mx_aload_n dX0_told_0 rfl rfl ?_
          refine mx_iload_n dX0_told_1 rfl rfl ?_
          refine mx_iconst dX0_told_2 ic_m1 ?_
          refine mx_icmp_ne (tgt := 13) dX0_told_3 rfl (fun c14 => ?_) (fun c14 => ?_)
          · have H := H.1 c14
            refine mx_aload_n dX0_told_13 rfl rfl ?_
            refine mx_get 3 0 (ref := "PrairiePool$Heap") cl_3 (Nat.le_of_ble_eq_true rfl) (Or.inr ⟨_, q214⟩) (Or.inl rfl) dX0_told_14 (fv_3_0 _ _) (ly3_k (ly0_H3_10 La0_h9 (vp_lt k11) (vp_lt k12) (vp_lt k13))) ?_
            refine mx_tr (ly3_r (ly0_H3_10 La0_h9 (vp_lt k11) (vp_lt k12) (vp_lt k13))) ?_
            refine mx_iload_n dX0_told_17 rfl rfl ?_
            obtain ⟨k15, H⟩ := H
            refine my_iald dX0_told_18 rfl ⟨(ly3_K_1 (ly0_H3_10 La0_h9 (vp_lt k11) (vp_lt k12) (vp_lt k13))), by rw [ly3_N_1 (ly0_H3_10 La0_h9 (vp_lt k11) (vp_lt k12) (vp_lt k13))]; exact k15⟩ ?_
            refine mx_callV 0 (y' := mi_X0_gives) (vs := [iv (ah_I h9 ((a0 + (106 + 22 * (10 * x2.toNatClampNeg + x3.toNatClampNeg) + 2 * x1.toNatClampNeg)) + 1) x4.toNatClampNeg)]) (st := []) (al' := [some (rv a0), some (iv (ah_I h9 ((a0 + (106 + 22 * (10 * x2.toNatClampNeg + x3.toNatClampNeg) + 2 * x1.toNatClampNeg)) + 1) x4.toNatClampNeg))]) cl_0 V_X0_gives (Or.inl q801) dX0_told_19 rfl rfl (Nat.le_of_ble_eq_true rfl) (Nat.le_of_ble_eq_true rfl) (ly0_k La0_h9) ?_
            refine mx_aload_n dX0_gives_0 rfl rfl ?_
            refine mx_iconst dX0_gives_1 ic_0 ?_
            refine mx_putI 0 20 (ref := "PrairiePool") cl_0 (Nat.le_of_ble_eq_true rfl) (Or.inl q480) (Or.inl rfl) dX0_gives_2 (Or.inl rfl) rfl (ly0_k La0_h9) ?_
            refine mx_nmI  (fun h16 eh16 Xh16 Kh16 Lh16 => ?_)
            have H := H h16 eh16 Xh16
            have La0_h16 := La0_h9.ext Xh16
            refine mx_iload_n dX0_gives_5 rfl rfl ?_
            refine mx_iretK rfl dX0_gives_6 ?_
            refine mx_iretK rfl dX0_told_22 ?_
            exact mx_iret rfl dX0_bin_82 H
          · have H := H.2 c14
            refine mx_aload_n dX0_told_6 rfl rfl ?_
            refine mx_get 3 1 (ref := "PrairiePool$Heap") cl_3 (Nat.le_of_ble_eq_true rfl) (Or.inr ⟨_, q217⟩) (Or.inl rfl) dX0_told_7 (fv_3_1 _ _) (ly3_k (ly0_H3_10 La0_h9 (vp_lt k11) (vp_lt k12) (vp_lt k13))) ?_
            refine mx_goto (tgt := 19) dX0_told_10 rfl ?_
            refine mx_callV 0 (y' := mi_X0_gives) (vs := [iv (ah_I h9 (a0 + (106 + 22 * (10 * x2.toNatClampNeg + x3.toNatClampNeg) + 2 * x1.toNatClampNeg)) 1)]) (st := []) (al' := [some (rv a0), some (iv (ah_I h9 (a0 + (106 + 22 * (10 * x2.toNatClampNeg + x3.toNatClampNeg) + 2 * x1.toNatClampNeg)) 1))]) cl_0 V_X0_gives (Or.inl q801) dX0_told_19 rfl rfl (Nat.le_of_ble_eq_true rfl) (Nat.le_of_ble_eq_true rfl) (ly0_k La0_h9) ?_
            refine mx_aload_n dX0_gives_0 rfl rfl ?_
            refine mx_iconst dX0_gives_1 ic_0 ?_
            refine mx_putI 0 20 (ref := "PrairiePool") cl_0 (Nat.le_of_ble_eq_true rfl) (Or.inl q480) (Or.inl rfl) dX0_gives_2 (Or.inl rfl) rfl (ly0_k La0_h9) ?_
            refine mx_nmI  (fun h17 eh17 Xh17 Kh17 Lh17 => ?_)
            have H := H h17 eh17 Xh17
            have La0_h17 := La0_h9.ext Xh17
            refine mx_iload_n dX0_gives_5 rfl rfl ?_
            refine mx_iretK rfl dX0_gives_6 ?_
            refine mx_iretK rfl dX0_told_22 ?_
            exact mx_iret rfl dX0_bin_82 H
theorem dX0_plays_0 : decode mi_X0_plays.2.1 0 = .ok (.aload_n 0, 1) := by decide +kernel
theorem dX0_plays_1 : decode mi_X0_plays.2.1 1 = .ok (.getfield 49, 3) := by decide +kernel
theorem dX0_plays_4 : decode mi_X0_plays.2.1 4 = .ok (.invokevirtual 369, 3) := by decide +kernel
theorem dX0_plays_7 : decode mi_X0_plays.2.1 7 = .ok (.iconst 0, 1) := by decide +kernel
theorem dX0_plays_8 : decode mi_X0_plays.2.1 8 = .ok (.istore_n 2, 1) := by decide +kernel
theorem dX0_plays_9 : decode mi_X0_plays.2.1 9 = .ok (.iload_n 2, 1) := by decide +kernel
theorem dX0_plays_10 : decode mi_X0_plays.2.1 10 = .ok (.aload_n 0, 1) := by decide +kernel
theorem dX0_plays_11 : decode mi_X0_plays.2.1 11 = .ok (.getfield 263, 3) := by decide +kernel
theorem dX0_plays_14 : decode mi_X0_plays.2.1 14 = .ok (.if_icmp .ge 68, 3) := by decide +kernel
theorem dX0_plays_17 : decode mi_X0_plays.2.1 17 = .ok (.aload_n 0, 1) := by decide +kernel
theorem dX0_plays_18 : decode mi_X0_plays.2.1 18 = .ok (.getfield 29, 3) := by decide +kernel
theorem dX0_plays_21 : decode mi_X0_plays.2.1 21 = .ok (.iload_n 2, 1) := by decide +kernel
theorem dX0_plays_22 : decode mi_X0_plays.2.1 22 = .ok (.aaload, 1) := by decide +kernel
theorem dX0_plays_23 : decode mi_X0_plays.2.1 23 = .ok (.getfield 272, 3) := by decide +kernel
theorem dX0_plays_26 : decode mi_X0_plays.2.1 26 = .ok (.iload_n 1, 1) := by decide +kernel
theorem dX0_plays_27 : decode mi_X0_plays.2.1 27 = .ok (.if_icmp .le 6, 3) := by decide +kernel
theorem dX0_plays_30 : decode mi_X0_plays.2.1 30 = .ok (.goto 46, 3) := by decide +kernel
theorem dX0_plays_33 : decode mi_X0_plays.2.1 33 = .ok (.aload_n 0, 1) := by decide +kernel
theorem dX0_plays_34 : decode mi_X0_plays.2.1 34 = .ok (.getfield 29, 3) := by decide +kernel
theorem dX0_plays_37 : decode mi_X0_plays.2.1 37 = .ok (.iload_n 2, 1) := by decide +kernel
theorem dX0_plays_38 : decode mi_X0_plays.2.1 38 = .ok (.aaload, 1) := by decide +kernel
theorem dX0_plays_39 : decode mi_X0_plays.2.1 39 = .ok (.instanceof 289, 3) := by decide +kernel
theorem dX0_plays_42 : decode mi_X0_plays.2.1 42 = .ok (.ifCond .eq 21, 3) := by decide +kernel
theorem dX0_plays_45 : decode mi_X0_plays.2.1 45 = .ok (.aload_n 0, 1) := by decide +kernel
theorem dX0_plays_46 : decode mi_X0_plays.2.1 46 = .ok (.getfield 29, 3) := by decide +kernel
theorem dX0_plays_49 : decode mi_X0_plays.2.1 49 = .ok (.iload_n 2, 1) := by decide +kernel
theorem dX0_plays_50 : decode mi_X0_plays.2.1 50 = .ok (.aaload, 1) := by decide +kernel
theorem dX0_plays_51 : decode mi_X0_plays.2.1 51 = .ok (.checkcast 289, 3) := by decide +kernel
theorem dX0_plays_54 : decode mi_X0_plays.2.1 54 = .ok (.aload_n 0, 1) := by decide +kernel
theorem dX0_plays_55 : decode mi_X0_plays.2.1 55 = .ok (.iload_n 2, 1) := by decide +kernel
theorem dX0_plays_56 : decode mi_X0_plays.2.1 56 = .ok (.iload_n 1, 1) := by decide +kernel
theorem dX0_plays_57 : decode mi_X0_plays.2.1 57 = .ok (.invokevirtual 365, 3) := by decide +kernel
theorem dX0_plays_60 : decode mi_X0_plays.2.1 60 = .ok (.putfield 372, 3) := by decide +kernel
theorem dX0_plays_63 : decode mi_X0_plays.2.1 63 = .ok (.aload_n 0, 1) := by decide +kernel
theorem dX0_plays_64 : decode mi_X0_plays.2.1 64 = .ok (.getfield 29, 3) := by decide +kernel
theorem dX0_plays_67 : decode mi_X0_plays.2.1 67 = .ok (.iload_n 2, 1) := by decide +kernel
theorem dX0_plays_68 : decode mi_X0_plays.2.1 68 = .ok (.aaload, 1) := by decide +kernel
theorem dX0_plays_69 : decode mi_X0_plays.2.1 69 = .ok (.aload_n 0, 1) := by decide +kernel
theorem dX0_plays_70 : decode mi_X0_plays.2.1 70 = .ok (.getfield 49, 3) := by decide +kernel
theorem dX0_plays_73 : decode mi_X0_plays.2.1 73 = .ok (.invokevirtual 375, 3) := by decide +kernel
theorem dX0_plays_76 : decode mi_X0_plays.2.1 76 = .ok (.iinc 2 1, 3) := by decide +kernel
theorem dX0_plays_79 : decode mi_X0_plays.2.1 79 = .ok (.goto (-70), 3) := by decide +kernel
theorem dX0_plays_82 : decode mi_X0_plays.2.1 82 = .ok (.return_, 1) := by decide +kernel
theorem v_X0_plays {G : ma_G} {d : Nat} {a0 : Nat} {x1 : Int32} {h : ah_T} {Q : Option ma_V → ah_T → Prop} {E : Nat → ah_T → Prop} (La0_h : LY0 h a0) (H : MX G mi_X1_begin d 0 [some (rv (a0 + 9)), none, none, none] [] h (Qv fun h1 => ah_ext h h1 → MX G mi_X0_plays (d + 1) 9 [some (rv a0), some (iv x1), some (iv (0 : Int32))] [] h1 Q E) E) : MX G mi_X0_plays (d + 1) 0 [some (rv a0), some (iv x1), none] [] h Q E := by
  refine mx_aload_n dX0_plays_0 rfl rfl ?_
  refine mx_get 0 8 (ref := "PrairiePool") cl_0 (Nat.le_of_ble_eq_true rfl) (Or.inl q468) (Or.inl rfl) dX0_plays_1 (fv_0_8 _ _) (ly0_k La0_h) ?_
  refine mx_tr (ly0_R_0_8 La0_h) ?_
  refine mx_callV 1 (y' := mi_X1_begin) (vs := []) (st := []) (al' := [some (rv (a0 + 9)), none, none, none]) cl_1 V_X1_begin (Or.inl q1073) dX0_plays_4 rfl rfl (Nat.le_of_ble_eq_true rfl) (Nat.le_of_ble_eq_true rfl) (ly0_K_9 La0_h) ?_
  refine ma_kv H (fun h1 Xh1 H => ?_) (fun x1 h1 X1 H => mt_out rfl H)
  have H := H Xh1
  have La0_h1 := La0_h.ext Xh1
  refine mx_iconst dX0_plays_7 ic_0 ?_
  refine mx_istore_n (al' := [some (rv a0), some (iv x1), some (iv (0 : Int32))]) dX0_plays_8 rfl (Nat.le_of_ble_eq_true rfl) rfl ?_
  exact mx_weak (al' := [some (rv a0), some (iv x1), some (iv (0 : Int32))]) ⟨rfl, ⟨rfl, ⟨rfl, trivial⟩⟩⟩ H
theorem v_X0_plays_9 {G : ma_G} {d : Nat} {a0 : Nat} {x1 : Int32} {x2 : Int32} {h : ah_T} {Q : Option ma_V → ah_T → Prop} {E : Nat → ah_T → Prop} (La0_h : LY0 h a0) (H : ((ah_I h a0 16) ≤ x2 → Q none h) ∧ (¬ (ah_I h a0 16) ≤ x2 → vp_in x2 120 ∧ ma_ks h (ah_R h (a0 + 4) x2.toNatClampNeg) [11, 12, 13, 14] ∧ ((ah_I h (ah_R h (a0 + 4) x2.toNatClampNeg) 1) ≤ x1 → ((ah_kd h (ah_R h (a0 + 4) x2.toNatClampNeg) = 12 → MX G mi_X0_gradeOf d 0 [some (rv a0), some (iv x2), some (iv x1), none, none, none, none, none, none, none, none] [] h (Qi fun r7 h6 => ah_ext h h6 → ∀ h10 : ah_T, h10 = ah_wI h6 (ah_R h (a0 + 4) x2.toNatClampNeg) 6 r7 → ah_ext h6 h10 → ma_ks h6 (ah_R h6 (a0 + 4) x2.toNatClampNeg) [11, 12, 13, 14] ∧ MX G (vm_plays (ah_kd h10 (ah_R h6 (a0 + 4) x2.toNatClampNeg))) d 0 (al_ent (vm_plays (ah_kd h10 (ah_R h6 (a0 + 4) x2.toNatClampNeg))).2.2.1 [rv (ah_R h6 (a0 + 4) x2.toNatClampNeg), rv (a0 + 9)]) [] h10 (Qv fun h12 => ah_ext h10 h12 → MX G mi_X0_plays (d + 1) 9 [some (rv a0), some (iv x1), some (iv (x2 + (1 : Int32)))] [] h12 Q E) E) E) ∧ (¬ ah_kd h (ah_R h (a0 + 4) x2.toNatClampNeg) = 12 → MX G (vm_plays (ah_kd h (ah_R h (a0 + 4) x2.toNatClampNeg))) d 0 (al_ent (vm_plays (ah_kd h (ah_R h (a0 + 4) x2.toNatClampNeg))).2.2.1 [rv (ah_R h (a0 + 4) x2.toNatClampNeg), rv (a0 + 9)]) [] h (Qv fun h17 => ah_ext h h17 → MX G mi_X0_plays (d + 1) 9 [some (rv a0), some (iv x1), some (iv (x2 + (1 : Int32)))] [] h17 Q E) E))) ∧ (¬ (ah_I h (ah_R h (a0 + 4) x2.toNatClampNeg) 1) ≤ x1 → MX G mi_X0_plays (d + 1) 9 [some (rv a0), some (iv x1), some (iv (x2 + (1 : Int32)))] [] h Q E))) : MX G mi_X0_plays (d + 1) 9 [some (rv a0), some (iv x1), some (iv x2)] [] h Q E := by
  refine mx_iload_n dX0_plays_9 rfl rfl ?_
  refine mx_aload_n dX0_plays_10 rfl rfl ?_
  refine mx_get 0 16 (ref := "PrairiePool") cl_0 (Nat.le_of_ble_eq_true rfl) (Or.inl q476) (Or.inl rfl) dX0_plays_11 (fv_0_16 _ _) (ly0_k La0_h) ?_
  refine mx_icmp_ge (tgt := 82) dX0_plays_14 rfl (fun c1 => ?_) (fun c1 => ?_)
  · have H := H.1 c1
    exact mx_vret rfl dX0_plays_82 H
  · have H := H.2 c1
    refine mx_aload_n dX0_plays_17 rfl rfl ?_
    refine mx_get 0 3 (ref := "PrairiePool") cl_0 (Nat.le_of_ble_eq_true rfl) (Or.inl q463) (Or.inl rfl) dX0_plays_18 (fv_0_3 _ _) (ly0_k La0_h) ?_
    refine mx_tr (ly0_R_0_3 La0_h) ?_
    refine mx_iload_n dX0_plays_21 rfl rfl ?_
    obtain ⟨k2, H⟩ := H
    refine my_aald 8 dX0_plays_22 (by decide) rfl (ly0_A_4 La0_h k2) ?_
    obtain ⟨k3, H⟩ := H
    refine mx_getP [11, 12, 13, 14] 1 (ref := "PrairiePool$Event") (v := iv (ah_I _ _ 1)) fa_ev_1 (Or.inl q865) (Or.inl rfl) dX0_plays_23 rfl k3 ?_
    refine mx_iload_n dX0_plays_26 rfl rfl ?_
    refine mx_icmp_le (tgt := 33) dX0_plays_27 rfl (fun c4 => ?_) (fun c4 => ?_)
    · have H := H.1 c4
      refine mx_aload_n dX0_plays_33 rfl rfl ?_
      refine mx_get 0 3 (ref := "PrairiePool") cl_0 (Nat.le_of_ble_eq_true rfl) (Or.inl q463) (Or.inl rfl) dX0_plays_34 (fv_0_3 _ _) (ly0_k La0_h) ?_
      refine mx_tr (ly0_R_0_3 La0_h) ?_
      refine mx_iload_n dX0_plays_37 rfl rfl ?_
      refine my_aald 8 dX0_plays_38 (by decide) rfl (ly0_A_4 La0_h k2) ?_
      refine mx_instL q844 dX0_plays_39 k3 (fun c5 => ?_) (fun c5 => ?_)
      · have H := H.1 c5
        refine mx_if_eq (tgt := 63) dX0_plays_42 rfl (fun _ => absurd ‹_› (by decide)) (fun _ => ?_)
        refine mx_aload_n dX0_plays_45 rfl rfl ?_
        refine mx_get 0 3 (ref := "PrairiePool") cl_0 (Nat.le_of_ble_eq_true rfl) (Or.inl q463) (Or.inl rfl) dX0_plays_46 (fv_0_3 _ _) (ly0_k La0_h) ?_
        refine mx_tr (ly0_R_0_3 La0_h) ?_
        refine mx_iload_n dX0_plays_49 rfl rfl ?_
        refine my_aald 8 dX0_plays_50 (by decide) rfl (ly0_A_4 La0_h k2) ?_
        refine mx_castY 11 cl_11 q844 dX0_plays_51 c5 ?_
        refine mx_aload_n dX0_plays_54 rfl rfl ?_
        refine mx_iload_n dX0_plays_55 rfl rfl ?_
        refine mx_iload_n dX0_plays_56 rfl rfl ?_
        refine mx_callV 0 (y' := mi_X0_gradeOf) (vs := [iv x2, iv x1]) (st := [rv (ah_R h (a0 + 4) x2.toNatClampNeg)]) (al' := [some (rv a0), some (iv x2), some (iv x1), none, none, none, none, none, none, none, none]) cl_0 V_X0_gradeOf (Or.inl q989) dX0_plays_57 rfl rfl (Nat.le_of_ble_eq_true rfl) (Nat.le_of_ble_eq_true rfl) (ly0_k La0_h) ?_
        refine ma_ki H (fun r7 h6 Xh6 H => ?_) (fun x1 h1 X1 H => mt_out rfl H)
        have H := H Xh6
        have k8 := ma_ksx Xh6 (k3)
        have k9 := Xh6.kd (c5)
        have La0_h6 := La0_h.ext Xh6
        refine mx_putI 11 6 (ref := "PrairiePool$Load") cl_11 (Nat.le_of_ble_eq_true rfl) (Or.inr ⟨_, q858⟩) (Or.inl rfl) dX0_plays_60 (Or.inl rfl) rfl k9 ?_
        refine mx_nmI  (fun h10 eh10 Xh10 Kh10 Lh10 => ?_)
        have H := H h10 eh10 Xh10
        have La0_h10 := La0_h6.ext Xh10
        refine mx_aload_n dX0_plays_63 rfl rfl ?_
        refine mx_get 0 3 (ref := "PrairiePool") cl_0 (Nat.le_of_ble_eq_true rfl) (Or.inl q463) (Or.inl rfl) dX0_plays_64 (fv_0_3 _ _) (ly0_k La0_h10) ?_
        refine mx_tr (ly0_R_0_3 La0_h10) ?_
        refine mx_iload_n dX0_plays_67 rfl rfl ?_
        refine my_aald 8 dX0_plays_68 (by decide) rfl (ly0_A_4 La0_h10 k2) ?_
        refine mx_tr (ah_RI eh10) ?_
        refine mx_aload_n dX0_plays_69 rfl rfl ?_
        refine mx_get 0 8 (ref := "PrairiePool") cl_0 (Nat.le_of_ble_eq_true rfl) (Or.inl q468) (Or.inl rfl) dX0_plays_70 (fv_0_8 _ _) (ly0_k La0_h10) ?_
        refine mx_tr (ly0_R_0_8 La0_h10) ?_
        obtain ⟨k11, H⟩ := H
        refine mx_callP [11, 12, 13, 14] vm_plays (vs := [rv (a0 + 9)]) (st := []) pu_plays rfl rfl rfl (Nat.le_of_ble_eq_true rfl) (Or.inr (by simp [defaultWords_1, mi_X0_plays])) dX0_plays_73 rfl (ma_ksk Kh10 (k11)) ?_
        refine ma_kv H (fun h12 Xh12 H => ?_) (fun x1 h1 X1 H => mt_out rfl H)
        have H := H Xh12
        have k14 := ma_ksx Xh12 ((ma_ksk Kh10 (k8)))
        have k15 := Xh12.kd ((ma_kde Kh10 (k9)))
        have k16 := ma_ksx Xh12 ((ma_ksk Kh10 (k11)))
        have La0_h12 := La0_h10.ext Xh12
        refine mx_iinc (al' := [some (rv a0), some (iv x1), some (iv (x2 + (1 : Int32)))]) dX0_plays_76 rfl ic_1 rfl ?_
        refine mx_goto (tgt := 9) dX0_plays_79 rfl ?_
        exact mx_weak (al' := [some (rv a0), some (iv x1), some (iv (x2 + (1 : Int32)))]) ⟨rfl, ⟨rfl, ⟨rfl, trivial⟩⟩⟩ H
      · have H := H.2 c5
        refine mx_if_eq (tgt := 63) dX0_plays_42 rfl (fun _ => ?_) (fun _ => absurd ‹_› (by decide))
        refine mx_aload_n dX0_plays_63 rfl rfl ?_
        refine mx_get 0 3 (ref := "PrairiePool") cl_0 (Nat.le_of_ble_eq_true rfl) (Or.inl q463) (Or.inl rfl) dX0_plays_64 (fv_0_3 _ _) (ly0_k La0_h) ?_
        refine mx_tr (ly0_R_0_3 La0_h) ?_
        refine mx_iload_n dX0_plays_67 rfl rfl ?_
        refine my_aald 8 dX0_plays_68 (by decide) rfl (ly0_A_4 La0_h k2) ?_
        refine mx_aload_n dX0_plays_69 rfl rfl ?_
        refine mx_get 0 8 (ref := "PrairiePool") cl_0 (Nat.le_of_ble_eq_true rfl) (Or.inl q468) (Or.inl rfl) dX0_plays_70 (fv_0_8 _ _) (ly0_k La0_h) ?_
        refine mx_tr (ly0_R_0_8 La0_h) ?_
        refine mx_callP [11, 12, 13, 14] vm_plays (vs := [rv (a0 + 9)]) (st := []) pu_plays rfl rfl rfl (Nat.le_of_ble_eq_true rfl) (Or.inr (by simp [defaultWords_1, mi_X0_plays])) dX0_plays_73 rfl k3 ?_
        refine ma_kv H (fun h17 Xh17 H => ?_) (fun x1 h1 X1 H => mt_out rfl H)
        have H := H Xh17
        have k19 := ma_ksx Xh17 (k3)
        have La0_h17 := La0_h.ext Xh17
        refine mx_iinc (al' := [some (rv a0), some (iv x1), some (iv (x2 + (1 : Int32)))]) dX0_plays_76 rfl ic_1 rfl ?_
        refine mx_goto (tgt := 9) dX0_plays_79 rfl ?_
        exact mx_weak (al' := [some (rv a0), some (iv x1), some (iv (x2 + (1 : Int32)))]) ⟨rfl, ⟨rfl, ⟨rfl, trivial⟩⟩⟩ H
    · have H := H.2 c4
      refine mx_goto (tgt := 76) dX0_plays_30 rfl ?_
      refine mx_iinc (al' := [some (rv a0), some (iv x1), some (iv (x2 + (1 : Int32)))]) dX0_plays_76 rfl ic_1 rfl ?_
      refine mx_goto (tgt := 9) dX0_plays_79 rfl ?_
      exact mx_weak (al' := [some (rv a0), some (iv x1), some (iv (x2 + (1 : Int32)))]) ⟨rfl, ⟨rfl, ⟨rfl, trivial⟩⟩⟩ H
theorem v_X0_told {G : ma_G} {d : Nat} {a0 : Nat} {a1 : Nat} {x2 : Int32} {h : ah_T} {Q : Option ma_V → ah_T → Prop} {E : Nat → ah_T → Prop} (La0_h : LY0 h a0) (H : (¬ x2 = (-1 : Int32) → ah_kd h a1 = 4 ∧ aok h 40 (ah_R h a1 0) x2 ∧ ∀ h4 : ah_T, h4 = ah_wI h a0 20 (0 : Int32) → ah_ext h h4 → Q (some (iv (ah_I h (ah_R h a1 0) x2.toNatClampNeg))) h4) ∧ (x2 = (-1 : Int32) → ah_kd h a1 = 4 ∧ ∀ h6 : ah_T, h6 = ah_wI h a0 20 (0 : Int32) → ah_ext h h6 → Q (some (iv (ah_I h a1 1))) h6)) : MX G mi_X0_told (d + 1) 0 [some (rv a0), some (rv a1), some (iv x2)] [] h Q E := by
  refine mx_aload_n dX0_told_0 rfl rfl ?_
  refine mx_iload_n dX0_told_1 rfl rfl ?_
  refine mx_iconst dX0_told_2 ic_m1 ?_
  refine mx_icmp_ne (tgt := 13) dX0_told_3 rfl (fun c1 => ?_) (fun c1 => ?_)
  · have H := H.1 c1
    refine mx_aload_n dX0_told_13 rfl rfl ?_
    obtain ⟨k2, H⟩ := H
    refine mx_get 3 0 (ref := "PrairiePool$Heap") cl_3 (Nat.le_of_ble_eq_true rfl) (Or.inr ⟨_, q214⟩) (Or.inl rfl) dX0_told_14 (fv_3_0 _ _) k2 ?_
    refine mx_iload_n dX0_told_17 rfl rfl ?_
    obtain ⟨k3, H⟩ := H
    refine my_iald dX0_told_18 rfl k3 ?_
    refine mx_callV 0 (y' := mi_X0_gives) (vs := [iv (ah_I h (ah_R h a1 0) x2.toNatClampNeg)]) (st := []) (al' := [some (rv a0), some (iv (ah_I h (ah_R h a1 0) x2.toNatClampNeg))]) cl_0 V_X0_gives (Or.inl q801) dX0_told_19 rfl rfl (Nat.le_of_ble_eq_true rfl) (Nat.le_of_ble_eq_true rfl) (ly0_k La0_h) ?_
    refine mx_aload_n dX0_gives_0 rfl rfl ?_
    refine mx_iconst dX0_gives_1 ic_0 ?_
    refine mx_putI 0 20 (ref := "PrairiePool") cl_0 (Nat.le_of_ble_eq_true rfl) (Or.inl q480) (Or.inl rfl) dX0_gives_2 (Or.inl rfl) rfl (ly0_k La0_h) ?_
    refine mx_nmI  (fun h4 eh4 Xh4 Kh4 Lh4 => ?_)
    have H := H h4 eh4 Xh4
    have La0_h4 := La0_h.ext Xh4
    refine mx_iload_n dX0_gives_5 rfl rfl ?_
    refine mx_iretK rfl dX0_gives_6 ?_
    exact mx_iret rfl dX0_told_22 H
  · have H := H.2 c1
    refine mx_aload_n dX0_told_6 rfl rfl ?_
    obtain ⟨k5, H⟩ := H
    refine mx_get 3 1 (ref := "PrairiePool$Heap") cl_3 (Nat.le_of_ble_eq_true rfl) (Or.inr ⟨_, q217⟩) (Or.inl rfl) dX0_told_7 (fv_3_1 _ _) k5 ?_
    refine mx_goto (tgt := 19) dX0_told_10 rfl ?_
    refine mx_callV 0 (y' := mi_X0_gives) (vs := [iv (ah_I h a1 1)]) (st := []) (al' := [some (rv a0), some (iv (ah_I h a1 1))]) cl_0 V_X0_gives (Or.inl q801) dX0_told_19 rfl rfl (Nat.le_of_ble_eq_true rfl) (Nat.le_of_ble_eq_true rfl) (ly0_k La0_h) ?_
    refine mx_aload_n dX0_gives_0 rfl rfl ?_
    refine mx_iconst dX0_gives_1 ic_0 ?_
    refine mx_putI 0 20 (ref := "PrairiePool") cl_0 (Nat.le_of_ble_eq_true rfl) (Or.inl q480) (Or.inl rfl) dX0_gives_2 (Or.inl rfl) rfl (ly0_k La0_h) ?_
    refine mx_nmI  (fun h6 eh6 Xh6 Kh6 Lh6 => ?_)
    have H := H h6 eh6 Xh6
    have La0_h6 := La0_h.ext Xh6
    refine mx_iload_n dX0_gives_5 rfl rfl ?_
    refine mx_iretK rfl dX0_gives_6 ?_
    exact mx_iret rfl dX0_told_22 H
theorem dX0_port_0 : decode mi_X0_port.2.1 0 = .ok (.iload_n 1, 1) := by decide +kernel
theorem dX0_port_1 : decode mi_X0_port.2.1 1 = .ok (.invokestatic 298, 3) := by decide +kernel
theorem dX0_port_4 : decode mi_X0_port.2.1 4 = .ok (.ifCond .eq 25, 3) := by decide +kernel
theorem dX0_port_7 : decode mi_X0_port.2.1 7 = .ok (.iload_n 2, 1) := by decide +kernel
theorem dX0_port_8 : decode mi_X0_port.2.1 8 = .ok (.invokestatic 301, 3) := by decide +kernel
theorem dX0_port_11 : decode mi_X0_port.2.1 11 = .ok (.ifCond .eq 18, 3) := by decide +kernel
theorem dX0_port_14 : decode mi_X0_port.2.1 14 = .ok (.iload 4, 2) := by decide +kernel
theorem dX0_port_16 : decode mi_X0_port.2.1 16 = .ok (.iconst (-1), 1) := by decide +kernel
theorem dX0_port_17 : decode mi_X0_port.2.1 17 = .ok (.if_icmp .eq 18, 3) := by decide +kernel
theorem dX0_port_20 : decode mi_X0_port.2.1 20 = .ok (.aload_n 0, 1) := by decide +kernel
theorem dX0_port_21 : decode mi_X0_port.2.1 21 = .ok (.iload 4, 2) := by decide +kernel
theorem dX0_port_23 : decode mi_X0_port.2.1 23 = .ok (.invokevirtual 275, 3) := by decide +kernel
theorem dX0_port_26 : decode mi_X0_port.2.1 26 = .ok (.ifCond .ne 9, 3) := by decide +kernel
theorem dX0_port_29 : decode mi_X0_port.2.1 29 = .ok (.aload_n 0, 1) := by decide +kernel
theorem dX0_port_30 : decode mi_X0_port.2.1 30 = .ok (.iconst 2, 1) := by decide +kernel
theorem dX0_port_31 : decode mi_X0_port.2.1 31 = .ok (.invokevirtual 205, 3) := by decide +kernel
theorem dX0_port_34 : decode mi_X0_port.2.1 34 = .ok (.ireturn, 1) := by decide +kernel
theorem dX0_port_35 : decode mi_X0_port.2.1 35 = .ok (.iload_n 3, 1) := by decide +kernel
theorem dX0_port_36 : decode mi_X0_port.2.1 36 = .ok (.invokestatic 304, 3) := by decide +kernel
theorem dX0_port_39 : decode mi_X0_port.2.1 39 = .ok (.ifCond .eq 11, 3) := by decide +kernel
theorem dX0_port_42 : decode mi_X0_port.2.1 42 = .ok (.iload 5, 2) := by decide +kernel
theorem dX0_port_44 : decode mi_X0_port.2.1 44 = .ok (.invokestatic 260, 3) := by decide +kernel
theorem dX0_port_47 : decode mi_X0_port.2.1 47 = .ok (.ifCond .ne 9, 3) := by decide +kernel
theorem dX0_port_50 : decode mi_X0_port.2.1 50 = .ok (.aload_n 0, 1) := by decide +kernel
theorem dX0_port_51 : decode mi_X0_port.2.1 51 = .ok (.iconst 5, 1) := by decide +kernel
theorem dX0_port_52 : decode mi_X0_port.2.1 52 = .ok (.invokevirtual 205, 3) := by decide +kernel
theorem dX0_port_55 : decode mi_X0_port.2.1 55 = .ok (.ireturn, 1) := by decide +kernel
theorem dX0_port_56 : decode mi_X0_port.2.1 56 = .ok (.aload_n 0, 1) := by decide +kernel
theorem dX0_port_57 : decode mi_X0_port.2.1 57 = .ok (.iload 5, 2) := by decide +kernel
theorem dX0_port_59 : decode mi_X0_port.2.1 59 = .ok (.invokevirtual 387, 3) := by decide +kernel
theorem dX0_port_62 : decode mi_X0_port.2.1 62 = .ok (.aload_n 0, 1) := by decide +kernel
theorem dX0_port_63 : decode mi_X0_port.2.1 63 = .ok (.aload_n 0, 1) := by decide +kernel
theorem dX0_port_64 : decode mi_X0_port.2.1 64 = .ok (.getfield 49, 3) := by decide +kernel
theorem dX0_port_67 : decode mi_X0_port.2.1 67 = .ok (.getfield 398, 3) := by decide +kernel
theorem dX0_port_70 : decode mi_X0_port.2.1 70 = .ok (.iload_n 1, 1) := by decide +kernel
theorem dX0_port_71 : decode mi_X0_port.2.1 71 = .ok (.aaload, 1) := by decide +kernel
theorem dX0_port_72 : decode mi_X0_port.2.1 72 = .ok (.iload_n 2, 1) := by decide +kernel
theorem dX0_port_73 : decode mi_X0_port.2.1 73 = .ok (.aaload, 1) := by decide +kernel
theorem dX0_port_74 : decode mi_X0_port.2.1 74 = .ok (.iload_n 3, 1) := by decide +kernel
theorem dX0_port_75 : decode mi_X0_port.2.1 75 = .ok (.aaload, 1) := by decide +kernel
theorem dX0_port_76 : decode mi_X0_port.2.1 76 = .ok (.iload 4, 2) := by decide +kernel
theorem dX0_port_78 : decode mi_X0_port.2.1 78 = .ok (.invokevirtual 394, 3) := by decide +kernel
theorem dX0_port_81 : decode mi_X0_port.2.1 81 = .ok (.ireturn, 1) := by decide +kernel
theorem v_X0_port {G : ma_G} {d : Nat} {a0 : Nat} {x1 : Int32} {x2 : Int32} {x3 : Int32} {x4 : Int32} {x5 : Int32} {h : ah_T} {Q : Option ma_V → ah_T → Prop} {E : Nat → ah_T → Prop} (La0_h : LY0 h a0) (H : (x1 < 0 → ∀ h2 : ah_T, h2 = ah_wI h a0 20 (2 : Int32) → ah_ext h h2 → Q (some (iv (-1 : Int32))) h2) ∧ (¬ x1 < 0 → ((2 : Int32) ≤ x1 → ∀ h4 : ah_T, h4 = ah_wI h a0 20 (2 : Int32) → ah_ext h h4 → Q (some (iv (-1 : Int32))) h4) ∧ (¬ (2 : Int32) ≤ x1 → (x2 < 0 → ∀ h6 : ah_T, h6 = ah_wI h a0 20 (2 : Int32) → ah_ext h h6 → Q (some (iv (-1 : Int32))) h6) ∧ (¬ x2 < 0 → ((6 : Int32) ≤ x2 → ∀ h8 : ah_T, h8 = ah_wI h a0 20 (2 : Int32) → ah_ext h h8 → Q (some (iv (-1 : Int32))) h8) ∧ (¬ (6 : Int32) ≤ x2 → (x4 = (-1 : Int32) → MX G mi_X0_port (d + 2) 35 [some (rv a0), some (iv x1), some (iv x2), some (iv x3), some (iv x4), some (iv x5)] [] h Q E) ∧ (¬ x4 = (-1 : Int32) → (x4 < 0 → ∀ h11 : ah_T, h11 = ah_wI h a0 20 (2 : Int32) → ah_ext h h11 → Q (some (iv (-1 : Int32))) h11) ∧ (¬ x4 < 0 → ((ah_I h a0 14) ≤ x4 → ∀ h13 : ah_T, h13 = ah_wI h a0 20 (2 : Int32) → ah_ext h h13 → Q (some (iv (-1 : Int32))) h13) ∧ (¬ (ah_I h a0 14) ≤ x4 → MX G mi_X0_port (d + 2) 35 [some (rv a0), some (iv x1), some (iv x2), some (iv x3), some (iv x4), some (iv x5)] [] h Q E)))))))) : MX G mi_X0_port (d + 2) 0 [some (rv a0), some (iv x1), some (iv x2), some (iv x3), some (iv x4), some (iv x5)] [] h Q E := by
  refine mx_iload_n dX0_port_0 rfl rfl ?_
  refine mx_callS (y' := mi_X0_isPort) (vs := [iv x1]) (st := []) (al' := [some (iv x1)]) S_X0_isPort q890 dX0_port_1 rfl rfl (Nat.le_of_ble_eq_true rfl) (Nat.le_of_ble_eq_true rfl) ?_
  refine mx_iload_n dX0_isPort_0 rfl rfl ?_
  refine mx_if_lt (tgt := 13) dX0_isPort_1 rfl (fun c1 => ?_) (fun c1 => ?_)
  · have H := H.1 c1
    refine mx_iconst dX0_isPort_13 ic_0 ?_
    refine mx_zretK rfl dX0_isPort_14 (Or.inl rfl) ?_
    refine mx_if_eq (tgt := 29) dX0_port_4 rfl (fun _ => ?_) (fun _ => absurd ‹_› (by decide))
    refine mx_aload_n dX0_port_29 rfl rfl ?_
    refine mx_iconst dX0_port_30 ic_2 ?_
    refine mx_callV 0 (y' := mi_X0_none) (vs := [iv (2 : Int32)]) (st := []) (al' := [some (rv a0), some (iv (2 : Int32))]) cl_0 V_X0_none (Or.inl q733) dX0_port_31 rfl rfl (Nat.le_of_ble_eq_true rfl) (Nat.le_of_ble_eq_true rfl) (ly0_k La0_h) ?_
    refine mx_aload_n dX0_none_0 rfl rfl ?_
    refine mx_iload_n dX0_none_1 rfl rfl ?_
    refine mx_putI 0 20 (ref := "PrairiePool") cl_0 (Nat.le_of_ble_eq_true rfl) (Or.inl q480) (Or.inl rfl) dX0_none_2 (Or.inl rfl) rfl (ly0_k La0_h) ?_
    refine mx_nmI  (fun h2 eh2 Xh2 Kh2 Lh2 => ?_)
    have H := H h2 eh2 Xh2
    have La0_h2 := La0_h.ext Xh2
    refine mx_iconst dX0_none_5 ic_m1 ?_
    refine mx_iretK rfl dX0_none_6 ?_
    exact mx_iret rfl dX0_port_34 H
  · have H := H.2 c1
    refine mx_iload_n dX0_isPort_4 rfl rfl ?_
    refine mx_iconst dX0_isPort_5 ic_2 ?_
    refine mx_icmp_ge (tgt := 13) dX0_isPort_6 rfl (fun c3 => ?_) (fun c3 => ?_)
    · have H := H.1 c3
      refine mx_iconst dX0_isPort_13 ic_0 ?_
      refine mx_zretK rfl dX0_isPort_14 (Or.inl rfl) ?_
      refine mx_if_eq (tgt := 29) dX0_port_4 rfl (fun _ => ?_) (fun _ => absurd ‹_› (by decide))
      refine mx_aload_n dX0_port_29 rfl rfl ?_
      refine mx_iconst dX0_port_30 ic_2 ?_
      refine mx_callV 0 (y' := mi_X0_none) (vs := [iv (2 : Int32)]) (st := []) (al' := [some (rv a0), some (iv (2 : Int32))]) cl_0 V_X0_none (Or.inl q733) dX0_port_31 rfl rfl (Nat.le_of_ble_eq_true rfl) (Nat.le_of_ble_eq_true rfl) (ly0_k La0_h) ?_
      refine mx_aload_n dX0_none_0 rfl rfl ?_
      refine mx_iload_n dX0_none_1 rfl rfl ?_
      refine mx_putI 0 20 (ref := "PrairiePool") cl_0 (Nat.le_of_ble_eq_true rfl) (Or.inl q480) (Or.inl rfl) dX0_none_2 (Or.inl rfl) rfl (ly0_k La0_h) ?_
      refine mx_nmI  (fun h4 eh4 Xh4 Kh4 Lh4 => ?_)
      have H := H h4 eh4 Xh4
      have La0_h4 := La0_h.ext Xh4
      refine mx_iconst dX0_none_5 ic_m1 ?_
      refine mx_iretK rfl dX0_none_6 ?_
      exact mx_iret rfl dX0_port_34 H
    · have H := H.2 c3
      refine mx_iconst dX0_isPort_9 ic_1 ?_
      refine mx_goto (tgt := 14) dX0_isPort_10 rfl ?_
      refine mx_zretK rfl dX0_isPort_14 (Or.inr rfl) ?_
      refine mx_if_eq (tgt := 29) dX0_port_4 rfl (fun _ => absurd ‹_› (by decide)) (fun _ => ?_)
      refine mx_iload_n dX0_port_7 rfl rfl ?_
      refine mx_callS (y' := mi_X0_isGrade) (vs := [iv x2]) (st := []) (al' := [some (iv x2)]) S_X0_isGrade q893 dX0_port_8 rfl rfl (Nat.le_of_ble_eq_true rfl) (Nat.le_of_ble_eq_true rfl) ?_
      refine mx_iload_n dX0_isGrade_0 rfl rfl ?_
      refine mx_if_lt (tgt := 14) dX0_isGrade_1 rfl (fun c5 => ?_) (fun c5 => ?_)
      · have H := H.1 c5
        refine mx_iconst dX0_isGrade_14 ic_0 ?_
        refine mx_zretK rfl dX0_isGrade_15 (Or.inl rfl) ?_
        refine mx_if_eq (tgt := 29) dX0_port_11 rfl (fun _ => ?_) (fun _ => absurd ‹_› (by decide))
        refine mx_aload_n dX0_port_29 rfl rfl ?_
        refine mx_iconst dX0_port_30 ic_2 ?_
        refine mx_callV 0 (y' := mi_X0_none) (vs := [iv (2 : Int32)]) (st := []) (al' := [some (rv a0), some (iv (2 : Int32))]) cl_0 V_X0_none (Or.inl q733) dX0_port_31 rfl rfl (Nat.le_of_ble_eq_true rfl) (Nat.le_of_ble_eq_true rfl) (ly0_k La0_h) ?_
        refine mx_aload_n dX0_none_0 rfl rfl ?_
        refine mx_iload_n dX0_none_1 rfl rfl ?_
        refine mx_putI 0 20 (ref := "PrairiePool") cl_0 (Nat.le_of_ble_eq_true rfl) (Or.inl q480) (Or.inl rfl) dX0_none_2 (Or.inl rfl) rfl (ly0_k La0_h) ?_
        refine mx_nmI  (fun h6 eh6 Xh6 Kh6 Lh6 => ?_)
        have H := H h6 eh6 Xh6
        have La0_h6 := La0_h.ext Xh6
        refine mx_iconst dX0_none_5 ic_m1 ?_
        refine mx_iretK rfl dX0_none_6 ?_
        exact mx_iret rfl dX0_port_34 H
      · have H := H.2 c5
        refine mx_iload_n dX0_isGrade_4 rfl rfl ?_
        refine mx_bipush dX0_isGrade_5 ib_6 ?_
        refine mx_icmp_ge (tgt := 14) dX0_isGrade_7 rfl (fun c7 => ?_) (fun c7 => ?_)
        · have H := H.1 c7
          refine mx_iconst dX0_isGrade_14 ic_0 ?_
          refine mx_zretK rfl dX0_isGrade_15 (Or.inl rfl) ?_
          refine mx_if_eq (tgt := 29) dX0_port_11 rfl (fun _ => ?_) (fun _ => absurd ‹_› (by decide))
          refine mx_aload_n dX0_port_29 rfl rfl ?_
          refine mx_iconst dX0_port_30 ic_2 ?_
          refine mx_callV 0 (y' := mi_X0_none) (vs := [iv (2 : Int32)]) (st := []) (al' := [some (rv a0), some (iv (2 : Int32))]) cl_0 V_X0_none (Or.inl q733) dX0_port_31 rfl rfl (Nat.le_of_ble_eq_true rfl) (Nat.le_of_ble_eq_true rfl) (ly0_k La0_h) ?_
          refine mx_aload_n dX0_none_0 rfl rfl ?_
          refine mx_iload_n dX0_none_1 rfl rfl ?_
          refine mx_putI 0 20 (ref := "PrairiePool") cl_0 (Nat.le_of_ble_eq_true rfl) (Or.inl q480) (Or.inl rfl) dX0_none_2 (Or.inl rfl) rfl (ly0_k La0_h) ?_
          refine mx_nmI  (fun h8 eh8 Xh8 Kh8 Lh8 => ?_)
          have H := H h8 eh8 Xh8
          have La0_h8 := La0_h.ext Xh8
          refine mx_iconst dX0_none_5 ic_m1 ?_
          refine mx_iretK rfl dX0_none_6 ?_
          exact mx_iret rfl dX0_port_34 H
        · have H := H.2 c7
          refine mx_iconst dX0_isGrade_10 ic_1 ?_
          refine mx_goto (tgt := 15) dX0_isGrade_11 rfl ?_
          refine mx_zretK rfl dX0_isGrade_15 (Or.inr rfl) ?_
          refine mx_if_eq (tgt := 29) dX0_port_11 rfl (fun _ => absurd ‹_› (by decide)) (fun _ => ?_)
          refine mx_iload dX0_port_14 rfl ?_
          refine mx_iconst dX0_port_16 ic_m1 ?_
          refine mx_icmp_eq (tgt := 35) dX0_port_17 rfl (fun c9 => ?_) (fun c9 => ?_)
          · have H := H.1 c9
            exact mx_weak (al' := [some (rv a0), some (iv x1), some (iv x2), some (iv x3), some (iv x4), some (iv x5)]) ⟨rfl, ⟨rfl, ⟨rfl, ⟨rfl, ⟨rfl, ⟨rfl, trivial⟩⟩⟩⟩⟩⟩ H
          · have H := H.2 c9
            refine mx_aload_n dX0_port_20 rfl rfl ?_
            refine mx_iload dX0_port_21 rfl ?_
            refine mx_callV 0 (y' := mi_X0_isFarm) (vs := [iv x4]) (st := []) (al' := [some (rv a0), some (iv x4)]) cl_0 V_X0_isFarm (Or.inl q827) dX0_port_23 rfl rfl (Nat.le_of_ble_eq_true rfl) (Nat.le_of_ble_eq_true rfl) (ly0_k La0_h) ?_
            refine mx_iload_n dX0_isFarm_0 rfl rfl ?_
            refine mx_if_lt (tgt := 16) dX0_isFarm_1 rfl (fun c10 => ?_) (fun c10 => ?_)
            · have H := H.1 c10
              refine mx_iconst dX0_isFarm_16 ic_0 ?_
              refine mx_zretK rfl dX0_isFarm_17 (Or.inl rfl) ?_
              refine mx_if_ne (tgt := 35) dX0_port_26 rfl (fun _ => absurd ‹_› (by decide)) (fun _ => ?_)
              refine mx_aload_n dX0_port_29 rfl rfl ?_
              refine mx_iconst dX0_port_30 ic_2 ?_
              refine mx_callV 0 (y' := mi_X0_none) (vs := [iv (2 : Int32)]) (st := []) (al' := [some (rv a0), some (iv (2 : Int32))]) cl_0 V_X0_none (Or.inl q733) dX0_port_31 rfl rfl (Nat.le_of_ble_eq_true rfl) (Nat.le_of_ble_eq_true rfl) (ly0_k La0_h) ?_
              refine mx_aload_n dX0_none_0 rfl rfl ?_
              refine mx_iload_n dX0_none_1 rfl rfl ?_
              refine mx_putI 0 20 (ref := "PrairiePool") cl_0 (Nat.le_of_ble_eq_true rfl) (Or.inl q480) (Or.inl rfl) dX0_none_2 (Or.inl rfl) rfl (ly0_k La0_h) ?_
              refine mx_nmI  (fun h11 eh11 Xh11 Kh11 Lh11 => ?_)
              have H := H h11 eh11 Xh11
              have La0_h11 := La0_h.ext Xh11
              refine mx_iconst dX0_none_5 ic_m1 ?_
              refine mx_iretK rfl dX0_none_6 ?_
              exact mx_iret rfl dX0_port_34 H
            · have H := H.2 c10
              refine mx_iload_n dX0_isFarm_4 rfl rfl ?_
              refine mx_aload_n dX0_isFarm_5 rfl rfl ?_
              refine mx_get 0 14 (ref := "PrairiePool") cl_0 (Nat.le_of_ble_eq_true rfl) (Or.inl q474) (Or.inl rfl) dX0_isFarm_6 (fv_0_14 _ _) (ly0_k La0_h) ?_
              refine mx_icmp_ge (tgt := 16) dX0_isFarm_9 rfl (fun c12 => ?_) (fun c12 => ?_)
              · have H := H.1 c12
                refine mx_iconst dX0_isFarm_16 ic_0 ?_
                refine mx_zretK rfl dX0_isFarm_17 (Or.inl rfl) ?_
                refine mx_if_ne (tgt := 35) dX0_port_26 rfl (fun _ => absurd ‹_› (by decide)) (fun _ => ?_)
                refine mx_aload_n dX0_port_29 rfl rfl ?_
                refine mx_iconst dX0_port_30 ic_2 ?_
                refine mx_callV 0 (y' := mi_X0_none) (vs := [iv (2 : Int32)]) (st := []) (al' := [some (rv a0), some (iv (2 : Int32))]) cl_0 V_X0_none (Or.inl q733) dX0_port_31 rfl rfl (Nat.le_of_ble_eq_true rfl) (Nat.le_of_ble_eq_true rfl) (ly0_k La0_h) ?_
                refine mx_aload_n dX0_none_0 rfl rfl ?_
                refine mx_iload_n dX0_none_1 rfl rfl ?_
                refine mx_putI 0 20 (ref := "PrairiePool") cl_0 (Nat.le_of_ble_eq_true rfl) (Or.inl q480) (Or.inl rfl) dX0_none_2 (Or.inl rfl) rfl (ly0_k La0_h) ?_
                refine mx_nmI  (fun h13 eh13 Xh13 Kh13 Lh13 => ?_)
                have H := H h13 eh13 Xh13
                have La0_h13 := La0_h.ext Xh13
                refine mx_iconst dX0_none_5 ic_m1 ?_
                refine mx_iretK rfl dX0_none_6 ?_
                exact mx_iret rfl dX0_port_34 H
              · have H := H.2 c12
                refine mx_iconst dX0_isFarm_12 ic_1 ?_
                refine mx_goto (tgt := 17) dX0_isFarm_13 rfl ?_
                refine mx_zretK rfl dX0_isFarm_17 (Or.inr rfl) ?_
                refine mx_if_ne (tgt := 35) dX0_port_26 rfl (fun _ => ?_) (fun _ => absurd ‹_› (by decide))
                exact mx_weak (al' := [some (rv a0), some (iv x1), some (iv x2), some (iv x3), some (iv x4), some (iv x5)]) ⟨rfl, ⟨rfl, ⟨rfl, ⟨rfl, ⟨rfl, ⟨rfl, trivial⟩⟩⟩⟩⟩⟩ H
theorem v_X0_port_35 {G : ma_G} {d : Nat} {a0 : Nat} {x1 : Int32} {x2 : Int32} {x3 : Int32} {x4 : Int32} {x5 : Int32} {h : ah_T} {Q : Option ma_V → ah_T → Prop} {E : Nat → ah_T → Prop} (La0_h : LY0 h a0) (H : (x3 < 0 → ∀ h2 : ah_T, h2 = ah_wI h a0 20 (5 : Int32) → ah_ext h h2 → Q (some (iv (-1 : Int32))) h2) ∧ (¬ x3 < 0 → ((10 : Int32) ≤ x3 → ∀ h4 : ah_T, h4 = ah_wI h a0 20 (5 : Int32) → ah_ext h h4 → Q (some (iv (-1 : Int32))) h4) ∧ (¬ (10 : Int32) ≤ x3 → (x5 < 0 → ∀ h6 : ah_T, h6 = ah_wI h a0 20 (5 : Int32) → ah_ext h h6 → Q (some (iv (-1 : Int32))) h6) ∧ (¬ x5 < 0 → ((520 : Int32) ≤ x5 → ∀ h8 : ah_T, h8 = ah_wI h a0 20 (5 : Int32) → ah_ext h h8 → Q (some (iv (-1 : Int32))) h8) ∧ (¬ (520 : Int32) ≤ x5 → MX G mi_X0_plays (d + 1) 0 [some (rv a0), some (iv x5), none] [] h (Qv fun h9 => ah_ext h h9 → vp_in x1 2 ∧ vp_in x2 6 ∧ vp_in x3 10 ∧ (¬ x4 = (-1 : Int32) → vp_in x4 20 ∧ ∀ h16 : ah_T, h16 = ah_wI h9 a0 20 (0 : Int32) → ah_ext h9 h16 → Q (some (iv (ah_I h9 ((a0 + (122 + 22 * (10 * x2.toNatClampNeg + x3.toNatClampNeg) + 2 * x1.toNatClampNeg)) + 1) x4.toNatClampNeg))) h16) ∧ (x4 = (-1 : Int32) → ∀ h17 : ah_T, h17 = ah_wI h9 a0 20 (0 : Int32) → ah_ext h9 h17 → Q (some (iv (ah_I h9 (a0 + (122 + 22 * (10 * x2.toNatClampNeg + x3.toNatClampNeg) + 2 * x1.toNatClampNeg)) 1))) h17)) E))))) : MX G mi_X0_port (d + 2) 35 [some (rv a0), some (iv x1), some (iv x2), some (iv x3), some (iv x4), some (iv x5)] [] h Q E := by
  refine mx_iload_n dX0_port_35 rfl rfl ?_
  refine mx_callS (y' := mi_X0_isYear) (vs := [iv x3]) (st := []) (al' := [some (iv x3)]) S_X0_isYear q896 dX0_port_36 rfl rfl (Nat.le_of_ble_eq_true rfl) (Nat.le_of_ble_eq_true rfl) ?_
  refine mx_iload_n dX0_isYear_0 rfl rfl ?_
  refine mx_if_lt (tgt := 14) dX0_isYear_1 rfl (fun c1 => ?_) (fun c1 => ?_)
  · have H := H.1 c1
    refine mx_iconst dX0_isYear_14 ic_0 ?_
    refine mx_zretK rfl dX0_isYear_15 (Or.inl rfl) ?_
    refine mx_if_eq (tgt := 50) dX0_port_39 rfl (fun _ => ?_) (fun _ => absurd ‹_› (by decide))
    refine mx_aload_n dX0_port_50 rfl rfl ?_
    refine mx_iconst dX0_port_51 ic_5 ?_
    refine mx_callV 0 (y' := mi_X0_none) (vs := [iv (5 : Int32)]) (st := []) (al' := [some (rv a0), some (iv (5 : Int32))]) cl_0 V_X0_none (Or.inl q733) dX0_port_52 rfl rfl (Nat.le_of_ble_eq_true rfl) (Nat.le_of_ble_eq_true rfl) (ly0_k La0_h) ?_
    refine mx_aload_n dX0_none_0 rfl rfl ?_
    refine mx_iload_n dX0_none_1 rfl rfl ?_
    refine mx_putI 0 20 (ref := "PrairiePool") cl_0 (Nat.le_of_ble_eq_true rfl) (Or.inl q480) (Or.inl rfl) dX0_none_2 (Or.inl rfl) rfl (ly0_k La0_h) ?_
    refine mx_nmI  (fun h2 eh2 Xh2 Kh2 Lh2 => ?_)
    have H := H h2 eh2 Xh2
    have La0_h2 := La0_h.ext Xh2
    refine mx_iconst dX0_none_5 ic_m1 ?_
    refine mx_iretK rfl dX0_none_6 ?_
    exact mx_iret rfl dX0_port_55 H
  · have H := H.2 c1
    refine mx_iload_n dX0_isYear_4 rfl rfl ?_
    refine mx_bipush dX0_isYear_5 ib_10 ?_
    refine mx_icmp_ge (tgt := 14) dX0_isYear_7 rfl (fun c3 => ?_) (fun c3 => ?_)
    · have H := H.1 c3
      refine mx_iconst dX0_isYear_14 ic_0 ?_
      refine mx_zretK rfl dX0_isYear_15 (Or.inl rfl) ?_
      refine mx_if_eq (tgt := 50) dX0_port_39 rfl (fun _ => ?_) (fun _ => absurd ‹_› (by decide))
      refine mx_aload_n dX0_port_50 rfl rfl ?_
      refine mx_iconst dX0_port_51 ic_5 ?_
      refine mx_callV 0 (y' := mi_X0_none) (vs := [iv (5 : Int32)]) (st := []) (al' := [some (rv a0), some (iv (5 : Int32))]) cl_0 V_X0_none (Or.inl q733) dX0_port_52 rfl rfl (Nat.le_of_ble_eq_true rfl) (Nat.le_of_ble_eq_true rfl) (ly0_k La0_h) ?_
      refine mx_aload_n dX0_none_0 rfl rfl ?_
      refine mx_iload_n dX0_none_1 rfl rfl ?_
      refine mx_putI 0 20 (ref := "PrairiePool") cl_0 (Nat.le_of_ble_eq_true rfl) (Or.inl q480) (Or.inl rfl) dX0_none_2 (Or.inl rfl) rfl (ly0_k La0_h) ?_
      refine mx_nmI  (fun h4 eh4 Xh4 Kh4 Lh4 => ?_)
      have H := H h4 eh4 Xh4
      have La0_h4 := La0_h.ext Xh4
      refine mx_iconst dX0_none_5 ic_m1 ?_
      refine mx_iretK rfl dX0_none_6 ?_
      exact mx_iret rfl dX0_port_55 H
    · have H := H.2 c3
      refine mx_iconst dX0_isYear_10 ic_1 ?_
      refine mx_goto (tgt := 15) dX0_isYear_11 rfl ?_
      refine mx_zretK rfl dX0_isYear_15 (Or.inr rfl) ?_
      refine mx_if_eq (tgt := 50) dX0_port_39 rfl (fun _ => absurd ‹_› (by decide)) (fun _ => ?_)
      refine mx_iload dX0_port_42 rfl ?_
      refine mx_callS (y' := mi_X0_isWeek) (vs := [iv x5]) (st := []) (al' := [some (iv x5)]) S_X0_isWeek q841 dX0_port_44 rfl rfl (Nat.le_of_ble_eq_true rfl) (Nat.le_of_ble_eq_true rfl) ?_
      refine mx_iload_n dX0_isWeek_0 rfl rfl ?_
      refine mx_if_lt (tgt := 15) dX0_isWeek_1 rfl (fun c5 => ?_) (fun c5 => ?_)
      · have H := H.1 c5
        refine mx_iconst dX0_isWeek_15 ic_0 ?_
        refine mx_zretK rfl dX0_isWeek_16 (Or.inl rfl) ?_
        refine mx_if_ne (tgt := 56) dX0_port_47 rfl (fun _ => absurd ‹_› (by decide)) (fun _ => ?_)
        refine mx_aload_n dX0_port_50 rfl rfl ?_
        refine mx_iconst dX0_port_51 ic_5 ?_
        refine mx_callV 0 (y' := mi_X0_none) (vs := [iv (5 : Int32)]) (st := []) (al' := [some (rv a0), some (iv (5 : Int32))]) cl_0 V_X0_none (Or.inl q733) dX0_port_52 rfl rfl (Nat.le_of_ble_eq_true rfl) (Nat.le_of_ble_eq_true rfl) (ly0_k La0_h) ?_
        refine mx_aload_n dX0_none_0 rfl rfl ?_
        refine mx_iload_n dX0_none_1 rfl rfl ?_
        refine mx_putI 0 20 (ref := "PrairiePool") cl_0 (Nat.le_of_ble_eq_true rfl) (Or.inl q480) (Or.inl rfl) dX0_none_2 (Or.inl rfl) rfl (ly0_k La0_h) ?_
        refine mx_nmI  (fun h6 eh6 Xh6 Kh6 Lh6 => ?_)
        have H := H h6 eh6 Xh6
        have La0_h6 := La0_h.ext Xh6
        refine mx_iconst dX0_none_5 ic_m1 ?_
        refine mx_iretK rfl dX0_none_6 ?_
        exact mx_iret rfl dX0_port_55 H
      · have H := H.2 c5
        refine mx_iload_n dX0_isWeek_4 rfl rfl ?_
        refine mx_sipush dX0_isWeek_5 is_520 ?_
        refine mx_icmp_ge (tgt := 15) dX0_isWeek_8 rfl (fun c7 => ?_) (fun c7 => ?_)
        · have H := H.1 c7
          refine mx_iconst dX0_isWeek_15 ic_0 ?_
          refine mx_zretK rfl dX0_isWeek_16 (Or.inl rfl) ?_
          refine mx_if_ne (tgt := 56) dX0_port_47 rfl (fun _ => absurd ‹_› (by decide)) (fun _ => ?_)
          refine mx_aload_n dX0_port_50 rfl rfl ?_
          refine mx_iconst dX0_port_51 ic_5 ?_
          refine mx_callV 0 (y' := mi_X0_none) (vs := [iv (5 : Int32)]) (st := []) (al' := [some (rv a0), some (iv (5 : Int32))]) cl_0 V_X0_none (Or.inl q733) dX0_port_52 rfl rfl (Nat.le_of_ble_eq_true rfl) (Nat.le_of_ble_eq_true rfl) (ly0_k La0_h) ?_
          refine mx_aload_n dX0_none_0 rfl rfl ?_
          refine mx_iload_n dX0_none_1 rfl rfl ?_
          refine mx_putI 0 20 (ref := "PrairiePool") cl_0 (Nat.le_of_ble_eq_true rfl) (Or.inl q480) (Or.inl rfl) dX0_none_2 (Or.inl rfl) rfl (ly0_k La0_h) ?_
          refine mx_nmI  (fun h8 eh8 Xh8 Kh8 Lh8 => ?_)
          have H := H h8 eh8 Xh8
          have La0_h8 := La0_h.ext Xh8
          refine mx_iconst dX0_none_5 ic_m1 ?_
          refine mx_iretK rfl dX0_none_6 ?_
          exact mx_iret rfl dX0_port_55 H
        · have H := H.2 c7
          refine mx_iconst dX0_isWeek_11 ic_1 ?_
          refine mx_goto (tgt := 16) dX0_isWeek_12 rfl ?_
          refine mx_zretK rfl dX0_isWeek_16 (Or.inr rfl) ?_
          refine mx_if_ne (tgt := 56) dX0_port_47 rfl (fun _ => ?_) (fun _ => absurd ‹_› (by decide))
          refine mx_aload_n dX0_port_56 rfl rfl ?_
          refine mx_iload dX0_port_57 rfl ?_
          refine mx_callV 0 (y' := mi_X0_plays) (vs := [iv x5]) (st := []) (al' := [some (rv a0), some (iv x5), none]) cl_0 V_X0_plays (Or.inl q1069) dX0_port_59 rfl rfl (Nat.le_of_ble_eq_true rfl) (Nat.le_of_ble_eq_true rfl) (ly0_k La0_h) ?_
          refine ma_kv H (fun h9 Xh9 H => ?_) (fun x1 h1 X1 H => mt_out rfl H)
          have H := H Xh9
          have La0_h9 := La0_h.ext Xh9
          refine mx_aload_n dX0_port_62 rfl rfl ?_
          refine mx_aload_n dX0_port_63 rfl rfl ?_
          refine mx_get 0 8 (ref := "PrairiePool") cl_0 (Nat.le_of_ble_eq_true rfl) (Or.inl q468) (Or.inl rfl) dX0_port_64 (fv_0_8 _ _) (ly0_k La0_h9) ?_
          refine mx_tr (ly0_R_0_8 La0_h9) ?_
          refine mx_get 1 1 (ref := "PrairiePool$Play") cl_1 (Nat.le_of_ble_eq_true rfl) (Or.inr ⟨_, q230⟩) (Or.inl rfl) dX0_port_67 (fv_1_1 _ _) (ly0_K_9 La0_h9) ?_
          refine mx_tr (ly0_R_9_1 La0_h9) ?_
          refine mx_iload_n dX0_port_70 rfl rfl ?_
          obtain ⟨k11, H⟩ := H
          refine my_aald 13 dX0_port_71 (by decide) rfl (ly0_A_67 La0_h9 k11) ?_
          refine mx_tr (ly0_G1_67 La0_h9 (vp_lt k11)) ?_
          refine mx_iload_n dX0_port_72 rfl rfl ?_
          obtain ⟨k12, H⟩ := H
          refine my_aald 12 dX0_port_73 (by decide) rfl ⟨(ly0_K1_67 La0_h9 (vp_lt k11)), by rw [ly0_N1_67 La0_h9 (vp_lt k11)]; exact k12⟩ ?_
          refine mx_tr (ly0_G2_67 La0_h9 (vp_lt k11) (vp_lt k12)) ?_
          refine mx_iload_n dX0_port_74 rfl rfl ?_
          obtain ⟨k13, H⟩ := H
          refine my_aald 11 dX0_port_75 (by decide) rfl ⟨(ly0_K2_67 La0_h9 (vp_lt k11) (vp_lt k12)), by rw [ly0_N2_67 La0_h9 (vp_lt k11) (vp_lt k12)]; exact k13⟩ ?_
          refine mx_tr (ly0_G3_67 La0_h9 (vp_lt k11) (vp_lt k12) (vp_lt k13)) ?_
          refine mx_iload dX0_port_76 rfl ?_
          refine mx_callV 0 (y' := mi_X0_told) (vs := [rv (a0 + (122 + 22 * (10 * x2.toNatClampNeg + x3.toNatClampNeg) + 2 * x1.toNatClampNeg)), iv x4]) (st := []) (al' := [some (rv a0), some (rv (a0 + (122 + 22 * (10 * x2.toNatClampNeg + x3.toNatClampNeg) + 2 * x1.toNatClampNeg))), some (iv x4)]) cl_0 V_X0_told (Or.inl q1153) dX0_port_78 rfl rfl (Nat.le_of_ble_eq_true rfl) (Nat.le_of_ble_eq_true rfl) (ly0_k La0_h9) ?_
          refine mx_aload_n dX0_told_0 rfl rfl ?_
          refine mx_iload_n dX0_told_1 rfl rfl ?_
          refine mx_iconst dX0_told_2 ic_m1 ?_
          refine mx_icmp_ne (tgt := 13) dX0_told_3 rfl (fun c14 => ?_) (fun c14 => ?_)
          · have H := H.1 c14
            refine mx_aload_n dX0_told_13 rfl rfl ?_
            refine mx_get 3 0 (ref := "PrairiePool$Heap") cl_3 (Nat.le_of_ble_eq_true rfl) (Or.inr ⟨_, q214⟩) (Or.inl rfl) dX0_told_14 (fv_3_0 _ _) (ly3_k (ly0_H3_67 La0_h9 (vp_lt k11) (vp_lt k12) (vp_lt k13))) ?_
            refine mx_tr (ly3_r (ly0_H3_67 La0_h9 (vp_lt k11) (vp_lt k12) (vp_lt k13))) ?_
            refine mx_iload_n dX0_told_17 rfl rfl ?_
            obtain ⟨k15, H⟩ := H
            refine my_iald dX0_told_18 rfl ⟨(ly3_K_1 (ly0_H3_67 La0_h9 (vp_lt k11) (vp_lt k12) (vp_lt k13))), by rw [ly3_N_1 (ly0_H3_67 La0_h9 (vp_lt k11) (vp_lt k12) (vp_lt k13))]; exact k15⟩ ?_
            refine mx_callV 0 (y' := mi_X0_gives) (vs := [iv (ah_I h9 ((a0 + (122 + 22 * (10 * x2.toNatClampNeg + x3.toNatClampNeg) + 2 * x1.toNatClampNeg)) + 1) x4.toNatClampNeg)]) (st := []) (al' := [some (rv a0), some (iv (ah_I h9 ((a0 + (122 + 22 * (10 * x2.toNatClampNeg + x3.toNatClampNeg) + 2 * x1.toNatClampNeg)) + 1) x4.toNatClampNeg))]) cl_0 V_X0_gives (Or.inl q801) dX0_told_19 rfl rfl (Nat.le_of_ble_eq_true rfl) (Nat.le_of_ble_eq_true rfl) (ly0_k La0_h9) ?_
            refine mx_aload_n dX0_gives_0 rfl rfl ?_
            refine mx_iconst dX0_gives_1 ic_0 ?_
            refine mx_putI 0 20 (ref := "PrairiePool") cl_0 (Nat.le_of_ble_eq_true rfl) (Or.inl q480) (Or.inl rfl) dX0_gives_2 (Or.inl rfl) rfl (ly0_k La0_h9) ?_
            refine mx_nmI  (fun h16 eh16 Xh16 Kh16 Lh16 => ?_)
            have H := H h16 eh16 Xh16
            have La0_h16 := La0_h9.ext Xh16
            refine mx_iload_n dX0_gives_5 rfl rfl ?_
            refine mx_iretK rfl dX0_gives_6 ?_
            refine mx_iretK rfl dX0_told_22 ?_
            exact mx_iret rfl dX0_port_81 H
          · have H := H.2 c14
            refine mx_aload_n dX0_told_6 rfl rfl ?_
            refine mx_get 3 1 (ref := "PrairiePool$Heap") cl_3 (Nat.le_of_ble_eq_true rfl) (Or.inr ⟨_, q217⟩) (Or.inl rfl) dX0_told_7 (fv_3_1 _ _) (ly3_k (ly0_H3_67 La0_h9 (vp_lt k11) (vp_lt k12) (vp_lt k13))) ?_
            refine mx_goto (tgt := 19) dX0_told_10 rfl ?_
            refine mx_callV 0 (y' := mi_X0_gives) (vs := [iv (ah_I h9 (a0 + (122 + 22 * (10 * x2.toNatClampNeg + x3.toNatClampNeg) + 2 * x1.toNatClampNeg)) 1)]) (st := []) (al' := [some (rv a0), some (iv (ah_I h9 (a0 + (122 + 22 * (10 * x2.toNatClampNeg + x3.toNatClampNeg) + 2 * x1.toNatClampNeg)) 1))]) cl_0 V_X0_gives (Or.inl q801) dX0_told_19 rfl rfl (Nat.le_of_ble_eq_true rfl) (Nat.le_of_ble_eq_true rfl) (ly0_k La0_h9) ?_
            refine mx_aload_n dX0_gives_0 rfl rfl ?_
            refine mx_iconst dX0_gives_1 ic_0 ?_
            refine mx_putI 0 20 (ref := "PrairiePool") cl_0 (Nat.le_of_ble_eq_true rfl) (Or.inl q480) (Or.inl rfl) dX0_gives_2 (Or.inl rfl) rfl (ly0_k La0_h9) ?_
            refine mx_nmI  (fun h17 eh17 Xh17 Kh17 Lh17 => ?_)
            have H := H h17 eh17 Xh17
            have La0_h17 := La0_h9.ext Xh17
            refine mx_iload_n dX0_gives_5 rfl rfl ?_
            refine mx_iretK rfl dX0_gives_6 ?_
            refine mx_iretK rfl dX0_told_22 ?_
            exact mx_iret rfl dX0_port_81 H
theorem dX0_sum_0 : decode mi_X0_sum.2.1 0 = .ok (.iload_n 1, 1) := by decide +kernel
theorem dX0_sum_1 : decode mi_X0_sum.2.1 1 = .ok (.iconst (-1), 1) := by decide +kernel
theorem dX0_sum_2 : decode mi_X0_sum.2.1 2 = .ok (.if_icmp .eq 17, 3) := by decide +kernel
theorem dX0_sum_5 : decode mi_X0_sum.2.1 5 = .ok (.aload_n 0, 1) := by decide +kernel
theorem dX0_sum_6 : decode mi_X0_sum.2.1 6 = .ok (.iload_n 1, 1) := by decide +kernel
theorem dX0_sum_7 : decode mi_X0_sum.2.1 7 = .ok (.invokevirtual 275, 3) := by decide +kernel
theorem dX0_sum_10 : decode mi_X0_sum.2.1 10 = .ok (.ifCond .ne 9, 3) := by decide +kernel
theorem dX0_sum_13 : decode mi_X0_sum.2.1 13 = .ok (.aload_n 0, 1) := by decide +kernel
theorem dX0_sum_14 : decode mi_X0_sum.2.1 14 = .ok (.iconst 2, 1) := by decide +kernel
theorem dX0_sum_15 : decode mi_X0_sum.2.1 15 = .ok (.invokevirtual 205, 3) := by decide +kernel
theorem dX0_sum_18 : decode mi_X0_sum.2.1 18 = .ok (.ireturn, 1) := by decide +kernel
theorem dX0_sum_19 : decode mi_X0_sum.2.1 19 = .ok (.iload_n 2, 1) := by decide +kernel
theorem dX0_sum_20 : decode mi_X0_sum.2.1 20 = .ok (.ifCond .lt 25, 3) := by decide +kernel
theorem dX0_sum_23 : decode mi_X0_sum.2.1 23 = .ok (.iload_n 2, 1) := by decide +kernel
theorem dX0_sum_24 : decode mi_X0_sum.2.1 24 = .ok (.iconst 4, 1) := by decide +kernel
theorem dX0_sum_25 : decode mi_X0_sum.2.1 25 = .ok (.if_icmp .gt 20, 3) := by decide +kernel
theorem dX0_sum_28 : decode mi_X0_sum.2.1 28 = .ok (.iload_n 2, 1) := by decide +kernel
theorem dX0_sum_29 : decode mi_X0_sum.2.1 29 = .ok (.iconst 4, 1) := by decide +kernel
theorem dX0_sum_30 : decode mi_X0_sum.2.1 30 = .ok (.if_icmp .ne 8, 3) := by decide +kernel
theorem dX0_sum_33 : decode mi_X0_sum.2.1 33 = .ok (.iload_n 1, 1) := by decide +kernel
theorem dX0_sum_34 : decode mi_X0_sum.2.1 34 = .ok (.iconst (-1), 1) := by decide +kernel
theorem dX0_sum_35 : decode mi_X0_sum.2.1 35 = .ok (.if_icmp .ne 10, 3) := by decide +kernel
theorem dX0_sum_38 : decode mi_X0_sum.2.1 38 = .ok (.iload_n 3, 1) := by decide +kernel
theorem dX0_sum_39 : decode mi_X0_sum.2.1 39 = .ok (.invokestatic 260, 3) := by decide +kernel
theorem dX0_sum_42 : decode mi_X0_sum.2.1 42 = .ok (.ifCond .ne 9, 3) := by decide +kernel
theorem dX0_sum_45 : decode mi_X0_sum.2.1 45 = .ok (.aload_n 0, 1) := by decide +kernel
theorem dX0_sum_46 : decode mi_X0_sum.2.1 46 = .ok (.iconst 5, 1) := by decide +kernel
theorem dX0_sum_47 : decode mi_X0_sum.2.1 47 = .ok (.invokevirtual 205, 3) := by decide +kernel
theorem dX0_sum_50 : decode mi_X0_sum.2.1 50 = .ok (.ireturn, 1) := by decide +kernel
theorem dX0_sum_51 : decode mi_X0_sum.2.1 51 = .ok (.aload_n 0, 1) := by decide +kernel
theorem dX0_sum_52 : decode mi_X0_sum.2.1 52 = .ok (.iload_n 3, 1) := by decide +kernel
theorem dX0_sum_53 : decode mi_X0_sum.2.1 53 = .ok (.invokevirtual 387, 3) := by decide +kernel
theorem dX0_sum_56 : decode mi_X0_sum.2.1 56 = .ok (.iload_n 2, 1) := by decide +kernel
theorem dX0_sum_57 : decode mi_X0_sum.2.1 57 = .ok (.iconst 4, 1) := by decide +kernel
theorem dX0_sum_58 : decode mi_X0_sum.2.1 58 = .ok (.if_icmp .ne 16, 3) := by decide +kernel
theorem dX0_sum_61 : decode mi_X0_sum.2.1 61 = .ok (.aload_n 0, 1) := by decide +kernel
theorem dX0_sum_62 : decode mi_X0_sum.2.1 62 = .ok (.aload_n 0, 1) := by decide +kernel
theorem dX0_sum_63 : decode mi_X0_sum.2.1 63 = .ok (.getfield 49, 3) := by decide +kernel
theorem dX0_sum_66 : decode mi_X0_sum.2.1 66 = .ok (.getfield 401, 3) := by decide +kernel
theorem dX0_sum_69 : decode mi_X0_sum.2.1 69 = .ok (.l2i, 1) := by decide +kernel
theorem dX0_sum_70 : decode mi_X0_sum.2.1 70 = .ok (.invokevirtual 250, 3) := by decide +kernel
theorem dX0_sum_73 : decode mi_X0_sum.2.1 73 = .ok (.ireturn, 1) := by decide +kernel
theorem dX0_sum_74 : decode mi_X0_sum.2.1 74 = .ok (.iload_n 2, 1) := by decide +kernel
theorem dX0_sum_75 : decode mi_X0_sum.2.1 75 = .ok (.ifCond .ne 13, 3) := by decide +kernel
theorem dX0_sum_78 : decode mi_X0_sum.2.1 78 = .ok (.aload_n 0, 1) := by decide +kernel
theorem dX0_sum_79 : decode mi_X0_sum.2.1 79 = .ok (.getfield 49, 3) := by decide +kernel
theorem dX0_sum_82 : decode mi_X0_sum.2.1 82 = .ok (.getfield 405, 3) := by decide +kernel
theorem dX0_sum_85 : decode mi_X0_sum.2.1 85 = .ok (.goto 40, 3) := by decide +kernel
theorem dX0_sum_88 : decode mi_X0_sum.2.1 88 = .ok (.iload_n 2, 1) := by decide +kernel
theorem dX0_sum_89 : decode mi_X0_sum.2.1 89 = .ok (.iconst 1, 1) := by decide +kernel
theorem dX0_sum_90 : decode mi_X0_sum.2.1 90 = .ok (.if_icmp .ne 13, 3) := by decide +kernel
theorem dX0_sum_93 : decode mi_X0_sum.2.1 93 = .ok (.aload_n 0, 1) := by decide +kernel
theorem dX0_sum_94 : decode mi_X0_sum.2.1 94 = .ok (.getfield 49, 3) := by decide +kernel
theorem dX0_sum_97 : decode mi_X0_sum.2.1 97 = .ok (.getfield 408, 3) := by decide +kernel
theorem dX0_sum_100 : decode mi_X0_sum.2.1 100 = .ok (.goto 25, 3) := by decide +kernel
theorem dX0_sum_103 : decode mi_X0_sum.2.1 103 = .ok (.iload_n 2, 1) := by decide +kernel
theorem dX0_sum_104 : decode mi_X0_sum.2.1 104 = .ok (.iconst 2, 1) := by decide +kernel
theorem dX0_sum_105 : decode mi_X0_sum.2.1 105 = .ok (.if_icmp .ne 13, 3) := by decide +kernel
theorem dX0_sum_108 : decode mi_X0_sum.2.1 108 = .ok (.aload_n 0, 1) := by decide +kernel
theorem dX0_sum_109 : decode mi_X0_sum.2.1 109 = .ok (.getfield 49, 3) := by decide +kernel
theorem dX0_sum_112 : decode mi_X0_sum.2.1 112 = .ok (.getfield 411, 3) := by decide +kernel
theorem dX0_sum_115 : decode mi_X0_sum.2.1 115 = .ok (.goto 10, 3) := by decide +kernel
theorem dX0_sum_118 : decode mi_X0_sum.2.1 118 = .ok (.aload_n 0, 1) := by decide +kernel
theorem dX0_sum_119 : decode mi_X0_sum.2.1 119 = .ok (.getfield 49, 3) := by decide +kernel
theorem dX0_sum_122 : decode mi_X0_sum.2.1 122 = .ok (.getfield 414, 3) := by decide +kernel
theorem dX0_sum_125 : decode mi_X0_sum.2.1 125 = .ok (.astore 4, 2) := by decide +kernel
theorem dX0_sum_127 : decode mi_X0_sum.2.1 127 = .ok (.iconst 0, 1) := by decide +kernel
theorem dX0_sum_128 : decode mi_X0_sum.2.1 128 = .ok (.istore 5, 2) := by decide +kernel
theorem dX0_sum_130 : decode mi_X0_sum.2.1 130 = .ok (.iconst 0, 1) := by decide +kernel
theorem dX0_sum_131 : decode mi_X0_sum.2.1 131 = .ok (.istore 6, 2) := by decide +kernel
theorem dX0_sum_133 : decode mi_X0_sum.2.1 133 = .ok (.iload 6, 2) := by decide +kernel
theorem dX0_sum_135 : decode mi_X0_sum.2.1 135 = .ok (.aload_n 0, 1) := by decide +kernel
theorem dX0_sum_136 : decode mi_X0_sum.2.1 136 = .ok (.getfield 230, 3) := by decide +kernel
theorem dX0_sum_139 : decode mi_X0_sum.2.1 139 = .ok (.if_icmp .ge 34, 3) := by decide +kernel
theorem dX0_sum_142 : decode mi_X0_sum.2.1 142 = .ok (.iload 5, 2) := by decide +kernel
theorem dX0_sum_144 : decode mi_X0_sum.2.1 144 = .ok (.iload_n 1, 1) := by decide +kernel
theorem dX0_sum_145 : decode mi_X0_sum.2.1 145 = .ok (.iconst (-1), 1) := by decide +kernel
theorem dX0_sum_146 : decode mi_X0_sum.2.1 146 = .ok (.if_icmp .eq 9, 3) := by decide +kernel
theorem dX0_sum_149 : decode mi_X0_sum.2.1 149 = .ok (.iload_n 1, 1) := by decide +kernel
theorem dX0_sum_150 : decode mi_X0_sum.2.1 150 = .ok (.iload 6, 2) := by decide +kernel
theorem dX0_sum_152 : decode mi_X0_sum.2.1 152 = .ok (.if_icmp .ne 11, 3) := by decide +kernel
theorem dX0_sum_155 : decode mi_X0_sum.2.1 155 = .ok (.aload 4, 2) := by decide +kernel
theorem dX0_sum_157 : decode mi_X0_sum.2.1 157 = .ok (.iload 6, 2) := by decide +kernel
theorem dX0_sum_159 : decode mi_X0_sum.2.1 159 = .ok (.iaload, 1) := by decide +kernel
theorem dX0_sum_160 : decode mi_X0_sum.2.1 160 = .ok (.goto 4, 3) := by decide +kernel
theorem dX0_sum_163 : decode mi_X0_sum.2.1 163 = .ok (.iconst 0, 1) := by decide +kernel
theorem dX0_sum_164 : decode mi_X0_sum.2.1 164 = .ok (.iadd, 1) := by decide +kernel
theorem dX0_sum_165 : decode mi_X0_sum.2.1 165 = .ok (.istore 5, 2) := by decide +kernel
theorem dX0_sum_167 : decode mi_X0_sum.2.1 167 = .ok (.iinc 6 1, 3) := by decide +kernel
theorem dX0_sum_170 : decode mi_X0_sum.2.1 170 = .ok (.goto (-37), 3) := by decide +kernel
theorem dX0_sum_173 : decode mi_X0_sum.2.1 173 = .ok (.aload_n 0, 1) := by decide +kernel
theorem dX0_sum_174 : decode mi_X0_sum.2.1 174 = .ok (.iload 5, 2) := by decide +kernel
theorem dX0_sum_176 : decode mi_X0_sum.2.1 176 = .ok (.invokevirtual 250, 3) := by decide +kernel
theorem dX0_sum_179 : decode mi_X0_sum.2.1 179 = .ok (.ireturn, 1) := by decide +kernel
theorem v_X0_sum {G : ma_G} {d : Nat} {a0 : Nat} {x1 : Int32} {x2 : Int32} {x3 : Int32} {h : ah_T} {Q : Option ma_V → ah_T → Prop} {E : Nat → ah_T → Prop} (La0_h : LY0 h a0) (H : (x1 = (-1 : Int32) → MX G mi_X0_sum (d + 1) 19 [some (rv a0), some (iv x1), some (iv x2), some (iv x3), none, none, none] [] h Q E) ∧ (¬ x1 = (-1 : Int32) → (x1 < 0 → ∀ h3 : ah_T, h3 = ah_wI h a0 20 (2 : Int32) → ah_ext h h3 → Q (some (iv (-1 : Int32))) h3) ∧ (¬ x1 < 0 → ((ah_I h a0 14) ≤ x1 → ∀ h5 : ah_T, h5 = ah_wI h a0 20 (2 : Int32) → ah_ext h h5 → Q (some (iv (-1 : Int32))) h5) ∧ (¬ (ah_I h a0 14) ≤ x1 → MX G mi_X0_sum (d + 1) 19 [some (rv a0), some (iv x1), some (iv x2), some (iv x3), none, none, none] [] h Q E)))) : MX G mi_X0_sum (d + 1) 0 [some (rv a0), some (iv x1), some (iv x2), some (iv x3), none, none, none] [] h Q E := by
  refine mx_iload_n dX0_sum_0 rfl rfl ?_
  refine mx_iconst dX0_sum_1 ic_m1 ?_
  refine mx_icmp_eq (tgt := 19) dX0_sum_2 rfl (fun c1 => ?_) (fun c1 => ?_)
  · have H := H.1 c1
    exact mx_weak (al' := [some (rv a0), some (iv x1), some (iv x2), some (iv x3), none, none, none]) ⟨rfl, ⟨rfl, ⟨rfl, ⟨rfl, trivial⟩⟩⟩⟩ H
  · have H := H.2 c1
    refine mx_aload_n dX0_sum_5 rfl rfl ?_
    refine mx_iload_n dX0_sum_6 rfl rfl ?_
    refine mx_callV 0 (y' := mi_X0_isFarm) (vs := [iv x1]) (st := []) (al' := [some (rv a0), some (iv x1)]) cl_0 V_X0_isFarm (Or.inl q827) dX0_sum_7 rfl rfl (Nat.le_of_ble_eq_true rfl) (Nat.le_of_ble_eq_true rfl) (ly0_k La0_h) ?_
    refine mx_iload_n dX0_isFarm_0 rfl rfl ?_
    refine mx_if_lt (tgt := 16) dX0_isFarm_1 rfl (fun c2 => ?_) (fun c2 => ?_)
    · have H := H.1 c2
      refine mx_iconst dX0_isFarm_16 ic_0 ?_
      refine mx_zretK rfl dX0_isFarm_17 (Or.inl rfl) ?_
      refine mx_if_ne (tgt := 19) dX0_sum_10 rfl (fun _ => absurd ‹_› (by decide)) (fun _ => ?_)
      refine mx_aload_n dX0_sum_13 rfl rfl ?_
      refine mx_iconst dX0_sum_14 ic_2 ?_
      refine mx_callV 0 (y' := mi_X0_none) (vs := [iv (2 : Int32)]) (st := []) (al' := [some (rv a0), some (iv (2 : Int32))]) cl_0 V_X0_none (Or.inl q733) dX0_sum_15 rfl rfl (Nat.le_of_ble_eq_true rfl) (Nat.le_of_ble_eq_true rfl) (ly0_k La0_h) ?_
      refine mx_aload_n dX0_none_0 rfl rfl ?_
      refine mx_iload_n dX0_none_1 rfl rfl ?_
      refine mx_putI 0 20 (ref := "PrairiePool") cl_0 (Nat.le_of_ble_eq_true rfl) (Or.inl q480) (Or.inl rfl) dX0_none_2 (Or.inl rfl) rfl (ly0_k La0_h) ?_
      refine mx_nmI  (fun h3 eh3 Xh3 Kh3 Lh3 => ?_)
      have H := H h3 eh3 Xh3
      have La0_h3 := La0_h.ext Xh3
      refine mx_iconst dX0_none_5 ic_m1 ?_
      refine mx_iretK rfl dX0_none_6 ?_
      exact mx_iret rfl dX0_sum_18 H
    · have H := H.2 c2
      refine mx_iload_n dX0_isFarm_4 rfl rfl ?_
      refine mx_aload_n dX0_isFarm_5 rfl rfl ?_
      refine mx_get 0 14 (ref := "PrairiePool") cl_0 (Nat.le_of_ble_eq_true rfl) (Or.inl q474) (Or.inl rfl) dX0_isFarm_6 (fv_0_14 _ _) (ly0_k La0_h) ?_
      refine mx_icmp_ge (tgt := 16) dX0_isFarm_9 rfl (fun c4 => ?_) (fun c4 => ?_)
      · have H := H.1 c4
        refine mx_iconst dX0_isFarm_16 ic_0 ?_
        refine mx_zretK rfl dX0_isFarm_17 (Or.inl rfl) ?_
        refine mx_if_ne (tgt := 19) dX0_sum_10 rfl (fun _ => absurd ‹_› (by decide)) (fun _ => ?_)
        refine mx_aload_n dX0_sum_13 rfl rfl ?_
        refine mx_iconst dX0_sum_14 ic_2 ?_
        refine mx_callV 0 (y' := mi_X0_none) (vs := [iv (2 : Int32)]) (st := []) (al' := [some (rv a0), some (iv (2 : Int32))]) cl_0 V_X0_none (Or.inl q733) dX0_sum_15 rfl rfl (Nat.le_of_ble_eq_true rfl) (Nat.le_of_ble_eq_true rfl) (ly0_k La0_h) ?_
        refine mx_aload_n dX0_none_0 rfl rfl ?_
        refine mx_iload_n dX0_none_1 rfl rfl ?_
        refine mx_putI 0 20 (ref := "PrairiePool") cl_0 (Nat.le_of_ble_eq_true rfl) (Or.inl q480) (Or.inl rfl) dX0_none_2 (Or.inl rfl) rfl (ly0_k La0_h) ?_
        refine mx_nmI  (fun h5 eh5 Xh5 Kh5 Lh5 => ?_)
        have H := H h5 eh5 Xh5
        have La0_h5 := La0_h.ext Xh5
        refine mx_iconst dX0_none_5 ic_m1 ?_
        refine mx_iretK rfl dX0_none_6 ?_
        exact mx_iret rfl dX0_sum_18 H
      · have H := H.2 c4
        refine mx_iconst dX0_isFarm_12 ic_1 ?_
        refine mx_goto (tgt := 17) dX0_isFarm_13 rfl ?_
        refine mx_zretK rfl dX0_isFarm_17 (Or.inr rfl) ?_
        refine mx_if_ne (tgt := 19) dX0_sum_10 rfl (fun _ => ?_) (fun _ => absurd ‹_› (by decide))
        exact mx_weak (al' := [some (rv a0), some (iv x1), some (iv x2), some (iv x3), none, none, none]) ⟨rfl, ⟨rfl, ⟨rfl, ⟨rfl, trivial⟩⟩⟩⟩ H
theorem v_X0_sum_19 {G : ma_G} {d : Nat} {a0 : Nat} {x1 : Int32} {x2 : Int32} {x3 : Int32} {h : ah_T} {Q : Option ma_V → ah_T → Prop} {E : Nat → ah_T → Prop} (La0_h : LY0 h a0) (H : (x2 < 0 → ∀ h2 : ah_T, h2 = ah_wI h a0 20 (5 : Int32) → ah_ext h h2 → Q (some (iv (-1 : Int32))) h2) ∧ (¬ x2 < 0 → ((4 : Int32) < x2 → ∀ h4 : ah_T, h4 = ah_wI h a0 20 (5 : Int32) → ah_ext h h4 → Q (some (iv (-1 : Int32))) h4) ∧ (¬ (4 : Int32) < x2 → (¬ x2 = (4 : Int32) → MX G mi_X0_sum (d + 1) 38 [some (rv a0), some (iv x1), some (iv x2), some (iv x3), none, none, none] [] h Q E) ∧ (x2 = (4 : Int32) → (¬ x1 = (-1 : Int32) → ∀ h7 : ah_T, h7 = ah_wI h a0 20 (5 : Int32) → ah_ext h h7 → Q (some (iv (-1 : Int32))) h7) ∧ (x1 = (-1 : Int32) → MX G mi_X0_sum (d + 1) 38 [some (rv a0), some (iv x1), some (iv x2), some (iv x3), none, none, none] [] h Q E))))) : MX G mi_X0_sum (d + 1) 19 [some (rv a0), some (iv x1), some (iv x2), some (iv x3), none, none, none] [] h Q E := by
  refine mx_iload_n dX0_sum_19 rfl rfl ?_
  refine mx_if_lt (tgt := 45) dX0_sum_20 rfl (fun c1 => ?_) (fun c1 => ?_)
  · have H := H.1 c1
    refine mx_aload_n dX0_sum_45 rfl rfl ?_
    refine mx_iconst dX0_sum_46 ic_5 ?_
    refine mx_callV 0 (y' := mi_X0_none) (vs := [iv (5 : Int32)]) (st := []) (al' := [some (rv a0), some (iv (5 : Int32))]) cl_0 V_X0_none (Or.inl q733) dX0_sum_47 rfl rfl (Nat.le_of_ble_eq_true rfl) (Nat.le_of_ble_eq_true rfl) (ly0_k La0_h) ?_
    refine mx_aload_n dX0_none_0 rfl rfl ?_
    refine mx_iload_n dX0_none_1 rfl rfl ?_
    refine mx_putI 0 20 (ref := "PrairiePool") cl_0 (Nat.le_of_ble_eq_true rfl) (Or.inl q480) (Or.inl rfl) dX0_none_2 (Or.inl rfl) rfl (ly0_k La0_h) ?_
    refine mx_nmI  (fun h2 eh2 Xh2 Kh2 Lh2 => ?_)
    have H := H h2 eh2 Xh2
    have La0_h2 := La0_h.ext Xh2
    refine mx_iconst dX0_none_5 ic_m1 ?_
    refine mx_iretK rfl dX0_none_6 ?_
    exact mx_iret rfl dX0_sum_50 H
  · have H := H.2 c1
    refine mx_iload_n dX0_sum_23 rfl rfl ?_
    refine mx_iconst dX0_sum_24 ic_4 ?_
    refine mx_icmp_gt (tgt := 45) dX0_sum_25 rfl (fun c3 => ?_) (fun c3 => ?_)
    · have H := H.1 c3
      refine mx_aload_n dX0_sum_45 rfl rfl ?_
      refine mx_iconst dX0_sum_46 ic_5 ?_
      refine mx_callV 0 (y' := mi_X0_none) (vs := [iv (5 : Int32)]) (st := []) (al' := [some (rv a0), some (iv (5 : Int32))]) cl_0 V_X0_none (Or.inl q733) dX0_sum_47 rfl rfl (Nat.le_of_ble_eq_true rfl) (Nat.le_of_ble_eq_true rfl) (ly0_k La0_h) ?_
      refine mx_aload_n dX0_none_0 rfl rfl ?_
      refine mx_iload_n dX0_none_1 rfl rfl ?_
      refine mx_putI 0 20 (ref := "PrairiePool") cl_0 (Nat.le_of_ble_eq_true rfl) (Or.inl q480) (Or.inl rfl) dX0_none_2 (Or.inl rfl) rfl (ly0_k La0_h) ?_
      refine mx_nmI  (fun h4 eh4 Xh4 Kh4 Lh4 => ?_)
      have H := H h4 eh4 Xh4
      have La0_h4 := La0_h.ext Xh4
      refine mx_iconst dX0_none_5 ic_m1 ?_
      refine mx_iretK rfl dX0_none_6 ?_
      exact mx_iret rfl dX0_sum_50 H
    · have H := H.2 c3
      refine mx_iload_n dX0_sum_28 rfl rfl ?_
      refine mx_iconst dX0_sum_29 ic_4 ?_
      refine mx_icmp_ne (tgt := 38) dX0_sum_30 rfl (fun c5 => ?_) (fun c5 => ?_)
      · have H := H.1 c5
        exact mx_weak (al' := [some (rv a0), some (iv x1), some (iv x2), some (iv x3), none, none, none]) ⟨rfl, ⟨rfl, ⟨rfl, ⟨rfl, trivial⟩⟩⟩⟩ H
      · have H := H.2 c5
        refine mx_iload_n dX0_sum_33 rfl rfl ?_
        refine mx_iconst dX0_sum_34 ic_m1 ?_
        refine mx_icmp_ne (tgt := 45) dX0_sum_35 rfl (fun c6 => ?_) (fun c6 => ?_)
        · have H := H.1 c6
          refine mx_aload_n dX0_sum_45 rfl rfl ?_
          refine mx_iconst dX0_sum_46 ic_5 ?_
          refine mx_callV 0 (y' := mi_X0_none) (vs := [iv (5 : Int32)]) (st := []) (al' := [some (rv a0), some (iv (5 : Int32))]) cl_0 V_X0_none (Or.inl q733) dX0_sum_47 rfl rfl (Nat.le_of_ble_eq_true rfl) (Nat.le_of_ble_eq_true rfl) (ly0_k La0_h) ?_
          refine mx_aload_n dX0_none_0 rfl rfl ?_
          refine mx_iload_n dX0_none_1 rfl rfl ?_
          refine mx_putI 0 20 (ref := "PrairiePool") cl_0 (Nat.le_of_ble_eq_true rfl) (Or.inl q480) (Or.inl rfl) dX0_none_2 (Or.inl rfl) rfl (ly0_k La0_h) ?_
          refine mx_nmI  (fun h7 eh7 Xh7 Kh7 Lh7 => ?_)
          have H := H h7 eh7 Xh7
          have La0_h7 := La0_h.ext Xh7
          refine mx_iconst dX0_none_5 ic_m1 ?_
          refine mx_iretK rfl dX0_none_6 ?_
          exact mx_iret rfl dX0_sum_50 H
        · have H := H.2 c6
          exact mx_weak (al' := [some (rv a0), some (iv x1), some (iv x2), some (iv x3), none, none, none]) ⟨rfl, ⟨rfl, ⟨rfl, ⟨rfl, trivial⟩⟩⟩⟩ H
theorem v_X0_sum_38 {G : ma_G} {d : Nat} {a0 : Nat} {x1 : Int32} {x2 : Int32} {x3 : Int32} {h : ah_T} {Q : Option ma_V → ah_T → Prop} {E : Nat → ah_T → Prop} (La0_h : LY0 h a0) (H : (x3 < 0 → ∀ h2 : ah_T, h2 = ah_wI h a0 20 (5 : Int32) → ah_ext h h2 → Q (some (iv (-1 : Int32))) h2) ∧ (¬ x3 < 0 → ((520 : Int32) ≤ x3 → ∀ h4 : ah_T, h4 = ah_wI h a0 20 (5 : Int32) → ah_ext h h4 → Q (some (iv (-1 : Int32))) h4) ∧ (¬ (520 : Int32) ≤ x3 → MX G mi_X0_plays d 0 [some (rv a0), some (iv x3), none] [] h (Qv fun h5 => ah_ext h h5 → (¬ x2 = (4 : Int32) → (¬ x2 = 0 → (¬ x2 = (1 : Int32) → (¬ x2 = (2 : Int32) → MX G mi_X0_sum (d + 1) 133 [some (rv a0), some (iv x1), none, none, some (rv (a0 + 101)), some (iv (0 : Int32)), some (iv (0 : Int32))] [] h5 Q E) ∧ (x2 = (2 : Int32) → MX G mi_X0_sum (d + 1) 133 [some (rv a0), some (iv x1), none, none, some (rv (a0 + 100)), some (iv (0 : Int32)), some (iv (0 : Int32))] [] h5 Q E)) ∧ (x2 = (1 : Int32) → MX G mi_X0_sum (d + 1) 133 [some (rv a0), some (iv x1), none, none, some (rv (a0 + 99)), some (iv (0 : Int32)), some (iv (0 : Int32))] [] h5 Q E)) ∧ (x2 = 0 → MX G mi_X0_sum (d + 1) 133 [some (rv a0), some (iv x1), none, none, some (rv (a0 + 98)), some (iv (0 : Int32)), some (iv (0 : Int32))] [] h5 Q E)) ∧ (x2 = (4 : Int32) → ∀ h11 : ah_T, h11 = ah_wI h5 a0 20 (0 : Int32) → ah_ext h5 h11 → Q (some (iv (ah_J h5 (a0 + 9) 11).toInt32)) h11)) E))) : MX G mi_X0_sum (d + 1) 38 [some (rv a0), some (iv x1), some (iv x2), some (iv x3), none, none, none] [] h Q E := by
  refine mx_iload_n dX0_sum_38 rfl rfl ?_
  refine mx_callS (y' := mi_X0_isWeek) (vs := [iv x3]) (st := []) (al' := [some (iv x3)]) S_X0_isWeek q841 dX0_sum_39 rfl rfl (Nat.le_of_ble_eq_true rfl) (Nat.le_of_ble_eq_true rfl) ?_
  refine mx_iload_n dX0_isWeek_0 rfl rfl ?_
  refine mx_if_lt (tgt := 15) dX0_isWeek_1 rfl (fun c1 => ?_) (fun c1 => ?_)
  · have H := H.1 c1
    refine mx_iconst dX0_isWeek_15 ic_0 ?_
    refine mx_zretK rfl dX0_isWeek_16 (Or.inl rfl) ?_
    refine mx_if_ne (tgt := 51) dX0_sum_42 rfl (fun _ => absurd ‹_› (by decide)) (fun _ => ?_)
    refine mx_aload_n dX0_sum_45 rfl rfl ?_
    refine mx_iconst dX0_sum_46 ic_5 ?_
    refine mx_callV 0 (y' := mi_X0_none) (vs := [iv (5 : Int32)]) (st := []) (al' := [some (rv a0), some (iv (5 : Int32))]) cl_0 V_X0_none (Or.inl q733) dX0_sum_47 rfl rfl (Nat.le_of_ble_eq_true rfl) (Nat.le_of_ble_eq_true rfl) (ly0_k La0_h) ?_
    refine mx_aload_n dX0_none_0 rfl rfl ?_
    refine mx_iload_n dX0_none_1 rfl rfl ?_
    refine mx_putI 0 20 (ref := "PrairiePool") cl_0 (Nat.le_of_ble_eq_true rfl) (Or.inl q480) (Or.inl rfl) dX0_none_2 (Or.inl rfl) rfl (ly0_k La0_h) ?_
    refine mx_nmI  (fun h2 eh2 Xh2 Kh2 Lh2 => ?_)
    have H := H h2 eh2 Xh2
    have La0_h2 := La0_h.ext Xh2
    refine mx_iconst dX0_none_5 ic_m1 ?_
    refine mx_iretK rfl dX0_none_6 ?_
    exact mx_iret rfl dX0_sum_50 H
  · have H := H.2 c1
    refine mx_iload_n dX0_isWeek_4 rfl rfl ?_
    refine mx_sipush dX0_isWeek_5 is_520 ?_
    refine mx_icmp_ge (tgt := 15) dX0_isWeek_8 rfl (fun c3 => ?_) (fun c3 => ?_)
    · have H := H.1 c3
      refine mx_iconst dX0_isWeek_15 ic_0 ?_
      refine mx_zretK rfl dX0_isWeek_16 (Or.inl rfl) ?_
      refine mx_if_ne (tgt := 51) dX0_sum_42 rfl (fun _ => absurd ‹_› (by decide)) (fun _ => ?_)
      refine mx_aload_n dX0_sum_45 rfl rfl ?_
      refine mx_iconst dX0_sum_46 ic_5 ?_
      refine mx_callV 0 (y' := mi_X0_none) (vs := [iv (5 : Int32)]) (st := []) (al' := [some (rv a0), some (iv (5 : Int32))]) cl_0 V_X0_none (Or.inl q733) dX0_sum_47 rfl rfl (Nat.le_of_ble_eq_true rfl) (Nat.le_of_ble_eq_true rfl) (ly0_k La0_h) ?_
      refine mx_aload_n dX0_none_0 rfl rfl ?_
      refine mx_iload_n dX0_none_1 rfl rfl ?_
      refine mx_putI 0 20 (ref := "PrairiePool") cl_0 (Nat.le_of_ble_eq_true rfl) (Or.inl q480) (Or.inl rfl) dX0_none_2 (Or.inl rfl) rfl (ly0_k La0_h) ?_
      refine mx_nmI  (fun h4 eh4 Xh4 Kh4 Lh4 => ?_)
      have H := H h4 eh4 Xh4
      have La0_h4 := La0_h.ext Xh4
      refine mx_iconst dX0_none_5 ic_m1 ?_
      refine mx_iretK rfl dX0_none_6 ?_
      exact mx_iret rfl dX0_sum_50 H
    · have H := H.2 c3
      refine mx_iconst dX0_isWeek_11 ic_1 ?_
      refine mx_goto (tgt := 16) dX0_isWeek_12 rfl ?_
      refine mx_zretK rfl dX0_isWeek_16 (Or.inr rfl) ?_
      refine mx_if_ne (tgt := 51) dX0_sum_42 rfl (fun _ => ?_) (fun _ => absurd ‹_› (by decide))
      refine mx_aload_n dX0_sum_51 rfl rfl ?_
      refine mx_iload_n dX0_sum_52 rfl rfl ?_
      refine mx_callV 0 (y' := mi_X0_plays) (vs := [iv x3]) (st := []) (al' := [some (rv a0), some (iv x3), none]) cl_0 V_X0_plays (Or.inl q1069) dX0_sum_53 rfl rfl (Nat.le_of_ble_eq_true rfl) (Nat.le_of_ble_eq_true rfl) (ly0_k La0_h) ?_
      refine ma_kv H (fun h5 Xh5 H => ?_) (fun x1 h1 X1 H => mt_out rfl H)
      have H := H Xh5
      have La0_h5 := La0_h.ext Xh5
      refine mx_iload_n dX0_sum_56 rfl rfl ?_
      refine mx_iconst dX0_sum_57 ic_4 ?_
      refine mx_icmp_ne (tgt := 74) dX0_sum_58 rfl (fun c7 => ?_) (fun c7 => ?_)
      · have H := H.1 c7
        refine mx_iload_n dX0_sum_74 rfl rfl ?_
        refine mx_if_ne (tgt := 88) dX0_sum_75 rfl (fun c8 => ?_) (fun c8 => ?_)
        · have H := H.1 c8
          refine mx_iload_n dX0_sum_88 rfl rfl ?_
          refine mx_iconst dX0_sum_89 ic_1 ?_
          refine mx_icmp_ne (tgt := 103) dX0_sum_90 rfl (fun c9 => ?_) (fun c9 => ?_)
          · have H := H.1 c9
            refine mx_iload_n dX0_sum_103 rfl rfl ?_
            refine mx_iconst dX0_sum_104 ic_2 ?_
            refine mx_icmp_ne (tgt := 118) dX0_sum_105 rfl (fun c10 => ?_) (fun c10 => ?_)
            · have H := H.1 c10
              refine mx_aload_n dX0_sum_118 rfl rfl ?_
              refine mx_get 0 8 (ref := "PrairiePool") cl_0 (Nat.le_of_ble_eq_true rfl) (Or.inl q468) (Or.inl rfl) dX0_sum_119 (fv_0_8 _ _) (ly0_k La0_h5) ?_
              refine mx_tr (ly0_R_0_8 La0_h5) ?_
              refine mx_get 1 9 (ref := "PrairiePool$Play") cl_1 (Nat.le_of_ble_eq_true rfl) (Or.inr ⟨_, q255⟩) (Or.inl rfl) dX0_sum_122 (fv_1_9 _ _) (ly0_K_9 La0_h5) ?_
              refine mx_tr (ly0_R_9_9 La0_h5) ?_
              refine mx_astore (al' := [some (rv a0), some (iv x1), some (iv x2), some (iv x3), some (rv (a0 + 101)), none, none]) dX0_sum_125 (Nat.le_of_ble_eq_true rfl) rfl ?_
              refine mx_iconst dX0_sum_127 ic_0 ?_
              refine mx_istore (al' := [some (rv a0), some (iv x1), some (iv x2), some (iv x3), some (rv (a0 + 101)), some (iv (0 : Int32)), none]) dX0_sum_128 (Nat.le_of_ble_eq_true rfl) rfl ?_
              refine mx_iconst dX0_sum_130 ic_0 ?_
              refine mx_istore (al' := [some (rv a0), some (iv x1), some (iv x2), some (iv x3), some (rv (a0 + 101)), some (iv (0 : Int32)), some (iv (0 : Int32))]) dX0_sum_131 (Nat.le_of_ble_eq_true rfl) rfl ?_
              exact mx_weak (al' := [some (rv a0), some (iv x1), none, none, some (rv (a0 + 101)), some (iv (0 : Int32)), some (iv (0 : Int32))]) ⟨rfl, ⟨rfl, ⟨rfl, ⟨rfl, ⟨rfl, trivial⟩⟩⟩⟩⟩ H
            · have H := H.2 c10
              refine mx_aload_n dX0_sum_108 rfl rfl ?_
              refine mx_get 0 8 (ref := "PrairiePool") cl_0 (Nat.le_of_ble_eq_true rfl) (Or.inl q468) (Or.inl rfl) dX0_sum_109 (fv_0_8 _ _) (ly0_k La0_h5) ?_
              refine mx_tr (ly0_R_0_8 La0_h5) ?_
              refine mx_get 1 8 (ref := "PrairiePool$Play") cl_1 (Nat.le_of_ble_eq_true rfl) (Or.inr ⟨_, q252⟩) (Or.inl rfl) dX0_sum_112 (fv_1_8 _ _) (ly0_K_9 La0_h5) ?_
              refine mx_tr (ly0_R_9_8 La0_h5) ?_
              refine mx_goto (tgt := 125) dX0_sum_115 rfl ?_
              refine mx_astore (al' := [some (rv a0), some (iv x1), some (iv x2), some (iv x3), some (rv (a0 + 100)), none, none]) dX0_sum_125 (Nat.le_of_ble_eq_true rfl) rfl ?_
              refine mx_iconst dX0_sum_127 ic_0 ?_
              refine mx_istore (al' := [some (rv a0), some (iv x1), some (iv x2), some (iv x3), some (rv (a0 + 100)), some (iv (0 : Int32)), none]) dX0_sum_128 (Nat.le_of_ble_eq_true rfl) rfl ?_
              refine mx_iconst dX0_sum_130 ic_0 ?_
              refine mx_istore (al' := [some (rv a0), some (iv x1), some (iv x2), some (iv x3), some (rv (a0 + 100)), some (iv (0 : Int32)), some (iv (0 : Int32))]) dX0_sum_131 (Nat.le_of_ble_eq_true rfl) rfl ?_
              exact mx_weak (al' := [some (rv a0), some (iv x1), none, none, some (rv (a0 + 100)), some (iv (0 : Int32)), some (iv (0 : Int32))]) ⟨rfl, ⟨rfl, ⟨rfl, ⟨rfl, ⟨rfl, trivial⟩⟩⟩⟩⟩ H
          · have H := H.2 c9
            refine mx_aload_n dX0_sum_93 rfl rfl ?_
            refine mx_get 0 8 (ref := "PrairiePool") cl_0 (Nat.le_of_ble_eq_true rfl) (Or.inl q468) (Or.inl rfl) dX0_sum_94 (fv_0_8 _ _) (ly0_k La0_h5) ?_
            refine mx_tr (ly0_R_0_8 La0_h5) ?_
            refine mx_get 1 7 (ref := "PrairiePool$Play") cl_1 (Nat.le_of_ble_eq_true rfl) (Or.inr ⟨_, q249⟩) (Or.inl rfl) dX0_sum_97 (fv_1_7 _ _) (ly0_K_9 La0_h5) ?_
            refine mx_tr (ly0_R_9_7 La0_h5) ?_
            refine mx_goto (tgt := 125) dX0_sum_100 rfl ?_
            refine mx_astore (al' := [some (rv a0), some (iv x1), some (iv x2), some (iv x3), some (rv (a0 + 99)), none, none]) dX0_sum_125 (Nat.le_of_ble_eq_true rfl) rfl ?_
            refine mx_iconst dX0_sum_127 ic_0 ?_
            refine mx_istore (al' := [some (rv a0), some (iv x1), some (iv x2), some (iv x3), some (rv (a0 + 99)), some (iv (0 : Int32)), none]) dX0_sum_128 (Nat.le_of_ble_eq_true rfl) rfl ?_
            refine mx_iconst dX0_sum_130 ic_0 ?_
            refine mx_istore (al' := [some (rv a0), some (iv x1), some (iv x2), some (iv x3), some (rv (a0 + 99)), some (iv (0 : Int32)), some (iv (0 : Int32))]) dX0_sum_131 (Nat.le_of_ble_eq_true rfl) rfl ?_
            exact mx_weak (al' := [some (rv a0), some (iv x1), none, none, some (rv (a0 + 99)), some (iv (0 : Int32)), some (iv (0 : Int32))]) ⟨rfl, ⟨rfl, ⟨rfl, ⟨rfl, ⟨rfl, trivial⟩⟩⟩⟩⟩ H
        · have H := H.2 c8
          refine mx_aload_n dX0_sum_78 rfl rfl ?_
          refine mx_get 0 8 (ref := "PrairiePool") cl_0 (Nat.le_of_ble_eq_true rfl) (Or.inl q468) (Or.inl rfl) dX0_sum_79 (fv_0_8 _ _) (ly0_k La0_h5) ?_
          refine mx_tr (ly0_R_0_8 La0_h5) ?_
          refine mx_get 1 6 (ref := "PrairiePool$Play") cl_1 (Nat.le_of_ble_eq_true rfl) (Or.inr ⟨_, q246⟩) (Or.inl rfl) dX0_sum_82 (fv_1_6 _ _) (ly0_K_9 La0_h5) ?_
          refine mx_tr (ly0_R_9_6 La0_h5) ?_
          refine mx_goto (tgt := 125) dX0_sum_85 rfl ?_
          refine mx_astore (al' := [some (rv a0), some (iv x1), some (iv x2), some (iv x3), some (rv (a0 + 98)), none, none]) dX0_sum_125 (Nat.le_of_ble_eq_true rfl) rfl ?_
          refine mx_iconst dX0_sum_127 ic_0 ?_
          refine mx_istore (al' := [some (rv a0), some (iv x1), some (iv x2), some (iv x3), some (rv (a0 + 98)), some (iv (0 : Int32)), none]) dX0_sum_128 (Nat.le_of_ble_eq_true rfl) rfl ?_
          refine mx_iconst dX0_sum_130 ic_0 ?_
          refine mx_istore (al' := [some (rv a0), some (iv x1), some (iv x2), some (iv x3), some (rv (a0 + 98)), some (iv (0 : Int32)), some (iv (0 : Int32))]) dX0_sum_131 (Nat.le_of_ble_eq_true rfl) rfl ?_
          exact mx_weak (al' := [some (rv a0), some (iv x1), none, none, some (rv (a0 + 98)), some (iv (0 : Int32)), some (iv (0 : Int32))]) ⟨rfl, ⟨rfl, ⟨rfl, ⟨rfl, ⟨rfl, trivial⟩⟩⟩⟩⟩ H
      · have H := H.2 c7
        refine mx_aload_n dX0_sum_61 rfl rfl ?_
        refine mx_aload_n dX0_sum_62 rfl rfl ?_
        refine mx_get 0 8 (ref := "PrairiePool") cl_0 (Nat.le_of_ble_eq_true rfl) (Or.inl q468) (Or.inl rfl) dX0_sum_63 (fv_0_8 _ _) (ly0_k La0_h5) ?_
        refine mx_tr (ly0_R_0_8 La0_h5) ?_
        refine mx_get 1 11 (ref := "PrairiePool$Play") cl_1 (Nat.le_of_ble_eq_true rfl) (Or.inr ⟨_, q261⟩) (Or.inl rfl) dX0_sum_66 (fv_1_11 _ _) (ly0_K_9 La0_h5) ?_
        refine mx_l2i dX0_sum_69 ?_
        refine mx_callV 0 (y' := mi_X0_gives) (vs := [iv (ah_J h5 (a0 + 9) 11).toInt32]) (st := []) (al' := [some (rv a0), some (iv (ah_J h5 (a0 + 9) 11).toInt32)]) cl_0 V_X0_gives (Or.inl q801) dX0_sum_70 rfl rfl (Nat.le_of_ble_eq_true rfl) (Nat.le_of_ble_eq_true rfl) (ly0_k La0_h5) ?_
        refine mx_aload_n dX0_gives_0 rfl rfl ?_
        refine mx_iconst dX0_gives_1 ic_0 ?_
        refine mx_putI 0 20 (ref := "PrairiePool") cl_0 (Nat.le_of_ble_eq_true rfl) (Or.inl q480) (Or.inl rfl) dX0_gives_2 (Or.inl rfl) rfl (ly0_k La0_h5) ?_
        refine mx_nmI  (fun h11 eh11 Xh11 Kh11 Lh11 => ?_)
        have H := H h11 eh11 Xh11
        have La0_h11 := La0_h5.ext Xh11
        refine mx_iload_n dX0_gives_5 rfl rfl ?_
        refine mx_iretK rfl dX0_gives_6 ?_
        exact mx_iret rfl dX0_sum_73 H
theorem v_X0_sum_133 {G : ma_G} {d : Nat} {a0 : Nat} {x1 : Int32} {a4 : Nat} {x5 : Int32} {x6 : Int32} {h : ah_T} {Q : Option ma_V → ah_T → Prop} {E : Nat → ah_T → Prop} (La0_h : LY0 h a0) (H : ((ah_I h a0 14) ≤ x6 → ∀ h2 : ah_T, h2 = ah_wI h a0 20 (0 : Int32) → ah_ext h h2 → Q (some (iv x5)) h2) ∧ (¬ (ah_I h a0 14) ≤ x6 → (x1 = (-1 : Int32) → aok h 40 a4 x6 ∧ MX G mi_X0_sum (d + 1) 133 [some (rv a0), some (iv x1), none, none, some (rv a4), some (iv (x5 + (ah_I h a4 x6.toNatClampNeg))), some (iv (x6 + (1 : Int32)))] [] h Q E) ∧ (¬ x1 = (-1 : Int32) → (¬ x1 = x6 → MX G mi_X0_sum (d + 1) 133 [some (rv a0), some (iv x1), none, none, some (rv a4), some (iv (x5 + (0 : Int32))), some (iv (x6 + (1 : Int32)))] [] h Q E) ∧ (x1 = x6 → aok h 40 a4 x6 ∧ MX G mi_X0_sum (d + 1) 133 [some (rv a0), some (iv x1), none, none, some (rv a4), some (iv (x5 + (ah_I h a4 x6.toNatClampNeg))), some (iv (x6 + (1 : Int32)))] [] h Q E)))) : MX G mi_X0_sum (d + 1) 133 [some (rv a0), some (iv x1), none, none, some (rv a4), some (iv x5), some (iv x6)] [] h Q E := by
  refine mx_iload dX0_sum_133 rfl ?_
  refine mx_aload_n dX0_sum_135 rfl rfl ?_
  refine mx_get 0 14 (ref := "PrairiePool") cl_0 (Nat.le_of_ble_eq_true rfl) (Or.inl q474) (Or.inl rfl) dX0_sum_136 (fv_0_14 _ _) (ly0_k La0_h) ?_
  refine mx_icmp_ge (tgt := 173) dX0_sum_139 rfl (fun c1 => ?_) (fun c1 => ?_)
  · have H := H.1 c1
    refine mx_aload_n dX0_sum_173 rfl rfl ?_
    refine mx_iload dX0_sum_174 rfl ?_
    refine mx_callV 0 (y' := mi_X0_gives) (vs := [iv x5]) (st := []) (al' := [some (rv a0), some (iv x5)]) cl_0 V_X0_gives (Or.inl q801) dX0_sum_176 rfl rfl (Nat.le_of_ble_eq_true rfl) (Nat.le_of_ble_eq_true rfl) (ly0_k La0_h) ?_
    refine mx_aload_n dX0_gives_0 rfl rfl ?_
    refine mx_iconst dX0_gives_1 ic_0 ?_
    refine mx_putI 0 20 (ref := "PrairiePool") cl_0 (Nat.le_of_ble_eq_true rfl) (Or.inl q480) (Or.inl rfl) dX0_gives_2 (Or.inl rfl) rfl (ly0_k La0_h) ?_
    refine mx_nmI  (fun h2 eh2 Xh2 Kh2 Lh2 => ?_)
    have H := H h2 eh2 Xh2
    have La0_h2 := La0_h.ext Xh2
    refine mx_iload_n dX0_gives_5 rfl rfl ?_
    refine mx_iretK rfl dX0_gives_6 ?_
    exact mx_iret rfl dX0_sum_179 H
  · have H := H.2 c1
    refine mx_iload dX0_sum_142 rfl ?_
    refine mx_iload_n dX0_sum_144 rfl rfl ?_
    refine mx_iconst dX0_sum_145 ic_m1 ?_
    refine mx_icmp_eq (tgt := 155) dX0_sum_146 rfl (fun c3 => ?_) (fun c3 => ?_)
    · have H := H.1 c3
      refine mx_aload dX0_sum_155 rfl ?_
      refine mx_iload dX0_sum_157 rfl ?_
      obtain ⟨k4, H⟩ := H
      refine my_iald dX0_sum_159 rfl k4 ?_
      refine mx_goto (tgt := 164) dX0_sum_160 rfl ?_
      refine mx_iadd dX0_sum_164 ?_
      refine mx_istore (al' := [some (rv a0), some (iv x1), none, none, some (rv a4), some (iv (x5 + (ah_I h a4 x6.toNatClampNeg))), some (iv x6)]) dX0_sum_165 (Nat.le_of_ble_eq_true rfl) rfl ?_
      refine mx_iinc (al' := [some (rv a0), some (iv x1), none, none, some (rv a4), some (iv (x5 + (ah_I h a4 x6.toNatClampNeg))), some (iv (x6 + (1 : Int32)))]) dX0_sum_167 rfl ic_1 rfl ?_
      refine mx_goto (tgt := 133) dX0_sum_170 rfl ?_
      exact mx_weak (al' := [some (rv a0), some (iv x1), none, none, some (rv a4), some (iv (x5 + (ah_I h a4 x6.toNatClampNeg))), some (iv (x6 + (1 : Int32)))]) ⟨rfl, ⟨rfl, ⟨rfl, ⟨rfl, ⟨rfl, trivial⟩⟩⟩⟩⟩ H
    · have H := H.2 c3
      refine mx_iload_n dX0_sum_149 rfl rfl ?_
      refine mx_iload dX0_sum_150 rfl ?_
      refine mx_icmp_ne (tgt := 163) dX0_sum_152 rfl (fun c5 => ?_) (fun c5 => ?_)
      · have H := H.1 c5
        refine mx_iconst dX0_sum_163 ic_0 ?_
        refine mx_iadd dX0_sum_164 ?_
        refine mx_istore (al' := [some (rv a0), some (iv x1), none, none, some (rv a4), some (iv (x5 + (0 : Int32))), some (iv x6)]) dX0_sum_165 (Nat.le_of_ble_eq_true rfl) rfl ?_
        refine mx_iinc (al' := [some (rv a0), some (iv x1), none, none, some (rv a4), some (iv (x5 + (0 : Int32))), some (iv (x6 + (1 : Int32)))]) dX0_sum_167 rfl ic_1 rfl ?_
        refine mx_goto (tgt := 133) dX0_sum_170 rfl ?_
        exact mx_weak (al' := [some (rv a0), some (iv x1), none, none, some (rv a4), some (iv (x5 + (0 : Int32))), some (iv (x6 + (1 : Int32)))]) ⟨rfl, ⟨rfl, ⟨rfl, ⟨rfl, ⟨rfl, trivial⟩⟩⟩⟩⟩ H
      · have H := H.2 c5
        refine mx_aload dX0_sum_155 rfl ?_
        refine mx_iload dX0_sum_157 rfl ?_
        obtain ⟨k6, H⟩ := H
        refine my_iald dX0_sum_159 rfl k6 ?_
        refine mx_goto (tgt := 164) dX0_sum_160 rfl ?_
        refine mx_iadd dX0_sum_164 ?_
        refine mx_istore (al' := [some (rv a0), some (iv x1), none, none, some (rv a4), some (iv (x5 + (ah_I h a4 x6.toNatClampNeg))), some (iv x6)]) dX0_sum_165 (Nat.le_of_ble_eq_true rfl) rfl ?_
        refine mx_iinc (al' := [some (rv a0), some (iv x1), none, none, some (rv a4), some (iv (x5 + (ah_I h a4 x6.toNatClampNeg))), some (iv (x6 + (1 : Int32)))]) dX0_sum_167 rfl ic_1 rfl ?_
        refine mx_goto (tgt := 133) dX0_sum_170 rfl ?_
        exact mx_weak (al' := [some (rv a0), some (iv x1), none, none, some (rv a4), some (iv (x5 + (ah_I h a4 x6.toNatClampNeg))), some (iv (x6 + (1 : Int32)))]) ⟨rfl, ⟨rfl, ⟨rfl, ⟨rfl, ⟨rfl, trivial⟩⟩⟩⟩⟩ H
theorem dX0_feed_0 : decode mi_X0_feed.2.1 0 = .ok (.aload_n 0, 1) := by decide +kernel
theorem dX0_feed_1 : decode mi_X0_feed.2.1 1 = .ok (.getfield 72, 3) := by decide +kernel
theorem dX0_feed_4 : decode mi_X0_feed.2.1 4 = .ok (.getfield 446, 3) := by decide +kernel
theorem dX0_feed_7 : decode mi_X0_feed.2.1 7 = .ok (.bipush 20, 2) := by decide +kernel
theorem dX0_feed_9 : decode mi_X0_feed.2.1 9 = .ok (.iadd, 1) := by decide +kernel
theorem dX0_feed_10 : decode mi_X0_feed.2.1 10 = .ok (.sipush 500, 3) := by decide +kernel
theorem dX0_feed_13 : decode mi_X0_feed.2.1 13 = .ok (.if_icmp .le 5, 3) := by decide +kernel
theorem dX0_feed_16 : decode mi_X0_feed.2.1 16 = .ok (.iconst (-1), 1) := by decide +kernel
theorem dX0_feed_17 : decode mi_X0_feed.2.1 17 = .ok (.ireturn, 1) := by decide +kernel
theorem dX0_feed_18 : decode mi_X0_feed.2.1 18 = .ok (.aload_n 0, 1) := by decide +kernel
theorem dX0_feed_19 : decode mi_X0_feed.2.1 19 = .ok (.iload_n 1, 1) := by decide +kernel
theorem dX0_feed_20 : decode mi_X0_feed.2.1 20 = .ok (.invokevirtual 449, 3) := by decide +kernel
theorem dX0_feed_23 : decode mi_X0_feed.2.1 23 = .ok (.aload_n 0, 1) := by decide +kernel
theorem dX0_feed_24 : decode mi_X0_feed.2.1 24 = .ok (.iload_n 2, 1) := by decide +kernel
theorem dX0_feed_25 : decode mi_X0_feed.2.1 25 = .ok (.invokevirtual 449, 3) := by decide +kernel
theorem dX0_feed_28 : decode mi_X0_feed.2.1 28 = .ok (.aload_n 0, 1) := by decide +kernel
theorem dX0_feed_29 : decode mi_X0_feed.2.1 29 = .ok (.iload_n 3, 1) := by decide +kernel
theorem dX0_feed_30 : decode mi_X0_feed.2.1 30 = .ok (.invokevirtual 449, 3) := by decide +kernel
theorem dX0_feed_33 : decode mi_X0_feed.2.1 33 = .ok (.aload_n 0, 1) := by decide +kernel
theorem dX0_feed_34 : decode mi_X0_feed.2.1 34 = .ok (.iload 4, 2) := by decide +kernel
theorem dX0_feed_36 : decode mi_X0_feed.2.1 36 = .ok (.invokevirtual 449, 3) := by decide +kernel
theorem dX0_feed_39 : decode mi_X0_feed.2.1 39 = .ok (.aload_n 0, 1) := by decide +kernel
theorem dX0_feed_40 : decode mi_X0_feed.2.1 40 = .ok (.iload 5, 2) := by decide +kernel
theorem dX0_feed_42 : decode mi_X0_feed.2.1 42 = .ok (.invokevirtual 449, 3) := by decide +kernel
theorem dX0_feed_45 : decode mi_X0_feed.2.1 45 = .ok (.aload_n 0, 1) := by decide +kernel
theorem dX0_feed_46 : decode mi_X0_feed.2.1 46 = .ok (.getfield 72, 3) := by decide +kernel
theorem dX0_feed_49 : decode mi_X0_feed.2.1 49 = .ok (.getfield 446, 3) := by decide +kernel
theorem dX0_feed_52 : decode mi_X0_feed.2.1 52 = .ok (.ireturn, 1) := by decide +kernel
theorem v_X0_feed {G : ma_G} {d : Nat} {a0 : Nat} {x1 : Int32} {x2 : Int32} {x3 : Int32} {x4 : Int32} {x5 : Int32} {h : ah_T} {Q : Option ma_V → ah_T → Prop} {E : Nat → ah_T → Prop} (La0_h : LY0 h a0) (H : (((ah_I h (a0 + 1431) 1) + (20 : Int32)) ≤ (500 : Int32) → MX G mi_X0_four d 0 [some (rv a0), some (iv x1), none] [] h (Qv fun h2 => ah_ext h h2 → MX G mi_X0_four d 0 [some (rv a0), some (iv x2), none] [] h2 (Qv fun h4 => ah_ext h2 h4 → MX G mi_X0_four d 0 [some (rv a0), some (iv x3), none] [] h4 (Qv fun h6 => ah_ext h4 h6 → MX G mi_X0_four d 0 [some (rv a0), some (iv x4), none] [] h6 (Qv fun h8 => ah_ext h6 h8 → MX G mi_X0_four d 0 [some (rv a0), some (iv x5), none] [] h8 (Qv fun h10 => ah_ext h8 h10 → Q (some (iv (ah_I h10 (a0 + 1431) 1))) h10) E) E) E) E) E) ∧ (¬ ((ah_I h (a0 + 1431) 1) + (20 : Int32)) ≤ (500 : Int32) → Q (some (iv (-1 : Int32))) h)) : MX G mi_X0_feed (d + 1) 0 [some (rv a0), some (iv x1), some (iv x2), some (iv x3), some (iv x4), some (iv x5)] [] h Q E := by
  refine mx_aload_n dX0_feed_0 rfl rfl ?_
  refine mx_get 0 11 (ref := "PrairiePool") cl_0 (Nat.le_of_ble_eq_true rfl) (Or.inl q471) (Or.inl rfl) dX0_feed_1 (fv_0_11 _ _) (ly0_k La0_h) ?_
  refine mx_tr (ly0_R_0_11 La0_h) ?_
  refine mx_get 5 1 (ref := "PrairiePool$Reader") cl_5 (Nat.le_of_ble_eq_true rfl) (Or.inr ⟨_, q385⟩) (Or.inl rfl) dX0_feed_4 (fv_5_1 _ _) (ly0_K_1431 La0_h) ?_
  refine mx_bipush dX0_feed_7 ib_20 ?_
  refine mx_iadd dX0_feed_9 ?_
  refine mx_sipush dX0_feed_10 is_500 ?_
  refine mx_icmp_le (tgt := 18) dX0_feed_13 rfl (fun c1 => ?_) (fun c1 => ?_)
  · have H := H.1 c1
    refine mx_aload_n dX0_feed_18 rfl rfl ?_
    refine mx_iload_n dX0_feed_19 rfl rfl ?_
    refine mx_callV 0 (y' := mi_X0_four) (vs := [iv x1]) (st := []) (al' := [some (rv a0), some (iv x1), none]) cl_0 V_X0_four (Or.inl q1169) dX0_feed_20 rfl rfl (Nat.le_of_ble_eq_true rfl) (Nat.le_of_ble_eq_true rfl) (ly0_k La0_h) ?_
    refine ma_kv H (fun h2 Xh2 H => ?_) (fun x1 h1 X1 H => mt_out rfl H)
    have H := H Xh2
    have La0_h2 := La0_h.ext Xh2
    refine mx_aload_n dX0_feed_23 rfl rfl ?_
    refine mx_iload_n dX0_feed_24 rfl rfl ?_
    refine mx_callV 0 (y' := mi_X0_four) (vs := [iv x2]) (st := []) (al' := [some (rv a0), some (iv x2), none]) cl_0 V_X0_four (Or.inl q1169) dX0_feed_25 rfl rfl (Nat.le_of_ble_eq_true rfl) (Nat.le_of_ble_eq_true rfl) (ly0_k La0_h2) ?_
    refine ma_kv H (fun h4 Xh4 H => ?_) (fun x1 h1 X1 H => mt_out rfl H)
    have H := H Xh4
    have La0_h4 := La0_h2.ext Xh4
    refine mx_aload_n dX0_feed_28 rfl rfl ?_
    refine mx_iload_n dX0_feed_29 rfl rfl ?_
    refine mx_callV 0 (y' := mi_X0_four) (vs := [iv x3]) (st := []) (al' := [some (rv a0), some (iv x3), none]) cl_0 V_X0_four (Or.inl q1169) dX0_feed_30 rfl rfl (Nat.le_of_ble_eq_true rfl) (Nat.le_of_ble_eq_true rfl) (ly0_k La0_h4) ?_
    refine ma_kv H (fun h6 Xh6 H => ?_) (fun x1 h1 X1 H => mt_out rfl H)
    have H := H Xh6
    have La0_h6 := La0_h4.ext Xh6
    refine mx_aload_n dX0_feed_33 rfl rfl ?_
    refine mx_iload dX0_feed_34 rfl ?_
    refine mx_callV 0 (y' := mi_X0_four) (vs := [iv x4]) (st := []) (al' := [some (rv a0), some (iv x4), none]) cl_0 V_X0_four (Or.inl q1169) dX0_feed_36 rfl rfl (Nat.le_of_ble_eq_true rfl) (Nat.le_of_ble_eq_true rfl) (ly0_k La0_h6) ?_
    refine ma_kv H (fun h8 Xh8 H => ?_) (fun x1 h1 X1 H => mt_out rfl H)
    have H := H Xh8
    have La0_h8 := La0_h6.ext Xh8
    refine mx_aload_n dX0_feed_39 rfl rfl ?_
    refine mx_iload dX0_feed_40 rfl ?_
    refine mx_callV 0 (y' := mi_X0_four) (vs := [iv x5]) (st := []) (al' := [some (rv a0), some (iv x5), none]) cl_0 V_X0_four (Or.inl q1169) dX0_feed_42 rfl rfl (Nat.le_of_ble_eq_true rfl) (Nat.le_of_ble_eq_true rfl) (ly0_k La0_h8) ?_
    refine ma_kv H (fun h10 Xh10 H => ?_) (fun x1 h1 X1 H => mt_out rfl H)
    have H := H Xh10
    have La0_h10 := La0_h8.ext Xh10
    refine mx_aload_n dX0_feed_45 rfl rfl ?_
    refine mx_get 0 11 (ref := "PrairiePool") cl_0 (Nat.le_of_ble_eq_true rfl) (Or.inl q471) (Or.inl rfl) dX0_feed_46 (fv_0_11 _ _) (ly0_k La0_h10) ?_
    refine mx_tr (ly0_R_0_11 La0_h10) ?_
    refine mx_get 5 1 (ref := "PrairiePool$Reader") cl_5 (Nat.le_of_ble_eq_true rfl) (Or.inr ⟨_, q385⟩) (Or.inl rfl) dX0_feed_49 (fv_5_1 _ _) (ly0_K_1431 La0_h10) ?_
    exact mx_iret rfl dX0_feed_52 H
  · have H := H.2 c1
    refine mx_iconst dX0_feed_16 ic_m1 ?_
    exact mx_iret rfl dX0_feed_17 H
theorem dX0_four_0 : decode mi_X0_four.2.1 0 = .ok (.bipush 24, 2) := by decide +kernel
theorem dX0_four_2 : decode mi_X0_four.2.1 2 = .ok (.istore_n 2, 1) := by decide +kernel
theorem dX0_four_3 : decode mi_X0_four.2.1 3 = .ok (.iload_n 2, 1) := by decide +kernel
theorem dX0_four_4 : decode mi_X0_four.2.1 4 = .ok (.ifCond .lt 41, 3) := by decide +kernel
theorem dX0_four_7 : decode mi_X0_four.2.1 7 = .ok (.aload_n 0, 1) := by decide +kernel
theorem dX0_four_8 : decode mi_X0_four.2.1 8 = .ok (.getfield 72, 3) := by decide +kernel
theorem dX0_four_11 : decode mi_X0_four.2.1 11 = .ok (.getfield 452, 3) := by decide +kernel
theorem dX0_four_14 : decode mi_X0_four.2.1 14 = .ok (.aload_n 0, 1) := by decide +kernel
theorem dX0_four_15 : decode mi_X0_four.2.1 15 = .ok (.getfield 72, 3) := by decide +kernel
theorem dX0_four_18 : decode mi_X0_four.2.1 18 = .ok (.getfield 446, 3) := by decide +kernel
theorem dX0_four_21 : decode mi_X0_four.2.1 21 = .ok (.iload_n 1, 1) := by decide +kernel
theorem dX0_four_22 : decode mi_X0_four.2.1 22 = .ok (.iload_n 2, 1) := by decide +kernel
theorem dX0_four_23 : decode mi_X0_four.2.1 23 = .ok (.ishr, 1) := by decide +kernel
theorem dX0_four_24 : decode mi_X0_four.2.1 24 = .ok (.i2b, 1) := by decide +kernel
theorem dX0_four_25 : decode mi_X0_four.2.1 25 = .ok (.bastore, 1) := by decide +kernel
theorem dX0_four_26 : decode mi_X0_four.2.1 26 = .ok (.aload_n 0, 1) := by decide +kernel
theorem dX0_four_27 : decode mi_X0_four.2.1 27 = .ok (.getfield 72, 3) := by decide +kernel
theorem dX0_four_30 : decode mi_X0_four.2.1 30 = .ok (.dup, 1) := by decide +kernel
theorem dX0_four_31 : decode mi_X0_four.2.1 31 = .ok (.getfield 446, 3) := by decide +kernel
theorem dX0_four_34 : decode mi_X0_four.2.1 34 = .ok (.iconst 1, 1) := by decide +kernel
theorem dX0_four_35 : decode mi_X0_four.2.1 35 = .ok (.iadd, 1) := by decide +kernel
theorem dX0_four_36 : decode mi_X0_four.2.1 36 = .ok (.putfield 446, 3) := by decide +kernel
theorem dX0_four_39 : decode mi_X0_four.2.1 39 = .ok (.iinc 2 (-8), 3) := by decide +kernel
theorem dX0_four_42 : decode mi_X0_four.2.1 42 = .ok (.goto (-39), 3) := by decide +kernel
theorem dX0_four_45 : decode mi_X0_four.2.1 45 = .ok (.return_, 1) := by decide +kernel
theorem v_X0_four {G : ma_G} {d : Nat} {a0 : Nat} {x1 : Int32} {h : ah_T} {Q : Option ma_V → ah_T → Prop} {E : Nat → ah_T → Prop} (La0_h : LY0 h a0) (H : MX G mi_X0_four d 3 [some (rv a0), some (iv x1), some (iv (24 : Int32))] [] h Q E) : MX G mi_X0_four d 0 [some (rv a0), some (iv x1), none] [] h Q E := by
  refine mx_bipush dX0_four_0 ib_24 ?_
  refine mx_istore_n (al' := [some (rv a0), some (iv x1), some (iv (24 : Int32))]) dX0_four_2 rfl (Nat.le_of_ble_eq_true rfl) rfl ?_
  exact mx_weak (al' := [some (rv a0), some (iv x1), some (iv (24 : Int32))]) ⟨rfl, ⟨rfl, ⟨rfl, trivial⟩⟩⟩ H
theorem v_X0_four_3 {G : ma_G} {d : Nat} {a0 : Nat} {x1 : Int32} {x2 : Int32} {h : ah_T} {Q : Option ma_V → ah_T → Prop} {E : Nat → ah_T → Prop} (La0_h : LY0 h a0) (H : (x2 < 0 → Q none h) ∧ (¬ x2 < 0 → vp_in (ah_I h (a0 + 1431) 1) 500 ∧ ∀ h3 : ah_T, h3 = ah_wI h (a0 + 1432) (ah_I h (a0 + 1431) 1).toNatClampNeg (vp_nar .byte (x1 >>> (x2 &&& 31)).toInt8.toInt32) → ah_ext h h3 → ∀ h4 : ah_T, h4 = ah_wI h3 (a0 + 1431) 1 ((ah_I h (a0 + 1431) 1) + (1 : Int32)) → ah_ext h3 h4 → MX G mi_X0_four d 3 [some (rv a0), some (iv x1), some (iv (x2 + (-8 : Int32)))] [] h4 Q E)) : MX G mi_X0_four d 3 [some (rv a0), some (iv x1), some (iv x2)] [] h Q E := by
  refine mx_iload_n dX0_four_3 rfl rfl ?_
  refine mx_if_lt (tgt := 45) dX0_four_4 rfl (fun c1 => ?_) (fun c1 => ?_)
  · have H := H.1 c1
    exact mx_vret rfl dX0_four_45 H
  · have H := H.2 c1
    refine mx_aload_n dX0_four_7 rfl rfl ?_
    refine mx_get 0 11 (ref := "PrairiePool") cl_0 (Nat.le_of_ble_eq_true rfl) (Or.inl q471) (Or.inl rfl) dX0_four_8 (fv_0_11 _ _) (ly0_k La0_h) ?_
    refine mx_tr (ly0_R_0_11 La0_h) ?_
    refine mx_get 5 0 (ref := "PrairiePool$Reader") cl_5 (Nat.le_of_ble_eq_true rfl) (Or.inr ⟨_, q384⟩) (Or.inl rfl) dX0_four_11 (fv_5_0 _ _) (ly0_K_1431 La0_h) ?_
    refine mx_tr (ly0_R_1431_0 La0_h) ?_
    refine mx_aload_n dX0_four_14 rfl rfl ?_
    refine mx_get 0 11 (ref := "PrairiePool") cl_0 (Nat.le_of_ble_eq_true rfl) (Or.inl q471) (Or.inl rfl) dX0_four_15 (fv_0_11 _ _) (ly0_k La0_h) ?_
    refine mx_tr (ly0_R_0_11 La0_h) ?_
    refine mx_get 5 1 (ref := "PrairiePool$Reader") cl_5 (Nat.le_of_ble_eq_true rfl) (Or.inr ⟨_, q385⟩) (Or.inl rfl) dX0_four_18 (fv_5_1 _ _) (ly0_K_1431 La0_h) ?_
    refine mx_iload_n dX0_four_21 rfl rfl ?_
    refine mx_iload_n dX0_four_22 rfl rfl ?_
    refine mx_ishr dX0_four_23 ?_
    refine mx_i2b dX0_four_24 ?_
    obtain ⟨k2, H⟩ := H
    refine my_bast dX0_four_25 rfl (ly0_A_1432 La0_h k2) ?_
    refine mx_nmI  (fun h3 eh3 Xh3 Kh3 Lh3 => ?_)
    have H := H h3 eh3 Xh3
    have La0_h3 := La0_h.ext Xh3
    refine mx_aload_n dX0_four_26 rfl rfl ?_
    refine mx_get 0 11 (ref := "PrairiePool") cl_0 (Nat.le_of_ble_eq_true rfl) (Or.inl q471) (Or.inl rfl) dX0_four_27 (fv_0_11 _ _) (ly0_k La0_h3) ?_
    refine mx_tr (ly0_R_0_11 La0_h3) ?_
    refine mx_dup_r dX0_four_30 ?_
    refine mx_get 5 1 (ref := "PrairiePool$Reader") cl_5 (Nat.le_of_ble_eq_true rfl) (Or.inr ⟨_, q385⟩) (Or.inl rfl) dX0_four_31 (fv_5_1 _ _) (ly0_K_1431 La0_h3) ?_
    refine mx_ti (ah_skIA eh3 (by omega)) ?_
    refine mx_iconst dX0_four_34 ic_1 ?_
    refine mx_iadd dX0_four_35 ?_
    refine mx_putI 5 1 (ref := "PrairiePool$Reader") cl_5 (Nat.le_of_ble_eq_true rfl) (Or.inr ⟨_, q385⟩) (Or.inl rfl) dX0_four_36 (Or.inl rfl) rfl (ly0_K_1431 La0_h3) ?_
    refine mx_nmI  (fun h4 eh4 Xh4 Kh4 Lh4 => ?_)
    have H := H h4 eh4 Xh4
    have Kh4 := Kh4.trans Kh3
    have Lh4 := Lh4.trans Lh3
    have La0_h4 := La0_h3.ext Xh4
    refine mx_iinc (al' := [some (rv a0), some (iv x1), some (iv (x2 + (-8 : Int32)))]) dX0_four_39 rfl ic_m8 rfl ?_
    refine mx_goto (tgt := 3) dX0_four_42 rfl ?_
    exact mx_weak (al' := [some (rv a0), some (iv x1), some (iv (x2 + (-8 : Int32)))]) ⟨rfl, ⟨rfl, ⟨rfl, trivial⟩⟩⟩ H
